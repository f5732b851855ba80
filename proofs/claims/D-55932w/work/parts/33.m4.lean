/-! strokes -/
/-- the row behind a stroke's reach, groans, count -/
def str1 (w : Nat → Nat) : Nat → Nat := uP (uP (uP w 3 (nR (w 3) (w 2))) 4 (w 4 + (1 + nR (w 3) (w 2) / 10))) 9 (w 9 + 1)
/-- so many lifts at most, from a well -/
def stk (w : Nat → Nat) (a : Nat) : Nat → Nat × (Nat → Nat)
  | 0 => (0, w)
  | f + 1 => match pla w a (nI 0) with
    | none => (0, w)
    | some k => if jk w k 1 ≤ w 3 then ((stk (lft w k) a f).1 + 1, (stk (lft w k) a f).2) else (0, w)
def strO (w : Nat → Nat) : Nat × (Nat → Nat) := stk (str1 w) (w 1) (w (14 + w 1))
theorem str1_o {w : Nat → Nat} {i : Nat} (h3 : i ≠ 3) (h4 : i ≠ 4) (h9 : i ≠ 9) : str1 w i = w i := by
  unfold str1; simp only [uP]; rw [if_neg h9, if_neg h4, if_neg h3]
theorem str1_3 {w : Nat → Nat} : str1 w 3 = nR (w 3) (w 2) := by unfold str1; simp [uP]
theorem str1_4 {w : Nat → Nat} : str1 w 4 = w 4 + (1 + nR (w 3) (w 2) / 10) := by unfold str1; simp [uP]
theorem str1_9 {w : Nat → Nat} : str1 w 9 = w 9 + 1 := by unfold str1; simp [uP]
theorem str1_14 (w : Nat → Nat) (a : Nat) : str1 w (14 + a) = w (14 + a) := str1_o (by omega) (by omega) (by omega)
theorem rB.mono {w : Nat → Nat} {B C : Nat} (h : rB w B) (hBC : B ≤ C) : rB w C := by
  obtain ⟨a0, a1, a2, a3, a4, a5, a6, a7, a8, a9, a10, a11, a12, a13⟩ := h
  exact ⟨a0, a1, a2, a3, a4, a5, a6, a7, a8, by omega, by omega, by omega, by omega, a13⟩
theorem rB_str1 {w : Nat → Nat} {B : Nat} (h : rB w B) (hg : w 4 ≤ 40) : rB (str1 w) (B + 1) := by
  obtain ⟨a0, a1, a2, a3, a4, a5, a6, a7, a8, a9, a10, a11, a12, a13, a14, a15, a16, a17, a18, a19, a20⟩ := h
  have e := fun i h3 h4 h9 => str1_o (w := w) (i := i) h3 h4 h9
  have hn := nR_le (a := w 3) (b := w 2)
  refine ⟨by rw [e 0 (by omega) (by omega) (by omega)]; omega, by rw [e 6 (by omega) (by omega) (by omega), e 0 (by omega) (by omega) (by omega)]; omega, fun k hk => ?_, ?_, ?_, ?_, ?_, ?_, ?_, ?_, ?_, ?_, ?_, ?_, fun k hk => ?_, fun k hk => ?_, fun k hk => ?_, fun i h1 h2 => ?_, ?_, ?_, fun i hi2 => ?_⟩
  · rw [e 0 (by omega) (by omega) (by omega)] at hk
    simp only [jk]
    rw [e _ (by omega) (by omega) (by omega), e _ (by omega) (by omega) (by omega), e _ (by omega) (by omega) (by omega), e _ (by omega) (by omega) (by omega), e _ (by omega) (by omega) (by omega)]
    exact a2 k hk
  · rw [e 1 (by omega) (by omega) (by omega)]; exact a3
  · rw [e 2 (by omega) (by omega) (by omega)]; exact a4
  · rw [e 2 (by omega) (by omega) (by omega)]; exact a5
  · rw [str1_3]; exact hn
  · rw [str1_4]; omega
  · rw [e 5 (by omega) (by omega) (by omega)]; exact a8
  · rw [e 7 (by omega) (by omega) (by omega)]; omega
  · rw [e 8 (by omega) (by omega) (by omega)]; omega
  · rw [str1_9]; omega
  · rw [e 10 (by omega) (by omega) (by omega)]; omega
  · rw [e 11 (by omega) (by omega) (by omega)]; exact a13
  · rw [e _ (by omega) (by omega) (by omega)]; exact a14 k hk
  · rw [e _ (by omega) (by omega) (by omega), e 6 (by omega) (by omega) (by omega)]; exact a15 k hk
  · rw [e _ (by omega) (by omega) (by omega), e _ (by omega) (by omega) (by omega), e _ (by omega) (by omega) (by omega)]; exact a16 k hk
  · rw [e _ (by omega) (by omega) (by omega)]; exact a17 i h1 h2
  · rw [e 12 (by omega) (by omega) (by omega)]; exact a18
  · rw [e 13 (by omega) (by omega) (by omega)]; exact a19
  · rw [e _ (by omega) (by omega) (by omega)]; exact a20 i hi2
theorem lft_14 {v : Nat → Nat} {B j a : Nat} (h : rB v B) (hj : j < v 0) (ha : a ≤ 3) : lft v j (14 + a) = v (14 + a) := by
  obtain ⟨b0, b1, b2, b3, b4, b5, b6⟩ := h.2.2.1 j hj
  unfold lft
  rw [gone_lo (by omega) (by omega)]
  exact lf0_o b0 b3 (by omega) (by omega) (by omega) (by omega) (by omega) (by omega)
section STK
variable {v : Nat → Nat} {a i b k n : Nat} {r : Nat → Nat}
theorem stk_s (h : i + (stk v a (b - i)).1 = n ∧ (stk v a (b - i)).2 = r) (hi : i < b) (hp : pla v a (nI 0) = some k) (hd : jk v k 1 ≤ v 3) : (i + 1) + (stk (lft v k) a (b - (i + 1))).1 = n ∧ (stk (lft v k) a (b - (i + 1))).2 = r := by
  rw [show b - i = (b - (i + 1)) + 1 by omega] at h
  simp only [stk, hp, if_pos hd] at h
  exact ⟨by omega, h.2⟩
theorem stk_b (h : i + (stk v a (b - i)).1 = n ∧ (stk v a (b - i)).2 = r) (hi : b - i = 0) : i = n := by
  rw [hi] at h; exact h.1
theorem stk_b2 (h : i + (stk v a (b - i)).1 = n ∧ (stk v a (b - i)).2 = r) (hi : b - i = 0) : v = r := by
  rw [hi] at h; exact h.2
theorem stk_n (h : i + (stk v a (b - i)).1 = n ∧ (stk v a (b - i)).2 = r) (hp : pla v a (nI 0) = none) : i = n := by
  cases hb : b - i with
  | zero => rw [hb] at h; exact h.1
  | succ f => rw [hb] at h; simp only [stk, hp] at h; exact h.1
theorem stk_n2 (h : i + (stk v a (b - i)).1 = n ∧ (stk v a (b - i)).2 = r) (hp : pla v a (nI 0) = none) : v = r := by
  cases hb : b - i with
  | zero => rw [hb] at h; exact h.2
  | succ f => rw [hb] at h; simp only [stk, hp] at h; exact h.2
theorem stk_d (h : i + (stk v a (b - i)).1 = n ∧ (stk v a (b - i)).2 = r) (hp : pla v a (nI 0) = some k) (hd : ¬ jk v k 1 ≤ v 3) : i = n := by
  cases hb : b - i with
  | zero => rw [hb] at h; exact h.1
  | succ f => rw [hb] at h; simp only [stk, hp, if_neg hd] at h; exact h.1
theorem stk_d2 (h : i + (stk v a (b - i)).1 = n ∧ (stk v a (b - i)).2 = r) (hp : pla v a (nI 0) = some k) (hd : ¬ jk v k 1 ≤ v 3) : v = r := by
  cases hb : b - i with
  | zero => rw [hb] at h; exact h.2
  | succ f => rw [hb] at h; simp only [stk, hp, if_neg hd] at h; exact h.2
end STK
set_option maxHeartbeats 4000000 in
set_option maxRecDepth 100000 in
theorem metX2_strokesOnce (l : Launch) (G : va_G) (dA : Nat → ClassId) (dS : Nat → Nat) (B0 sz : Nat) (q : Nat → Nat) (M : mS) (B : Nat) (hrb : rB (M 1) B) (hBb : B + 1 < 2 ^ 30) (hg40 : M 1 4 ≤ 40) : Met l yX2_strokesOnce (ws_ yX2_strokesOnce cX2_strokesOnce 4 (some FieldType.int)) ({ frames := 3, cells := 0, slots := 0, locals := 84 }) (zP G dA dS B0 [.ref (q 0)] sz (mW dA q M) (fun H => True)) (zQi G (fun (r : Int32) (u : Unit) => r = nI ((strO (M 1)).1)) (fun (u : Unit) => mW dA q (ms M 1 (strO (M 1)).2)) (fun (u : Unit) (H : Heap) => True) (va_A (mW dA q M) sz)) 0 0 (va_A (mW dA q M) sz) := by
  refine zM (by decide) (Nat.le_of_ble_eq_true rfl) ?_
  intro p e s m below meth c ls A H locs hHe hx hb hr hlocks hml hown hname hts hX hsz hB hAe hA hAB hH hRo hl
  have hl : lv_has ls 4 [(0, .ref (q 0))] := hl
  have hbw := hrb.lt (by omega)
  have h12 := hrb.1
  have hw1 := hrb.2.2.2.1
  have hw2 := hrb.2.2.2.2.2.1
  have hw3 := hrb.2.2.2.2.2.2.1
  have hw4 := hrb.2.2.2.2.2.2.2.1
  have hw9 := hrb.2.2.2.2.2.2.2.2.2.2.2.1
  refine lv_aload_n hx hb dX2_strokesOnce_0 rfl (lv_at hl 0 rfl) ?_
  refine z_get (v := .ref (q 1)) hx hb hts hown hX kX2 6 (by decide) (hH.at 0 rfl) rfl q2016 (fun _ h9 => h9) dX2_strokesOnce_1 ?_
  refine lv_iconst (v := nI 1) hx hb dX2_strokesOnce_4 (by decide) ?_
  refine z_iald (x := nI (M 1 1)) hx hb hX (k := 1)  (hH.at 1 rfl) rfl (by omega) (by omega) rfl dX2_strokesOnce_5 ?_
  have hbd_1 := hbw 1 (by omega) (by omega)
  refine lv_istore_n (lv' := [(1, .int (nI (M 1 1))), (0, .ref (q 0))]) hx hb dX2_strokesOnce_6 rfl hl (by decide) rfl (fun ls hl => ?_)
  refine lv_aload_n hx hb dX2_strokesOnce_7 rfl (lv_at hl 1 rfl) ?_
  refine z_get (v := .ref (q 1)) hx hb hts hown hX kX2 6 (by decide) (hH.at 0 rfl) rfl q2016 (fun _ h9 => h9) dX2_strokesOnce_8 ?_
  refine lv_iconst (v := nI 3) hx hb dX2_strokesOnce_11 (by decide) ?_
  refine lv_aload_n hx hb dX2_strokesOnce_12 rfl (lv_at hl 1 rfl) ?_
  refine z_get (v := .ref (q 1)) hx hb hts hown hX kX2 6 (by decide) (hH.at 0 rfl) rfl q2016 (fun _ h9 => h9) dX2_strokesOnce_13 ?_
  refine lv_iconst (v := nI 3) hx hb dX2_strokesOnce_16 (by decide) ?_
  refine z_iald (x := nI (M 1 3)) hx hb hX (k := 3)  (hH.at 1 rfl) rfl (by omega) (by omega) rfl dX2_strokesOnce_17 ?_
  have hbd_2 := hbw 3 (by omega) (by omega)
  refine lv_aload_n hx hb dX2_strokesOnce_18 rfl (lv_at hl 1 rfl) ?_
  refine z_get (v := .ref (q 1)) hx hb hts hown hX kX2 6 (by decide) (hH.at 0 rfl) rfl q2016 (fun _ h9 => h9) dX2_strokesOnce_19 ?_
  refine lv_iconst (v := nI 2) hx hb dX2_strokesOnce_22 (by decide) ?_
  refine z_iald (x := nI (M 1 2)) hx hb hX (k := 2)  (hH.at 1 rfl) rfl (by omega) (by omega) rfl dX2_strokesOnce_23 ?_
  have hbd_3 := hbw 2 (by omega) (by omega)
  refine z_ci (wr := mW dA q M) (va_runS (As := [.int (nI (M 1 3)), .int (nI (M 1 2))]) (rest := [.int (nI 3), .ref (q 1)]) ⟨hx, hb, hml, hown, hts⟩ (metX2_nextReach l G dA dS B0 H.size (M 1 3) (M 1 2) (by first | exact ha | assumption | omega) (by first | exact hb2 | assumption | omega)) (va_cwS 2 hts (lw_S q2227 q2228 q91 q2229) rfl rfl rfl (by decide +kernel) ⟨Nat.le_of_ble_eq_true rfl, Nat.le_of_ble_eq_true rfl⟩) (zPS hX hH hB hAB [] rfl rfl trivial) rfl rfl hl.1 rfl (lv_room (Nat.le_of_ble_eq_true rfl)) dX2_strokesOnce_24 ⟨(Nat.le_of_ble_eq_true rfl), (Nat.le_of_ble_eq_true rfl)⟩) hH hA [] [0, 1, 2, 3, 4, 5, 6, 7, 8] rfl rfl (by decide) (by decide) (fun r_4 u_r_4 H locs hw_r_4 hH hR_r_4 hk_r_4 => ?_)
  obtain rfl := hw_r_4
  have hH : zH G A s.heap (mW dA q M) H locs := hH
  have hnr_5 : (nR (M 1 3) (M 1 2)) ≤ 30 := nR_le
  refine z_iastN hx hb hX (k := 3) hH 1 rfl rfl (by omega) (by omega) dX2_strokesOnce_27 (fun H locs hH => ?_)
  have hH : zH G A s.heap (mW dA q (mu M 1 3 (nR (M 1 3) (M 1 2)))) H locs := hH
  refine lv_aload_n hx hb dX2_strokesOnce_28 rfl (lv_at hl 1 rfl) ?_
  refine z_get (v := .ref (q 1)) hx hb hts hown hX kX2 6 (by decide) (hH.at 0 rfl) rfl q2016 (fun _ h9 => h9) dX2_strokesOnce_29 ?_
  refine lv_iconst (v := nI 4) hx hb dX2_strokesOnce_32 (by decide) ?_
  refine lv_dup2_11 hx hb dX2_strokesOnce_33 rfl rfl ?_
  refine z_iald (x := nI (M 1 4)) hx hb hX (k := 4)  (hH.at 1 rfl) rfl (by omega) (by omega) rfl dX2_strokesOnce_34 ?_
  have hbd_6 := hbw 4 (by omega) (by omega)
  refine lv_iconst (v := nI 1) hx hb dX2_strokesOnce_35 (by decide) ?_
  refine lv_aload_n hx hb dX2_strokesOnce_36 rfl (lv_at hl 1 rfl) ?_
  refine z_get (v := .ref (q 1)) hx hb hts hown hX kX2 6 (by decide) (hH.at 0 rfl) rfl q2016 (fun _ h9 => h9) dX2_strokesOnce_37 ?_
  refine lv_iconst (v := nI 3) hx hb dX2_strokesOnce_40 (by decide) ?_
  refine z_iald (x := nI (nR (M 1 3) (M 1 2))) hx hb hX (k := 3)  (hH.at 1 rfl) rfl (by omega) (by omega) rfl dX2_strokesOnce_41 ?_
  refine lv_bipush (v := nI 10) hx hb dX2_strokesOnce_42 (by decide) ?_
  refine lv_idiv hx hb dX2_strokesOnce_44 (by decide) ?_
  refine z_topi (y := nI ((nR (M 1 3) (M 1 2)) / 10)) (pk_div (by omega) (by omega) (by omega)) ?_
  refine lv_iadd hx hb dX2_strokesOnce_45 ?_
  refine z_topi (y := nI (1 + ((nR (M 1 3) (M 1 2)) / 10))) (nI_add _ _) ?_
  refine lv_iadd hx hb dX2_strokesOnce_46 ?_
  refine z_topi (y := nI (M 1 4 + (1 + ((nR (M 1 3) (M 1 2)) / 10)))) (nI_add _ _) ?_
  refine z_iastN hx hb hX (k := 4) hH 1 rfl rfl (by omega) (by omega) dX2_strokesOnce_47 (fun H locs hH => ?_)
  have hH : zH G A s.heap (mW dA q (mu (mu M 1 3 (nR (M 1 3) (M 1 2))) 1 4 (M 1 4 + (1 + ((nR (M 1 3) (M 1 2)) / 10))))) H locs := hH
  refine lv_aload_n hx hb dX2_strokesOnce_48 rfl (lv_at hl 1 rfl) ?_
  refine z_get (v := .ref (q 1)) hx hb hts hown hX kX2 6 (by decide) (hH.at 0 rfl) rfl q2016 (fun _ h9 => h9) dX2_strokesOnce_49 ?_
  refine lv_bipush (v := nI 9) hx hb dX2_strokesOnce_52 (by decide) ?_
  refine lv_dup2_11 hx hb dX2_strokesOnce_54 rfl rfl ?_
  refine z_iald (x := nI (M 1 9)) hx hb hX (k := 9)  (hH.at 1 rfl) rfl (by omega) (by omega) rfl dX2_strokesOnce_55 ?_
  have hbd_7 := hbw 9 (by omega) (by omega)
  refine lv_iconst (v := nI 1) hx hb dX2_strokesOnce_56 (by decide) ?_
  refine lv_iadd hx hb dX2_strokesOnce_57 ?_
  refine z_topi (y := nI (M 1 9 + 1)) (nI_add _ _) ?_
  refine z_iastN hx hb hX (k := 9) hH 1 rfl rfl (by omega) (by omega) dX2_strokesOnce_58 (fun H locs hH => ?_)
  have hH : zH G A s.heap (mW dA q (mu (mu (mu M 1 3 (nR (M 1 3) (M 1 2))) 1 4 (M 1 4 + (1 + ((nR (M 1 3) (M 1 2)) / 10)))) 1 9 (M 1 9 + 1))) H locs := hH
  have eS : mu (mu (mu M 1 3 (nR (M 1 3) (M 1 2))) 1 4 (M 1 4 + (1 + ((nR (M 1 3) (M 1 2)) / 10)))) 1 9 (M 1 9 + 1) = ms M 1 (str1 (M 1)) := by simp only [mu_as_ms, ms_ms, ms_s]; rfl
  rw [eS] at hH
  have hrb_1 := rB_str1 hrb hg40
  have hbw_1 := hrb_1.lt (by omega : B + 1 < 2 ^ 30)
  refine lv_iconst (v := nI 0) hx hb dX2_strokesOnce_59 (by decide) ?_
  refine lv_istore_n (lv' := [(2, .int (nI 0)), (1, .int (nI (M 1 1))), (0, .ref (q 0))]) hx hb dX2_strokesOnce_60 rfl hl (by decide) rfl (fun ls hl => ?_)
  refine lv_aload_n hx hb dX2_strokesOnce_61 rfl (lv_at hl 2 rfl) ?_
  refine lv_iload_n hx hb dX2_strokesOnce_62 rfl (lv_at hl 1 rfl) ?_
  refine lv_iconst (v := nI 0) hx hb dX2_strokesOnce_63 (by decide) ?_
  refine z_ci (wr := []) (va_runV (As := [.int (nI (M 1 1)), .int (nI 0)]) (rest := []) ⟨hx, hb, hml, hown, hts⟩ (metX2_atPlace l G dA dS B0 H.size q (ms M 1 (str1 (M 1))) (M 1 1) (nI 0) (by first | exact ha | assumption | omega) hbw_1 hrb_1.1) (cwV 2 hts (lw_V q2230 q2232 qs55 q91 q2233) rfl rfl rfl (by decide +kernel) ⟨Nat.le_of_ble_eq_true rfl, Nat.le_of_ble_eq_true rfl⟩) (zPV hX hH hB hAB (z_recv hX kX2 (hH.at 0 rfl)) [0, 1, 2, 3, 4, 5, 6, 7, 8] rfl rfl trivial) rfl rfl hl.1 rfl (lv_room (Nat.le_of_ble_eq_true rfl)) dX2_strokesOnce_64 ⟨(Nat.le_of_ble_eq_true rfl), (Nat.le_of_ble_eq_true rfl)⟩) hH hA [0, 1, 2, 3, 4, 5, 6, 7, 8] [] rfl rfl (by decide) (by decide) (fun r_8 u_r_8 H locs hw_r_8 hH hR_r_8 hk_r_8 => ?_)
  obtain rfl := hw_r_8
  refine z_topi (y := oI (pla ((str1 (M 1))) (M 1 1) (nI 0))) rfl ?_
  have hH : zH G A s.heap (mW dA q (ms M 1 (str1 (M 1)))) H locs := hH
  refine lv_istore_n (lv' := [(3, .int (oI (pla ((str1 (M 1))) (M 1 1) (nI 0)))), (2, .int (nI 0)), (1, .int (nI (M 1 1))), (0, .ref (q 0))]) hx hb dX2_strokesOnce_67 rfl hl (by decide) rfl (fun ls hl => ?_)
  have LP68_8 : ∀ (fuel : Nat) (v : Nat → Nat) (i : Nat) (hfu : (M 1 (14 + M 1 1) - i) < fuel) (hrb_v : rB v (B + 1)) (hi : i ≤ M 1 (14 + M 1 1)) (hv14 : v (14 + M 1 1) = M 1 (14 + M 1 1)) (hst : i + (stk v (M 1 1) (M 1 (14 + M 1 1) - i)).1 = (strO (M 1)).1 ∧ (stk v (M 1 1) (M 1 (14 + M 1 1) - i)).2 = (strO (M 1)).2) (H : Heap) (locs : List Loc), zH G A s.heap (mW dA q (ms M 1 v)) H locs → ∀ (ls : Array Slot), lv_has ls 4 [(0, .ref (q 0)), (1, .int (nI (M 1 1))), (2, .int (nI i)), (3, .int (oI (pla v (M 1 1) (nI 0))))] → W p l e (headSpec (ws_ yX2_strokesOnce cX2_strokesOnce 4 (some FieldType.int)) ({ frames := 3, cells := 0, slots := 0, locals := 84 })).room s m ([.ref (q 0)] : List Value).toArray below meth c H locs 0 0 (MQ below (zQi G (fun (r : Int32) (u : Unit) => r = nI ((strO (M 1)).1)) (fun (u : Unit) => mW dA q (ms M 1 (strO (M 1)).2)) (fun (u : Unit) (H : Heap) => True) A) ([.ref (q 0)] : List Value).toArray s 0 0 A) (F0 m 68 ls []) := by
    intro fuel
    induction fuel with
    | zero => intro v i hfu; exact absurd hfu (Nat.not_lt_zero _)
    | succ fuel ih =>
      intro v i hfu hrb_v hi hv14 hst H locs hH ls hl
      have hbw_v := hrb_v.lt (by omega : B + 1 < 2 ^ 30)
      have hrb0 := hrb_v.1
      have hb14 := (hrb_v.2.2.2.2.2.2.2.2.2.2.2.2.2.2.1 (M 1 1) (by omega))
      have hrb3 := hrb_v.2.2.2.2.2.2.1
      refine lv_iload_n hx hb dX2_strokesOnce_68 rfl (lv_at hl 2 rfl) ?_
      refine lv_aload_n hx hb dX2_strokesOnce_69 rfl (lv_at hl 0 rfl) ?_
      refine z_get (v := .ref (q 1)) hx hb hts hown hX kX2 6 (by decide) (hH.at 0 rfl) rfl q2016 (fun _ h9 => h9) dX2_strokesOnce_70 ?_
      refine lv_bipush (v := nI 14) hx hb dX2_strokesOnce_73 (by decide) ?_
      refine lv_iload_n hx hb dX2_strokesOnce_75 rfl (lv_at hl 1 rfl) ?_
      refine lv_iadd hx hb dX2_strokesOnce_76 ?_
      refine z_topi (y := nI (14 + M 1 1)) (nI_add _ _) ?_
      refine z_iald (x := nI (v (14 + M 1 1))) hx hb hX (k := (14 + M 1 1))  (hH.at 1 rfl) rfl (by omega) (by omega) rfl dX2_strokesOnce_77 ?_
      have hbd_10 := hbw_v (14 + M 1 1) (by omega) (by omega)
      refine z_icmp_ge (tgt := 118) hx hb dX2_strokesOnce_78 (by decide) (by omega) (by omega) (fun c_78_11 => ?_) (fun c_78_11 => ?_)
      · skip
        have dc_78_11 := Nat.not_lt.mp c_78_11
        refine lv_iload_n hx hb dX2_strokesOnce_118 rfl (lv_at hl 2 rfl) ?_
        have eM : ms M 1 v = ms M 1 (strO (M 1)).2 := by first | exact congrArg (ms M 1) (stk_b2 hst (by omega)) | exact congrArg (ms M 1) (stk_n2 hst (by trivial)) | exact congrArg (ms M 1) (stk_d2 hst (by first | exact ho_82 | trivial) (by omega))
        rw [eM] at hH
        exact z_iret hx hb hr hlocks hH (u := ()) (by first | exact congrArg nI (stk_b hst (by omega)) | exact congrArg nI (stk_n hst (by trivial)) | exact congrArg nI (stk_d hst (by first | exact ho_82 | trivial) (by omega))) ⟨hH.1, hH.2.1⟩ trivial (Nat.le_of_ble_eq_true rfl) (Nat.le_of_ble_eq_true rfl) dX2_strokesOnce_119
      · skip
        refine lv_iload_n hx hb dX2_strokesOnce_81 rfl (lv_at hl 3 rfl) ?_
        rcases ho_82 : pla v (M 1 1) (nI 0) with _ | k5
        · skip
          refine z_topi (y := (-1)) rfl ?_
          refine lv_if_lt (tgt := 118) hx hb dX2_strokesOnce_82 (by decide) (fun _ => ?_) (fun h => absurd h (by decide))
          refine lv_iload_n hx hb dX2_strokesOnce_118 rfl (lv_at hl 2 rfl) ?_
          have eM : ms M 1 v = ms M 1 (strO (M 1)).2 := by first | exact congrArg (ms M 1) (stk_b2 hst (by omega)) | exact congrArg (ms M 1) (stk_n2 hst ho_82) | exact congrArg (ms M 1) (stk_d2 hst (by first | exact ho_82 | trivial) (by omega))
          rw [eM] at hH
          exact z_iret hx hb hr hlocks hH (u := ()) (by first | exact congrArg nI (stk_b hst (by omega)) | exact congrArg nI (stk_n hst ho_82) | exact congrArg nI (stk_d hst (by first | exact ho_82 | trivial) (by omega))) ⟨hH.1, hH.2.1⟩ trivial (Nat.le_of_ble_eq_true rfl) (Nat.le_of_ble_eq_true rfl) dX2_strokesOnce_119
        · skip
          refine z_topi (y := nI k5) rfl ?_
          have hs_82 := fO_spec ho_82
          have hs1_82 := hs_82.1
          have hr5 := hrb_v.2.2.1 k5 hs1_82
          refine z_ifltN (tgt := 118) hx hb dX2_strokesOnce_82 (by decide) (by omega) (fun c_82_13 => ?_) (fun c_82_13 => ?_)
          · skip
            exact c_82_13.elim
          · skip
            refine lv_aload_n hx hb dX2_strokesOnce_85 rfl (lv_at hl 0 rfl) ?_
            refine lv_iload_n hx hb dX2_strokesOnce_86 rfl (lv_at hl 3 rfl) ?_
            refine z_topi (y := nI k5) (by rw [ho_82]; rfl) ?_
            refine lv_iconst (v := nI 1) hx hb dX2_strokesOnce_87 (by decide) ?_
            refine z_ci (wr := []) (va_runV (As := [.int (nI k5), .int (nI 1)]) (rest := []) ⟨hx, hb, hml, hown, hts⟩ (metX2_is l G dA dS B0 H.size q (ms M 1 v) k5 1 (by first | exact hk | assumption | omega) (by first | exact hj | assumption | omega)) (cwV 2 hts (lw_V q2103 q2105 qs31 q91 q2106) rfl rfl rfl (by decide +kernel) ⟨Nat.le_of_ble_eq_true rfl, Nat.le_of_ble_eq_true rfl⟩) (zPV hX hH hB hAB (z_recv hX kX2 (hH.at 0 rfl)) [0, 1, 2, 3, 4, 5, 6, 7, 8] rfl rfl trivial) rfl rfl hl.1 rfl (lv_room (Nat.le_of_ble_eq_true rfl)) dX2_strokesOnce_88 ⟨(Nat.le_of_ble_eq_true rfl), (Nat.le_of_ble_eq_true rfl)⟩) hH hA [0, 1, 2, 3, 4, 5, 6, 7, 8] [] rfl rfl (by decide) (by decide) (fun r_14 u_r_14 H locs hw_r_14 hH hR_r_14 hk_r_14 => ?_)
            obtain rfl := hw_r_14
            refine z_topi (y := nI (jk v k5 1)) rfl ?_
            have hH : zH G A s.heap (mW dA q (ms M 1 v)) H locs := hH
            have hbd_15 : jk v k5 1 < 2 ^ 31 := hbw_v _ (by omega) (by omega)
            refine lv_aload_n hx hb dX2_strokesOnce_91 rfl (lv_at hl 0 rfl) ?_
            refine z_get (v := .ref (q 1)) hx hb hts hown hX kX2 6 (by decide) (hH.at 0 rfl) rfl q2016 (fun _ h9 => h9) dX2_strokesOnce_92 ?_
            refine lv_iconst (v := nI 3) hx hb dX2_strokesOnce_95 (by decide) ?_
            refine z_iald (x := nI (v 3)) hx hb hX (k := 3)  (hH.at 1 rfl) rfl (by omega) (by omega) rfl dX2_strokesOnce_96 ?_
            have hbd_16 := hbw_v 3 (by omega) (by omega)
            refine z_icmp_gt (tgt := 118) hx hb dX2_strokesOnce_97 (by decide) (by omega) (by omega) (fun c_97_17 => ?_) (fun c_97_17 => ?_)
            · skip
              refine lv_iload_n hx hb dX2_strokesOnce_118 rfl (lv_at hl 2 rfl) ?_
              have eM : ms M 1 v = ms M 1 (strO (M 1)).2 := by first | exact congrArg (ms M 1) (stk_b2 hst (by omega)) | exact congrArg (ms M 1) (stk_n2 hst ho_82) | exact congrArg (ms M 1) (stk_d2 hst (by first | exact ho_82 | trivial) (by omega))
              rw [eM] at hH
              exact z_iret hx hb hr hlocks hH (u := ()) (by first | exact congrArg nI (stk_b hst (by omega)) | exact congrArg nI (stk_n hst ho_82) | exact congrArg nI (stk_d hst (by first | exact ho_82 | trivial) (by omega))) ⟨hH.1, hH.2.1⟩ trivial (Nat.le_of_ble_eq_true rfl) (Nat.le_of_ble_eq_true rfl) dX2_strokesOnce_119
            · skip
              have dc_97_17 := Nat.not_lt.mp c_97_17
              refine lv_aload_n hx hb dX2_strokesOnce_100 rfl (lv_at hl 0 rfl) ?_
              refine lv_iload_n hx hb dX2_strokesOnce_101 rfl (lv_at hl 3 rfl) ?_
              refine z_topi (y := nI k5) (by rw [ho_82]; rfl) ?_
              refine z_cv (wr := []) (va_runV (As := [.int (nI k5)]) (rest := []) ⟨hx, hb, hml, hown, hts⟩ (metX2_lifts l G dA dS B0 H.size q (ms M 1 v) k5 (by first | exact hj | assumption | omega) (B + 1) hrb_v (by omega)) (cwV 1 hts (lw_V q2238 q2240 qs57 q91 q2241) rfl rfl rfl (by decide +kernel) ⟨Nat.le_of_ble_eq_true rfl, Nat.le_of_ble_eq_true rfl⟩) (zPV hX hH hB hAB (z_recv hX kX2 (hH.at 0 rfl)) [0, 1, 2, 3, 4, 5, 6, 7, 8] rfl rfl trivial) rfl rfl hl.1 rfl (lv_room (Nat.le_of_ble_eq_true rfl)) dX2_strokesOnce_102 ⟨(Nat.le_of_ble_eq_true rfl), (Nat.le_of_ble_eq_true rfl)⟩) hH hA [0, 1, 2, 3, 4, 5, 6, 7, 8] [] rfl rfl (by decide) (by decide) (fun u_r_18 H locs hw_r_18 hH hR_r_18 hk_r_18 => ?_)
              have hH : zH G A s.heap (mW dA q (ms M 1 (lft v k5))) H locs := hH
              refine lv_iinc (v := nI (i + 1)) (lv' := [(2, .int (nI (i + 1))), (0, .ref (q 0)), (1, .int (nI (M 1 1))), (3, .int (oI (pla v (M 1 1) (nI 0))))]) hx hb dX2_strokesOnce_105 hl (k := 2) rfl (nI_1 _) (by decide) rfl (fun ls hl => ?_)
              refine lv_aload_n hx hb dX2_strokesOnce_108 rfl (lv_at hl 1 rfl) ?_
              refine lv_iload_n hx hb dX2_strokesOnce_109 rfl (lv_at hl 2 rfl) ?_
              refine lv_iconst (v := nI 0) hx hb dX2_strokesOnce_110 (by decide) ?_
              refine z_ci (wr := []) (va_runV (As := [.int (nI (M 1 1)), .int (nI 0)]) (rest := []) ⟨hx, hb, hml, hown, hts⟩ (metX2_atPlace l G dA dS B0 H.size q (ms M 1 (lft v k5)) (M 1 1) (nI 0) (by first | exact ha | assumption | omega) ((rB_lft hrb_v hs1_82).lt (by omega : B + 1 < 2 ^ 30)) ((rB_lft hrb_v hs1_82).1)) (cwV 2 hts (lw_V q2230 q2232 qs55 q91 q2233) rfl rfl rfl (by decide +kernel) ⟨Nat.le_of_ble_eq_true rfl, Nat.le_of_ble_eq_true rfl⟩) (zPV hX hH hB hAB (z_recv hX kX2 (hH.at 0 rfl)) [0, 1, 2, 3, 4, 5, 6, 7, 8] rfl rfl trivial) rfl rfl hl.1 rfl (lv_room (Nat.le_of_ble_eq_true rfl)) dX2_strokesOnce_111 ⟨(Nat.le_of_ble_eq_true rfl), (Nat.le_of_ble_eq_true rfl)⟩) hH hA [0, 1, 2, 3, 4, 5, 6, 7, 8] [] rfl rfl (by decide) (by decide) (fun r_19 u_r_19 H locs hw_r_19 hH hR_r_19 hk_r_19 => ?_)
              obtain rfl := hw_r_19
              refine z_topi (y := oI (pla ((lft v k5)) (M 1 1) (nI 0))) rfl ?_
              have hH : zH G A s.heap (mW dA q (ms M 1 (lft v k5))) H locs := hH
              refine lv_istore_n (lv' := [(3, .int (oI (pla ((lft v k5)) (M 1 1) (nI 0)))), (2, .int (nI (i + 1))), (0, .ref (q 0)), (1, .int (nI (M 1 1)))]) hx hb dX2_strokesOnce_114 rfl hl (by decide) rfl (fun ls hl => ?_)
              refine lv_goto (tgt := 68) hx hb dX2_strokesOnce_115 (by decide) ?_
              have ev_20 : oI (pla ((lft v k5)) (M 1 1) (nI 0)) = oI (pla (lft v k5) (M 1 1) (nI 0)) := by first | rfl | (congr 1; done) | (congr 1; simp [cN, bN, c_78_11, ho_82, c_82_13, c_97_17, dc_97_17]; done) | (congr 1; simp [cN, bN, c_78_11, ho_82, c_82_13, c_97_17, dc_97_17]; omega)
              have hl : lv_has ls 4 [(0, .ref (q 0)), (1, .int (nI (M 1 1))), (2, .int (nI (i + 1))), (3, .int (oI (pla (lft v k5) (M 1 1) (nI 0))))] := z_lv (lv_sub hl [2, 3, 1, 0] rfl) (by rw [ev_20] <;> rfl)
              exact ih (lft v k5) (i + 1) (by omega) (rB_lft hrb_v hs1_82) (by omega) ((lft_14 hrb_v hs1_82 hw1).trans hv14) (stk_s hst (by omega) ho_82 (by omega)) _ _ hH ls (lv_sub hl [0, 1, 2, 3] rfl)
  have ev_21 : oI (pla ((str1 (M 1))) (M 1 1) (nI 0)) = oI (pla (str1 (M 1)) (M 1 1) (nI 0)) := by first | rfl | (congr 1; done) | (congr 1; simp [cN, bN]; done) | (congr 1; simp [cN, bN]; omega)
  have hl : lv_has ls 4 [(0, .ref (q 0)), (1, .int (nI (M 1 1))), (2, .int (nI 0)), (3, .int (oI (pla (str1 (M 1)) (M 1 1) (nI 0))))] := z_lv (lv_sub hl [3, 2, 1, 0] rfl) (by rw [ev_21] <;> rfl)
  exact LP68_8 ((M 1 (14 + M 1 1) - 0) + 1) (str1 (M 1)) 0 (Nat.lt_succ_self _) (hrb_1) (by omega) (str1_14 _ _) (by rw [Nat.zero_add, Nat.sub_zero]; exact ⟨rfl, rfl⟩) _ _ hH ls (lv_sub hl [0, 1, 2, 3] rfl)

