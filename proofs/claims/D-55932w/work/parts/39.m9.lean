/-! what the commands do -/
def mRfs (M : mS) (a : Int32) : mS := mu (mu (mu (mu M 0 0 9) 0 1 (M 0 22)) 0 2 (if a = -5 then M 0 4 else 0)) 0 3 (M 0 5)
def dY (X : mS) : mS := pS X (pCmd X (X 0 18, X 8)).2.1 (pCmd X (X 0 18, X 8)).2.2
def dN (Y : mS) : Int32 × mS := nND Y (cmd (nI (Y 0 21))) (Y 8)
def dZ (Y : mS) : mS := mu (ms Y 1 (dW (Y 1) (cmd (nI (Y 0 21))) (Y 8))) 0 22 (Y 0 22 + 1)
def dR (Z : mS) : Bool × pT := pC Z 59 (Z 0 18, Z 8)
def dV (Z : mS) : mS := pS Z (dR Z).2 (Z 0 21)
def dAll : Nat → mS → Int32 × mS
  | 0, X => (nI 0, X)
  | f + 1, X => if (dN (dY X)).1 = 0 then (if (dR (dZ (dY X))).1 = true then dAll f (dV (dZ (dY X))) else (nI 0, dV (dZ (dY X)))) else dN (dY X)
theorem dAll_s (f : Nat) (X : mS) : dAll (f + 1) X = if (dN (dY X)).1 = 0 then (if (dR (dZ (dY X))).1 = true then dAll f (dV (dZ (dY X))) else (nI 0, dV (dZ (dY X)))) else dN (dY X) := rfl
def aI (X : mS) (B c : Nat) : Prop := rB (X 1) (B + 50 * c) ∧ rI (X 1) ∧ iB X ∧ (∀ k, X 8 k ≤ 99) ∧ X 0 18 ≤ X 0 17 ∧ X 0 22 ≤ c
theorem pS_1 (X : mS) (T : pT) (s : Nat) : pS X T s 1 = X 1 := rfl
theorem aI_Y {X : mS} {B c : Nat} (h : aI X B c) : aI (dY X) B c ∧ X 0 18 ≤ dY X 0 18 ∧ dY X 0 17 = X 0 17 := by
  obtain ⟨h1, h2, h3, h4, h5, h6⟩ := h
  have hc := pCmd_B h3 (T := (X 0 18, X 8)) ⟨h5, h4⟩
  exact ⟨⟨h1, h2, h3, hc.1.2, hc.1.1, h6⟩, hc.2.1, rfl⟩
theorem aI_Z {Y : mS} {B c : Nat} (h : aI Y B c) (hB : c ≤ 61) (h0 : (nND Y (cmd (nI (Y 0 21))) (Y 8)).1 = 0) : okD (Y 1) (cmd (nI (Y 0 21))) (Y 8) ∧ (nND Y (cmd (nI (Y 0 21))) (Y 8)).2 = Y ∧ aI (dZ Y) B (c + 1) ∧ True := by
  obtain ⟨h1, h2, h3, h4, h5, h6⟩ := h
  obtain ⟨k1, k2⟩ := nND_0 (fun k => by have := h4 k; omega) h1.1 h0
  have k3 := dW_ok h1 h2 k1
  refine ⟨k1, k2, ⟨?_, k3.2, h3, h4, h5, ?_⟩, trivial⟩
  · exact k3.1.mono (by omega)
  · show Y 0 22 + 1 ≤ c + 1; omega
theorem aI_V {Z : mS} {B c : Nat} (h : aI Z B c) : aI (dV Z) B c ∧ Z 0 18 ≤ dV Z 0 18 ∧ dV Z 0 17 = Z 0 17 ∧ ((dR Z).1 = true → Z 0 18 < dV Z 0 18) := by
  obtain ⟨h1, h2, h3, h4, h5, h6⟩ := h
  have hc := pC_B (M := Z) (c := 59) (T := (Z 0 18, Z 8)) (by decide) ⟨h5, h4⟩
  exact ⟨⟨h1, h2, h3, hc.1.2, hc.1.1, h6⟩, hc.2.1, rfl, hc.2.2⟩
theorem aI_0 {M : mS} {B : Nat} (h : rB (M 1) B) (hi : rI (M 1)) (h1 : iB M) (h2 : ∀ k, M 8 k ≤ 99) : aI (mu (mu M 0 22 0) 0 18 0) B 0 :=
  ⟨h.mono (by omega), hi, h1, h2, Nat.zero_le _, Nat.zero_le _⟩
theorem aI_017 (M : mS) : (mu (mu M 0 22 0) 0 18 0) 0 17 = M 0 17 := rfl
def rA (M : mS) : mS := pS M (pAll M (M 0 17 + 1) (0, M 8) (M 0 21)).2.1 (pAll M (M 0 17 + 1) (0, M 8) (M 0 21)).2.2
theorem pAll_B {M : mS} (hi : iB M) : ∀ (f : Nat) (T : pT) (s : Nat), pB M T → pB M (pAll M f T s).2.1
  | 0, _, _, h => h
  | f + 1, T, s, h => by
    have h1 := pCmd_B hi h
    have h2 := pC_B (c := 59) (by decide) h1.1
    rw [pAll_s]
    split
    · split
      · exact pAll_B hi f _ _ h2.1
      · exact h2.1
    · exact h1.1
theorem rA_I {M : mS} (hi : iB M) (h9 : ∀ k, M 8 k ≤ 99) : rA M 1 = M 1 ∧ iB (rA M) ∧ (∀ k, rA M 8 k ≤ 99) ∧ rA M 0 11 = M 0 11 ∧ rA M 0 12 = M 0 12 ∧ rA M 0 17 = M 0 17 := by
  have h := pAll_B hi (M 0 17 + 1) (0, M 8) (M 0 21) ⟨Nat.zero_le _, h9⟩
  exact ⟨rfl, hi, h.2, rfl, rfl, rfl⟩
def nOK (M : mS) (r : Int32 × mS) : Prop := r.2 = M ∨ ∃ a b, r.2 = mNot M a b
theorem nND_f (M : mS) (c : Nat) (n : Nat → Nat) : nOK M (nND M c n) := by
  rcases (show c = 0 ∨ c = 1 ∨ c = 2 ∨ c = 3 ∨ c = 4 ∨ c = 5 ∨ c = 6 ∨ 7 ≤ c by omega) with e | e | e | e | e | e | e | e
  · subst e
    show nOK M (mNotBucket _ _ _)
    unfold mNotBucket
    repeat' split
    all_goals first | exact Or.inl rfl | exact Or.inr ⟨_, _, rfl⟩
  · subst e
    show nOK M (mNotDrain _ _)
    unfold mNotDrain
    repeat' split
    all_goals first | exact Or.inl rfl | exact Or.inr ⟨_, _, rfl⟩
  · subst e
    show nOK M (mNotJoke _ _ _ _ _)
    unfold mNotJoke notJ
    repeat' split
    all_goals first | exact Or.inl rfl | exact Or.inr ⟨_, _, rfl⟩
  · subst e; exact Or.inl rfl
  · subst e
    show nOK M (mNotPump _ _)
    unfold mNotPump
    repeat' split
    all_goals first | exact Or.inl rfl | exact Or.inr ⟨_, _, rfl⟩
  · subst e
    show nOK M (mNotPrime _ _)
    unfold mNotPrime
    repeat' split
    all_goals first | exact Or.inl rfl | exact Or.inr ⟨_, _, rfl⟩
  · subst e
    show nOK M (mNotStroke _ _)
    unfold mNotStroke
    repeat' split
    all_goals first | exact Or.inl rfl | exact Or.inr ⟨_, _, rfl⟩
  · obtain ⟨m, rfl⟩ : ∃ m, c = m + 7 := ⟨c - 7, by omega⟩
    show nOK M (mNotGo _ _)
    unfold mNotGo
    repeat' split
    all_goals first | exact Or.inl rfl | exact Or.inr ⟨_, _, rfl⟩
theorem pS_f (M : mS) (T : pT) (s k : Nat) (h18 : k ≠ 18) (h21 : k ≠ 21) : pS M T s 0 k = M 0 k := by
  unfold pS
  rw [mu_s, uP_n _ _ h21, mu_s, uP_n _ _ h18, ms_n _ _ (by decide)]
theorem mNot_f (M : mS) (a b k : Nat) (h4 : k ≠ 4) (h5 : k ≠ 5) : mNot M a b 0 k = M 0 k := by
  unfold mNot
  rw [mu_s, uP_n _ _ h5, mu_s, uP_n _ _ h4]
theorem dAll_f {k : Nat} : ∀ (f : Nat) (X : mS), k ≠ 4 → k ≠ 5 → k ≠ 18 → k ≠ 21 → k ≠ 22 → (dAll f X).2 0 k = X 0 k
  | 0, _, _, _, _, _, _ => rfl
  | f + 1, X, h4, h5, h18, h21, h22 => by
    have hY : dY X 0 k = X 0 k := pS_f _ _ _ _ h18 h21
    have hZ : dZ (dY X) 0 k = X 0 k := by
      rw [← hY]; unfold dZ
      rw [mu_s, uP_n _ _ h22, ms_n _ _ (by decide)]
    have hV : dV (dZ (dY X)) 0 k = X 0 k := by
      rw [← hZ]; exact pS_f _ _ _ _ h18 h21
    rw [dAll_s]
    split
    · split
      · rw [dAll_f f _ h4 h5 h18 h21 h22, hV]
      · exact hV
    · rcases nND_f (dY X) (cmd (nI (dY X 0 21))) (dY X 8) with h | ⟨a, b, h⟩
      · show (nND _ _ _).2 0 k = _; rw [h, hY]
      · show (nND _ _ _).2 0 k = _; rw [h, mNot_f _ _ _ _ h4 h5, hY]
def mRd (R : mS) : Int32 × mS := if (dAll ((mCp R 4 1) 0 17 + 1) (mu (mu (mCp R 4 1) 0 22 0) 0 18 0)).1 = 0 then (nI (mKeep (mu (dAll ((mCp R 4 1) 0 17 + 1) (mu (mu (mCp R 4 1) 0 22 0) 0 18 0)).2 0 17 0) 0 22), mKeep (mu (dAll ((mCp R 4 1) 0 17 + 1) (mu (mu (mCp R 4 1) 0 22 0) 0 18 0)).2 0 17 0)) else (-5, mRfs (mCp (mu (dAll ((mCp R 4 1) 0 17 + 1) (mu (mu (mCp R 4 1) 0 22 0) 0 18 0)).2 0 17 0) 1 4) (dAll ((mCp R 4 1) 0 17 + 1) (mu (mu (mCp R 4 1) 0 22 0) 0 18 0)).1)
def mRead (M : mS) : Int32 × mS := if (pAll M (M 0 17 + 1) (0, M 8) (M 0 21)).1 = true then mRd (rA M) else (-2, mu (mu (rA M) 0 19 (rA M 0 18)) 0 17 0)
set_option maxHeartbeats 4000000 in
set_option maxRecDepth 100000 in
theorem metX2_notNow (l : Launch) (G : va_G) (dA : Nat → ClassId) (dS : Nat → Nat) (B0 sz : Nat) (q : Nat → Nat) (M : mS) (hbw : ∀ k, k ≠ 12 → k ≠ 13 → M 1 k < 2 ^ 31) (h12 : M 1 0 ≤ 12) (h99 : ∀ k, M 8 k ≤ 99) (hkn : ∀ i, M 1 i < 2 ^ 32) : Met l yX2_notNow (ws_ yX2_notNow cX2_notNow 2 (some FieldType.int)) ({ frames := 3, cells := 0, slots := 0, locals := 69 }) (zP G dA dS B0 [.ref (q 0)] sz (mW dA q M) (fun H => True)) (zQi G (fun (r : Int32) (u : Unit) => r = (nND M (cmd (nI (M 0 21))) (M 8)).1) (fun (u : Unit) => mW dA q ((nND M (cmd (nI (M 0 21))) (M 8)).2)) (fun (u : Unit) (H : Heap) => True) (va_A (mW dA q M) sz)) 0 0 (va_A (mW dA q M) sz) := by
  refine zM (by decide) (Nat.le_of_ble_eq_true rfl) ?_
  intro p e s m below meth c ls A H locs hHe hx hb hr hlocks hml hown hname hts hX hsz hB hAe hA hAB hH hRo hl
  have hl : lv_has ls 2 [(0, .ref (q 0))] := hl
  have h90 := h99 0
  have h91 := h99 1
  have h92 := h99 2
  have h93 := h99 3
  refine lv_aload_n hx hb dX2_notNow_0 rfl (lv_at hl 0 rfl) ?_
  refine z_get (v := .ref (q 8)) hx hb hts hown hX kX2 20 (by decide) (hH.at 0 rfl) rfl q2030 (fun _ h9 => h9) dX2_notNow_1 ?_
  refine lv_iconst (v := nI 0) hx hb dX2_notNow_4 (by decide) ?_
  refine z_iald (x := nI (M 8 0)) hx hb hX (k := 0)  (hH.at 8 rfl) rfl (by omega) (by omega) rfl dX2_notNow_5 ?_
  refine lv_istore_n (lv' := [(1, .int (nI (M 8 0))), (0, .ref (q 0))]) hx hb dX2_notNow_6 rfl hl (by decide) rfl (fun ls hl => ?_)
  refine lv_aload_n hx hb dX2_notNow_7 rfl (lv_at hl 1 rfl) ?_
  refine z_get (v := .int (nI (M 0 21))) hx hb hts hown hX kX2 21 (by decide) (hH.at 0 rfl) rfl q2031 (fun _ h9 => h9) dX2_notNow_8 ?_
  by_cases s_11_98 : nI (M 0 21) = nI 98
  · skip
    refine lv_tableIn (off := 139) (tgt := 150) hx hb dX2_notNow_11 (by rw [s_11_98]; decide) (by rw [s_11_98]; decide) (by rw [s_11_98]; rfl) (by decide) ?_
    have hc : cmd (nI (M 0 21)) = 0 := by rw [s_11_98]; decide
    refine lv_aload_n hx hb dX2_notNow_150 rfl (lv_at hl 1 rfl) ?_
    refine lv_iload_n hx hb dX2_notNow_151 rfl (lv_at hl 0 rfl) ?_
    refine lv_aload_n hx hb dX2_notNow_152 rfl (lv_at hl 1 rfl) ?_
    refine z_get (v := .ref (q 8)) hx hb hts hown hX kX2 20 (by decide) (hH.at 0 rfl) rfl q2030 (fun _ h9 => h9) dX2_notNow_153 ?_
    refine lv_iconst (v := nI 1) hx hb dX2_notNow_156 (by decide) ?_
    refine z_iald (x := nI (M 8 1)) hx hb hX (k := 1)  (hH.at 8 rfl) rfl (by omega) (by omega) rfl dX2_notNow_157 ?_
    refine z_ci (wr := []) (va_runV (As := [.int (nI (M 8 0)), .int (nI (M 8 1))]) (rest := []) ⟨hx, hb, hml, hown, hts⟩ (metX2_notBucket l G dA dS B0 H.size q M (nI (M 8 0)) (nI (M 8 1)) (by first | exact hbw | assumption | omega) (by first | exact h12 | assumption | omega)) (cwV 2 hts (lw_V q2195 q2197 qs49 q91 q2198) rfl rfl rfl (by decide +kernel) ⟨Nat.le_of_ble_eq_true rfl, Nat.le_of_ble_eq_true rfl⟩) (zPV hX hH hB hAB (z_recv hX kX2 (hH.at 0 rfl)) [0, 1, 2, 3, 4, 5, 6, 7, 8] rfl rfl trivial) rfl rfl hl.1 rfl (lv_room (Nat.le_of_ble_eq_true rfl)) dX2_notNow_158 ⟨(Nat.le_of_ble_eq_true rfl), (Nat.le_of_ble_eq_true rfl)⟩) hH hA [0, 1, 2, 3, 4, 5, 6, 7, 8] [] rfl rfl (by decide) (by decide) (fun r_1 u_r_1 H locs hw_r_1 hH hR_r_1 hk_r_1 => ?_)
    obtain rfl := hw_r_1
    have hH : zH G A s.heap (mW dA q ((mNotBucket M (nI (M 8 0)) (nI (M 8 1))).2)) H locs := hH
    have eM : (mNotBucket M (nI (M 8 0)) (nI (M 8 1))).2 = (nND M (cmd (nI (M 0 21))) (M 8)).2 := by rw [hc]; rfl
    rw [eM] at hH
    exact z_iret hx hb hr hlocks hH (u := ()) (by rw [hc]; rfl) ⟨hH.1, hH.2.1⟩ trivial (Nat.le_of_ble_eq_true rfl) (Nat.le_of_ble_eq_true rfl) dX2_notNow_161
  by_cases s_11_99 : nI (M 0 21) = nI 99
  · skip
    refine lv_tableIn (off := 151) (tgt := 162) hx hb dX2_notNow_11 (by rw [s_11_99]; decide) (by rw [s_11_99]; decide) (by rw [s_11_99]; rfl) (by decide) ?_
    have hc : cmd (nI (M 0 21)) = 7 := by rw [s_11_99]; decide
    refine lv_aload_n hx hb dX2_notNow_162 rfl (lv_at hl 1 rfl) ?_
    refine lv_iload_n hx hb dX2_notNow_163 rfl (lv_at hl 0 rfl) ?_
    refine z_ci (wr := []) (va_runV (As := [.int (nI (M 8 0))]) (rest := []) ⟨hx, hb, hml, hown, hts⟩ (metX2_notGo l G dA dS B0 H.size q M (nI (M 8 0)) (by first | exact hbw | assumption | omega) (by first | exact h12 | assumption | omega)) (cwV 1 hts (lw_V q2203 q2205 qs50 q91 q2206) rfl rfl rfl (by decide +kernel) ⟨Nat.le_of_ble_eq_true rfl, Nat.le_of_ble_eq_true rfl⟩) (zPV hX hH hB hAB (z_recv hX kX2 (hH.at 0 rfl)) [0, 1, 2, 3, 4, 5, 6, 7, 8] rfl rfl trivial) rfl rfl hl.1 rfl (lv_room (Nat.le_of_ble_eq_true rfl)) dX2_notNow_164 ⟨(Nat.le_of_ble_eq_true rfl), (Nat.le_of_ble_eq_true rfl)⟩) hH hA [0, 1, 2, 3, 4, 5, 6, 7, 8] [] rfl rfl (by decide) (by decide) (fun r_2 u_r_2 H locs hw_r_2 hH hR_r_2 hk_r_2 => ?_)
    obtain rfl := hw_r_2
    have hH : zH G A s.heap (mW dA q ((mNotGo M (nI (M 8 0))).2)) H locs := hH
    have eM : (mNotGo M (nI (M 8 0))).2 = (nND M (cmd (nI (M 0 21))) (M 8)).2 := by rw [hc]; rfl
    rw [eM] at hH
    exact z_iret hx hb hr hlocks hH (u := ()) (by rw [hc]; rfl) ⟨hH.1, hH.2.1⟩ trivial (Nat.le_of_ble_eq_true rfl) (Nat.le_of_ble_eq_true rfl) dX2_notNow_167
  by_cases s_11_100 : nI (M 0 21) = nI 100
  · skip
    refine lv_tableIn (off := 121) (tgt := 132) hx hb dX2_notNow_11 (by rw [s_11_100]; decide) (by rw [s_11_100]; decide) (by rw [s_11_100]; rfl) (by decide) ?_
    have hc : cmd (nI (M 0 21)) = 1 := by rw [s_11_100]; decide
    refine lv_aload_n hx hb dX2_notNow_132 rfl (lv_at hl 1 rfl) ?_
    refine lv_iload_n hx hb dX2_notNow_133 rfl (lv_at hl 0 rfl) ?_
    refine z_ci (wr := []) (va_runV (As := [.int (nI (M 8 0))]) (rest := []) ⟨hx, hb, hml, hown, hts⟩ (metX2_notDrain l G dA dS B0 H.size q M (nI (M 8 0)) (by first | exact hbw | assumption | omega) (by first | exact h12 | assumption | omega)) (cwV 1 hts (lw_V q2171 q2173 qs45 q91 q2174) rfl rfl rfl (by decide +kernel) ⟨Nat.le_of_ble_eq_true rfl, Nat.le_of_ble_eq_true rfl⟩) (zPV hX hH hB hAB (z_recv hX kX2 (hH.at 0 rfl)) [0, 1, 2, 3, 4, 5, 6, 7, 8] rfl rfl trivial) rfl rfl hl.1 rfl (lv_room (Nat.le_of_ble_eq_true rfl)) dX2_notNow_134 ⟨(Nat.le_of_ble_eq_true rfl), (Nat.le_of_ble_eq_true rfl)⟩) hH hA [0, 1, 2, 3, 4, 5, 6, 7, 8] [] rfl rfl (by decide) (by decide) (fun r_3 u_r_3 H locs hw_r_3 hH hR_r_3 hk_r_3 => ?_)
    obtain rfl := hw_r_3
    have hH : zH G A s.heap (mW dA q ((mNotDrain M (nI (M 8 0))).2)) H locs := hH
    have eM : (mNotDrain M (nI (M 8 0))).2 = (nND M (cmd (nI (M 0 21))) (M 8)).2 := by rw [hc]; rfl
    rw [eM] at hH
    exact z_iret hx hb hr hlocks hH (u := ()) (by rw [hc]; rfl) ⟨hH.1, hH.2.1⟩ trivial (Nat.le_of_ble_eq_true rfl) (Nat.le_of_ble_eq_true rfl) dX2_notNow_137
  by_cases s_11_101 : nI (M 0 21) = nI 101
  · skip
    refine lv_tableIn (off := 151) (tgt := 162) hx hb dX2_notNow_11 (by rw [s_11_101]; decide) (by rw [s_11_101]; decide) (by rw [s_11_101]; rfl) (by decide) ?_
    have hc : cmd (nI (M 0 21)) = 7 := by rw [s_11_101]; decide
    refine lv_aload_n hx hb dX2_notNow_162 rfl (lv_at hl 1 rfl) ?_
    refine lv_iload_n hx hb dX2_notNow_163 rfl (lv_at hl 0 rfl) ?_
    refine z_ci (wr := []) (va_runV (As := [.int (nI (M 8 0))]) (rest := []) ⟨hx, hb, hml, hown, hts⟩ (metX2_notGo l G dA dS B0 H.size q M (nI (M 8 0)) (by first | exact hbw | assumption | omega) (by first | exact h12 | assumption | omega)) (cwV 1 hts (lw_V q2203 q2205 qs50 q91 q2206) rfl rfl rfl (by decide +kernel) ⟨Nat.le_of_ble_eq_true rfl, Nat.le_of_ble_eq_true rfl⟩) (zPV hX hH hB hAB (z_recv hX kX2 (hH.at 0 rfl)) [0, 1, 2, 3, 4, 5, 6, 7, 8] rfl rfl trivial) rfl rfl hl.1 rfl (lv_room (Nat.le_of_ble_eq_true rfl)) dX2_notNow_164 ⟨(Nat.le_of_ble_eq_true rfl), (Nat.le_of_ble_eq_true rfl)⟩) hH hA [0, 1, 2, 3, 4, 5, 6, 7, 8] [] rfl rfl (by decide) (by decide) (fun r_4 u_r_4 H locs hw_r_4 hH hR_r_4 hk_r_4 => ?_)
    obtain rfl := hw_r_4
    have hH : zH G A s.heap (mW dA q ((mNotGo M (nI (M 8 0))).2)) H locs := hH
    have eM : (mNotGo M (nI (M 8 0))).2 = (nND M (cmd (nI (M 0 21))) (M 8)).2 := by rw [hc]; rfl
    rw [eM] at hH
    exact z_iret hx hb hr hlocks hH (u := ()) (by rw [hc]; rfl) ⟨hH.1, hH.2.1⟩ trivial (Nat.le_of_ble_eq_true rfl) (Nat.le_of_ble_eq_true rfl) dX2_notNow_167
  by_cases s_11_102 : nI (M 0 21) = nI 102
  · skip
    refine lv_tableIn (off := 151) (tgt := 162) hx hb dX2_notNow_11 (by rw [s_11_102]; decide) (by rw [s_11_102]; decide) (by rw [s_11_102]; rfl) (by decide) ?_
    have hc : cmd (nI (M 0 21)) = 7 := by rw [s_11_102]; decide
    refine lv_aload_n hx hb dX2_notNow_162 rfl (lv_at hl 1 rfl) ?_
    refine lv_iload_n hx hb dX2_notNow_163 rfl (lv_at hl 0 rfl) ?_
    refine z_ci (wr := []) (va_runV (As := [.int (nI (M 8 0))]) (rest := []) ⟨hx, hb, hml, hown, hts⟩ (metX2_notGo l G dA dS B0 H.size q M (nI (M 8 0)) (by first | exact hbw | assumption | omega) (by first | exact h12 | assumption | omega)) (cwV 1 hts (lw_V q2203 q2205 qs50 q91 q2206) rfl rfl rfl (by decide +kernel) ⟨Nat.le_of_ble_eq_true rfl, Nat.le_of_ble_eq_true rfl⟩) (zPV hX hH hB hAB (z_recv hX kX2 (hH.at 0 rfl)) [0, 1, 2, 3, 4, 5, 6, 7, 8] rfl rfl trivial) rfl rfl hl.1 rfl (lv_room (Nat.le_of_ble_eq_true rfl)) dX2_notNow_164 ⟨(Nat.le_of_ble_eq_true rfl), (Nat.le_of_ble_eq_true rfl)⟩) hH hA [0, 1, 2, 3, 4, 5, 6, 7, 8] [] rfl rfl (by decide) (by decide) (fun r_5 u_r_5 H locs hw_r_5 hH hR_r_5 hk_r_5 => ?_)
    obtain rfl := hw_r_5
    have hH : zH G A s.heap (mW dA q ((mNotGo M (nI (M 8 0))).2)) H locs := hH
    have eM : (mNotGo M (nI (M 8 0))).2 = (nND M (cmd (nI (M 0 21))) (M 8)).2 := by rw [hc]; rfl
    rw [eM] at hH
    exact z_iret hx hb hr hlocks hH (u := ()) (by rw [hc]; rfl) ⟨hH.1, hH.2.1⟩ trivial (Nat.le_of_ble_eq_true rfl) (Nat.le_of_ble_eq_true rfl) dX2_notNow_167
  by_cases s_11_103 : nI (M 0 21) = nI 103
  · skip
    refine lv_tableIn (off := 151) (tgt := 162) hx hb dX2_notNow_11 (by rw [s_11_103]; decide) (by rw [s_11_103]; decide) (by rw [s_11_103]; rfl) (by decide) ?_
    have hc : cmd (nI (M 0 21)) = 7 := by rw [s_11_103]; decide
    refine lv_aload_n hx hb dX2_notNow_162 rfl (lv_at hl 1 rfl) ?_
    refine lv_iload_n hx hb dX2_notNow_163 rfl (lv_at hl 0 rfl) ?_
    refine z_ci (wr := []) (va_runV (As := [.int (nI (M 8 0))]) (rest := []) ⟨hx, hb, hml, hown, hts⟩ (metX2_notGo l G dA dS B0 H.size q M (nI (M 8 0)) (by first | exact hbw | assumption | omega) (by first | exact h12 | assumption | omega)) (cwV 1 hts (lw_V q2203 q2205 qs50 q91 q2206) rfl rfl rfl (by decide +kernel) ⟨Nat.le_of_ble_eq_true rfl, Nat.le_of_ble_eq_true rfl⟩) (zPV hX hH hB hAB (z_recv hX kX2 (hH.at 0 rfl)) [0, 1, 2, 3, 4, 5, 6, 7, 8] rfl rfl trivial) rfl rfl hl.1 rfl (lv_room (Nat.le_of_ble_eq_true rfl)) dX2_notNow_164 ⟨(Nat.le_of_ble_eq_true rfl), (Nat.le_of_ble_eq_true rfl)⟩) hH hA [0, 1, 2, 3, 4, 5, 6, 7, 8] [] rfl rfl (by decide) (by decide) (fun r_6 u_r_6 H locs hw_r_6 hH hR_r_6 hk_r_6 => ?_)
    obtain rfl := hw_r_6
    have hH : zH G A s.heap (mW dA q ((mNotGo M (nI (M 8 0))).2)) H locs := hH
    have eM : (mNotGo M (nI (M 8 0))).2 = (nND M (cmd (nI (M 0 21))) (M 8)).2 := by rw [hc]; rfl
    rw [eM] at hH
    exact z_iret hx hb hr hlocks hH (u := ()) (by rw [hc]; rfl) ⟨hH.1, hH.2.1⟩ trivial (Nat.le_of_ble_eq_true rfl) (Nat.le_of_ble_eq_true rfl) dX2_notNow_167
  by_cases s_11_104 : nI (M 0 21) = nI 104
  · skip
    refine lv_tableIn (off := 151) (tgt := 162) hx hb dX2_notNow_11 (by rw [s_11_104]; decide) (by rw [s_11_104]; decide) (by rw [s_11_104]; rfl) (by decide) ?_
    have hc : cmd (nI (M 0 21)) = 7 := by rw [s_11_104]; decide
    refine lv_aload_n hx hb dX2_notNow_162 rfl (lv_at hl 1 rfl) ?_
    refine lv_iload_n hx hb dX2_notNow_163 rfl (lv_at hl 0 rfl) ?_
    refine z_ci (wr := []) (va_runV (As := [.int (nI (M 8 0))]) (rest := []) ⟨hx, hb, hml, hown, hts⟩ (metX2_notGo l G dA dS B0 H.size q M (nI (M 8 0)) (by first | exact hbw | assumption | omega) (by first | exact h12 | assumption | omega)) (cwV 1 hts (lw_V q2203 q2205 qs50 q91 q2206) rfl rfl rfl (by decide +kernel) ⟨Nat.le_of_ble_eq_true rfl, Nat.le_of_ble_eq_true rfl⟩) (zPV hX hH hB hAB (z_recv hX kX2 (hH.at 0 rfl)) [0, 1, 2, 3, 4, 5, 6, 7, 8] rfl rfl trivial) rfl rfl hl.1 rfl (lv_room (Nat.le_of_ble_eq_true rfl)) dX2_notNow_164 ⟨(Nat.le_of_ble_eq_true rfl), (Nat.le_of_ble_eq_true rfl)⟩) hH hA [0, 1, 2, 3, 4, 5, 6, 7, 8] [] rfl rfl (by decide) (by decide) (fun r_7 u_r_7 H locs hw_r_7 hH hR_r_7 hk_r_7 => ?_)
    obtain rfl := hw_r_7
    have hH : zH G A s.heap (mW dA q ((mNotGo M (nI (M 8 0))).2)) H locs := hH
    have eM : (mNotGo M (nI (M 8 0))).2 = (nND M (cmd (nI (M 0 21))) (M 8)).2 := by rw [hc]; rfl
    rw [eM] at hH
    exact z_iret hx hb hr hlocks hH (u := ()) (by rw [hc]; rfl) ⟨hH.1, hH.2.1⟩ trivial (Nat.le_of_ble_eq_true rfl) (Nat.le_of_ble_eq_true rfl) dX2_notNow_167
  by_cases s_11_105 : nI (M 0 21) = nI 105
  · skip
    refine lv_tableIn (off := 151) (tgt := 162) hx hb dX2_notNow_11 (by rw [s_11_105]; decide) (by rw [s_11_105]; decide) (by rw [s_11_105]; rfl) (by decide) ?_
    have hc : cmd (nI (M 0 21)) = 7 := by rw [s_11_105]; decide
    refine lv_aload_n hx hb dX2_notNow_162 rfl (lv_at hl 1 rfl) ?_
    refine lv_iload_n hx hb dX2_notNow_163 rfl (lv_at hl 0 rfl) ?_
    refine z_ci (wr := []) (va_runV (As := [.int (nI (M 8 0))]) (rest := []) ⟨hx, hb, hml, hown, hts⟩ (metX2_notGo l G dA dS B0 H.size q M (nI (M 8 0)) (by first | exact hbw | assumption | omega) (by first | exact h12 | assumption | omega)) (cwV 1 hts (lw_V q2203 q2205 qs50 q91 q2206) rfl rfl rfl (by decide +kernel) ⟨Nat.le_of_ble_eq_true rfl, Nat.le_of_ble_eq_true rfl⟩) (zPV hX hH hB hAB (z_recv hX kX2 (hH.at 0 rfl)) [0, 1, 2, 3, 4, 5, 6, 7, 8] rfl rfl trivial) rfl rfl hl.1 rfl (lv_room (Nat.le_of_ble_eq_true rfl)) dX2_notNow_164 ⟨(Nat.le_of_ble_eq_true rfl), (Nat.le_of_ble_eq_true rfl)⟩) hH hA [0, 1, 2, 3, 4, 5, 6, 7, 8] [] rfl rfl (by decide) (by decide) (fun r_8 u_r_8 H locs hw_r_8 hH hR_r_8 hk_r_8 => ?_)
    obtain rfl := hw_r_8
    have hH : zH G A s.heap (mW dA q ((mNotGo M (nI (M 8 0))).2)) H locs := hH
    have eM : (mNotGo M (nI (M 8 0))).2 = (nND M (cmd (nI (M 0 21))) (M 8)).2 := by rw [hc]; rfl
    rw [eM] at hH
    exact z_iret hx hb hr hlocks hH (u := ()) (by rw [hc]; rfl) ⟨hH.1, hH.2.1⟩ trivial (Nat.le_of_ble_eq_true rfl) (Nat.le_of_ble_eq_true rfl) dX2_notNow_167
  by_cases s_11_106 : nI (M 0 21) = nI 106
  · skip
    refine lv_tableIn (off := 85) (tgt := 96) hx hb dX2_notNow_11 (by rw [s_11_106]; decide) (by rw [s_11_106]; decide) (by rw [s_11_106]; rfl) (by decide) ?_
    have hc : cmd (nI (M 0 21)) = 2 := by rw [s_11_106]; decide
    refine lv_aload_n hx hb dX2_notNow_96 rfl (lv_at hl 1 rfl) ?_
    refine lv_iload_n hx hb dX2_notNow_97 rfl (lv_at hl 0 rfl) ?_
    refine lv_aload_n hx hb dX2_notNow_98 rfl (lv_at hl 1 rfl) ?_
    refine z_get (v := .ref (q 8)) hx hb hts hown hX kX2 20 (by decide) (hH.at 0 rfl) rfl q2030 (fun _ h9 => h9) dX2_notNow_99 ?_
    refine lv_iconst (v := nI 1) hx hb dX2_notNow_102 (by decide) ?_
    refine z_iald (x := nI (M 8 1)) hx hb hX (k := 1)  (hH.at 8 rfl) rfl (by omega) (by omega) rfl dX2_notNow_103 ?_
    refine lv_aload_n hx hb dX2_notNow_104 rfl (lv_at hl 1 rfl) ?_
    refine z_get (v := .ref (q 8)) hx hb hts hown hX kX2 20 (by decide) (hH.at 0 rfl) rfl q2030 (fun _ h9 => h9) dX2_notNow_105 ?_
    refine lv_iconst (v := nI 2) hx hb dX2_notNow_108 (by decide) ?_
    refine z_iald (x := nI (M 8 2)) hx hb hX (k := 2)  (hH.at 8 rfl) rfl (by omega) (by omega) rfl dX2_notNow_109 ?_
    refine lv_aload_n hx hb dX2_notNow_110 rfl (lv_at hl 1 rfl) ?_
    refine z_get (v := .ref (q 8)) hx hb hts hown hX kX2 20 (by decide) (hH.at 0 rfl) rfl q2030 (fun _ h9 => h9) dX2_notNow_111 ?_
    refine lv_iconst (v := nI 3) hx hb dX2_notNow_114 (by decide) ?_
    refine z_iald (x := nI (M 8 3)) hx hb hX (k := 3)  (hH.at 8 rfl) rfl (by omega) (by omega) rfl dX2_notNow_115 ?_
    refine z_ci (wr := []) (va_runV (As := [.int (nI (M 8 0)), .int (nI (M 8 1)), .int (nI (M 8 2)), .int (nI (M 8 3))]) (rest := []) ⟨hx, hb, hml, hown, hts⟩ (metX2_notJoke l G dA dS B0 H.size q M (nI (M 8 0)) (nI (M 8 1)) (nI (M 8 2)) (nI (M 8 3)) (by first | exact hbw | assumption | omega) (by first | exact h12 | assumption | omega) (by first | exact hkn | assumption | omega)) (cwV 4 hts (lw_V q2084 q2086 qs27 q91 q2087) rfl rfl rfl (by decide +kernel) ⟨Nat.le_of_ble_eq_true rfl, Nat.le_of_ble_eq_true rfl⟩) (zPV hX hH hB hAB (z_recv hX kX2 (hH.at 0 rfl)) [0, 1, 2, 3, 4, 5, 6, 7, 8] rfl rfl trivial) rfl rfl hl.1 rfl (lv_room (Nat.le_of_ble_eq_true rfl)) dX2_notNow_116 ⟨(Nat.le_of_ble_eq_true rfl), (Nat.le_of_ble_eq_true rfl)⟩) hH hA [0, 1, 2, 3, 4, 5, 6, 7, 8] [] rfl rfl (by decide) (by decide) (fun r_9 u_r_9 H locs hw_r_9 hH hR_r_9 hk_r_9 => ?_)
    obtain rfl := hw_r_9
    have hH : zH G A s.heap (mW dA q ((mNotJoke M (nI (M 8 0)) (nI (M 8 1)) (nI (M 8 2)) (nI (M 8 3))).2)) H locs := hH
    have eM : (mNotJoke M (nI (M 8 0)) (nI (M 8 1)) (nI (M 8 2)) (nI (M 8 3))).2 = (nND M (cmd (nI (M 0 21))) (M 8)).2 := by rw [hc]; rfl
    rw [eM] at hH
    exact z_iret hx hb hr hlocks hH (u := ()) (by rw [hc]; rfl) ⟨hH.1, hH.2.1⟩ trivial (Nat.le_of_ble_eq_true rfl) (Nat.le_of_ble_eq_true rfl) dX2_notNow_119
  by_cases s_11_107 : nI (M 0 21) = nI 107
  · skip
    refine lv_tableIn (off := 151) (tgt := 162) hx hb dX2_notNow_11 (by rw [s_11_107]; decide) (by rw [s_11_107]; decide) (by rw [s_11_107]; rfl) (by decide) ?_
    have hc : cmd (nI (M 0 21)) = 7 := by rw [s_11_107]; decide
    refine lv_aload_n hx hb dX2_notNow_162 rfl (lv_at hl 1 rfl) ?_
    refine lv_iload_n hx hb dX2_notNow_163 rfl (lv_at hl 0 rfl) ?_
    refine z_ci (wr := []) (va_runV (As := [.int (nI (M 8 0))]) (rest := []) ⟨hx, hb, hml, hown, hts⟩ (metX2_notGo l G dA dS B0 H.size q M (nI (M 8 0)) (by first | exact hbw | assumption | omega) (by first | exact h12 | assumption | omega)) (cwV 1 hts (lw_V q2203 q2205 qs50 q91 q2206) rfl rfl rfl (by decide +kernel) ⟨Nat.le_of_ble_eq_true rfl, Nat.le_of_ble_eq_true rfl⟩) (zPV hX hH hB hAB (z_recv hX kX2 (hH.at 0 rfl)) [0, 1, 2, 3, 4, 5, 6, 7, 8] rfl rfl trivial) rfl rfl hl.1 rfl (lv_room (Nat.le_of_ble_eq_true rfl)) dX2_notNow_164 ⟨(Nat.le_of_ble_eq_true rfl), (Nat.le_of_ble_eq_true rfl)⟩) hH hA [0, 1, 2, 3, 4, 5, 6, 7, 8] [] rfl rfl (by decide) (by decide) (fun r_10 u_r_10 H locs hw_r_10 hH hR_r_10 hk_r_10 => ?_)
    obtain rfl := hw_r_10
    have hH : zH G A s.heap (mW dA q ((mNotGo M (nI (M 8 0))).2)) H locs := hH
    have eM : (mNotGo M (nI (M 8 0))).2 = (nND M (cmd (nI (M 0 21))) (M 8)).2 := by rw [hc]; rfl
    rw [eM] at hH
    exact z_iret hx hb hr hlocks hH (u := ()) (by rw [hc]; rfl) ⟨hH.1, hH.2.1⟩ trivial (Nat.le_of_ble_eq_true rfl) (Nat.le_of_ble_eq_true rfl) dX2_notNow_167
  by_cases s_11_108 : nI (M 0 21) = nI 108
  · skip
    refine lv_tableIn (off := 151) (tgt := 162) hx hb dX2_notNow_11 (by rw [s_11_108]; decide) (by rw [s_11_108]; decide) (by rw [s_11_108]; rfl) (by decide) ?_
    have hc : cmd (nI (M 0 21)) = 7 := by rw [s_11_108]; decide
    refine lv_aload_n hx hb dX2_notNow_162 rfl (lv_at hl 1 rfl) ?_
    refine lv_iload_n hx hb dX2_notNow_163 rfl (lv_at hl 0 rfl) ?_
    refine z_ci (wr := []) (va_runV (As := [.int (nI (M 8 0))]) (rest := []) ⟨hx, hb, hml, hown, hts⟩ (metX2_notGo l G dA dS B0 H.size q M (nI (M 8 0)) (by first | exact hbw | assumption | omega) (by first | exact h12 | assumption | omega)) (cwV 1 hts (lw_V q2203 q2205 qs50 q91 q2206) rfl rfl rfl (by decide +kernel) ⟨Nat.le_of_ble_eq_true rfl, Nat.le_of_ble_eq_true rfl⟩) (zPV hX hH hB hAB (z_recv hX kX2 (hH.at 0 rfl)) [0, 1, 2, 3, 4, 5, 6, 7, 8] rfl rfl trivial) rfl rfl hl.1 rfl (lv_room (Nat.le_of_ble_eq_true rfl)) dX2_notNow_164 ⟨(Nat.le_of_ble_eq_true rfl), (Nat.le_of_ble_eq_true rfl)⟩) hH hA [0, 1, 2, 3, 4, 5, 6, 7, 8] [] rfl rfl (by decide) (by decide) (fun r_11 u_r_11 H locs hw_r_11 hH hR_r_11 hk_r_11 => ?_)
    obtain rfl := hw_r_11
    have hH : zH G A s.heap (mW dA q ((mNotGo M (nI (M 8 0))).2)) H locs := hH
    have eM : (mNotGo M (nI (M 8 0))).2 = (nND M (cmd (nI (M 0 21))) (M 8)).2 := by rw [hc]; rfl
    rw [eM] at hH
    exact z_iret hx hb hr hlocks hH (u := ()) (by rw [hc]; rfl) ⟨hH.1, hH.2.1⟩ trivial (Nat.le_of_ble_eq_true rfl) (Nat.le_of_ble_eq_true rfl) dX2_notNow_167
  by_cases s_11_109 : nI (M 0 21) = nI 109
  · skip
    refine lv_tableIn (off := 151) (tgt := 162) hx hb dX2_notNow_11 (by rw [s_11_109]; decide) (by rw [s_11_109]; decide) (by rw [s_11_109]; rfl) (by decide) ?_
    have hc : cmd (nI (M 0 21)) = 7 := by rw [s_11_109]; decide
    refine lv_aload_n hx hb dX2_notNow_162 rfl (lv_at hl 1 rfl) ?_
    refine lv_iload_n hx hb dX2_notNow_163 rfl (lv_at hl 0 rfl) ?_
    refine z_ci (wr := []) (va_runV (As := [.int (nI (M 8 0))]) (rest := []) ⟨hx, hb, hml, hown, hts⟩ (metX2_notGo l G dA dS B0 H.size q M (nI (M 8 0)) (by first | exact hbw | assumption | omega) (by first | exact h12 | assumption | omega)) (cwV 1 hts (lw_V q2203 q2205 qs50 q91 q2206) rfl rfl rfl (by decide +kernel) ⟨Nat.le_of_ble_eq_true rfl, Nat.le_of_ble_eq_true rfl⟩) (zPV hX hH hB hAB (z_recv hX kX2 (hH.at 0 rfl)) [0, 1, 2, 3, 4, 5, 6, 7, 8] rfl rfl trivial) rfl rfl hl.1 rfl (lv_room (Nat.le_of_ble_eq_true rfl)) dX2_notNow_164 ⟨(Nat.le_of_ble_eq_true rfl), (Nat.le_of_ble_eq_true rfl)⟩) hH hA [0, 1, 2, 3, 4, 5, 6, 7, 8] [] rfl rfl (by decide) (by decide) (fun r_12 u_r_12 H locs hw_r_12 hH hR_r_12 hk_r_12 => ?_)
    obtain rfl := hw_r_12
    have hH : zH G A s.heap (mW dA q ((mNotGo M (nI (M 8 0))).2)) H locs := hH
    have eM : (mNotGo M (nI (M 8 0))).2 = (nND M (cmd (nI (M 0 21))) (M 8)).2 := by rw [hc]; rfl
    rw [eM] at hH
    exact z_iret hx hb hr hlocks hH (u := ()) (by rw [hc]; rfl) ⟨hH.1, hH.2.1⟩ trivial (Nat.le_of_ble_eq_true rfl) (Nat.le_of_ble_eq_true rfl) dX2_notNow_167
  by_cases s_11_110 : nI (M 0 21) = nI 110
  · skip
    refine lv_tableIn (off := 151) (tgt := 162) hx hb dX2_notNow_11 (by rw [s_11_110]; decide) (by rw [s_11_110]; decide) (by rw [s_11_110]; rfl) (by decide) ?_
    have hc : cmd (nI (M 0 21)) = 7 := by rw [s_11_110]; decide
    refine lv_aload_n hx hb dX2_notNow_162 rfl (lv_at hl 1 rfl) ?_
    refine lv_iload_n hx hb dX2_notNow_163 rfl (lv_at hl 0 rfl) ?_
    refine z_ci (wr := []) (va_runV (As := [.int (nI (M 8 0))]) (rest := []) ⟨hx, hb, hml, hown, hts⟩ (metX2_notGo l G dA dS B0 H.size q M (nI (M 8 0)) (by first | exact hbw | assumption | omega) (by first | exact h12 | assumption | omega)) (cwV 1 hts (lw_V q2203 q2205 qs50 q91 q2206) rfl rfl rfl (by decide +kernel) ⟨Nat.le_of_ble_eq_true rfl, Nat.le_of_ble_eq_true rfl⟩) (zPV hX hH hB hAB (z_recv hX kX2 (hH.at 0 rfl)) [0, 1, 2, 3, 4, 5, 6, 7, 8] rfl rfl trivial) rfl rfl hl.1 rfl (lv_room (Nat.le_of_ble_eq_true rfl)) dX2_notNow_164 ⟨(Nat.le_of_ble_eq_true rfl), (Nat.le_of_ble_eq_true rfl)⟩) hH hA [0, 1, 2, 3, 4, 5, 6, 7, 8] [] rfl rfl (by decide) (by decide) (fun r_13 u_r_13 H locs hw_r_13 hH hR_r_13 hk_r_13 => ?_)
    obtain rfl := hw_r_13
    have hH : zH G A s.heap (mW dA q ((mNotGo M (nI (M 8 0))).2)) H locs := hH
    have eM : (mNotGo M (nI (M 8 0))).2 = (nND M (cmd (nI (M 0 21))) (M 8)).2 := by rw [hc]; rfl
    rw [eM] at hH
    exact z_iret hx hb hr hlocks hH (u := ()) (by rw [hc]; rfl) ⟨hH.1, hH.2.1⟩ trivial (Nat.le_of_ble_eq_true rfl) (Nat.le_of_ble_eq_true rfl) dX2_notNow_167
  by_cases s_11_111 : nI (M 0 21) = nI 111
  · skip
    refine lv_tableIn (off := 127) (tgt := 138) hx hb dX2_notNow_11 (by rw [s_11_111]; decide) (by rw [s_11_111]; decide) (by rw [s_11_111]; rfl) (by decide) ?_
    have hc : cmd (nI (M 0 21)) = 3 := by rw [s_11_111]; decide
    refine lv_aload_n hx hb dX2_notNow_138 rfl (lv_at hl 1 rfl) ?_
    refine lv_iload_n hx hb dX2_notNow_139 rfl (lv_at hl 0 rfl) ?_
    refine z_ci (wr := []) (va_runV (As := [.int (nI (M 8 0))]) (rest := []) ⟨hx, hb, hml, hown, hts⟩ (metX2_notDrop l G dA dS B0 H.size q M (nI (M 8 0))) (cwV 1 hts (lw_V q2155 q2157 qs42 q91 q2158) rfl rfl rfl (by decide +kernel) ⟨Nat.le_of_ble_eq_true rfl, Nat.le_of_ble_eq_true rfl⟩) (zPV hX hH hB hAB (z_recv hX kX2 (hH.at 0 rfl)) [0, 1, 2, 3, 4, 5, 6, 7, 8] rfl rfl trivial) rfl rfl hl.1 rfl (lv_room (Nat.le_of_ble_eq_true rfl)) dX2_notNow_140 ⟨(Nat.le_of_ble_eq_true rfl), (Nat.le_of_ble_eq_true rfl)⟩) hH hA [0, 1, 2, 3, 4, 5, 6, 7, 8] [] rfl rfl (by decide) (by decide) (fun r_14 u_r_14 H locs hw_r_14 hH hR_r_14 hk_r_14 => ?_)
    obtain rfl := hw_r_14
    have hH : zH G A s.heap (mW dA q M) H locs := hH
    have eM : M = (nND M (cmd (nI (M 0 21))) (M 8)).2 := by rw [hc]; rfl
    rw [eM] at hH
    exact z_iret hx hb hr hlocks hH (u := ()) (by rw [hc]; rfl) ⟨hH.1, hH.2.1⟩ trivial (Nat.le_of_ble_eq_true rfl) (Nat.le_of_ble_eq_true rfl) dX2_notNow_143
  by_cases s_11_112 : nI (M 0 21) = nI 112
  · skip
    refine lv_tableIn (off := 109) (tgt := 120) hx hb dX2_notNow_11 (by rw [s_11_112]; decide) (by rw [s_11_112]; decide) (by rw [s_11_112]; rfl) (by decide) ?_
    have hc : cmd (nI (M 0 21)) = 4 := by rw [s_11_112]; decide
    refine lv_aload_n hx hb dX2_notNow_120 rfl (lv_at hl 1 rfl) ?_
    refine lv_iload_n hx hb dX2_notNow_121 rfl (lv_at hl 0 rfl) ?_
    refine z_ci (wr := []) (va_runV (As := [.int (nI (M 8 0))]) (rest := []) ⟨hx, hb, hml, hown, hts⟩ (metX2_notPump l G dA dS B0 H.size q M (nI (M 8 0)) (by first | exact hbw | assumption | omega) (by first | exact h12 | assumption | omega)) (cwV 1 hts (lw_V q2215 q2217 qs52 q91 q2218) rfl rfl rfl (by decide +kernel) ⟨Nat.le_of_ble_eq_true rfl, Nat.le_of_ble_eq_true rfl⟩) (zPV hX hH hB hAB (z_recv hX kX2 (hH.at 0 rfl)) [0, 1, 2, 3, 4, 5, 6, 7, 8] rfl rfl trivial) rfl rfl hl.1 rfl (lv_room (Nat.le_of_ble_eq_true rfl)) dX2_notNow_122 ⟨(Nat.le_of_ble_eq_true rfl), (Nat.le_of_ble_eq_true rfl)⟩) hH hA [0, 1, 2, 3, 4, 5, 6, 7, 8] [] rfl rfl (by decide) (by decide) (fun r_15 u_r_15 H locs hw_r_15 hH hR_r_15 hk_r_15 => ?_)
    obtain rfl := hw_r_15
    have hH : zH G A s.heap (mW dA q ((mNotPump M (nI (M 8 0))).2)) H locs := hH
    have eM : (mNotPump M (nI (M 8 0))).2 = (nND M (cmd (nI (M 0 21))) (M 8)).2 := by rw [hc]; rfl
    rw [eM] at hH
    exact z_iret hx hb hr hlocks hH (u := ()) (by rw [hc]; rfl) ⟨hH.1, hH.2.1⟩ trivial (Nat.le_of_ble_eq_true rfl) (Nat.le_of_ble_eq_true rfl) dX2_notNow_125
  by_cases s_11_113 : nI (M 0 21) = nI 113
  · skip
    refine lv_tableIn (off := 151) (tgt := 162) hx hb dX2_notNow_11 (by rw [s_11_113]; decide) (by rw [s_11_113]; decide) (by rw [s_11_113]; rfl) (by decide) ?_
    have hc : cmd (nI (M 0 21)) = 7 := by rw [s_11_113]; decide
    refine lv_aload_n hx hb dX2_notNow_162 rfl (lv_at hl 1 rfl) ?_
    refine lv_iload_n hx hb dX2_notNow_163 rfl (lv_at hl 0 rfl) ?_
    refine z_ci (wr := []) (va_runV (As := [.int (nI (M 8 0))]) (rest := []) ⟨hx, hb, hml, hown, hts⟩ (metX2_notGo l G dA dS B0 H.size q M (nI (M 8 0)) (by first | exact hbw | assumption | omega) (by first | exact h12 | assumption | omega)) (cwV 1 hts (lw_V q2203 q2205 qs50 q91 q2206) rfl rfl rfl (by decide +kernel) ⟨Nat.le_of_ble_eq_true rfl, Nat.le_of_ble_eq_true rfl⟩) (zPV hX hH hB hAB (z_recv hX kX2 (hH.at 0 rfl)) [0, 1, 2, 3, 4, 5, 6, 7, 8] rfl rfl trivial) rfl rfl hl.1 rfl (lv_room (Nat.le_of_ble_eq_true rfl)) dX2_notNow_164 ⟨(Nat.le_of_ble_eq_true rfl), (Nat.le_of_ble_eq_true rfl)⟩) hH hA [0, 1, 2, 3, 4, 5, 6, 7, 8] [] rfl rfl (by decide) (by decide) (fun r_16 u_r_16 H locs hw_r_16 hH hR_r_16 hk_r_16 => ?_)
    obtain rfl := hw_r_16
    have hH : zH G A s.heap (mW dA q ((mNotGo M (nI (M 8 0))).2)) H locs := hH
    have eM : (mNotGo M (nI (M 8 0))).2 = (nND M (cmd (nI (M 0 21))) (M 8)).2 := by rw [hc]; rfl
    rw [eM] at hH
    exact z_iret hx hb hr hlocks hH (u := ()) (by rw [hc]; rfl) ⟨hH.1, hH.2.1⟩ trivial (Nat.le_of_ble_eq_true rfl) (Nat.le_of_ble_eq_true rfl) dX2_notNow_167
  by_cases s_11_114 : nI (M 0 21) = nI 114
  · skip
    refine lv_tableIn (off := 115) (tgt := 126) hx hb dX2_notNow_11 (by rw [s_11_114]; decide) (by rw [s_11_114]; decide) (by rw [s_11_114]; rfl) (by decide) ?_
    have hc : cmd (nI (M 0 21)) = 5 := by rw [s_11_114]; decide
    refine lv_aload_n hx hb dX2_notNow_126 rfl (lv_at hl 1 rfl) ?_
    refine lv_iload_n hx hb dX2_notNow_127 rfl (lv_at hl 0 rfl) ?_
    refine z_ci (wr := []) (va_runV (As := [.int (nI (M 8 0))]) (rest := []) ⟨hx, hb, hml, hown, hts⟩ (metX2_notPrime l G dA dS B0 H.size q M (nI (M 8 0)) (by first | exact hbw | assumption | omega) (by first | exact h12 | assumption | omega)) (cwV 1 hts (lw_V q2139 q2141 qs39 q91 q2142) rfl rfl rfl (by decide +kernel) ⟨Nat.le_of_ble_eq_true rfl, Nat.le_of_ble_eq_true rfl⟩) (zPV hX hH hB hAB (z_recv hX kX2 (hH.at 0 rfl)) [0, 1, 2, 3, 4, 5, 6, 7, 8] rfl rfl trivial) rfl rfl hl.1 rfl (lv_room (Nat.le_of_ble_eq_true rfl)) dX2_notNow_128 ⟨(Nat.le_of_ble_eq_true rfl), (Nat.le_of_ble_eq_true rfl)⟩) hH hA [0, 1, 2, 3, 4, 5, 6, 7, 8] [] rfl rfl (by decide) (by decide) (fun r_17 u_r_17 H locs hw_r_17 hH hR_r_17 hk_r_17 => ?_)
    obtain rfl := hw_r_17
    have hH : zH G A s.heap (mW dA q ((mNotPrime M (nI (M 8 0))).2)) H locs := hH
    have eM : (mNotPrime M (nI (M 8 0))).2 = (nND M (cmd (nI (M 0 21))) (M 8)).2 := by rw [hc]; rfl
    rw [eM] at hH
    exact z_iret hx hb hr hlocks hH (u := ()) (by rw [hc]; rfl) ⟨hH.1, hH.2.1⟩ trivial (Nat.le_of_ble_eq_true rfl) (Nat.le_of_ble_eq_true rfl) dX2_notNow_131
  by_cases s_11_115 : nI (M 0 21) = nI 115
  · skip
    refine lv_tableIn (off := 133) (tgt := 144) hx hb dX2_notNow_11 (by rw [s_11_115]; decide) (by rw [s_11_115]; decide) (by rw [s_11_115]; rfl) (by decide) ?_
    have hc : cmd (nI (M 0 21)) = 6 := by rw [s_11_115]; decide
    refine lv_aload_n hx hb dX2_notNow_144 rfl (lv_at hl 1 rfl) ?_
    refine lv_iload_n hx hb dX2_notNow_145 rfl (lv_at hl 0 rfl) ?_
    refine z_ci (wr := []) (va_runV (As := [.int (nI (M 8 0))]) (rest := []) ⟨hx, hb, hml, hown, hts⟩ (metX2_notStroke l G dA dS B0 H.size q M (nI (M 8 0)) (by first | exact hbw | assumption | omega) (by first | exact h12 | assumption | omega)) (cwV 1 hts (lw_V q2183 q2185 qs47 q91 q2186) rfl rfl rfl (by decide +kernel) ⟨Nat.le_of_ble_eq_true rfl, Nat.le_of_ble_eq_true rfl⟩) (zPV hX hH hB hAB (z_recv hX kX2 (hH.at 0 rfl)) [0, 1, 2, 3, 4, 5, 6, 7, 8] rfl rfl trivial) rfl rfl hl.1 rfl (lv_room (Nat.le_of_ble_eq_true rfl)) dX2_notNow_146 ⟨(Nat.le_of_ble_eq_true rfl), (Nat.le_of_ble_eq_true rfl)⟩) hH hA [0, 1, 2, 3, 4, 5, 6, 7, 8] [] rfl rfl (by decide) (by decide) (fun r_18 u_r_18 H locs hw_r_18 hH hR_r_18 hk_r_18 => ?_)
    obtain rfl := hw_r_18
    have hH : zH G A s.heap (mW dA q ((mNotStroke M (nI (M 8 0))).2)) H locs := hH
    have eM : (mNotStroke M (nI (M 8 0))).2 = (nND M (cmd (nI (M 0 21))) (M 8)).2 := by rw [hc]; rfl
    rw [eM] at hH
    exact z_iret hx hb hr hlocks hH (u := ()) (by rw [hc]; rfl) ⟨hH.1, hH.2.1⟩ trivial (Nat.le_of_ble_eq_true rfl) (Nat.le_of_ble_eq_true rfl) dX2_notNow_149
  refine lv_tableOut (tgt := 162) hx hb dX2_notNow_11 (z_sw (lo := 98) (n := 18) (z_all18 s_11_98 s_11_99 s_11_100 s_11_101 s_11_102 s_11_103 s_11_104 s_11_105 s_11_106 s_11_107 s_11_108 s_11_109 s_11_110 s_11_111 s_11_112 s_11_113 s_11_114 s_11_115) (by decide) (by decide)) (by decide) ?_
  have hc : cmd (nI (M 0 21)) = 7 := by unfold cmd; rw [if_neg s_11_98, if_neg s_11_100, if_neg s_11_106, if_neg s_11_111, if_neg s_11_112, if_neg s_11_114, if_neg s_11_115]
  refine lv_aload_n hx hb dX2_notNow_162 rfl (lv_at hl 1 rfl) ?_
  refine lv_iload_n hx hb dX2_notNow_163 rfl (lv_at hl 0 rfl) ?_
  refine z_ci (wr := []) (va_runV (As := [.int (nI (M 8 0))]) (rest := []) ⟨hx, hb, hml, hown, hts⟩ (metX2_notGo l G dA dS B0 H.size q M (nI (M 8 0)) (by first | exact hbw | assumption | omega) (by first | exact h12 | assumption | omega)) (cwV 1 hts (lw_V q2203 q2205 qs50 q91 q2206) rfl rfl rfl (by decide +kernel) ⟨Nat.le_of_ble_eq_true rfl, Nat.le_of_ble_eq_true rfl⟩) (zPV hX hH hB hAB (z_recv hX kX2 (hH.at 0 rfl)) [0, 1, 2, 3, 4, 5, 6, 7, 8] rfl rfl trivial) rfl rfl hl.1 rfl (lv_room (Nat.le_of_ble_eq_true rfl)) dX2_notNow_164 ⟨(Nat.le_of_ble_eq_true rfl), (Nat.le_of_ble_eq_true rfl)⟩) hH hA [0, 1, 2, 3, 4, 5, 6, 7, 8] [] rfl rfl (by decide) (by decide) (fun r_19 u_r_19 H locs hw_r_19 hH hR_r_19 hk_r_19 => ?_)
  obtain rfl := hw_r_19
  have hH : zH G A s.heap (mW dA q ((mNotGo M (nI (M 8 0))).2)) H locs := hH
  have eM : (mNotGo M (nI (M 8 0))).2 = (nND M (cmd (nI (M 0 21))) (M 8)).2 := by rw [hc]; rfl
  rw [eM] at hH
  exact z_iret hx hb hr hlocks hH (u := ()) (by rw [hc]; rfl) ⟨hH.1, hH.2.1⟩ trivial (Nat.le_of_ble_eq_true rfl) (Nat.le_of_ble_eq_true rfl) dX2_notNow_167

set_option maxHeartbeats 4000000 in
set_option maxRecDepth 100000 in
theorem metX2_doesNow (l : Launch) (G : va_G) (dA : Nat → ClassId) (dS : Nat → Nat) (B0 sz : Nat) (q : Nat → Nat) (M : mS) (B : Nat) (hrb : rB (M 1) B) (hBb : B + 20 < 2 ^ 30) (h99 : ∀ k, M 8 k ≤ 99) (hok : okD (M 1) (cmd (nI (M 0 21))) (M 8)) : Met l yX2_doesNow (ws_ yX2_doesNow cX2_doesNow 2 (some FieldType.int)) ({ frames := 5, cells := 0, slots := 0, locals := 130 }) (zP G dA dS B0 [.ref (q 0)] sz (mW dA q M) (fun H => True)) (zQi G (fun (r : Int32) (u : Unit) => True) (fun (u : Unit) => mW dA q (ms M 1 (dW (M 1) (cmd (nI (M 0 21))) (M 8)))) (fun (u : Unit) (H : Heap) => True) (va_A (mW dA q M) sz)) 0 0 (va_A (mW dA q M) sz) := by
  refine zM (by decide) (Nat.le_of_ble_eq_true rfl) ?_
  intro p e s m below meth c ls A H locs hHe hx hb hr hlocks hml hown hname hts hX hsz hB hAe hA hAB hH hRo hl
  have hl : lv_has ls 2 [(0, .ref (q 0))] := hl
  have hbw := hrb.lt (by omega)
  have h12 := hrb.1
  have h90 := h99 0
  have h91 := h99 1
  have h92 := h99 2
  have h93 := h99 3
  have hd9 := hrb.2.2.2.2.2.2.2.2.1
  refine lv_aload_n hx hb dX2_doesNow_0 rfl (lv_at hl 0 rfl) ?_
  refine z_get (v := .ref (q 8)) hx hb hts hown hX kX2 20 (by decide) (hH.at 0 rfl) rfl q2030 (fun _ h9 => h9) dX2_doesNow_1 ?_
  refine lv_iconst (v := nI 0) hx hb dX2_doesNow_4 (by decide) ?_
  refine z_iald (x := nI (M 8 0)) hx hb hX (k := 0)  (hH.at 8 rfl) rfl (by omega) (by omega) rfl dX2_doesNow_5 ?_
  refine lv_istore_n (lv' := [(1, .int (nI (M 8 0))), (0, .ref (q 0))]) hx hb dX2_doesNow_6 rfl hl (by decide) rfl (fun ls hl => ?_)
  refine lv_aload_n hx hb dX2_doesNow_7 rfl (lv_at hl 1 rfl) ?_
  refine z_get (v := .int (nI (M 0 21))) hx hb hts hown hX kX2 21 (by decide) (hH.at 0 rfl) rfl q2031 (fun _ h9 => h9) dX2_doesNow_8 ?_
  by_cases s_11_98 : nI (M 0 21) = nI 98
  · skip
    refine lv_tableIn (off := 140) (tgt := 151) hx hb dX2_doesNow_11 (by rw [s_11_98]; decide) (by rw [s_11_98]; decide) (by rw [s_11_98]; rfl) (by decide) ?_
    have hc : cmd (nI (M 0 21)) = 0 := by rw [s_11_98]; decide
    have ho := hok
    rw [hc] at ho
    have ho : M 8 0 ≤ 3 ∧ 1 ≤ M 8 1 ∧ M 8 1 ≤ 5 := ho
    refine lv_aload_n hx hb dX2_doesNow_151 rfl (lv_at hl 1 rfl) ?_
    refine lv_bipush (v := nI 14) hx hb dX2_doesNow_152 (by decide) ?_
    refine lv_iload_n hx hb dX2_doesNow_154 rfl (lv_at hl 0 rfl) ?_
    refine lv_iadd hx hb dX2_doesNow_155 ?_
    refine z_topi (y := nI (14 + M 8 0)) (nI_add _ _) ?_
    refine lv_aload_n hx hb dX2_doesNow_156 rfl (lv_at hl 1 rfl) ?_
    refine z_get (v := .ref (q 8)) hx hb hts hown hX kX2 20 (by decide) (hH.at 0 rfl) rfl q2030 (fun _ h9 => h9) dX2_doesNow_157 ?_
    refine lv_iconst (v := nI 1) hx hb dX2_doesNow_160 (by decide) ?_
    refine z_iald (x := nI (M 8 1)) hx hb hX (k := 1)  (hH.at 8 rfl) rfl (by omega) (by omega) rfl dX2_doesNow_161 ?_
    refine z_ci (wr := []) (va_runV (As := [.int (nI (14 + M 8 0)), .int (nI (M 8 1))]) (rest := []) ⟨hx, hb, hml, hown, hts⟩ (metX2_tells l G dA dS B0 H.size q M (14 + M 8 0) (M 8 1) (by first | exact hk | assumption | omega)) (cwV 2 hts (lw_V q2187 q2189 qs48 q91 q2190) rfl rfl rfl (by decide +kernel) ⟨Nat.le_of_ble_eq_true rfl, Nat.le_of_ble_eq_true rfl⟩) (zPV hX hH hB hAB (z_recv hX kX2 (hH.at 0 rfl)) [0, 1, 2, 3, 4, 5, 6, 7, 8] rfl rfl trivial) rfl rfl hl.1 rfl (lv_room (Nat.le_of_ble_eq_true rfl)) dX2_doesNow_162 ⟨(Nat.le_of_ble_eq_true rfl), (Nat.le_of_ble_eq_true rfl)⟩) hH hA [0, 1, 2, 3, 4, 5, 6, 7, 8] [] rfl rfl (by decide) (by decide) (fun r_1 u_r_1 H locs hw_r_1 hH hR_r_1 hk_r_1 => ?_)
    obtain rfl := hw_r_1
    have hH : zH G A s.heap (mW dA q (mu M 1 (14 + M 8 0) (M 8 1))) H locs := hH
    have eM : mu M 1 (14 + M 8 0) (M 8 1) = ms M 1 (dW (M 1) (cmd (nI (M 0 21))) (M 8)) := by rw [hc]; simp only [dW, mDrains_1, mDrops_1, mComes_1, mu_as_ms, ms_ms, ms_s]
    rw [eM] at hH
    exact z_iret hx hb hr hlocks hH (u := ()) (by trivial) ⟨hH.1, hH.2.1⟩ trivial (Nat.le_of_ble_eq_true rfl) (Nat.le_of_ble_eq_true rfl) dX2_doesNow_165
  by_cases s_11_99 : nI (M 0 21) = nI 99
  · skip
    refine lv_tableIn (off := 155) (tgt := 166) hx hb dX2_doesNow_11 (by rw [s_11_99]; decide) (by rw [s_11_99]; decide) (by rw [s_11_99]; rfl) (by decide) ?_
    have hc : cmd (nI (M 0 21)) = 7 := by rw [s_11_99]; decide
    have ho := hok
    rw [hc] at ho
    have ho : M 8 0 ≤ 3 := ho
    refine lv_aload_n hx hb dX2_doesNow_166 rfl (lv_at hl 1 rfl) ?_
    refine lv_iload_n hx hb dX2_doesNow_167 rfl (lv_at hl 0 rfl) ?_
    refine z_ci (wr := []) (va_runV (As := [.int (nI (M 8 0))]) (rest := []) ⟨hx, hb, hml, hown, hts⟩ (metX2_moves l G dA dS B0 H.size q M (M 8 0)) (cwV 1 hts (lw_V q2207 q2209 qs51 q91 q2210) rfl rfl rfl (by decide +kernel) ⟨Nat.le_of_ble_eq_true rfl, Nat.le_of_ble_eq_true rfl⟩) (zPV hX hH hB hAB (z_recv hX kX2 (hH.at 0 rfl)) [0, 1, 2, 3, 4, 5, 6, 7, 8] rfl rfl trivial) rfl rfl hl.1 rfl (lv_room (Nat.le_of_ble_eq_true rfl)) dX2_doesNow_168 ⟨(Nat.le_of_ble_eq_true rfl), (Nat.le_of_ble_eq_true rfl)⟩) hH hA [0, 1, 2, 3, 4, 5, 6, 7, 8] [] rfl rfl (by decide) (by decide) (fun r_2 u_r_2 H locs hw_r_2 hH hR_r_2 hk_r_2 => ?_)
    obtain rfl := hw_r_2
    have hH : zH G A s.heap (mW dA q (mu (mu M 1 3 0) 1 1 (M 8 0))) H locs := hH
    have eM : mu (mu M 1 3 0) 1 1 (M 8 0) = ms M 1 (dW (M 1) (cmd (nI (M 0 21))) (M 8)) := by rw [hc]; simp only [dW, mDrains_1, mDrops_1, mComes_1, mu_as_ms, ms_ms, ms_s]
    rw [eM] at hH
    exact z_iret hx hb hr hlocks hH (u := ()) (by trivial) ⟨hH.1, hH.2.1⟩ trivial (Nat.le_of_ble_eq_true rfl) (Nat.le_of_ble_eq_true rfl) dX2_doesNow_171
  by_cases s_11_100 : nI (M 0 21) = nI 100
  · skip
    refine lv_tableIn (off := 121) (tgt := 132) hx hb dX2_doesNow_11 (by rw [s_11_100]; decide) (by rw [s_11_100]; decide) (by rw [s_11_100]; rfl) (by decide) ?_
    have hc : cmd (nI (M 0 21)) = 1 := by rw [s_11_100]; decide
    have ho := hok
    rw [hc] at ho
    have ho : 1 ≤ M 8 0 ∧ M 8 0 ≤ 50 ∧ M 8 0 ≤ M 1 4 := ho
    refine lv_aload_n hx hb dX2_doesNow_132 rfl (lv_at hl 1 rfl) ?_
    refine lv_iload_n hx hb dX2_doesNow_133 rfl (lv_at hl 0 rfl) ?_
    refine z_ci (wr := []) (va_runV (As := [.int (nI (M 8 0))]) (rest := []) ⟨hx, hb, hml, hown, hts⟩ (metX2_drains l G dA dS B0 H.size q M (M 8 0) (by first | exact hg | assumption | omega) (by first | exact hg50 | assumption | omega) (by first | exact hbw | assumption | omega) (by first | exact hd9 | assumption | omega)) (cwV 1 hts (lw_V q2175 q2177 qs46 q91 q2178) rfl rfl rfl (by decide +kernel) ⟨Nat.le_of_ble_eq_true rfl, Nat.le_of_ble_eq_true rfl⟩) (zPV hX hH hB hAB (z_recv hX kX2 (hH.at 0 rfl)) [0, 1, 2, 3, 4, 5, 6, 7, 8] rfl rfl trivial) rfl rfl hl.1 rfl (lv_room (Nat.le_of_ble_eq_true rfl)) dX2_doesNow_134 ⟨(Nat.le_of_ble_eq_true rfl), (Nat.le_of_ble_eq_true rfl)⟩) hH hA [0, 1, 2, 3, 4, 5, 6, 7, 8] [] rfl rfl (by decide) (by decide) (fun r_3 u_r_3 H locs hw_r_3 hH hR_r_3 hk_r_3 => ?_)
    obtain rfl := hw_r_3
    have hH : zH G A s.heap (mW dA q (mDrains M (M 8 0))) H locs := hH
    have eM : mDrains M (M 8 0) = ms M 1 (dW (M 1) (cmd (nI (M 0 21))) (M 8)) := by rw [hc]; simp only [dW, mDrains_1, mDrops_1, mComes_1, mu_as_ms, ms_ms, ms_s]
    rw [eM] at hH
    exact z_iret hx hb hr hlocks hH (u := ()) (by trivial) ⟨hH.1, hH.2.1⟩ trivial (Nat.le_of_ble_eq_true rfl) (Nat.le_of_ble_eq_true rfl) dX2_doesNow_137
  by_cases s_11_101 : nI (M 0 21) = nI 101
  · skip
    refine lv_tableIn (off := 155) (tgt := 166) hx hb dX2_doesNow_11 (by rw [s_11_101]; decide) (by rw [s_11_101]; decide) (by rw [s_11_101]; rfl) (by decide) ?_
    have hc : cmd (nI (M 0 21)) = 7 := by rw [s_11_101]; decide
    have ho := hok
    rw [hc] at ho
    have ho : M 8 0 ≤ 3 := ho
    refine lv_aload_n hx hb dX2_doesNow_166 rfl (lv_at hl 1 rfl) ?_
    refine lv_iload_n hx hb dX2_doesNow_167 rfl (lv_at hl 0 rfl) ?_
    refine z_ci (wr := []) (va_runV (As := [.int (nI (M 8 0))]) (rest := []) ⟨hx, hb, hml, hown, hts⟩ (metX2_moves l G dA dS B0 H.size q M (M 8 0)) (cwV 1 hts (lw_V q2207 q2209 qs51 q91 q2210) rfl rfl rfl (by decide +kernel) ⟨Nat.le_of_ble_eq_true rfl, Nat.le_of_ble_eq_true rfl⟩) (zPV hX hH hB hAB (z_recv hX kX2 (hH.at 0 rfl)) [0, 1, 2, 3, 4, 5, 6, 7, 8] rfl rfl trivial) rfl rfl hl.1 rfl (lv_room (Nat.le_of_ble_eq_true rfl)) dX2_doesNow_168 ⟨(Nat.le_of_ble_eq_true rfl), (Nat.le_of_ble_eq_true rfl)⟩) hH hA [0, 1, 2, 3, 4, 5, 6, 7, 8] [] rfl rfl (by decide) (by decide) (fun r_4 u_r_4 H locs hw_r_4 hH hR_r_4 hk_r_4 => ?_)
    obtain rfl := hw_r_4
    have hH : zH G A s.heap (mW dA q (mu (mu M 1 3 0) 1 1 (M 8 0))) H locs := hH
    have eM : mu (mu M 1 3 0) 1 1 (M 8 0) = ms M 1 (dW (M 1) (cmd (nI (M 0 21))) (M 8)) := by rw [hc]; simp only [dW, mDrains_1, mDrops_1, mComes_1, mu_as_ms, ms_ms, ms_s]
    rw [eM] at hH
    exact z_iret hx hb hr hlocks hH (u := ()) (by trivial) ⟨hH.1, hH.2.1⟩ trivial (Nat.le_of_ble_eq_true rfl) (Nat.le_of_ble_eq_true rfl) dX2_doesNow_171
  by_cases s_11_102 : nI (M 0 21) = nI 102
  · skip
    refine lv_tableIn (off := 155) (tgt := 166) hx hb dX2_doesNow_11 (by rw [s_11_102]; decide) (by rw [s_11_102]; decide) (by rw [s_11_102]; rfl) (by decide) ?_
    have hc : cmd (nI (M 0 21)) = 7 := by rw [s_11_102]; decide
    have ho := hok
    rw [hc] at ho
    have ho : M 8 0 ≤ 3 := ho
    refine lv_aload_n hx hb dX2_doesNow_166 rfl (lv_at hl 1 rfl) ?_
    refine lv_iload_n hx hb dX2_doesNow_167 rfl (lv_at hl 0 rfl) ?_
    refine z_ci (wr := []) (va_runV (As := [.int (nI (M 8 0))]) (rest := []) ⟨hx, hb, hml, hown, hts⟩ (metX2_moves l G dA dS B0 H.size q M (M 8 0)) (cwV 1 hts (lw_V q2207 q2209 qs51 q91 q2210) rfl rfl rfl (by decide +kernel) ⟨Nat.le_of_ble_eq_true rfl, Nat.le_of_ble_eq_true rfl⟩) (zPV hX hH hB hAB (z_recv hX kX2 (hH.at 0 rfl)) [0, 1, 2, 3, 4, 5, 6, 7, 8] rfl rfl trivial) rfl rfl hl.1 rfl (lv_room (Nat.le_of_ble_eq_true rfl)) dX2_doesNow_168 ⟨(Nat.le_of_ble_eq_true rfl), (Nat.le_of_ble_eq_true rfl)⟩) hH hA [0, 1, 2, 3, 4, 5, 6, 7, 8] [] rfl rfl (by decide) (by decide) (fun r_5 u_r_5 H locs hw_r_5 hH hR_r_5 hk_r_5 => ?_)
    obtain rfl := hw_r_5
    have hH : zH G A s.heap (mW dA q (mu (mu M 1 3 0) 1 1 (M 8 0))) H locs := hH
    have eM : mu (mu M 1 3 0) 1 1 (M 8 0) = ms M 1 (dW (M 1) (cmd (nI (M 0 21))) (M 8)) := by rw [hc]; simp only [dW, mDrains_1, mDrops_1, mComes_1, mu_as_ms, ms_ms, ms_s]
    rw [eM] at hH
    exact z_iret hx hb hr hlocks hH (u := ()) (by trivial) ⟨hH.1, hH.2.1⟩ trivial (Nat.le_of_ble_eq_true rfl) (Nat.le_of_ble_eq_true rfl) dX2_doesNow_171
  by_cases s_11_103 : nI (M 0 21) = nI 103
  · skip
    refine lv_tableIn (off := 155) (tgt := 166) hx hb dX2_doesNow_11 (by rw [s_11_103]; decide) (by rw [s_11_103]; decide) (by rw [s_11_103]; rfl) (by decide) ?_
    have hc : cmd (nI (M 0 21)) = 7 := by rw [s_11_103]; decide
    have ho := hok
    rw [hc] at ho
    have ho : M 8 0 ≤ 3 := ho
    refine lv_aload_n hx hb dX2_doesNow_166 rfl (lv_at hl 1 rfl) ?_
    refine lv_iload_n hx hb dX2_doesNow_167 rfl (lv_at hl 0 rfl) ?_
    refine z_ci (wr := []) (va_runV (As := [.int (nI (M 8 0))]) (rest := []) ⟨hx, hb, hml, hown, hts⟩ (metX2_moves l G dA dS B0 H.size q M (M 8 0)) (cwV 1 hts (lw_V q2207 q2209 qs51 q91 q2210) rfl rfl rfl (by decide +kernel) ⟨Nat.le_of_ble_eq_true rfl, Nat.le_of_ble_eq_true rfl⟩) (zPV hX hH hB hAB (z_recv hX kX2 (hH.at 0 rfl)) [0, 1, 2, 3, 4, 5, 6, 7, 8] rfl rfl trivial) rfl rfl hl.1 rfl (lv_room (Nat.le_of_ble_eq_true rfl)) dX2_doesNow_168 ⟨(Nat.le_of_ble_eq_true rfl), (Nat.le_of_ble_eq_true rfl)⟩) hH hA [0, 1, 2, 3, 4, 5, 6, 7, 8] [] rfl rfl (by decide) (by decide) (fun r_6 u_r_6 H locs hw_r_6 hH hR_r_6 hk_r_6 => ?_)
    obtain rfl := hw_r_6
    have hH : zH G A s.heap (mW dA q (mu (mu M 1 3 0) 1 1 (M 8 0))) H locs := hH
    have eM : mu (mu M 1 3 0) 1 1 (M 8 0) = ms M 1 (dW (M 1) (cmd (nI (M 0 21))) (M 8)) := by rw [hc]; simp only [dW, mDrains_1, mDrops_1, mComes_1, mu_as_ms, ms_ms, ms_s]
    rw [eM] at hH
    exact z_iret hx hb hr hlocks hH (u := ()) (by trivial) ⟨hH.1, hH.2.1⟩ trivial (Nat.le_of_ble_eq_true rfl) (Nat.le_of_ble_eq_true rfl) dX2_doesNow_171
  by_cases s_11_104 : nI (M 0 21) = nI 104
  · skip
    refine lv_tableIn (off := 155) (tgt := 166) hx hb dX2_doesNow_11 (by rw [s_11_104]; decide) (by rw [s_11_104]; decide) (by rw [s_11_104]; rfl) (by decide) ?_
    have hc : cmd (nI (M 0 21)) = 7 := by rw [s_11_104]; decide
    have ho := hok
    rw [hc] at ho
    have ho : M 8 0 ≤ 3 := ho
    refine lv_aload_n hx hb dX2_doesNow_166 rfl (lv_at hl 1 rfl) ?_
    refine lv_iload_n hx hb dX2_doesNow_167 rfl (lv_at hl 0 rfl) ?_
    refine z_ci (wr := []) (va_runV (As := [.int (nI (M 8 0))]) (rest := []) ⟨hx, hb, hml, hown, hts⟩ (metX2_moves l G dA dS B0 H.size q M (M 8 0)) (cwV 1 hts (lw_V q2207 q2209 qs51 q91 q2210) rfl rfl rfl (by decide +kernel) ⟨Nat.le_of_ble_eq_true rfl, Nat.le_of_ble_eq_true rfl⟩) (zPV hX hH hB hAB (z_recv hX kX2 (hH.at 0 rfl)) [0, 1, 2, 3, 4, 5, 6, 7, 8] rfl rfl trivial) rfl rfl hl.1 rfl (lv_room (Nat.le_of_ble_eq_true rfl)) dX2_doesNow_168 ⟨(Nat.le_of_ble_eq_true rfl), (Nat.le_of_ble_eq_true rfl)⟩) hH hA [0, 1, 2, 3, 4, 5, 6, 7, 8] [] rfl rfl (by decide) (by decide) (fun r_7 u_r_7 H locs hw_r_7 hH hR_r_7 hk_r_7 => ?_)
    obtain rfl := hw_r_7
    have hH : zH G A s.heap (mW dA q (mu (mu M 1 3 0) 1 1 (M 8 0))) H locs := hH
    have eM : mu (mu M 1 3 0) 1 1 (M 8 0) = ms M 1 (dW (M 1) (cmd (nI (M 0 21))) (M 8)) := by rw [hc]; simp only [dW, mDrains_1, mDrops_1, mComes_1, mu_as_ms, ms_ms, ms_s]
    rw [eM] at hH
    exact z_iret hx hb hr hlocks hH (u := ()) (by trivial) ⟨hH.1, hH.2.1⟩ trivial (Nat.le_of_ble_eq_true rfl) (Nat.le_of_ble_eq_true rfl) dX2_doesNow_171
  by_cases s_11_105 : nI (M 0 21) = nI 105
  · skip
    refine lv_tableIn (off := 155) (tgt := 166) hx hb dX2_doesNow_11 (by rw [s_11_105]; decide) (by rw [s_11_105]; decide) (by rw [s_11_105]; rfl) (by decide) ?_
    have hc : cmd (nI (M 0 21)) = 7 := by rw [s_11_105]; decide
    have ho := hok
    rw [hc] at ho
    have ho : M 8 0 ≤ 3 := ho
    refine lv_aload_n hx hb dX2_doesNow_166 rfl (lv_at hl 1 rfl) ?_
    refine lv_iload_n hx hb dX2_doesNow_167 rfl (lv_at hl 0 rfl) ?_
    refine z_ci (wr := []) (va_runV (As := [.int (nI (M 8 0))]) (rest := []) ⟨hx, hb, hml, hown, hts⟩ (metX2_moves l G dA dS B0 H.size q M (M 8 0)) (cwV 1 hts (lw_V q2207 q2209 qs51 q91 q2210) rfl rfl rfl (by decide +kernel) ⟨Nat.le_of_ble_eq_true rfl, Nat.le_of_ble_eq_true rfl⟩) (zPV hX hH hB hAB (z_recv hX kX2 (hH.at 0 rfl)) [0, 1, 2, 3, 4, 5, 6, 7, 8] rfl rfl trivial) rfl rfl hl.1 rfl (lv_room (Nat.le_of_ble_eq_true rfl)) dX2_doesNow_168 ⟨(Nat.le_of_ble_eq_true rfl), (Nat.le_of_ble_eq_true rfl)⟩) hH hA [0, 1, 2, 3, 4, 5, 6, 7, 8] [] rfl rfl (by decide) (by decide) (fun r_8 u_r_8 H locs hw_r_8 hH hR_r_8 hk_r_8 => ?_)
    obtain rfl := hw_r_8
    have hH : zH G A s.heap (mW dA q (mu (mu M 1 3 0) 1 1 (M 8 0))) H locs := hH
    have eM : mu (mu M 1 3 0) 1 1 (M 8 0) = ms M 1 (dW (M 1) (cmd (nI (M 0 21))) (M 8)) := by rw [hc]; simp only [dW, mDrains_1, mDrops_1, mComes_1, mu_as_ms, ms_ms, ms_s]
    rw [eM] at hH
    exact z_iret hx hb hr hlocks hH (u := ()) (by trivial) ⟨hH.1, hH.2.1⟩ trivial (Nat.le_of_ble_eq_true rfl) (Nat.le_of_ble_eq_true rfl) dX2_doesNow_171
  by_cases s_11_106 : nI (M 0 21) = nI 106
  · skip
    refine lv_tableIn (off := 85) (tgt := 96) hx hb dX2_doesNow_11 (by rw [s_11_106]; decide) (by rw [s_11_106]; decide) (by rw [s_11_106]; rfl) (by decide) ?_
    have hc : cmd (nI (M 0 21)) = 2 := by rw [s_11_106]; decide
    have ho := hok
    rw [hc] at ho
    have ho : okJ (M 1) (M 8 0) (M 8 1) (M 8 2) (M 8 3) := ho
    have h11 := ho.2.2.2.2.2.2.1
    refine lv_aload_n hx hb dX2_doesNow_96 rfl (lv_at hl 1 rfl) ?_
    refine lv_iload_n hx hb dX2_doesNow_97 rfl (lv_at hl 0 rfl) ?_
    refine lv_aload_n hx hb dX2_doesNow_98 rfl (lv_at hl 1 rfl) ?_
    refine z_get (v := .ref (q 8)) hx hb hts hown hX kX2 20 (by decide) (hH.at 0 rfl) rfl q2030 (fun _ h9 => h9) dX2_doesNow_99 ?_
    refine lv_iconst (v := nI 1) hx hb dX2_doesNow_102 (by decide) ?_
    refine z_iald (x := nI (M 8 1)) hx hb hX (k := 1)  (hH.at 8 rfl) rfl (by omega) (by omega) rfl dX2_doesNow_103 ?_
    refine lv_aload_n hx hb dX2_doesNow_104 rfl (lv_at hl 1 rfl) ?_
    refine z_get (v := .ref (q 8)) hx hb hts hown hX kX2 20 (by decide) (hH.at 0 rfl) rfl q2030 (fun _ h9 => h9) dX2_doesNow_105 ?_
    refine lv_iconst (v := nI 2) hx hb dX2_doesNow_108 (by decide) ?_
    refine z_iald (x := nI (M 8 2)) hx hb hX (k := 2)  (hH.at 8 rfl) rfl (by omega) (by omega) rfl dX2_doesNow_109 ?_
    refine lv_aload_n hx hb dX2_doesNow_110 rfl (lv_at hl 1 rfl) ?_
    refine z_get (v := .ref (q 8)) hx hb hts hown hX kX2 20 (by decide) (hH.at 0 rfl) rfl q2030 (fun _ h9 => h9) dX2_doesNow_111 ?_
    refine lv_iconst (v := nI 3) hx hb dX2_doesNow_114 (by decide) ?_
    refine z_iald (x := nI (M 8 3)) hx hb hX (k := 3)  (hH.at 8 rfl) rfl (by omega) (by omega) rfl dX2_doesNow_115 ?_
    refine z_ci (wr := []) (va_runV (As := [.int (nI (M 8 0)), .int (nI (M 8 1)), .int (nI (M 8 2)), .int (nI (M 8 3))]) (rest := []) ⟨hx, hb, hml, hown, hts⟩ (metX2_comes l G dA dS B0 H.size q M (M 8 0) (M 8 1) (M 8 2) (M 8 3) (by first | exact hbw | assumption | omega) (by first | exact h11 | assumption | omega)) (cwV 4 hts (lw_V q2131 q2133 qs38 q91 q2134) rfl rfl rfl (by decide +kernel) ⟨Nat.le_of_ble_eq_true rfl, Nat.le_of_ble_eq_true rfl⟩) (zPV hX hH hB hAB (z_recv hX kX2 (hH.at 0 rfl)) [0, 1, 2, 3, 4, 5, 6, 7, 8] rfl rfl trivial) rfl rfl hl.1 rfl (lv_room (Nat.le_of_ble_eq_true rfl)) dX2_doesNow_116 ⟨(Nat.le_of_ble_eq_true rfl), (Nat.le_of_ble_eq_true rfl)⟩) hH hA [0, 1, 2, 3, 4, 5, 6, 7, 8] [] rfl rfl (by decide) (by decide) (fun r_9 u_r_9 H locs hw_r_9 hH hR_r_9 hk_r_9 => ?_)
    obtain rfl := hw_r_9
    have hH : zH G A s.heap (mW dA q (mComes M (M 8 0) (M 8 1) (M 8 2) (M 8 3))) H locs := hH
    have eM : mComes M (M 8 0) (M 8 1) (M 8 2) (M 8 3) = ms M 1 (dW (M 1) (cmd (nI (M 0 21))) (M 8)) := by rw [hc]; simp only [dW, mDrains_1, mDrops_1, mComes_1, mu_as_ms, ms_ms, ms_s]
    rw [eM] at hH
    exact z_iret hx hb hr hlocks hH (u := ()) (by trivial) ⟨hH.1, hH.2.1⟩ trivial (Nat.le_of_ble_eq_true rfl) (Nat.le_of_ble_eq_true rfl) dX2_doesNow_119
  by_cases s_11_107 : nI (M 0 21) = nI 107
  · skip
    refine lv_tableIn (off := 155) (tgt := 166) hx hb dX2_doesNow_11 (by rw [s_11_107]; decide) (by rw [s_11_107]; decide) (by rw [s_11_107]; rfl) (by decide) ?_
    have hc : cmd (nI (M 0 21)) = 7 := by rw [s_11_107]; decide
    have ho := hok
    rw [hc] at ho
    have ho : M 8 0 ≤ 3 := ho
    refine lv_aload_n hx hb dX2_doesNow_166 rfl (lv_at hl 1 rfl) ?_
    refine lv_iload_n hx hb dX2_doesNow_167 rfl (lv_at hl 0 rfl) ?_
    refine z_ci (wr := []) (va_runV (As := [.int (nI (M 8 0))]) (rest := []) ⟨hx, hb, hml, hown, hts⟩ (metX2_moves l G dA dS B0 H.size q M (M 8 0)) (cwV 1 hts (lw_V q2207 q2209 qs51 q91 q2210) rfl rfl rfl (by decide +kernel) ⟨Nat.le_of_ble_eq_true rfl, Nat.le_of_ble_eq_true rfl⟩) (zPV hX hH hB hAB (z_recv hX kX2 (hH.at 0 rfl)) [0, 1, 2, 3, 4, 5, 6, 7, 8] rfl rfl trivial) rfl rfl hl.1 rfl (lv_room (Nat.le_of_ble_eq_true rfl)) dX2_doesNow_168 ⟨(Nat.le_of_ble_eq_true rfl), (Nat.le_of_ble_eq_true rfl)⟩) hH hA [0, 1, 2, 3, 4, 5, 6, 7, 8] [] rfl rfl (by decide) (by decide) (fun r_10 u_r_10 H locs hw_r_10 hH hR_r_10 hk_r_10 => ?_)
    obtain rfl := hw_r_10
    have hH : zH G A s.heap (mW dA q (mu (mu M 1 3 0) 1 1 (M 8 0))) H locs := hH
    have eM : mu (mu M 1 3 0) 1 1 (M 8 0) = ms M 1 (dW (M 1) (cmd (nI (M 0 21))) (M 8)) := by rw [hc]; simp only [dW, mDrains_1, mDrops_1, mComes_1, mu_as_ms, ms_ms, ms_s]
    rw [eM] at hH
    exact z_iret hx hb hr hlocks hH (u := ()) (by trivial) ⟨hH.1, hH.2.1⟩ trivial (Nat.le_of_ble_eq_true rfl) (Nat.le_of_ble_eq_true rfl) dX2_doesNow_171
  by_cases s_11_108 : nI (M 0 21) = nI 108
  · skip
    refine lv_tableIn (off := 155) (tgt := 166) hx hb dX2_doesNow_11 (by rw [s_11_108]; decide) (by rw [s_11_108]; decide) (by rw [s_11_108]; rfl) (by decide) ?_
    have hc : cmd (nI (M 0 21)) = 7 := by rw [s_11_108]; decide
    have ho := hok
    rw [hc] at ho
    have ho : M 8 0 ≤ 3 := ho
    refine lv_aload_n hx hb dX2_doesNow_166 rfl (lv_at hl 1 rfl) ?_
    refine lv_iload_n hx hb dX2_doesNow_167 rfl (lv_at hl 0 rfl) ?_
    refine z_ci (wr := []) (va_runV (As := [.int (nI (M 8 0))]) (rest := []) ⟨hx, hb, hml, hown, hts⟩ (metX2_moves l G dA dS B0 H.size q M (M 8 0)) (cwV 1 hts (lw_V q2207 q2209 qs51 q91 q2210) rfl rfl rfl (by decide +kernel) ⟨Nat.le_of_ble_eq_true rfl, Nat.le_of_ble_eq_true rfl⟩) (zPV hX hH hB hAB (z_recv hX kX2 (hH.at 0 rfl)) [0, 1, 2, 3, 4, 5, 6, 7, 8] rfl rfl trivial) rfl rfl hl.1 rfl (lv_room (Nat.le_of_ble_eq_true rfl)) dX2_doesNow_168 ⟨(Nat.le_of_ble_eq_true rfl), (Nat.le_of_ble_eq_true rfl)⟩) hH hA [0, 1, 2, 3, 4, 5, 6, 7, 8] [] rfl rfl (by decide) (by decide) (fun r_11 u_r_11 H locs hw_r_11 hH hR_r_11 hk_r_11 => ?_)
    obtain rfl := hw_r_11
    have hH : zH G A s.heap (mW dA q (mu (mu M 1 3 0) 1 1 (M 8 0))) H locs := hH
    have eM : mu (mu M 1 3 0) 1 1 (M 8 0) = ms M 1 (dW (M 1) (cmd (nI (M 0 21))) (M 8)) := by rw [hc]; simp only [dW, mDrains_1, mDrops_1, mComes_1, mu_as_ms, ms_ms, ms_s]
    rw [eM] at hH
    exact z_iret hx hb hr hlocks hH (u := ()) (by trivial) ⟨hH.1, hH.2.1⟩ trivial (Nat.le_of_ble_eq_true rfl) (Nat.le_of_ble_eq_true rfl) dX2_doesNow_171
  by_cases s_11_109 : nI (M 0 21) = nI 109
  · skip
    refine lv_tableIn (off := 155) (tgt := 166) hx hb dX2_doesNow_11 (by rw [s_11_109]; decide) (by rw [s_11_109]; decide) (by rw [s_11_109]; rfl) (by decide) ?_
    have hc : cmd (nI (M 0 21)) = 7 := by rw [s_11_109]; decide
    have ho := hok
    rw [hc] at ho
    have ho : M 8 0 ≤ 3 := ho
    refine lv_aload_n hx hb dX2_doesNow_166 rfl (lv_at hl 1 rfl) ?_
    refine lv_iload_n hx hb dX2_doesNow_167 rfl (lv_at hl 0 rfl) ?_
    refine z_ci (wr := []) (va_runV (As := [.int (nI (M 8 0))]) (rest := []) ⟨hx, hb, hml, hown, hts⟩ (metX2_moves l G dA dS B0 H.size q M (M 8 0)) (cwV 1 hts (lw_V q2207 q2209 qs51 q91 q2210) rfl rfl rfl (by decide +kernel) ⟨Nat.le_of_ble_eq_true rfl, Nat.le_of_ble_eq_true rfl⟩) (zPV hX hH hB hAB (z_recv hX kX2 (hH.at 0 rfl)) [0, 1, 2, 3, 4, 5, 6, 7, 8] rfl rfl trivial) rfl rfl hl.1 rfl (lv_room (Nat.le_of_ble_eq_true rfl)) dX2_doesNow_168 ⟨(Nat.le_of_ble_eq_true rfl), (Nat.le_of_ble_eq_true rfl)⟩) hH hA [0, 1, 2, 3, 4, 5, 6, 7, 8] [] rfl rfl (by decide) (by decide) (fun r_12 u_r_12 H locs hw_r_12 hH hR_r_12 hk_r_12 => ?_)
    obtain rfl := hw_r_12
    have hH : zH G A s.heap (mW dA q (mu (mu M 1 3 0) 1 1 (M 8 0))) H locs := hH
    have eM : mu (mu M 1 3 0) 1 1 (M 8 0) = ms M 1 (dW (M 1) (cmd (nI (M 0 21))) (M 8)) := by rw [hc]; simp only [dW, mDrains_1, mDrops_1, mComes_1, mu_as_ms, ms_ms, ms_s]
    rw [eM] at hH
    exact z_iret hx hb hr hlocks hH (u := ()) (by trivial) ⟨hH.1, hH.2.1⟩ trivial (Nat.le_of_ble_eq_true rfl) (Nat.le_of_ble_eq_true rfl) dX2_doesNow_171
  by_cases s_11_110 : nI (M 0 21) = nI 110
  · skip
    refine lv_tableIn (off := 155) (tgt := 166) hx hb dX2_doesNow_11 (by rw [s_11_110]; decide) (by rw [s_11_110]; decide) (by rw [s_11_110]; rfl) (by decide) ?_
    have hc : cmd (nI (M 0 21)) = 7 := by rw [s_11_110]; decide
    have ho := hok
    rw [hc] at ho
    have ho : M 8 0 ≤ 3 := ho
    refine lv_aload_n hx hb dX2_doesNow_166 rfl (lv_at hl 1 rfl) ?_
    refine lv_iload_n hx hb dX2_doesNow_167 rfl (lv_at hl 0 rfl) ?_
    refine z_ci (wr := []) (va_runV (As := [.int (nI (M 8 0))]) (rest := []) ⟨hx, hb, hml, hown, hts⟩ (metX2_moves l G dA dS B0 H.size q M (M 8 0)) (cwV 1 hts (lw_V q2207 q2209 qs51 q91 q2210) rfl rfl rfl (by decide +kernel) ⟨Nat.le_of_ble_eq_true rfl, Nat.le_of_ble_eq_true rfl⟩) (zPV hX hH hB hAB (z_recv hX kX2 (hH.at 0 rfl)) [0, 1, 2, 3, 4, 5, 6, 7, 8] rfl rfl trivial) rfl rfl hl.1 rfl (lv_room (Nat.le_of_ble_eq_true rfl)) dX2_doesNow_168 ⟨(Nat.le_of_ble_eq_true rfl), (Nat.le_of_ble_eq_true rfl)⟩) hH hA [0, 1, 2, 3, 4, 5, 6, 7, 8] [] rfl rfl (by decide) (by decide) (fun r_13 u_r_13 H locs hw_r_13 hH hR_r_13 hk_r_13 => ?_)
    obtain rfl := hw_r_13
    have hH : zH G A s.heap (mW dA q (mu (mu M 1 3 0) 1 1 (M 8 0))) H locs := hH
    have eM : mu (mu M 1 3 0) 1 1 (M 8 0) = ms M 1 (dW (M 1) (cmd (nI (M 0 21))) (M 8)) := by rw [hc]; simp only [dW, mDrains_1, mDrops_1, mComes_1, mu_as_ms, ms_ms, ms_s]
    rw [eM] at hH
    exact z_iret hx hb hr hlocks hH (u := ()) (by trivial) ⟨hH.1, hH.2.1⟩ trivial (Nat.le_of_ble_eq_true rfl) (Nat.le_of_ble_eq_true rfl) dX2_doesNow_171
  by_cases s_11_111 : nI (M 0 21) = nI 111
  · skip
    refine lv_tableIn (off := 127) (tgt := 138) hx hb dX2_doesNow_11 (by rw [s_11_111]; decide) (by rw [s_11_111]; decide) (by rw [s_11_111]; rfl) (by decide) ?_
    have hc : cmd (nI (M 0 21)) = 3 := by rw [s_11_111]; decide
    have ho := hok
    rw [hc] at ho
    have ho : M 8 0 < M 1 0 := ho
    refine lv_aload_n hx hb dX2_doesNow_138 rfl (lv_at hl 1 rfl) ?_
    refine lv_iload_n hx hb dX2_doesNow_139 rfl (lv_at hl 0 rfl) ?_
    refine z_ci (wr := []) (va_runV (As := [.int (nI (M 8 0))]) (rest := []) ⟨hx, hb, hml, hown, hts⟩ (metX2_drops l G dA dS B0 H.size q M (M 8 0) (by first | exact hj | assumption | omega) (by first | exact hbw | assumption | omega) (by first | exact h12 | assumption | omega)) (cwV 1 hts (lw_V q2159 q2161 qs43 q91 q2162) rfl rfl rfl (by decide +kernel) ⟨Nat.le_of_ble_eq_true rfl, Nat.le_of_ble_eq_true rfl⟩) (zPV hX hH hB hAB (z_recv hX kX2 (hH.at 0 rfl)) [0, 1, 2, 3, 4, 5, 6, 7, 8] rfl rfl trivial) rfl rfl hl.1 rfl (lv_room (Nat.le_of_ble_eq_true rfl)) dX2_doesNow_140 ⟨(Nat.le_of_ble_eq_true rfl), (Nat.le_of_ble_eq_true rfl)⟩) hH hA [0, 1, 2, 3, 4, 5, 6, 7, 8] [] rfl rfl (by decide) (by decide) (fun r_14 u_r_14 H locs hw_r_14 hH hR_r_14 hk_r_14 => ?_)
    obtain rfl := hw_r_14
    have hH : zH G A s.heap (mW dA q (mDrops M (M 8 0))) H locs := hH
    have eM : mDrops M (M 8 0) = ms M 1 (dW (M 1) (cmd (nI (M 0 21))) (M 8)) := by rw [hc]; simp only [dW, mDrains_1, mDrops_1, mComes_1, mu_as_ms, ms_ms, ms_s]
    rw [eM] at hH
    exact z_iret hx hb hr hlocks hH (u := ()) (by trivial) ⟨hH.1, hH.2.1⟩ trivial (Nat.le_of_ble_eq_true rfl) (Nat.le_of_ble_eq_true rfl) dX2_doesNow_143
  by_cases s_11_112 : nI (M 0 21) = nI 112
  · skip
    refine lv_tableIn (off := 109) (tgt := 120) hx hb dX2_doesNow_11 (by rw [s_11_112]; decide) (by rw [s_11_112]; decide) (by rw [s_11_112]; rfl) (by decide) ?_
    have hc : cmd (nI (M 0 21)) = 4 := by rw [s_11_112]; decide
    have ho := hok
    rw [hc] at ho
    have ho : 1 ≤ M 8 0 ∧ M 8 0 ≤ 9 ∧ M 1 4 ≤ 40 := ho
    refine lv_aload_n hx hb dX2_doesNow_120 rfl (lv_at hl 1 rfl) ?_
    refine lv_iload_n hx hb dX2_doesNow_121 rfl (lv_at hl 0 rfl) ?_
    refine z_ci (wr := []) (va_runV (As := [.int (nI (M 8 0))]) (rest := []) ⟨hx, hb, hml, hown, hts⟩ (metX2_pumps l G dA dS B0 H.size q M (M 8 0) (by first | exact hk | assumption | omega) B hrb hBb) (cwV 1 hts (lw_V q2219 q2221 qs53 q91 q2222) rfl rfl rfl (by decide +kernel) ⟨Nat.le_of_ble_eq_true rfl, Nat.le_of_ble_eq_true rfl⟩) (zPV hX hH hB hAB (z_recv hX kX2 (hH.at 0 rfl)) [0, 1, 2, 3, 4, 5, 6, 7, 8] rfl rfl trivial) rfl rfl hl.1 rfl (lv_room (Nat.le_of_ble_eq_true rfl)) dX2_doesNow_122 ⟨(Nat.le_of_ble_eq_true rfl), (Nat.le_of_ble_eq_true rfl)⟩) hH hA [0, 1, 2, 3, 4, 5, 6, 7, 8] [] rfl rfl (by decide) (by decide) (fun r_15 u_r_15 H locs hw_r_15 hH hR_r_15 hk_r_15 => ?_)
    obtain rfl := hw_r_15
    have hH : zH G A s.heap (mW dA q (ms M 1 (pmp (M 1) (M 8 0)).2)) H locs := hH
    have eM : ms M 1 (pmp (M 1) (M 8 0)).2 = ms M 1 (dW (M 1) (cmd (nI (M 0 21))) (M 8)) := by rw [hc]; simp only [dW, mDrains_1, mDrops_1, mComes_1, mu_as_ms, ms_ms, ms_s]
    rw [eM] at hH
    exact z_iret hx hb hr hlocks hH (u := ()) (by trivial) ⟨hH.1, hH.2.1⟩ trivial (Nat.le_of_ble_eq_true rfl) (Nat.le_of_ble_eq_true rfl) dX2_doesNow_125
  by_cases s_11_113 : nI (M 0 21) = nI 113
  · skip
    refine lv_tableIn (off := 155) (tgt := 166) hx hb dX2_doesNow_11 (by rw [s_11_113]; decide) (by rw [s_11_113]; decide) (by rw [s_11_113]; rfl) (by decide) ?_
    have hc : cmd (nI (M 0 21)) = 7 := by rw [s_11_113]; decide
    have ho := hok
    rw [hc] at ho
    have ho : M 8 0 ≤ 3 := ho
    refine lv_aload_n hx hb dX2_doesNow_166 rfl (lv_at hl 1 rfl) ?_
    refine lv_iload_n hx hb dX2_doesNow_167 rfl (lv_at hl 0 rfl) ?_
    refine z_ci (wr := []) (va_runV (As := [.int (nI (M 8 0))]) (rest := []) ⟨hx, hb, hml, hown, hts⟩ (metX2_moves l G dA dS B0 H.size q M (M 8 0)) (cwV 1 hts (lw_V q2207 q2209 qs51 q91 q2210) rfl rfl rfl (by decide +kernel) ⟨Nat.le_of_ble_eq_true rfl, Nat.le_of_ble_eq_true rfl⟩) (zPV hX hH hB hAB (z_recv hX kX2 (hH.at 0 rfl)) [0, 1, 2, 3, 4, 5, 6, 7, 8] rfl rfl trivial) rfl rfl hl.1 rfl (lv_room (Nat.le_of_ble_eq_true rfl)) dX2_doesNow_168 ⟨(Nat.le_of_ble_eq_true rfl), (Nat.le_of_ble_eq_true rfl)⟩) hH hA [0, 1, 2, 3, 4, 5, 6, 7, 8] [] rfl rfl (by decide) (by decide) (fun r_16 u_r_16 H locs hw_r_16 hH hR_r_16 hk_r_16 => ?_)
    obtain rfl := hw_r_16
    have hH : zH G A s.heap (mW dA q (mu (mu M 1 3 0) 1 1 (M 8 0))) H locs := hH
    have eM : mu (mu M 1 3 0) 1 1 (M 8 0) = ms M 1 (dW (M 1) (cmd (nI (M 0 21))) (M 8)) := by rw [hc]; simp only [dW, mDrains_1, mDrops_1, mComes_1, mu_as_ms, ms_ms, ms_s]
    rw [eM] at hH
    exact z_iret hx hb hr hlocks hH (u := ()) (by trivial) ⟨hH.1, hH.2.1⟩ trivial (Nat.le_of_ble_eq_true rfl) (Nat.le_of_ble_eq_true rfl) dX2_doesNow_171
  by_cases s_11_114 : nI (M 0 21) = nI 114
  · skip
    refine lv_tableIn (off := 115) (tgt := 126) hx hb dX2_doesNow_11 (by rw [s_11_114]; decide) (by rw [s_11_114]; decide) (by rw [s_11_114]; rfl) (by decide) ?_
    have hc : cmd (nI (M 0 21)) = 5 := by rw [s_11_114]; decide
    have ho := hok
    rw [hc] at ho
    have ho : M 8 0 < M 1 0 ∧ 1 ≤ M 1 5 := ho
    refine lv_aload_n hx hb dX2_doesNow_126 rfl (lv_at hl 1 rfl) ?_
    refine lv_iload_n hx hb dX2_doesNow_127 rfl (lv_at hl 0 rfl) ?_
    refine z_ci (wr := []) (va_runV (As := [.int (nI (M 8 0))]) (rest := []) ⟨hx, hb, hml, hown, hts⟩ (metX2_primes l G dA dS B0 H.size q M (M 8 0) (by first | exact hj | assumption | omega) (by first | exact hbw | assumption | omega) (by first | exact hd1 | assumption | omega)) (cwV 1 hts (lw_V q2147 q2149 qs41 q91 q2150) rfl rfl rfl (by decide +kernel) ⟨Nat.le_of_ble_eq_true rfl, Nat.le_of_ble_eq_true rfl⟩) (zPV hX hH hB hAB (z_recv hX kX2 (hH.at 0 rfl)) [0, 1, 2, 3, 4, 5, 6, 7, 8] rfl rfl trivial) rfl rfl hl.1 rfl (lv_room (Nat.le_of_ble_eq_true rfl)) dX2_doesNow_128 ⟨(Nat.le_of_ble_eq_true rfl), (Nat.le_of_ble_eq_true rfl)⟩) hH hA [0, 1, 2, 3, 4, 5, 6, 7, 8] [] rfl rfl (by decide) (by decide) (fun r_17 u_r_17 H locs hw_r_17 hH hR_r_17 hk_r_17 => ?_)
    obtain rfl := hw_r_17
    have hH : zH G A s.heap (mW dA q (mu (mu M 1 (22 + 5 * (M 8 0) + 4) 1) 1 5 (M 1 5 - 1))) H locs := hH
    have eM : mu (mu M 1 (22 + 5 * (M 8 0) + 4) 1) 1 5 (M 1 5 - 1) = ms M 1 (dW (M 1) (cmd (nI (M 0 21))) (M 8)) := by rw [hc]; simp only [dW, mDrains_1, mDrops_1, mComes_1, mu_as_ms, ms_ms, ms_s]
    rw [eM] at hH
    exact z_iret hx hb hr hlocks hH (u := ()) (by trivial) ⟨hH.1, hH.2.1⟩ trivial (Nat.le_of_ble_eq_true rfl) (Nat.le_of_ble_eq_true rfl) dX2_doesNow_131
  by_cases s_11_115 : nI (M 0 21) = nI 115
  · skip
    refine lv_tableIn (off := 133) (tgt := 144) hx hb dX2_doesNow_11 (by rw [s_11_115]; decide) (by rw [s_11_115]; decide) (by rw [s_11_115]; rfl) (by decide) ?_
    have hc : cmd (nI (M 0 21)) = 6 := by rw [s_11_115]; decide
    have ho := hok
    rw [hc] at ho
    have ho : 1 ≤ M 8 0 ∧ M 8 0 ≤ 10 := ho
    refine lv_aload_n hx hb dX2_doesNow_144 rfl (lv_at hl 1 rfl) ?_
    refine lv_iconst (v := nI 2) hx hb dX2_doesNow_145 (by decide) ?_
    refine lv_iload_n hx hb dX2_doesNow_146 rfl (lv_at hl 0 rfl) ?_
    refine z_ci (wr := []) (va_runV (As := [.int (nI 2), .int (nI (M 8 0))]) (rest := []) ⟨hx, hb, hml, hown, hts⟩ (metX2_tells l G dA dS B0 H.size q M 2 (M 8 0) (by first | exact hk | assumption | omega)) (cwV 2 hts (lw_V q2187 q2189 qs48 q91 q2190) rfl rfl rfl (by decide +kernel) ⟨Nat.le_of_ble_eq_true rfl, Nat.le_of_ble_eq_true rfl⟩) (zPV hX hH hB hAB (z_recv hX kX2 (hH.at 0 rfl)) [0, 1, 2, 3, 4, 5, 6, 7, 8] rfl rfl trivial) rfl rfl hl.1 rfl (lv_room (Nat.le_of_ble_eq_true rfl)) dX2_doesNow_147 ⟨(Nat.le_of_ble_eq_true rfl), (Nat.le_of_ble_eq_true rfl)⟩) hH hA [0, 1, 2, 3, 4, 5, 6, 7, 8] [] rfl rfl (by decide) (by decide) (fun r_18 u_r_18 H locs hw_r_18 hH hR_r_18 hk_r_18 => ?_)
    obtain rfl := hw_r_18
    have hH : zH G A s.heap (mW dA q (mu M 1 2 (M 8 0))) H locs := hH
    have eM : mu M 1 2 (M 8 0) = ms M 1 (dW (M 1) (cmd (nI (M 0 21))) (M 8)) := by rw [hc]; simp only [dW, mDrains_1, mDrops_1, mComes_1, mu_as_ms, ms_ms, ms_s]
    rw [eM] at hH
    exact z_iret hx hb hr hlocks hH (u := ()) (by trivial) ⟨hH.1, hH.2.1⟩ trivial (Nat.le_of_ble_eq_true rfl) (Nat.le_of_ble_eq_true rfl) dX2_doesNow_150
  refine lv_tableOut (tgt := 166) hx hb dX2_doesNow_11 (z_sw (lo := 98) (n := 18) (z_all18 s_11_98 s_11_99 s_11_100 s_11_101 s_11_102 s_11_103 s_11_104 s_11_105 s_11_106 s_11_107 s_11_108 s_11_109 s_11_110 s_11_111 s_11_112 s_11_113 s_11_114 s_11_115) (by decide) (by decide)) (by decide) ?_
  have hc : cmd (nI (M 0 21)) = 7 := by unfold cmd; rw [if_neg s_11_98, if_neg s_11_100, if_neg s_11_106, if_neg s_11_111, if_neg s_11_112, if_neg s_11_114, if_neg s_11_115]
  have ho := hok
  rw [hc] at ho
  have ho : M 8 0 ≤ 3 := ho
  refine lv_aload_n hx hb dX2_doesNow_166 rfl (lv_at hl 1 rfl) ?_
  refine lv_iload_n hx hb dX2_doesNow_167 rfl (lv_at hl 0 rfl) ?_
  refine z_ci (wr := []) (va_runV (As := [.int (nI (M 8 0))]) (rest := []) ⟨hx, hb, hml, hown, hts⟩ (metX2_moves l G dA dS B0 H.size q M (M 8 0)) (cwV 1 hts (lw_V q2207 q2209 qs51 q91 q2210) rfl rfl rfl (by decide +kernel) ⟨Nat.le_of_ble_eq_true rfl, Nat.le_of_ble_eq_true rfl⟩) (zPV hX hH hB hAB (z_recv hX kX2 (hH.at 0 rfl)) [0, 1, 2, 3, 4, 5, 6, 7, 8] rfl rfl trivial) rfl rfl hl.1 rfl (lv_room (Nat.le_of_ble_eq_true rfl)) dX2_doesNow_168 ⟨(Nat.le_of_ble_eq_true rfl), (Nat.le_of_ble_eq_true rfl)⟩) hH hA [0, 1, 2, 3, 4, 5, 6, 7, 8] [] rfl rfl (by decide) (by decide) (fun r_19 u_r_19 H locs hw_r_19 hH hR_r_19 hk_r_19 => ?_)
  obtain rfl := hw_r_19
  have hH : zH G A s.heap (mW dA q (mu (mu M 1 3 0) 1 1 (M 8 0))) H locs := hH
  have eM : mu (mu M 1 3 0) 1 1 (M 8 0) = ms M 1 (dW (M 1) (cmd (nI (M 0 21))) (M 8)) := by rw [hc]; simp only [dW, mDrains_1, mDrops_1, mComes_1, mu_as_ms, ms_ms, ms_s]
  rw [eM] at hH
  exact z_iret hx hb hr hlocks hH (u := ()) (by trivial) ⟨hH.1, hH.2.1⟩ trivial (Nat.le_of_ble_eq_true rfl) (Nat.le_of_ble_eq_true rfl) dX2_doesNow_171

set_option maxHeartbeats 4000000 in
set_option maxRecDepth 100000 in
theorem metX2_refuses (l : Launch) (G : va_G) (dA : Nat → ClassId) (dS : Nat → Nat) (B0 sz : Nat) (q : Nat → Nat) (M : mS) (a : Int32) : Met l yX2_refuses (ws_ yX2_refuses cX2_refuses 2 (some FieldType.int)) ({ frames := 0, cells := 0, slots := 0, locals := 0 }) (zP G dA dS B0 [.ref (q 0), .int (a)] sz (mW dA q M) (fun H => True)) (zQi G (fun (r : Int32) (u : Unit) => r = (-5)) (fun (u : Unit) => mW dA q (mRfs M a)) (fun (u : Unit) (H : Heap) => True) (va_A (mW dA q M) sz)) 0 0 (va_A (mW dA q M) sz) := by
  refine zM (by decide) (Nat.le_of_ble_eq_true rfl) ?_
  intro p e s m below meth c ls A H locs hHe hx hb hr hlocks hml hown hname hts hX hsz hB hAe hA hAB hH hRo hl
  have hl : lv_has ls 2 [(0, .ref (q 0)), (1, .int (a))] := hl
  refine lv_aload_n hx hb dX2_refuses_0 rfl (lv_at hl 0 rfl) ?_
  refine lv_bipush (v := nI 9) hx hb dX2_refuses_1 (by decide) ?_
  refine z_put hx hb hts hown hX kX2 0 (by decide) hH 0 rfl q2010 (fun _ h9 => h9) rfl rfl rfl (Nat.le_of_ble_eq_true rfl) dX2_refuses_3 (fun H locs hH => ?_)
  have hH : zH G A s.heap (mW dA q (mu M 0 0 9)) H locs := hH
  refine lv_aload_n hx hb dX2_refuses_6 rfl (lv_at hl 0 rfl) ?_
  refine lv_aload_n hx hb dX2_refuses_7 rfl (lv_at hl 0 rfl) ?_
  refine z_get (v := .int (nI (M 0 22))) hx hb hts hown hX kX2 22 (by decide) (hH.at 0 rfl) rfl q2032 (fun _ h9 => h9) dX2_refuses_8 ?_
  refine z_put hx hb hts hown hX kX2 1 (by decide) hH 0 rfl q2011 (fun _ h9 => h9) rfl rfl rfl (Nat.le_of_ble_eq_true rfl) dX2_refuses_11 (fun H locs hH => ?_)
  have hH : zH G A s.heap (mW dA q (mu (mu M 0 0 9) 0 1 (M 0 22))) H locs := hH
  refine lv_aload_n hx hb dX2_refuses_14 rfl (lv_at hl 0 rfl) ?_
  refine lv_iload_n hx hb dX2_refuses_15 rfl (lv_at hl 1 rfl) ?_
  refine lv_bipush (v := (-5)) hx hb dX2_refuses_16 (by decide) ?_
  refine lv_icmp_ne (tgt := 28) hx hb dX2_refuses_18 (by decide) (fun c_18_1 => ?_) (fun c_18_1 => ?_)
  · skip
    refine lv_iconst (v := nI 0) hx hb dX2_refuses_28 (by decide) ?_
    refine z_put hx hb hts hown hX kX2 2 (by decide) hH 0 rfl q2012 (fun _ h9 => h9) rfl rfl rfl (Nat.le_of_ble_eq_true rfl) dX2_refuses_29 (fun H locs hH => ?_)
    have hH : zH G A s.heap (mW dA q (mu (mu (mu M 0 0 9) 0 1 (M 0 22)) 0 2 0)) H locs := hH
    refine lv_aload_n hx hb dX2_refuses_32 rfl (lv_at hl 0 rfl) ?_
    refine lv_aload_n hx hb dX2_refuses_33 rfl (lv_at hl 0 rfl) ?_
    refine z_get (v := .int (nI (M 0 5))) hx hb hts hown hX kX2 5 (by decide) (hH.at 0 rfl) rfl q2015 (fun _ h9 => h9) dX2_refuses_34 ?_
    refine z_put hx hb hts hown hX kX2 3 (by decide) hH 0 rfl q2013 (fun _ h9 => h9) rfl rfl rfl (Nat.le_of_ble_eq_true rfl) dX2_refuses_37 (fun H locs hH => ?_)
    have hH : zH G A s.heap (mW dA q (mu (mu (mu (mu M 0 0 9) 0 1 (M 0 22)) 0 2 0) 0 3 (M 0 5))) H locs := hH
    refine lv_bipush (v := (-5)) hx hb dX2_refuses_40 (by decide) ?_
    have eM : mu (mu (mu (mu M 0 0 9) 0 1 (M 0 22)) 0 2 0) 0 3 (M 0 5) = mRfs M a := by simp only [mRfs, if_neg c_18_1]; first | done | rfl
    rw [eM] at hH
    exact z_iret hx hb hr hlocks hH (u := ()) (by rfl) ⟨hH.1, hH.2.1⟩ trivial (Nat.le_of_ble_eq_true rfl) (Nat.le_of_ble_eq_true rfl) dX2_refuses_42
  · skip
    refine lv_aload_n hx hb dX2_refuses_21 rfl (lv_at hl 0 rfl) ?_
    refine z_get (v := .int (nI (M 0 4))) hx hb hts hown hX kX2 4 (by decide) (hH.at 0 rfl) rfl q2014 (fun _ h9 => h9) dX2_refuses_22 ?_
    refine lv_goto (tgt := 29) hx hb dX2_refuses_25 (by decide) ?_
    refine z_put hx hb hts hown hX kX2 2 (by decide) hH 0 rfl q2012 (fun _ h9 => h9) rfl rfl rfl (Nat.le_of_ble_eq_true rfl) dX2_refuses_29 (fun H locs hH => ?_)
    have hH : zH G A s.heap (mW dA q (mu (mu (mu M 0 0 9) 0 1 (M 0 22)) 0 2 (M 0 4))) H locs := hH
    refine lv_aload_n hx hb dX2_refuses_32 rfl (lv_at hl 0 rfl) ?_
    refine lv_aload_n hx hb dX2_refuses_33 rfl (lv_at hl 0 rfl) ?_
    refine z_get (v := .int (nI (M 0 5))) hx hb hts hown hX kX2 5 (by decide) (hH.at 0 rfl) rfl q2015 (fun _ h9 => h9) dX2_refuses_34 ?_
    refine z_put hx hb hts hown hX kX2 3 (by decide) hH 0 rfl q2013 (fun _ h9 => h9) rfl rfl rfl (Nat.le_of_ble_eq_true rfl) dX2_refuses_37 (fun H locs hH => ?_)
    have hH : zH G A s.heap (mW dA q (mu (mu (mu (mu M 0 0 9) 0 1 (M 0 22)) 0 2 (M 0 4)) 0 3 (M 0 5))) H locs := hH
    refine lv_bipush (v := (-5)) hx hb dX2_refuses_40 (by decide) ?_
    have eM : mu (mu (mu (mu M 0 0 9) 0 1 (M 0 22)) 0 2 (M 0 4)) 0 3 (M 0 5) = mRfs M a := by simp only [mRfs, if_pos c_18_1]; first | done | rfl
    rw [eM] at hH
    exact z_iret hx hb hr hlocks hH (u := ()) (by rfl) ⟨hH.1, hH.2.1⟩ trivial (Nat.le_of_ble_eq_true rfl) (Nat.le_of_ble_eq_true rfl) dX2_refuses_42

set_option maxHeartbeats 4000000 in
set_option maxRecDepth 100000 in
theorem metX2_doesAll (l : Launch) (G : va_G) (dA : Nat → ClassId) (dS : Nat → Nat) (B0 sz : Nat) (q : Nat → Nat) (M : mS) (B : Nat) (hrb : rB (M 1) B) (hrI : rI (M 1)) (hBb : B + 4000 < 2 ^ 30) (hi : iB M) (h99 : ∀ k, M 8 k ≤ 99) : Met l yX2_doesAll (ws_ yX2_doesAll cX2_doesAll 3 (some FieldType.int)) ({ frames := 6, cells := 0, slots := 0, locals := 151 }) (zP G dA dS B0 [.ref (q 0)] sz (mW dA q M) (fun H => True)) (zQi G (fun (r : Int32) (u : Unit) => r = (dAll (M 0 17 + 1) (mu (mu M 0 22 0) 0 18 0)).1) (fun (u : Unit) => mW dA q ((dAll (M 0 17 + 1) (mu (mu M 0 22 0) 0 18 0)).2)) (fun (u : Unit) (H : Heap) => True) (va_A (mW dA q M) sz)) 0 0 (va_A (mW dA q M) sz) := by
  refine zM (by decide) (Nat.le_of_ble_eq_true rfl) ?_
  intro p e s m below meth c ls A H locs hHe hx hb hr hlocks hml hown hname hts hX hsz hB hAe hA hAB hH hRo hl
  have hl : lv_has ls 3 [(0, .ref (q 0))] := hl
  have hi0 := hi.1
  refine lv_aload_n hx hb dX2_doesAll_0 rfl (lv_at hl 0 rfl) ?_
  refine lv_iconst (v := nI 0) hx hb dX2_doesAll_1 (by decide) ?_
  refine z_put hx hb hts hown hX kX2 22 (by decide) hH 0 rfl q2032 (fun _ h9 => h9) rfl rfl rfl (Nat.le_of_ble_eq_true rfl) dX2_doesAll_2 (fun H locs hH => ?_)
  have hH : zH G A s.heap (mW dA q (mu M 0 22 0)) H locs := hH
  refine lv_aload_n hx hb dX2_doesAll_5 rfl (lv_at hl 0 rfl) ?_
  refine lv_iconst (v := nI 0) hx hb dX2_doesAll_6 (by decide) ?_
  refine z_put hx hb hts hown hX kX2 18 (by decide) hH 0 rfl q2028 (fun _ h9 => h9) rfl rfl rfl (Nat.le_of_ble_eq_true rfl) dX2_doesAll_7 (fun H locs hH => ?_)
  have hH : zH G A s.heap (mW dA q (mu (mu M 0 22 0) 0 18 0)) H locs := hH
  refine lv_iconst (v := nI 1) hx hb dX2_doesAll_10 (by decide) ?_
  refine lv_istore_n (lv' := [(1, .int (nI 1)), (0, .ref (q 0))]) hx hb dX2_doesAll_11 rfl hl (by decide) rfl (fun ls hl => ?_)
  have LP12_0 : ∀ (fuel : Nat) (X : mS) (b : Bool) (fu : Nat) (cnt : Nat) (hfu : (X 0 17 - X 0 18 + bN b) < fuel) (haI : aI X B cnt) (hc9 : cnt + bN b ≤ X 0 18 + 1) (hX18 : X 0 17 - X 0 18 + bN b ≤ fu) (hJ : dAll (M 0 17 + 1) (mu (mu M 0 22 0) 0 18 0) = if b = true then dAll fu X else (nI 0, X)) (H : Heap) (locs : List Loc), zH G A s.heap (mW dA q X) H locs → ∀ (ls : Array Slot), lv_has ls 3 [(0, .ref (q 0)), (1, .int (nI (bN b)))] → W p l e (headSpec (ws_ yX2_doesAll cX2_doesAll 3 (some FieldType.int)) ({ frames := 6, cells := 0, slots := 0, locals := 151 })).room s m ([.ref (q 0)] : List Value).toArray below meth c H locs 0 0 (MQ below (zQi G (fun (r : Int32) (u : Unit) => r = (dAll (M 0 17 + 1) (mu (mu M 0 22 0) 0 18 0)).1) (fun (u : Unit) => mW dA q ((dAll (M 0 17 + 1) (mu (mu M 0 22 0) 0 18 0)).2)) (fun (u : Unit) (H : Heap) => True) A) ([.ref (q 0)] : List Value).toArray s 0 0 A) (F0 m 12 ls []) := by
    intro fuel
    induction fuel with
    | zero => intro X b fu cnt hfu; exact absurd hfu (Nat.not_lt_zero _)
    | succ fuel ih12 =>
      intro X b fu cnt hfu haI hc9 hX18 hJ H locs hH ls hl
      have hi1 := haI.2.2.1.1
      have hx18 := haI.2.2.2.2.1
      refine lv_iload_n hx hb dX2_doesAll_12 rfl (lv_at hl 1 rfl) ?_
      refine z_ifeqB (b := b) (tgt := 57) hx hb dX2_doesAll_13 (by decide) (fun c_13_2 => ?_) (fun c_13_2 => ?_)
      · skip
        refine lv_iconst (v := nI 0) hx hb dX2_doesAll_57 (by decide) ?_
        have eM : X = (dAll (M 0 17 + 1) (mu (mu M 0 22 0) 0 18 0)).2 := by rw [hJ, if_neg (t_nt c_13_2)]
        rw [eM] at hH
        exact z_iret hx hb hr hlocks hH (u := ()) (by rw [hJ, if_neg (t_nt c_13_2)]) ⟨hH.1, hH.2.1⟩ trivial (Nat.le_of_ble_eq_true rfl) (Nat.le_of_ble_eq_true rfl) dX2_doesAll_58
      · skip
        have hc1 : bN b = 1 := by rw [c_13_2]; rfl
        rw [hc1] at hc9 hX18 hfu
        obtain ⟨f9, rfl⟩ : ∃ f9, fu = f9 + 1 := ⟨fu - 1, by omega⟩
        have hbw := haI.1.lt (by omega)
        have h12 := haI.1.1
        have hkn := haI.1.lt32 (by omega)
        have h99 := haI.2.2.2.1
        have hi := haI.2.2.1
        have hTX : pB X (X 0 18, X 8) := ⟨hx18, h99⟩
        have hH : zH G A s.heap (mW dA q (pS X (X 0 18, X 8) (X 0 21))) H locs := by rw [pS_eta]; exact hH
        refine lv_aload_n hx hb dX2_doesAll_16 rfl (lv_at hl 0 rfl) ?_
        refine z_ci (wr := []) (va_runV (As := []) (rest := []) ⟨hx, hb, hml, hown, hts⟩ (metX2_readsCommand l G dA dS B0 H.size q X (X 0 18, X 8) (X 0 21) hi hTX) (cwV 0 hts (lw_V q2400 q2402 qs69 q91 q2403) rfl rfl rfl (by decide +kernel) ⟨Nat.le_of_ble_eq_true rfl, Nat.le_of_ble_eq_true rfl⟩) (zPV hX hH hB hAB (z_recv hX kX2 (hH.at 0 rfl)) [0, 1, 2, 3, 4, 5, 6, 7, 8] rfl rfl trivial) rfl rfl hl.1 rfl (lv_room (Nat.le_of_ble_eq_true rfl)) dX2_doesAll_17 ⟨(Nat.le_of_ble_eq_true rfl), (Nat.le_of_ble_eq_true rfl)⟩) hH hA [0, 1, 2, 3, 4, 5, 6, 7, 8] [] rfl rfl (by decide) (by decide) (fun r_3 u_r_3 H locs hw_r_3 hH hR_r_3 hk_r_3 => ?_)
        obtain rfl := hw_r_3
        have hH : zH G A s.heap (mW dA q (pS X (pCmd X (X 0 18, X 8)).2.1 (pCmd X (X 0 18, X 8)).2.2)) H locs := hH
        obtain ⟨Y_, hY_⟩ : ∃ Y_, Y_ = dY X := ⟨_, rfl⟩
        have hH : zH G A s.heap (mW dA q Y_) H locs := by rw [hY_]; exact hH
        have hYI : aI Y_ B cnt := by rw [hY_]; exact (aI_Y haI).1
        have hY1 : X 0 18 ≤ Y_ 0 18 := by rw [hY_]; exact (aI_Y haI).2.1
        have hY2 : Y_ 0 17 = X 0 17 := by rw [hY_]; exact (aI_Y haI).2.2
        have hY3 := hYI.2.2.2.2.1
        have hY4 := hYI.2.2.2.2.2
        have hbw := hYI.1.lt (by omega)
        have h12 := hYI.1.1
        have hkn := hYI.1.lt32 (by omega)
        have h99 := hYI.2.2.2.1
        have hi := hYI.2.2.1
        refine lv_pop hx hb dX2_doesAll_20 rfl ?_
        refine lv_aload_n hx hb dX2_doesAll_21 rfl (lv_at hl 0 rfl) ?_
        refine z_ci (wr := []) (va_runV (As := []) (rest := []) ⟨hx, hb, hml, hown, hts⟩ (metX2_notNow l G dA dS B0 H.size q Y_ (by first | exact hbw | assumption | omega) (by first | exact h12 | assumption | omega) (by first | exact h99 | assumption | omega) (by first | exact hkn | assumption | omega)) (cwV 0 hts (lw_V q2444 q2446 qs80 q91 q2447) rfl rfl rfl (by decide +kernel) ⟨Nat.le_of_ble_eq_true rfl, Nat.le_of_ble_eq_true rfl⟩) (zPV hX hH hB hAB (z_recv hX kX2 (hH.at 0 rfl)) [0, 1, 2, 3, 4, 5, 6, 7, 8] rfl rfl trivial) rfl rfl hl.1 rfl (lv_room (Nat.le_of_ble_eq_true rfl)) dX2_doesAll_22 ⟨(Nat.le_of_ble_eq_true rfl), (Nat.le_of_ble_eq_true rfl)⟩) hH hA [0, 1, 2, 3, 4, 5, 6, 7, 8] [] rfl rfl (by decide) (by decide) (fun r_4 u_r_4 H locs hw_r_4 hH hR_r_4 hk_r_4 => ?_)
        obtain rfl := hw_r_4
        have hH : zH G A s.heap (mW dA q ((nND Y_ (cmd (nI (Y_ 0 21))) (Y_ 8)).2)) H locs := hH
        refine lv_istore_n (lv' := [(2, .int ((nND Y_ (cmd (nI (Y_ 0 21))) (Y_ 8)).1)), (0, .ref (q 0)), (1, .int (nI (bN b)))]) hx hb dX2_doesAll_25 rfl hl (by decide) rfl (fun ls hl => ?_)
        refine lv_iload_n hx hb dX2_doesAll_26 rfl (lv_at hl 0 rfl) ?_
        refine lv_if_eq (tgt := 32) hx hb dX2_doesAll_27 (by decide) (fun c_27_5 => ?_) (fun c_27_5 => ?_)
        · skip
          have hE1 := aI_Z hYI (by omega) c_27_5
          rw [hE1.2.1] at hH
          refine lv_aload_n hx hb dX2_doesAll_32 rfl (lv_at hl 1 rfl) ?_
          refine z_ci (wr := []) (va_runV (As := []) (rest := []) ⟨hx, hb, hml, hown, hts⟩ (metX2_doesNow l G dA dS B0 H.size q Y_ (B + 50 * cnt) hYI.1 (by omega) (by first | exact h99 | assumption | omega) hE1.1) (cwV 0 hts (lw_V q2448 q2450 qs81 q91 q2451) rfl rfl rfl (by decide +kernel) ⟨Nat.le_of_ble_eq_true rfl, Nat.le_of_ble_eq_true rfl⟩) (zPV hX hH hB hAB (z_recv hX kX2 (hH.at 0 rfl)) [0, 1, 2, 3, 4, 5, 6, 7, 8] rfl rfl trivial) rfl rfl hl.1 rfl (lv_room (Nat.le_of_ble_eq_true rfl)) dX2_doesAll_33 ⟨(Nat.le_of_ble_eq_true rfl), (Nat.le_of_ble_eq_true rfl)⟩) hH hA [0, 1, 2, 3, 4, 5, 6, 7, 8] [] rfl rfl (by decide) (by decide) (fun r_6 u_r_6 H locs hw_r_6 hH hR_r_6 hk_r_6 => ?_)
          have hH : zH G A s.heap (mW dA q (ms Y_ 1 (dW (Y_ 1) (cmd (nI (Y_ 0 21))) (Y_ 8)))) H locs := hH
          refine lv_pop hx hb dX2_doesAll_36 rfl ?_
          refine lv_aload_n hx hb dX2_doesAll_37 rfl (lv_at hl 1 rfl) ?_
          refine lv_dup hx hb dX2_doesAll_38 rfl ?_
          refine z_get (v := .int (nI (Y_ 0 22))) hx hb hts hown hX kX2 22 (by decide) (hH.at 0 rfl) rfl q2032 (fun _ h9 => h9) dX2_doesAll_39 ?_
          refine lv_iconst (v := nI 1) hx hb dX2_doesAll_42 (by decide) ?_
          refine lv_iadd hx hb dX2_doesAll_43 ?_
          refine z_topi (y := nI (Y_ 0 22 + 1)) (nI_add _ _) ?_
          refine z_put hx hb hts hown hX kX2 22 (by decide) hH 0 rfl q2032 (fun _ h9 => h9) rfl rfl rfl (Nat.le_of_ble_eq_true rfl) dX2_doesAll_44 (fun H locs hH => ?_)
          have hH : zH G A s.heap (mW dA q (mu (ms Y_ 1 (dW (Y_ 1) (cmd (nI (Y_ 0 21))) (Y_ 8))) 0 22 (Y_ 0 22 + 1))) H locs := hH
          obtain ⟨Z_, hZ_⟩ : ∃ Z_, Z_ = dZ Y_ := ⟨_, rfl⟩
          have hH : zH G A s.heap (mW dA q Z_) H locs := by rw [hZ_]; exact hH
          have hZI : aI Z_ B (cnt + 1) := by rw [hZ_]; exact hE1.2.2.1
          have hZ18 : Z_ 0 18 = Y_ 0 18 := by rw [hZ_]; rfl
          have hZ17 : Z_ 0 17 = Y_ 0 17 := by rw [hZ_]; rfl
          have hi := hZI.2.2.1
          have hTZ : pB Z_ (Z_ 0 18, Z_ 8) := ⟨hZI.2.2.2.2.1, hZI.2.2.2.1⟩
          have hH : zH G A s.heap (mW dA q (pS Z_ (Z_ 0 18, Z_ 8) (Z_ 0 21))) H locs := by rw [pS_eta]; exact hH
          refine lv_aload_n hx hb dX2_doesAll_47 rfl (lv_at hl 1 rfl) ?_
          refine lv_bipush (v := nI 59) hx hb dX2_doesAll_48 (by decide) ?_
          refine z_ci (wr := []) (va_runV (As := [.int (nI 59)]) (rest := []) ⟨hx, hb, hml, hown, hts⟩ (metX2_reads l G dA dS B0 H.size q Z_ (Z_ 0 18, Z_ 8) (Z_ 0 21) hi hTZ 59) (cwV 1 hts (lw_V q2408 q2410 qs71 q91 q2411) rfl rfl rfl (by decide +kernel) ⟨Nat.le_of_ble_eq_true rfl, Nat.le_of_ble_eq_true rfl⟩) (zPV hX hH hB hAB (z_recv hX kX2 (hH.at 0 rfl)) [0, 1, 2, 3, 4, 5, 6, 7, 8] rfl rfl trivial) rfl rfl hl.1 rfl (lv_room (Nat.le_of_ble_eq_true rfl)) dX2_doesAll_50 ⟨(Nat.le_of_ble_eq_true rfl), (Nat.le_of_ble_eq_true rfl)⟩) hH hA [0, 1, 2, 3, 4, 5, 6, 7, 8] [] rfl rfl (by decide) (by decide) (fun r_7 u_r_7 H locs hw_r_7 hH hR_r_7 hk_r_7 => ?_)
          obtain rfl := hw_r_7
          have hH : zH G A s.heap (mW dA q (pS Z_ (pC Z_ 59 (Z_ 0 18, Z_ 8)).2 (Z_ 0 21))) H locs := hH
          obtain ⟨V_, hV_⟩ : ∃ V_, V_ = dV Z_ := ⟨_, rfl⟩
          have hH : zH G A s.heap (mW dA q V_) H locs := by rw [hV_]; exact hH
          have hE := aI_V hZI
          have hV1 := hE.2.1
          have hV2 := hE.2.2.1
          have hV3 := hE.1.2.2.2.2.1
          have hV5 : Z_ 0 18 + bN (dR Z_).1 ≤ V_ 0 18 := by
            rw [hV_]
            cases hq : (dR Z_).1 with
            | false => exact hE.2.1
            | true => exact hE.2.2.2 hq
          have hV6 : V_ 0 17 = X 0 17 := by rw [hV_, hV2, hZ17, hY2]
          have hV7 : V_ 0 18 ≤ V_ 0 17 := by rw [hV_]; exact hV3
          refine lv_istore_n (lv' := [(1, .int (nI (bN ((pC Z_ 59 (Z_ 0 18, Z_ 8)).1)))), (2, .int ((nND Y_ (cmd (nI (Y_ 0 21))) (Y_ 8)).1)), (0, .ref (q 0))]) hx hb dX2_doesAll_53 rfl hl (by decide) rfl (fun ls hl => ?_)
          refine lv_goto (tgt := 12) hx hb dX2_doesAll_54 (by decide) ?_
          have ev_8 : nI (bN ((pC Z_ 59 (Z_ 0 18, Z_ 8)).1)) = nI (bN ((dR Z_).1)) := by rfl
          have hl : lv_has ls 3 [(0, .ref (q 0)), (1, .int (nI (bN ((dR Z_).1))))] := z_lv (lv_sub hl [2, 0] rfl) (by rw [ev_8] <;> rfl)
          exact ih12 V_ ((dR Z_).1) f9 (cnt + 1) (by omega) (by rw [hV_]; exact hE.1) (by omega) (by omega) (by rw [hJ, if_pos c_13_2, dAll_s, ← hY_, if_pos (show (dN Y_).1 = 0 from c_27_5), ← hZ_, ← hV_]) _ _ hH ls (lv_sub hl [0, 1] rfl)
        · skip
          refine lv_iload_n hx hb dX2_doesAll_30 rfl (lv_at hl 0 rfl) ?_
          have eM : (nND Y_ (cmd (nI (Y_ 0 21))) (Y_ 8)).2 = (dAll (M 0 17 + 1) (mu (mu M 0 22 0) 0 18 0)).2 := by rw [hJ, if_pos c_13_2, dAll_s, ← hY_, if_neg (show ¬ (dN Y_).1 = 0 from c_27_5)]; rfl
          rw [eM] at hH
          exact z_iret hx hb hr hlocks hH (u := ()) (by rw [hJ, if_pos c_13_2, dAll_s, ← hY_, if_neg (show ¬ (dN Y_).1 = 0 from c_27_5)]; rfl) ⟨hH.1, hH.2.1⟩ trivial (Nat.le_of_ble_eq_true rfl) (Nat.le_of_ble_eq_true rfl) dX2_doesAll_31
  have ev_9 : nI 1 = nI (bN true) := by rfl
  have hl : lv_has ls 3 [(0, .ref (q 0)), (1, .int (nI (bN true)))] := z_lv (lv_sub hl [1, 0] rfl) (by rw [ev_9] <;> rfl)
  exact LP12_0 (((mu (mu M 0 22 0) 0 18 0) 0 17 - (mu (mu M 0 22 0) 0 18 0) 0 18 + bN true) + 1) (mu (mu M 0 22 0) 0 18 0) true (M 0 17 + 1) 0 (Nat.lt_succ_self _) (aI_0 hrb hrI hi h99) (by show 0 + 1 ≤ _; omega) (by have := aI_017 M; show _ + 1 ≤ _; omega) (by rw [if_pos rfl]) _ _ hH ls (lv_sub hl [0, 1] rfl)

set_option maxHeartbeats 4000000 in
set_option maxRecDepth 100000 in
theorem metX2_read (l : Launch) (G : va_G) (dA : Nat → ClassId) (dS : Nat → Nat) (B0 sz : Nat) (q : Nat → Nat) (M : mS) (B : Nat) (hrb : rB (M 1) B) (hrI : rI (M 1)) (hBb : B + 4000 < 2 ^ 30) (hi : iB M) (h99 : ∀ k, M 8 k ≤ 99) (hch : M 0 11 ≤ 8) (hfc : M 0 12 < 8) : Met l yX2_read (ws_ yX2_read cX2_read 2 (some FieldType.int)) ({ frames := 7, cells := 0, slots := 0, locals := 173 }) (zP G dA dS B0 [.ref (q 0)] sz (mW dA q M) (fun H => True)) (zQi G (fun (r : Int32) (u : Unit) => r = (mRead M).1) (fun (u : Unit) => mW dA q ((mRead M).2)) (fun (u : Unit) (H : Heap) => True) (va_A (mW dA q M) sz)) 0 0 (va_A (mW dA q M) sz) := by
  refine zM (by decide) (Nat.le_of_ble_eq_true rfl) ?_
  intro p e s m below meth c ls A H locs hHe hx hb hr hlocks hml hown hname hts hX hsz hB hAe hA hAB hH hRo hl
  have hl : lv_has ls 2 [(0, .ref (q 0))] := hl
  refine lv_aload_n hx hb dX2_read_0 rfl (lv_at hl 0 rfl) ?_
  refine z_ci (wr := []) (va_runV (As := []) (rest := []) ⟨hx, hb, hml, hown, hts⟩ (metX2_readsAll l G dA dS B0 H.size q M hi h99) (cwV 0 hts (lw_V q2396 q2398 qs68 q91 q2399) rfl rfl rfl (by decide +kernel) ⟨Nat.le_of_ble_eq_true rfl, Nat.le_of_ble_eq_true rfl⟩) (zPV hX hH hB hAB (z_recv hX kX2 (hH.at 0 rfl)) [0, 1, 2, 3, 4, 5, 6, 7, 8] rfl rfl trivial) rfl rfl hl.1 rfl (lv_room (Nat.le_of_ble_eq_true rfl)) dX2_read_1 ⟨(Nat.le_of_ble_eq_true rfl), (Nat.le_of_ble_eq_true rfl)⟩) hH hA [0, 1, 2, 3, 4, 5, 6, 7, 8] [] rfl rfl (by decide) (by decide) (fun r_1 u_r_1 H locs hw_r_1 hH hR_r_1 hk_r_1 => ?_)
  obtain rfl := hw_r_1
  have hH : zH G A s.heap (mW dA q (pS M (pAll M (M 0 17 + 1) (0, M 8) (M 0 21)).2.1 (pAll M (M 0 17 + 1) (0, M 8) (M 0 21)).2.2)) H locs := hH
  obtain ⟨R_, hR_⟩ : ∃ R_, R_ = rA M := ⟨_, rfl⟩
  have hH : zH G A s.heap (mW dA q R_) H locs := by rw [hR_]; exact hH
  have hRI := rA_I hi h99
  rw [← hR_] at hRI
  obtain ⟨hR1, hRi, hR9, hR11, hR12, hR17⟩ := hRI
  refine z_ifneB (b := (pAll M (M 0 17 + 1) (0, M 8) (M 0 21)).1) (tgt := 23) hx hb dX2_read_4 (by decide) (fun c_4_2 => ?_) (fun c_4_2 => ?_)
  · skip
    refine lv_aload_n hx hb dX2_read_23 rfl (lv_at hl 0 rfl) ?_
    refine z_cv (wr := []) (va_runV (As := []) (rest := []) ⟨hx, hb, hml, hown, hts⟩ (metX2_thinks l G dA dS B0 H.size q R_) (cwV 0 hts (lw_V q2123 q2125 qs36 q91 q2126) rfl rfl rfl (by decide +kernel) ⟨Nat.le_of_ble_eq_true rfl, Nat.le_of_ble_eq_true rfl⟩) (zPV hX hH hB hAB (z_recv hX kX2 (hH.at 0 rfl)) [0, 1, 2, 3, 4, 5, 6, 7, 8] rfl rfl trivial) rfl rfl hl.1 rfl (lv_room (Nat.le_of_ble_eq_true rfl)) dX2_read_24 ⟨(Nat.le_of_ble_eq_true rfl), (Nat.le_of_ble_eq_true rfl)⟩) hH hA [0, 1, 2, 3, 4, 5, 6, 7, 8] [] rfl rfl (by decide) (by decide) (fun u_r_3 H locs hw_r_3 hH hR_r_3 hk_r_3 => ?_)
    have hH : zH G A s.heap (mW dA q (mCp R_ 4 1)) H locs := hH
    obtain ⟨Q_, hQ_⟩ : ∃ Q_, Q_ = mCp R_ 4 1 := ⟨_, rfl⟩
    have hH : zH G A s.heap (mW dA q Q_) H locs := by rw [hQ_]; exact hH
    have hQb : rB (Q_ 1) B := by rw [hQ_]; show rB (R_ 1) B; rw [hR1]; exact hrb
    have hQI : rI (Q_ 1) := by rw [hQ_]; show rI (R_ 1); rw [hR1]; exact hrI
    have hQi : iB Q_ := by rw [hQ_]; exact hRi
    have hQ9 : ∀ k, Q_ 8 k ≤ 99 := by rw [hQ_]; exact hR9
    refine lv_aload_n hx hb dX2_read_27 rfl (lv_at hl 0 rfl) ?_
    refine z_ci (wr := []) (va_runV (As := []) (rest := []) ⟨hx, hb, hml, hown, hts⟩ (metX2_doesAll l G dA dS B0 H.size q Q_ B hQb hQI hBb hQi hQ9) (cwV 0 hts (lw_V q2440 q2442 qs79 q91 q2443) rfl rfl rfl (by decide +kernel) ⟨Nat.le_of_ble_eq_true rfl, Nat.le_of_ble_eq_true rfl⟩) (zPV hX hH hB hAB (z_recv hX kX2 (hH.at 0 rfl)) [0, 1, 2, 3, 4, 5, 6, 7, 8] rfl rfl trivial) rfl rfl hl.1 rfl (lv_room (Nat.le_of_ble_eq_true rfl)) dX2_read_28 ⟨(Nat.le_of_ble_eq_true rfl), (Nat.le_of_ble_eq_true rfl)⟩) hH hA [0, 1, 2, 3, 4, 5, 6, 7, 8] [] rfl rfl (by decide) (by decide) (fun r_4 u_r_4 H locs hw_r_4 hH hR_r_4 hk_r_4 => ?_)
    obtain rfl := hw_r_4
    have hH : zH G A s.heap (mW dA q ((dAll (Q_ 0 17 + 1) (mu (mu Q_ 0 22 0) 0 18 0)).2)) H locs := hH
    obtain ⟨D_, hD_⟩ : ∃ D_, D_ = (dAll (Q_ 0 17 + 1) (mu (mu Q_ 0 22 0) 0 18 0)).2 := ⟨_, rfl⟩
    have hH : zH G A s.heap (mW dA q D_) H locs := by rw [hD_]; exact hH
    have hD11 : D_ 0 11 = M 0 11 := by rw [hD_, dAll_f _ _ (by decide) (by decide) (by decide) (by decide) (by decide), hQ_]; exact hR11
    have hD12 : D_ 0 12 = M 0 12 := by rw [hD_, dAll_f _ _ (by decide) (by decide) (by decide) (by decide) (by decide), hQ_]; exact hR12
    refine lv_istore_n (lv' := [(1, .int ((dAll (Q_ 0 17 + 1) (mu (mu Q_ 0 22 0) 0 18 0)).1)), (0, .ref (q 0))]) hx hb dX2_read_31 rfl hl (by decide) rfl (fun ls hl => ?_)
    refine lv_aload_n hx hb dX2_read_32 rfl (lv_at hl 1 rfl) ?_
    refine lv_iconst (v := nI 0) hx hb dX2_read_33 (by decide) ?_
    refine z_put hx hb hts hown hX kX2 17 (by decide) hH 0 rfl q2027 (fun _ h9 => h9) rfl rfl rfl (Nat.le_of_ble_eq_true rfl) dX2_read_34 (fun H locs hH => ?_)
    have hH : zH G A s.heap (mW dA q (mu D_ 0 17 0)) H locs := hH
    refine lv_iload_n hx hb dX2_read_37 rfl (lv_at hl 0 rfl) ?_
    refine lv_if_ne (tgt := 50) hx hb dX2_read_38 (by decide) (fun c_38_5 => ?_) (fun c_38_5 => ?_)
    · skip
      refine lv_aload_n hx hb dX2_read_50 rfl (lv_at hl 1 rfl) ?_
      refine z_cv (wr := []) (va_runV (As := []) (rest := []) ⟨hx, hb, hml, hown, hts⟩ (metX2_forgets l G dA dS B0 H.size q (mu D_ 0 17 0)) (cwV 0 hts (lw_V q2452 q2454 qs82 q91 q2455) rfl rfl rfl (by decide +kernel) ⟨Nat.le_of_ble_eq_true rfl, Nat.le_of_ble_eq_true rfl⟩) (zPV hX hH hB hAB (z_recv hX kX2 (hH.at 0 rfl)) [0, 1, 2, 3, 4, 5, 6, 7, 8] rfl rfl trivial) rfl rfl hl.1 rfl (lv_room (Nat.le_of_ble_eq_true rfl)) dX2_read_51 ⟨(Nat.le_of_ble_eq_true rfl), (Nat.le_of_ble_eq_true rfl)⟩) hH hA [0, 1, 2, 3, 4, 5, 6, 7, 8] [] rfl rfl (by decide) (by decide) (fun u_r_6 H locs hw_r_6 hH hR_r_6 hk_r_6 => ?_)
      have hH : zH G A s.heap (mW dA q (mCp (mu D_ 0 17 0) 1 4)) H locs := hH
      refine lv_aload_n hx hb dX2_read_54 rfl (lv_at hl 1 rfl) ?_
      refine lv_iload_n hx hb dX2_read_55 rfl (lv_at hl 0 rfl) ?_
      refine z_ci (wr := []) (va_runV (As := [.int ((dAll (Q_ 0 17 + 1) (mu (mu Q_ 0 22 0) 0 18 0)).1)]) (rest := []) ⟨hx, hb, hml, hown, hts⟩ (metX2_refuses l G dA dS B0 H.size q (mCp (mu D_ 0 17 0) 1 4) ((dAll (Q_ 0 17 + 1) (mu (mu Q_ 0 22 0) 0 18 0)).1)) (cwV 1 hts (lw_V q2456 q2458 qs83 q91 q2459) rfl rfl rfl (by decide +kernel) ⟨Nat.le_of_ble_eq_true rfl, Nat.le_of_ble_eq_true rfl⟩) (zPV hX hH hB hAB (z_recv hX kX2 (hH.at 0 rfl)) [0, 1, 2, 3, 4, 5, 6, 7, 8] rfl rfl trivial) rfl rfl hl.1 rfl (lv_room (Nat.le_of_ble_eq_true rfl)) dX2_read_56 ⟨(Nat.le_of_ble_eq_true rfl), (Nat.le_of_ble_eq_true rfl)⟩) hH hA [0, 1, 2, 3, 4, 5, 6, 7, 8] [] rfl rfl (by decide) (by decide) (fun r_7 u_r_7 H locs hw_r_7 hH hR_r_7 hk_r_7 => ?_)
      obtain rfl := hw_r_7
      have hH : zH G A s.heap (mW dA q (mRfs (mCp (mu D_ 0 17 0) 1 4) ((dAll (Q_ 0 17 + 1) (mu (mu Q_ 0 22 0) 0 18 0)).1))) H locs := hH
      have eM : mRfs (mCp (mu D_ 0 17 0) 1 4) ((dAll (Q_ 0 17 + 1) (mu (mu Q_ 0 22 0) 0 18 0)).1) = (mRead M).2 := by rw [mRead, if_pos c_4_2, ← hR_, mRd, ← hQ_, if_neg c_38_5, ← hD_]; first | done | rfl
      rw [eM] at hH
      exact z_iret hx hb hr hlocks hH (u := ()) (by rw [mRead, if_pos c_4_2, ← hR_, mRd, ← hQ_, if_neg c_38_5, ← hD_]; first | done | rfl) ⟨hH.1, hH.2.1⟩ trivial (Nat.le_of_ble_eq_true rfl) (Nat.le_of_ble_eq_true rfl) dX2_read_59
    · skip
      refine lv_aload_n hx hb dX2_read_41 rfl (lv_at hl 1 rfl) ?_
      refine z_cv (wr := []) (va_runV (As := []) (rest := []) ⟨hx, hb, hml, hown, hts⟩ (metX2_keepsMind l G dA dS B0 H.size q (mu D_ 0 17 0) (by show D_ 0 11 ≤ 8; omega) (by show D_ 0 12 < 8; omega)) (cwV 0 hts (lw_V q2127 q2129 qs37 q91 q2130) rfl rfl rfl (by decide +kernel) ⟨Nat.le_of_ble_eq_true rfl, Nat.le_of_ble_eq_true rfl⟩) (zPV hX hH hB hAB (z_recv hX kX2 (hH.at 0 rfl)) [0, 1, 2, 3, 4, 5, 6, 7, 8] rfl rfl trivial) rfl rfl hl.1 rfl (lv_room (Nat.le_of_ble_eq_true rfl)) dX2_read_42 ⟨(Nat.le_of_ble_eq_true rfl), (Nat.le_of_ble_eq_true rfl)⟩) hH hA [0, 1, 2, 3, 4, 5, 6, 7, 8] [] rfl rfl (by decide) (by decide) (fun u_r_8 H locs hw_r_8 hH hR_r_8 hk_r_8 => ?_)
      have hH : zH G A s.heap (mW dA q (mKeep (mu D_ 0 17 0))) H locs := hH
      refine lv_aload_n hx hb dX2_read_45 rfl (lv_at hl 1 rfl) ?_
      refine z_get (v := .int (nI ((mKeep (mu D_ 0 17 0)) 0 22))) hx hb hts hown hX kX2 22 (by decide) (hH.at 0 rfl) rfl q2032 (fun _ h9 => h9) dX2_read_46 ?_
      have eM : mKeep (mu D_ 0 17 0) = (mRead M).2 := by rw [mRead, if_pos c_4_2, ← hR_, mRd, ← hQ_, if_pos c_38_5, ← hD_]; first | done | rfl
      rw [eM] at hH
      exact z_iret hx hb hr hlocks hH (u := ()) (by rw [mRead, if_pos c_4_2, ← hR_, mRd, ← hQ_, if_pos c_38_5, ← hD_]; first | done | rfl) ⟨hH.1, hH.2.1⟩ trivial (Nat.le_of_ble_eq_true rfl) (Nat.le_of_ble_eq_true rfl) dX2_read_49
  · skip
    refine lv_aload_n hx hb dX2_read_7 rfl (lv_at hl 0 rfl) ?_
    refine lv_aload_n hx hb dX2_read_8 rfl (lv_at hl 0 rfl) ?_
    refine z_get (v := .int (nI (R_ 0 18))) hx hb hts hown hX kX2 18 (by decide) (hH.at 0 rfl) rfl q2028 (fun _ h9 => h9) dX2_read_9 ?_
    refine z_put hx hb hts hown hX kX2 19 (by decide) hH 0 rfl q2029 (fun _ h9 => h9) rfl rfl rfl (Nat.le_of_ble_eq_true rfl) dX2_read_12 (fun H locs hH => ?_)
    have hH : zH G A s.heap (mW dA q (mu R_ 0 19 (R_ 0 18))) H locs := hH
    refine lv_aload_n hx hb dX2_read_15 rfl (lv_at hl 0 rfl) ?_
    refine lv_iconst (v := nI 0) hx hb dX2_read_16 (by decide) ?_
    refine z_put hx hb hts hown hX kX2 17 (by decide) hH 0 rfl q2027 (fun _ h9 => h9) rfl rfl rfl (Nat.le_of_ble_eq_true rfl) dX2_read_17 (fun H locs hH => ?_)
    have hH : zH G A s.heap (mW dA q (mu (mu R_ 0 19 (R_ 0 18)) 0 17 0)) H locs := hH
    refine lv_bipush (v := (-2)) hx hb dX2_read_20 (by decide) ?_
    have eM : mu (mu R_ 0 19 (R_ 0 18)) 0 17 0 = (mRead M).2 := by rw [mRead, if_neg (t_nt c_4_2), ← hR_]; first | done | rfl
    rw [eM] at hH
    exact z_iret hx hb hr hlocks hH (u := ()) (by rw [mRead, if_neg (t_nt c_4_2), ← hR_]; first | done | rfl) ⟨hH.1, hH.2.1⟩ trivial (Nat.le_of_ble_eq_true rfl) (Nat.le_of_ble_eq_true rfl) dX2_read_22

