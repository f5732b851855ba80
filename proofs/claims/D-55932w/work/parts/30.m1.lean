/-! the model's answers, as functions of its state -/
def mNot (M : mS) (a b : Nat) : mS := mu (mu M 0 4 a) 0 5 b
def mAns (M : mS) (a : Int32) : mS := if a = -5 then mu (mu (mu M 0 0 (M 0 4)) 0 1 (M 0 5)) 0 2 0 else M
def kn (w : Nat → Nat) (sg : Nat) : Bool := (w (12 + sg / 32)).testBit (sg % 32)
theorem sh_bit (a k : Nat) (ha : a < 2 ^ 32) (hk : k < 32) : ((nI a >>> (nI k &&& 31)) &&& nI 1 = nI 1) ↔ a.testBit k = true := by
  have h1 : bt (nI a >>> (nI k &&& 31)) 0 = bt (nI a) k := by
    rw [b_sshr k hk (nI a) (by omega)]
    simp [hk]
  have h2 : bt (nI a) k = a.testBit k := by
    show (BitVec.ofNat 32 a).getLsbD k = _
    rw [BitVec.getLsbD_ofNat]; simp [hk]
  rw [← h2, ← h1]
  constructor
  · intro h
    have h3 : bt ((nI a >>> (nI k &&& 31)) &&& nI 1) 0 = bt (nI 1) 0 := by rw [h]
    rw [b_and] at h3
    have h4 : bt (nI 1) 0 = true := by decide +kernel
    rw [h4] at h3
    simpa using h3
  · intro h
    apply b_ext
    intro i hi
    rw [b_and]
    by_cases h0 : i = 0
    · subst h0
      rw [h]; rfl
    · have h5 : bt (nI 1) i = false := by
        have h6 : ∀ i, i < 32 → i ≠ 0 → bt (nI 1) i = false := by decide +kernel
        exact h6 i hi h0
      rw [h5]; simp
def jin (w : Nat → Nat) (a : Nat) : Nat := cN (fun k => decide (jk w k 0 = a)) (w 0)
def jwith (w : Nat → Nat) (a : Nat) : Option Nat := fO (fun k => decide (jk w k 2 = a)) (w 0)
def jat (w : Nat → Nat) (a b : Nat) : Option Nat := fO (fun k => decide (jk w k 0 = a) && decide (jk w k 1 = b)) (w 0)
def abv (w : Nat → Nat) (j : Nat) : Nat := cN (fun k => decide (jk w k 0 = jk w j 0) && decide (jk w k 1 < jk w j 1)) (w 0)
def pla (w : Nat → Nat) (a : Nat) (b : Int32) : Option Nat := fO (fun k => decide (jk w k 0 = a) && decide (nI (abv w k) = b)) (w 0)
theorem abv_le (w : Nat → Nat) (j : Nat) : abv w j ≤ w 0 := cN_le _ _
theorem jin_le (w : Nat → Nat) (a : Nat) : jin w a ≤ w 0 := cN_le _ _
set_option maxHeartbeats 4000000 in
set_option maxRecDepth 100000 in
theorem metX2_isBetween (l : Launch) (G : va_G) (dA : Nat → ClassId) (dS : Nat → Nat) (B0 sz : Nat) (v : Int32) (lo : Int32) (hi : Int32) : Met l yX2_isBetween (ws_ yX2_isBetween cX2_isBetween 3 (some FieldType.boolean)) ({ frames := 0, cells := 0, slots := 0, locals := 0 }) (zP G dA dS B0 [.int (v), .int (lo), .int (hi)] sz [] (fun H => True)) (zQi G (fun (r : Int32) (u : Unit) => r = nI (bN (inR v lo hi))) (fun (u : Unit) => []) (fun (u : Unit) (H : Heap) => True) (va_A [] sz)) 0 0 (va_A [] sz) := by
  refine zM (by decide) (Nat.le_of_ble_eq_true rfl) ?_
  intro p e s m below meth c ls A H locs hHe hx hb hr hlocks hml hown hname hts hX hsz hB hAe hA hAB hH hRo hl
  have hl : lv_has ls 3 [(0, .int (v)), (1, .int (lo)), (2, .int (hi))] := hl
  refine lv_iload_n hx hb dX2_isBetween_0 rfl (lv_at hl 1 rfl) ?_
  refine lv_iload_n hx hb dX2_isBetween_1 rfl (lv_at hl 0 rfl) ?_
  refine lv_icmp_gt (tgt := 14) hx hb dX2_isBetween_2 (by decide) (fun c_2_1 => ?_) (fun c_2_1 => ?_)
  · skip
    refine lv_iconst (v := nI 0) hx hb dX2_isBetween_14 (by decide) ?_
    exact z_zret hx hb hr hlocks hH (by first | rfl | exact z_narB _ | decide) (u := ()) (by first | (rw [inR_lo (by assumption)]; rfl) | (rw [inR_hi (by assumption)]; rfl) | (rw [inR_t (by assumption) (by assumption)]; rfl)) ⟨hH.1, hH.2.1⟩ trivial (Nat.le_of_ble_eq_true rfl) (Nat.le_of_ble_eq_true rfl) dX2_isBetween_15
  · skip
    refine lv_iload_n hx hb dX2_isBetween_5 rfl (lv_at hl 0 rfl) ?_
    refine lv_iload_n hx hb dX2_isBetween_6 rfl (lv_at hl 2 rfl) ?_
    refine lv_icmp_gt (tgt := 14) hx hb dX2_isBetween_7 (by decide) (fun c_7_2 => ?_) (fun c_7_2 => ?_)
    · skip
      refine lv_iconst (v := nI 0) hx hb dX2_isBetween_14 (by decide) ?_
      exact z_zret hx hb hr hlocks hH (by first | rfl | exact z_narB _ | decide) (u := ()) (by first | (rw [inR_lo (by assumption)]; rfl) | (rw [inR_hi (by assumption)]; rfl) | (rw [inR_t (by assumption) (by assumption)]; rfl)) ⟨hH.1, hH.2.1⟩ trivial (Nat.le_of_ble_eq_true rfl) (Nat.le_of_ble_eq_true rfl) dX2_isBetween_15
    · skip
      refine lv_iconst (v := nI 1) hx hb dX2_isBetween_10 (by decide) ?_
      refine lv_goto (tgt := 15) hx hb dX2_isBetween_11 (by decide) ?_
      exact z_zret hx hb hr hlocks hH (by first | rfl | exact z_narB _ | decide) (u := ()) (by first | (rw [inR_lo (by assumption)]; rfl) | (rw [inR_hi (by assumption)]; rfl) | (rw [inR_t (by assumption) (by assumption)]; rfl)) ⟨hH.1, hH.2.1⟩ trivial (Nat.le_of_ble_eq_true rfl) (Nat.le_of_ble_eq_true rfl) dX2_isBetween_15

set_option maxHeartbeats 4000000 in
set_option maxRecDepth 100000 in
theorem metX2_isWell (l : Launch) (G : va_G) (dA : Nat → ClassId) (dS : Nat → Nat) (B0 sz : Nat) (v : Int32) : Met l yX2_isWell (ws_ yX2_isWell cX2_isWell 1 (some FieldType.boolean)) ({ frames := 1, cells := 0, slots := 0, locals := 22 }) (zP G dA dS B0 [.int (v)] sz [] (fun H => True)) (zQi G (fun (r : Int32) (u : Unit) => r = nI (bN (inR v (nI 0) (nI 3)))) (fun (u : Unit) => []) (fun (u : Unit) (H : Heap) => True) (va_A [] sz)) 0 0 (va_A [] sz) := by
  refine zM (by decide) (Nat.le_of_ble_eq_true rfl) ?_
  intro p e s m below meth c ls A H locs hHe hx hb hr hlocks hml hown hname hts hX hsz hB hAe hA hAB hH hRo hl
  have hl : lv_has ls 1 [(0, .int (v))] := hl
  refine lv_iload_n hx hb dX2_isWell_0 rfl (lv_at hl 0 rfl) ?_
  refine lv_iconst (v := nI 0) hx hb dX2_isWell_1 (by decide) ?_
  refine lv_iconst (v := nI 3) hx hb dX2_isWell_2 (by decide) ?_
  refine z_ci (wr := []) (va_runS (As := [.int (v), .int (nI 0), .int (nI 3)]) (rest := []) ⟨hx, hb, hml, hown, hts⟩ (metX2_isBetween l G dA dS B0 H.size v (nI 0) (nI 3)) (va_cwS 3 hts (lw_S q2001 q2002 q91 q2003) rfl rfl rfl (by decide +kernel) ⟨Nat.le_of_ble_eq_true rfl, Nat.le_of_ble_eq_true rfl⟩) (zPS hX hH hB hAB [] rfl rfl trivial) rfl rfl hl.1 rfl (lv_room (Nat.le_of_ble_eq_true rfl)) dX2_isWell_3 ⟨(Nat.le_of_ble_eq_true rfl), (Nat.le_of_ble_eq_true rfl)⟩) hH hA [] [] rfl rfl (by decide) (by decide) (fun r_1 u_r_1 H locs hw_r_1 hH hR_r_1 hk_r_1 => ?_)
  obtain rfl := hw_r_1
  have hH : zH G A s.heap [] H locs := hH
  exact z_zret hx hb hr hlocks hH (by first | rfl | exact z_narB _ | decide) (u := ()) (by rfl) ⟨hH.1, hH.2.1⟩ trivial (Nat.le_of_ble_eq_true rfl) (Nat.le_of_ble_eq_true rfl) dX2_isWell_6

set_option maxHeartbeats 4000000 in
set_option maxRecDepth 100000 in
theorem metX2_isNot (l : Launch) (G : va_G) (dA : Nat → ClassId) (dS : Nat → Nat) (B0 sz : Nat) (q : Nat → Nat) (M : mS) (a : Nat) (b : Nat) : Met l yX2_isNot (ws_ yX2_isNot cX2_isNot 3 (some FieldType.int)) ({ frames := 0, cells := 0, slots := 0, locals := 0 }) (zP G dA dS B0 [.ref (q 0), .int (nI a), .int (nI b)] sz (mW dA q M) (fun H => True)) (zQi G (fun (r : Int32) (u : Unit) => r = (-5)) (fun (u : Unit) => mW dA q (mNot M a b)) (fun (u : Unit) (H : Heap) => True) (va_A (mW dA q M) sz)) 0 0 (va_A (mW dA q M) sz) := by
  refine zM (by decide) (Nat.le_of_ble_eq_true rfl) ?_
  intro p e s m below meth c ls A H locs hHe hx hb hr hlocks hml hown hname hts hX hsz hB hAe hA hAB hH hRo hl
  have hl : lv_has ls 3 [(0, .ref (q 0)), (1, .int (nI a)), (2, .int (nI b))] := hl
  refine lv_aload_n hx hb dX2_isNot_0 rfl (lv_at hl 0 rfl) ?_
  refine lv_iload_n hx hb dX2_isNot_1 rfl (lv_at hl 1 rfl) ?_
  refine z_put hx hb hts hown hX kX2 4 (by decide) hH 0 rfl q2014 (fun _ h9 => h9) rfl rfl rfl (Nat.le_of_ble_eq_true rfl) dX2_isNot_2 (fun H locs hH => ?_)
  have hH : zH G A s.heap (mW dA q (mu M 0 4 a)) H locs := hH
  refine lv_aload_n hx hb dX2_isNot_5 rfl (lv_at hl 0 rfl) ?_
  refine lv_iload_n hx hb dX2_isNot_6 rfl (lv_at hl 2 rfl) ?_
  refine z_put hx hb hts hown hX kX2 5 (by decide) hH 0 rfl q2015 (fun _ h9 => h9) rfl rfl rfl (Nat.le_of_ble_eq_true rfl) dX2_isNot_7 (fun H locs hH => ?_)
  have hH : zH G A s.heap (mW dA q (mu (mu M 0 4 a) 0 5 b)) H locs := hH
  refine lv_bipush (v := (-5)) hx hb dX2_isNot_10 (by decide) ?_
  exact z_iret hx hb hr hlocks hH (u := ()) (by rfl) ⟨hH.1, hH.2.1⟩ trivial (Nat.le_of_ble_eq_true rfl) (Nat.le_of_ble_eq_true rfl) dX2_isNot_12

set_option maxHeartbeats 4000000 in
set_option maxRecDepth 100000 in
theorem metX2_answers (l : Launch) (G : va_G) (dA : Nat → ClassId) (dS : Nat → Nat) (B0 sz : Nat) (q : Nat → Nat) (M : mS) (a : Int32) : Met l yX2_answers (ws_ yX2_answers cX2_answers 2 (some FieldType.int)) ({ frames := 0, cells := 0, slots := 0, locals := 0 }) (zP G dA dS B0 [.ref (q 0), .int (a)] sz (mW dA q M) (fun H => True)) (zQi G (fun (r : Int32) (u : Unit) => r = a) (fun (u : Unit) => mW dA q (mAns M a)) (fun (u : Unit) (H : Heap) => True) (va_A (mW dA q M) sz)) 0 0 (va_A (mW dA q M) sz) := by
  refine zM (by decide) (Nat.le_of_ble_eq_true rfl) ?_
  intro p e s m below meth c ls A H locs hHe hx hb hr hlocks hml hown hname hts hX hsz hB hAe hA hAB hH hRo hl
  have hl : lv_has ls 2 [(0, .ref (q 0)), (1, .int (a))] := hl
  refine lv_iload_n hx hb dX2_answers_0 rfl (lv_at hl 1 rfl) ?_
  refine lv_bipush (v := (-5)) hx hb dX2_answers_1 (by decide) ?_
  refine lv_icmp_eq (tgt := 8) hx hb dX2_answers_3 (by decide) (fun c_3_1 => ?_) (fun c_3_1 => ?_)
  · skip
    refine lv_aload_n hx hb dX2_answers_8 rfl (lv_at hl 0 rfl) ?_
    refine lv_aload_n hx hb dX2_answers_9 rfl (lv_at hl 0 rfl) ?_
    refine z_get (v := .int (nI (M 0 4))) hx hb hts hown hX kX2 4 (by decide) (hH.at 0 rfl) rfl q2014 (fun _ h9 => h9) dX2_answers_10 ?_
    refine z_put hx hb hts hown hX kX2 0 (by decide) hH 0 rfl q2010 (fun _ h9 => h9) rfl rfl rfl (Nat.le_of_ble_eq_true rfl) dX2_answers_13 (fun H locs hH => ?_)
    have hH : zH G A s.heap (mW dA q (mu M 0 0 (M 0 4))) H locs := hH
    refine lv_aload_n hx hb dX2_answers_16 rfl (lv_at hl 0 rfl) ?_
    refine lv_aload_n hx hb dX2_answers_17 rfl (lv_at hl 0 rfl) ?_
    refine z_get (v := .int (nI (M 0 5))) hx hb hts hown hX kX2 5 (by decide) (hH.at 0 rfl) rfl q2015 (fun _ h9 => h9) dX2_answers_18 ?_
    refine z_put hx hb hts hown hX kX2 1 (by decide) hH 0 rfl q2011 (fun _ h9 => h9) rfl rfl rfl (Nat.le_of_ble_eq_true rfl) dX2_answers_21 (fun H locs hH => ?_)
    have hH : zH G A s.heap (mW dA q (mu (mu M 0 0 (M 0 4)) 0 1 (M 0 5))) H locs := hH
    refine lv_aload_n hx hb dX2_answers_24 rfl (lv_at hl 0 rfl) ?_
    refine lv_iconst (v := nI 0) hx hb dX2_answers_25 (by decide) ?_
    refine z_put hx hb hts hown hX kX2 2 (by decide) hH 0 rfl q2012 (fun _ h9 => h9) rfl rfl rfl (Nat.le_of_ble_eq_true rfl) dX2_answers_26 (fun H locs hH => ?_)
    have hH : zH G A s.heap (mW dA q (mu (mu (mu M 0 0 (M 0 4)) 0 1 (M 0 5)) 0 2 0)) H locs := hH
    refine lv_iload_n hx hb dX2_answers_29 rfl (lv_at hl 1 rfl) ?_
    have eM : mu (mu (mu M 0 0 (M 0 4)) 0 1 (M 0 5)) 0 2 0 = mAns M a := by simp [mAns, c_3_1]
    rw [eM] at hH
    exact z_iret hx hb hr hlocks hH (u := ()) (by rfl) ⟨hH.1, hH.2.1⟩ trivial (Nat.le_of_ble_eq_true rfl) (Nat.le_of_ble_eq_true rfl) dX2_answers_30
  · skip
    refine lv_iload_n hx hb dX2_answers_6 rfl (lv_at hl 1 rfl) ?_
    have eM : M = mAns M a := by simp [mAns, c_3_1]
    rw [eM] at hH
    exact z_iret hx hb hr hlocks hH (u := ()) (by rfl) ⟨hH.1, hH.2.1⟩ trivial (Nat.le_of_ble_eq_true rfl) (Nat.le_of_ble_eq_true rfl) dX2_answers_7

set_option maxHeartbeats 4000000 in
set_option maxRecDepth 100000 in
theorem metX2_is (l : Launch) (G : va_G) (dA : Nat → ClassId) (dS : Nat → Nat) (B0 sz : Nat) (q : Nat → Nat) (M : mS) (k : Nat) (j : Nat) (hk : k < 12) (hj : j < 5) : Met l yX2_is (ws_ yX2_is cX2_is 3 (some FieldType.int)) ({ frames := 0, cells := 0, slots := 0, locals := 0 }) (zP G dA dS B0 [.ref (q 0), .int (nI k), .int (nI j)] sz (mW dA q M) (fun H => True)) (zQi G (fun (r : Int32) (u : Unit) => r = nI (jk (M 1) k j)) (fun (u : Unit) => mW dA q M) (fun (u : Unit) (H : Heap) => True) (va_A (mW dA q M) sz)) 0 0 (va_A (mW dA q M) sz) := by
  refine zM (by decide) (Nat.le_of_ble_eq_true rfl) ?_
  intro p e s m below meth c ls A H locs hHe hx hb hr hlocks hml hown hname hts hX hsz hB hAe hA hAB hH hRo hl
  have hl : lv_has ls 3 [(0, .ref (q 0)), (1, .int (nI k)), (2, .int (nI j))] := hl
  refine lv_aload_n hx hb dX2_is_0 rfl (lv_at hl 0 rfl) ?_
  refine z_get (v := .ref (q 1)) hx hb hts hown hX kX2 6 (by decide) (hH.at 0 rfl) rfl q2016 (fun _ h9 => h9) dX2_is_1 ?_
  refine lv_bipush (v := nI 22) hx hb dX2_is_4 (by decide) ?_
  refine lv_iconst (v := nI 5) hx hb dX2_is_6 (by decide) ?_
  refine lv_iload_n hx hb dX2_is_7 rfl (lv_at hl 1 rfl) ?_
  refine lv_imul hx hb dX2_is_8 ?_
  refine z_topi (y := nI (5 * k)) (pk_mul _ _) ?_
  refine lv_iadd hx hb dX2_is_9 ?_
  refine z_topi (y := nI (22 + (5 * k))) (nI_add _ _) ?_
  refine lv_iload_n hx hb dX2_is_10 rfl (lv_at hl 2 rfl) ?_
  refine lv_iadd hx hb dX2_is_11 ?_
  refine z_topi (y := nI ((22 + (5 * k)) + j)) (nI_add _ _) ?_
  refine z_iald (x := nI (M 1 ((22 + (5 * k)) + j))) hx hb hX (k := ((22 + (5 * k)) + j))  (hH.at 1 rfl) rfl (by omega) (by omega) rfl dX2_is_12 ?_
  exact z_iret hx hb hr hlocks hH (u := ()) (by rfl) ⟨hH.1, hH.2.1⟩ trivial (Nat.le_of_ble_eq_true rfl) (Nat.le_of_ble_eq_true rfl) dX2_is_13

set_option maxHeartbeats 4000000 in
set_option maxRecDepth 100000 in
theorem metX2_isJoke (l : Launch) (G : va_G) (dA : Nat → ClassId) (dS : Nat → Nat) (B0 sz : Nat) (q : Nat → Nat) (M : mS) (a : Int32) : Met l yX2_isJoke (ws_ yX2_isJoke cX2_isJoke 2 (some FieldType.boolean)) ({ frames := 1, cells := 0, slots := 0, locals := 22 }) (zP G dA dS B0 [.ref (q 0), .int (a)] sz (mW dA q M) (fun H => True)) (zQi G (fun (r : Int32) (u : Unit) => r = nI (bN (inR a (nI 0) (nI (M 1 0) - nI 1)))) (fun (u : Unit) => mW dA q M) (fun (u : Unit) (H : Heap) => True) (va_A (mW dA q M) sz)) 0 0 (va_A (mW dA q M) sz) := by
  refine zM (by decide) (Nat.le_of_ble_eq_true rfl) ?_
  intro p e s m below meth c ls A H locs hHe hx hb hr hlocks hml hown hname hts hX hsz hB hAe hA hAB hH hRo hl
  have hl : lv_has ls 2 [(0, .ref (q 0)), (1, .int (a))] := hl
  refine lv_iload_n hx hb dX2_isJoke_0 rfl (lv_at hl 1 rfl) ?_
  refine lv_iconst (v := nI 0) hx hb dX2_isJoke_1 (by decide) ?_
  refine lv_aload_n hx hb dX2_isJoke_2 rfl (lv_at hl 0 rfl) ?_
  refine z_get (v := .ref (q 1)) hx hb hts hown hX kX2 6 (by decide) (hH.at 0 rfl) rfl q2016 (fun _ h9 => h9) dX2_isJoke_3 ?_
  refine lv_iconst (v := nI 0) hx hb dX2_isJoke_6 (by decide) ?_
  refine z_iald (x := nI (M 1 0)) hx hb hX (k := 0)  (hH.at 1 rfl) rfl (by omega) (by omega) rfl dX2_isJoke_7 ?_
  refine lv_iconst (v := nI 1) hx hb dX2_isJoke_8 (by decide) ?_
  refine lv_isub hx hb dX2_isJoke_9 ?_
  refine z_ci (wr := mW dA q M) (va_runS (As := [.int (a), .int (nI 0), .int ((nI (M 1 0)) - (nI 1))]) (rest := []) ⟨hx, hb, hml, hown, hts⟩ (metX2_isBetween l G dA dS B0 H.size a (nI 0) ((nI (M 1 0)) - (nI 1))) (va_cwS 3 hts (lw_S q2001 q2002 q91 q2003) rfl rfl rfl (by decide +kernel) ⟨Nat.le_of_ble_eq_true rfl, Nat.le_of_ble_eq_true rfl⟩) (zPS hX hH hB hAB [] rfl rfl trivial) rfl rfl hl.1 rfl (lv_room (Nat.le_of_ble_eq_true rfl)) dX2_isJoke_10 ⟨(Nat.le_of_ble_eq_true rfl), (Nat.le_of_ble_eq_true rfl)⟩) hH hA [] [0, 1, 2, 3, 4, 5, 6, 7, 8] rfl rfl (by decide) (by decide) (fun r_1 u_r_1 H locs hw_r_1 hH hR_r_1 hk_r_1 => ?_)
  obtain rfl := hw_r_1
  have hH : zH G A s.heap (mW dA q M) H locs := hH
  exact z_zret hx hb hr hlocks hH (by first | rfl | exact z_narB _ | decide) (u := ()) (by rfl) ⟨hH.1, hH.2.1⟩ trivial (Nat.le_of_ble_eq_true rfl) (Nat.le_of_ble_eq_true rfl) dX2_isJoke_13

set_option maxHeartbeats 4000000 in
set_option maxRecDepth 100000 in
theorem metX2_isKnownSign (l : Launch) (G : va_G) (dA : Nat → ClassId) (dS : Nat → Nat) (B0 sz : Nat) (q : Nat → Nat) (M : mS) (sg : Nat) (hsg : sg < 64) (hk32 : M 1 (12 + sg / 32) < 2 ^ 32) : Met l yX2_isKnownSign (ws_ yX2_isKnownSign cX2_isKnownSign 2 (some FieldType.boolean)) ({ frames := 0, cells := 0, slots := 0, locals := 0 }) (zP G dA dS B0 [.ref (q 0), .int (nI sg)] sz (mW dA q M) (fun H => True)) (zQi G (fun (r : Int32) (u : Unit) => r = nI (bN (kn (M 1) sg))) (fun (u : Unit) => mW dA q M) (fun (u : Unit) (H : Heap) => True) (va_A (mW dA q M) sz)) 0 0 (va_A (mW dA q M) sz) := by
  refine zM (by decide) (Nat.le_of_ble_eq_true rfl) ?_
  intro p e s m below meth c ls A H locs hHe hx hb hr hlocks hml hown hname hts hX hsz hB hAe hA hAB hH hRo hl
  have hl : lv_has ls 2 [(0, .ref (q 0)), (1, .int (nI sg))] := hl
  refine lv_aload_n hx hb dX2_isKnownSign_0 rfl (lv_at hl 0 rfl) ?_
  refine z_get (v := .ref (q 1)) hx hb hts hown hX kX2 6 (by decide) (hH.at 0 rfl) rfl q2016 (fun _ h9 => h9) dX2_isKnownSign_1 ?_
  refine lv_bipush (v := nI 12) hx hb dX2_isKnownSign_4 (by decide) ?_
  refine lv_iload_n hx hb dX2_isKnownSign_6 rfl (lv_at hl 1 rfl) ?_
  refine lv_bipush (v := nI 32) hx hb dX2_isKnownSign_7 (by decide) ?_
  refine lv_idiv hx hb dX2_isKnownSign_9 (by decide) ?_
  refine z_topi (y := nI (sg / 32)) (pk_div (by omega) (by omega) (by omega)) ?_
  refine lv_iadd hx hb dX2_isKnownSign_10 ?_
  refine z_topi (y := nI (12 + (sg / 32))) (nI_add _ _) ?_
  refine z_iald (x := nI (M 1 (12 + (sg / 32)))) hx hb hX (k := (12 + (sg / 32)))  (hH.at 1 rfl) rfl (by omega) (by omega) rfl dX2_isKnownSign_11 ?_
  refine lv_iload_n hx hb dX2_isKnownSign_12 rfl (lv_at hl 1 rfl) ?_
  refine lv_bipush (v := nI 32) hx hb dX2_isKnownSign_13 (by decide) ?_
  refine lv_irem hx hb dX2_isKnownSign_15 (by decide) ?_
  refine z_topi (y := nI (sg % 32)) (pk_rem (by omega) (by omega) (by omega)) ?_
  refine lv_ishr hx hb dX2_isKnownSign_16 ?_
  refine lv_iconst (v := nI 1) hx hb dX2_isKnownSign_17 (by decide) ?_
  refine lv_iand hx hb dX2_isKnownSign_18 ?_
  refine lv_iconst (v := nI 1) hx hb dX2_isKnownSign_19 (by decide) ?_
  refine lv_icmp_ne (tgt := 27) hx hb dX2_isKnownSign_20 (by decide) (fun c_20_1 => ?_) (fun c_20_1 => ?_)
  · skip
    refine lv_iconst (v := nI 0) hx hb dX2_isKnownSign_27 (by decide) ?_
    exact z_zret hx hb hr hlocks hH (by first | rfl | exact z_narB _ | decide) (u := ()) (by have hx9 := sh_bit (M 1 (12 + sg / 32)) (sg % 32) hk32 (by omega); first | (rw [kn, hx9.mp (by assumption)]; rfl) | (rw [kn, Bool.eq_false_iff.mpr (fun z => absurd (hx9.mpr z) (by assumption))]; rfl)) ⟨hH.1, hH.2.1⟩ trivial (Nat.le_of_ble_eq_true rfl) (Nat.le_of_ble_eq_true rfl) dX2_isKnownSign_28
  · skip
    refine lv_iconst (v := nI 1) hx hb dX2_isKnownSign_23 (by decide) ?_
    refine lv_goto (tgt := 28) hx hb dX2_isKnownSign_24 (by decide) ?_
    exact z_zret hx hb hr hlocks hH (by first | rfl | exact z_narB _ | decide) (u := ()) (by have hx9 := sh_bit (M 1 (12 + sg / 32)) (sg % 32) hk32 (by omega); first | (rw [kn, hx9.mp (by assumption)]; rfl) | (rw [kn, Bool.eq_false_iff.mpr (fun z => absurd (hx9.mpr z) (by assumption))]; rfl)) ⟨hH.1, hH.2.1⟩ trivial (Nat.le_of_ble_eq_true rfl) (Nat.le_of_ble_eq_true rfl) dX2_isKnownSign_28

set_option maxHeartbeats 4000000 in
set_option maxRecDepth 100000 in
theorem metX2_jokesIn (l : Launch) (G : va_G) (dA : Nat → ClassId) (dS : Nat → Nat) (B0 sz : Nat) (q : Nat → Nat) (M : mS) (a : Nat) (ha : a < 2 ^ 31) (hbw : ∀ k, k ≠ 12 → k ≠ 13 → M 1 k < 2 ^ 31) (h12 : M 1 0 ≤ 12) : Met l yX2_jokesIn (ws_ yX2_jokesIn cX2_jokesIn 4 (some FieldType.int)) ({ frames := 1, cells := 0, slots := 0, locals := 22 }) (zP G dA dS B0 [.ref (q 0), .int (nI a)] sz (mW dA q M) (fun H => True)) (zQi G (fun (r : Int32) (u : Unit) => r = nI (jin (M 1) a)) (fun (u : Unit) => mW dA q M) (fun (u : Unit) (H : Heap) => True) (va_A (mW dA q M) sz)) 0 0 (va_A (mW dA q M) sz) := by
  refine zM (by decide) (Nat.le_of_ble_eq_true rfl) ?_
  intro p e s m below meth c ls A H locs hHe hx hb hr hlocks hml hown hname hts hX hsz hB hAe hA hAB hH hRo hl
  have hl : lv_has ls 4 [(0, .ref (q 0)), (1, .int (nI a))] := hl
  refine lv_iconst (v := nI 0) hx hb dX2_jokesIn_0 (by decide) ?_
  refine lv_istore_n (lv' := [(2, .int (nI 0)), (0, .ref (q 0)), (1, .int (nI a))]) hx hb dX2_jokesIn_1 rfl hl (by decide) rfl (fun ls hl => ?_)
  refine lv_iconst (v := nI 0) hx hb dX2_jokesIn_2 (by decide) ?_
  refine lv_istore_n (lv' := [(3, .int (nI 0)), (2, .int (nI 0)), (0, .ref (q 0)), (1, .int (nI a))]) hx hb dX2_jokesIn_3 rfl hl (by decide) rfl (fun ls hl => ?_)
  have LP4_0 : ∀ (fuel : Nat) (i : Nat) (hfu : (M 1 0 - i) < fuel) (hi : i ≤ M 1 0) (H : Heap) (locs : List Loc), zH G A s.heap (mW dA q M) H locs → ∀ (ls : Array Slot), lv_has ls 4 [(0, .ref (q 0)), (1, .int (nI a)), (2, .int (nI (cN (fun k => decide (jk (M 1) k 0 = a)) i))), (3, .int (nI i))] → W p l e (headSpec (ws_ yX2_jokesIn cX2_jokesIn 4 (some FieldType.int)) ({ frames := 1, cells := 0, slots := 0, locals := 22 })).room s m ([.ref (q 0), .int (nI a)] : List Value).toArray below meth c H locs 0 0 (MQ below (zQi G (fun (r : Int32) (u : Unit) => r = nI (jin (M 1) a)) (fun (u : Unit) => mW dA q M) (fun (u : Unit) (H : Heap) => True) A) ([.ref (q 0), .int (nI a)] : List Value).toArray s 0 0 A) (F0 m 4 ls []) := by
    intro fuel
    induction fuel with
    | zero => intro i hfu; exact absurd hfu (Nat.not_lt_zero _)
    | succ fuel ih =>
      intro i hfu hi H locs hH ls hl
      refine lv_iload_n hx hb dX2_jokesIn_4 rfl (lv_at hl 3 rfl) ?_
      refine lv_aload_n hx hb dX2_jokesIn_5 rfl (lv_at hl 0 rfl) ?_
      refine z_get (v := .ref (q 1)) hx hb hts hown hX kX2 6 (by decide) (hH.at 0 rfl) rfl q2016 (fun _ h9 => h9) dX2_jokesIn_6 ?_
      refine lv_iconst (v := nI 0) hx hb dX2_jokesIn_9 (by decide) ?_
      refine z_iald (x := nI (M 1 0)) hx hb hX (k := 0)  (hH.at 1 rfl) rfl (by omega) (by omega) rfl dX2_jokesIn_10 ?_
      have hbd_2 := hbw 0 (by omega) (by omega)
      refine z_icmp_ge (tgt := 38) hx hb dX2_jokesIn_11 (by decide) (by omega) (by omega) (fun c_11_3 => ?_) (fun c_11_3 => ?_)
      · skip
        have dc_11_3 := Nat.not_lt.mp c_11_3
        refine lv_iload_n hx hb dX2_jokesIn_38 rfl (lv_at hl 2 rfl) ?_
        exact z_iret hx hb hr hlocks hH (u := ()) (by have e : i = M 1 0 := (by omega); subst e; rfl) ⟨hH.1, hH.2.1⟩ trivial (Nat.le_of_ble_eq_true rfl) (Nat.le_of_ble_eq_true rfl) dX2_jokesIn_39
      · skip
        refine lv_iload_n hx hb dX2_jokesIn_14 rfl (lv_at hl 2 rfl) ?_
        refine lv_aload_n hx hb dX2_jokesIn_15 rfl (lv_at hl 0 rfl) ?_
        refine lv_iload_n hx hb dX2_jokesIn_16 rfl (lv_at hl 3 rfl) ?_
        refine lv_iconst (v := nI 0) hx hb dX2_jokesIn_17 (by decide) ?_
        refine z_ci (wr := []) (va_runV (As := [.int (nI i), .int (nI 0)]) (rest := [.int (nI (cN (fun k => decide (jk (M 1) k 0 = a)) i))]) ⟨hx, hb, hml, hown, hts⟩ (metX2_is l G dA dS B0 H.size q M i 0 (by first | exact hk | assumption | omega) (by first | exact hj | assumption | omega)) (cwV 2 hts (lw_V q2103 q2105 qs31 q91 q2106) rfl rfl rfl (by decide +kernel) ⟨Nat.le_of_ble_eq_true rfl, Nat.le_of_ble_eq_true rfl⟩) (zPV hX hH hB hAB (z_recv hX kX2 (hH.at 0 rfl)) [0, 1, 2, 3, 4, 5, 6, 7, 8] rfl rfl trivial) rfl rfl hl.1 rfl (lv_room (Nat.le_of_ble_eq_true rfl)) dX2_jokesIn_18 ⟨(Nat.le_of_ble_eq_true rfl), (Nat.le_of_ble_eq_true rfl)⟩) hH hA [0, 1, 2, 3, 4, 5, 6, 7, 8] [] rfl rfl (by decide) (by decide) (fun r_4 u_r_4 H locs hw_r_4 hH hR_r_4 hk_r_4 => ?_)
        obtain rfl := hw_r_4
        have hH : zH G A s.heap (mW dA q M) H locs := hH
        have hbd_5 : jk (M 1) i 0 < 2 ^ 31 := hbw _ (by omega) (by omega)
        refine lv_iload_n hx hb dX2_jokesIn_21 rfl (lv_at hl 1 rfl) ?_
        refine z_icmp_ne (tgt := 29) hx hb dX2_jokesIn_22 (by decide) (by omega) (by omega) (fun c_22_6 => ?_) (fun c_22_6 => ?_)
        · skip
          refine lv_iconst (v := nI 0) hx hb dX2_jokesIn_29 (by decide) ?_
          refine lv_iadd hx hb dX2_jokesIn_30 ?_
          refine z_topi (y := nI (cN (fun k => decide (jk (M 1) k 0 = a)) i)) (nI_add _ _) ?_
          refine lv_istore_n (lv' := [(2, .int (nI (cN (fun k => decide (jk (M 1) k 0 = a)) i))), (0, .ref (q 0)), (1, .int (nI a)), (3, .int (nI i))]) hx hb dX2_jokesIn_31 rfl hl (by decide) rfl (fun ls hl => ?_)
          refine lv_iinc (v := nI (i + 1)) (lv' := [(3, .int (nI (i + 1))), (2, .int (nI (cN (fun k => decide (jk (M 1) k 0 = a)) i))), (0, .ref (q 0)), (1, .int (nI a))]) hx hb dX2_jokesIn_32 hl (k := 3) rfl (nI_1 _) (by decide) rfl (fun ls hl => ?_)
          refine lv_goto (tgt := 4) hx hb dX2_jokesIn_35 (by decide) ?_
          have ev_7 : nI (cN (fun k => decide (jk (M 1) k 0 = a)) i) = nI (cN (fun k => decide (jk (M 1) k 0 = a)) (i + 1)) := by first | rfl | (congr 1; done) | (congr 1; simp [cN, bN, c_11_3, c_22_6]; done) | (congr 1; simp [cN, bN, c_11_3, c_22_6]; omega)
          have hl : lv_has ls 4 [(0, .ref (q 0)), (1, .int (nI a)), (2, .int (nI (cN (fun k => decide (jk (M 1) k 0 = a)) (i + 1)))), (3, .int (nI (i + 1)))] := z_lv (lv_sub hl [2, 3, 1, 0] rfl) (by rw [ev_7] <;> rfl)
          exact ih (i + 1) (by omega) (by omega) _ _ hH ls (lv_sub hl [0, 1, 2, 3] rfl)
        · skip
          refine lv_iconst (v := nI 1) hx hb dX2_jokesIn_25 (by decide) ?_
          refine lv_goto (tgt := 30) hx hb dX2_jokesIn_26 (by decide) ?_
          refine lv_iadd hx hb dX2_jokesIn_30 ?_
          refine z_topi (y := nI (cN (fun k => decide (jk (M 1) k 0 = a)) i + 1)) (nI_add _ _) ?_
          refine lv_istore_n (lv' := [(2, .int (nI (cN (fun k => decide (jk (M 1) k 0 = a)) i + 1))), (0, .ref (q 0)), (1, .int (nI a)), (3, .int (nI i))]) hx hb dX2_jokesIn_31 rfl hl (by decide) rfl (fun ls hl => ?_)
          refine lv_iinc (v := nI (i + 1)) (lv' := [(3, .int (nI (i + 1))), (2, .int (nI (cN (fun k => decide (jk (M 1) k 0 = a)) i + 1))), (0, .ref (q 0)), (1, .int (nI a))]) hx hb dX2_jokesIn_32 hl (k := 3) rfl (nI_1 _) (by decide) rfl (fun ls hl => ?_)
          refine lv_goto (tgt := 4) hx hb dX2_jokesIn_35 (by decide) ?_
          have ev_8 : nI (cN (fun k => decide (jk (M 1) k 0 = a)) i + 1) = nI (cN (fun k => decide (jk (M 1) k 0 = a)) (i + 1)) := by first | rfl | (congr 1; done) | (congr 1; simp [cN, bN, c_11_3, c_22_6]; done) | (congr 1; simp [cN, bN, c_11_3, c_22_6]; omega)
          have hl : lv_has ls 4 [(0, .ref (q 0)), (1, .int (nI a)), (2, .int (nI (cN (fun k => decide (jk (M 1) k 0 = a)) (i + 1)))), (3, .int (nI (i + 1)))] := z_lv (lv_sub hl [2, 3, 1, 0] rfl) (by rw [ev_8] <;> rfl)
          exact ih (i + 1) (by omega) (by omega) _ _ hH ls (lv_sub hl [0, 1, 2, 3] rfl)
  have ev_9 : nI 0 = nI (cN (fun k => decide (jk (M 1) k 0 = a)) 0) := by first | rfl | (congr 1; done) | (congr 1; simp [cN, bN]; done) | (congr 1; simp [cN, bN]; omega)
  have hl : lv_has ls 4 [(0, .ref (q 0)), (1, .int (nI a)), (2, .int (nI (cN (fun k => decide (jk (M 1) k 0 = a)) 0))), (3, .int (nI 0))] := z_lv (lv_sub hl [2, 3, 1, 0] rfl) (by rw [ev_9] <;> rfl)
  exact LP4_0 ((M 1 0 - 0) + 1) 0 (Nat.lt_succ_self _) (by omega) _ _ hH ls (lv_sub hl [0, 1, 2, 3] rfl)

set_option maxHeartbeats 4000000 in
set_option maxRecDepth 100000 in
theorem metX2_jokeWith (l : Launch) (G : va_G) (dA : Nat → ClassId) (dS : Nat → Nat) (B0 sz : Nat) (q : Nat → Nat) (M : mS) (a : Nat) (ha : a < 2 ^ 31) (hbw : ∀ k, k ≠ 12 → k ≠ 13 → M 1 k < 2 ^ 31) (h12 : M 1 0 ≤ 12) : Met l yX2_jokeWith (ws_ yX2_jokeWith cX2_jokeWith 3 (some FieldType.int)) ({ frames := 1, cells := 0, slots := 0, locals := 22 }) (zP G dA dS B0 [.ref (q 0), .int (nI a)] sz (mW dA q M) (fun H => True)) (zQi G (fun (r : Int32) (u : Unit) => r = oI (jwith (M 1) a)) (fun (u : Unit) => mW dA q M) (fun (u : Unit) (H : Heap) => True) (va_A (mW dA q M) sz)) 0 0 (va_A (mW dA q M) sz) := by
  refine zM (by decide) (Nat.le_of_ble_eq_true rfl) ?_
  intro p e s m below meth c ls A H locs hHe hx hb hr hlocks hml hown hname hts hX hsz hB hAe hA hAB hH hRo hl
  have hl : lv_has ls 3 [(0, .ref (q 0)), (1, .int (nI a))] := hl
  refine lv_iconst (v := nI 0) hx hb dX2_jokeWith_0 (by decide) ?_
  refine lv_istore_n (lv' := [(2, .int (nI 0)), (0, .ref (q 0)), (1, .int (nI a))]) hx hb dX2_jokeWith_1 rfl hl (by decide) rfl (fun ls hl => ?_)
  have LP2_0 : ∀ (fuel : Nat) (i : Nat) (hfu : (M 1 0 - i) < fuel) (hi : i ≤ M 1 0) (hf : fO (fun k => decide (jk (M 1) k 2 = a)) i = none) (H : Heap) (locs : List Loc), zH G A s.heap (mW dA q M) H locs → ∀ (ls : Array Slot), lv_has ls 3 [(0, .ref (q 0)), (1, .int (nI a)), (2, .int (nI i))] → W p l e (headSpec (ws_ yX2_jokeWith cX2_jokeWith 3 (some FieldType.int)) ({ frames := 1, cells := 0, slots := 0, locals := 22 })).room s m ([.ref (q 0), .int (nI a)] : List Value).toArray below meth c H locs 0 0 (MQ below (zQi G (fun (r : Int32) (u : Unit) => r = oI (jwith (M 1) a)) (fun (u : Unit) => mW dA q M) (fun (u : Unit) (H : Heap) => True) A) ([.ref (q 0), .int (nI a)] : List Value).toArray s 0 0 A) (F0 m 2 ls []) := by
    intro fuel
    induction fuel with
    | zero => intro i hfu; exact absurd hfu (Nat.not_lt_zero _)
    | succ fuel ih =>
      intro i hfu hi hf H locs hH ls hl
      refine lv_iload_n hx hb dX2_jokeWith_2 rfl (lv_at hl 2 rfl) ?_
      refine lv_aload_n hx hb dX2_jokeWith_3 rfl (lv_at hl 0 rfl) ?_
      refine z_get (v := .ref (q 1)) hx hb hts hown hX kX2 6 (by decide) (hH.at 0 rfl) rfl q2016 (fun _ h9 => h9) dX2_jokeWith_4 ?_
      refine lv_iconst (v := nI 0) hx hb dX2_jokeWith_7 (by decide) ?_
      refine z_iald (x := nI (M 1 0)) hx hb hX (k := 0)  (hH.at 1 rfl) rfl (by omega) (by omega) rfl dX2_jokeWith_8 ?_
      have hbd_2 := hbw 0 (by omega) (by omega)
      refine z_icmp_ge (tgt := 30) hx hb dX2_jokeWith_9 (by decide) (by omega) (by omega) (fun c_9_3 => ?_) (fun c_9_3 => ?_)
      · skip
        have dc_9_3 := Nat.not_lt.mp c_9_3
        refine lv_iconst (v := (-1)) hx hb dX2_jokeWith_30 (by decide) ?_
        exact z_iret hx hb hr hlocks hH (u := ()) (by have e : i = M 1 0 := (by omega); rw [jwith, ← e, hf]; rfl) ⟨hH.1, hH.2.1⟩ trivial (Nat.le_of_ble_eq_true rfl) (Nat.le_of_ble_eq_true rfl) dX2_jokeWith_31
      · skip
        refine lv_aload_n hx hb dX2_jokeWith_12 rfl (lv_at hl 0 rfl) ?_
        refine lv_iload_n hx hb dX2_jokeWith_13 rfl (lv_at hl 2 rfl) ?_
        refine lv_iconst (v := nI 2) hx hb dX2_jokeWith_14 (by decide) ?_
        refine z_ci (wr := []) (va_runV (As := [.int (nI i), .int (nI 2)]) (rest := []) ⟨hx, hb, hml, hown, hts⟩ (metX2_is l G dA dS B0 H.size q M i 2 (by first | exact hk | assumption | omega) (by first | exact hj | assumption | omega)) (cwV 2 hts (lw_V q2103 q2105 qs31 q91 q2106) rfl rfl rfl (by decide +kernel) ⟨Nat.le_of_ble_eq_true rfl, Nat.le_of_ble_eq_true rfl⟩) (zPV hX hH hB hAB (z_recv hX kX2 (hH.at 0 rfl)) [0, 1, 2, 3, 4, 5, 6, 7, 8] rfl rfl trivial) rfl rfl hl.1 rfl (lv_room (Nat.le_of_ble_eq_true rfl)) dX2_jokeWith_15 ⟨(Nat.le_of_ble_eq_true rfl), (Nat.le_of_ble_eq_true rfl)⟩) hH hA [0, 1, 2, 3, 4, 5, 6, 7, 8] [] rfl rfl (by decide) (by decide) (fun r_4 u_r_4 H locs hw_r_4 hH hR_r_4 hk_r_4 => ?_)
        obtain rfl := hw_r_4
        have hH : zH G A s.heap (mW dA q M) H locs := hH
        have hbd_5 : jk (M 1) i 2 < 2 ^ 31 := hbw _ (by omega) (by omega)
        refine lv_iload_n hx hb dX2_jokeWith_18 rfl (lv_at hl 1 rfl) ?_
        refine z_icmp_ne (tgt := 24) hx hb dX2_jokeWith_19 (by decide) (by omega) (by omega) (fun c_19_6 => ?_) (fun c_19_6 => ?_)
        · skip
          refine lv_iinc (v := nI (i + 1)) (lv' := [(2, .int (nI (i + 1))), (0, .ref (q 0)), (1, .int (nI a))]) hx hb dX2_jokeWith_24 hl (k := 2) rfl (nI_1 _) (by decide) rfl (fun ls hl => ?_)
          refine lv_goto (tgt := 2) hx hb dX2_jokeWith_27 (by decide) ?_
          exact ih (i + 1) (by omega) (by omega) (fO_n hf (by simp [fO_0, c_9_3, c_19_6])) _ _ hH ls (lv_sub hl [1, 2, 0] rfl)
        · skip
          refine lv_iload_n hx hb dX2_jokeWith_22 rfl (lv_at hl 2 rfl) ?_
          exact z_iret hx hb hr hlocks hH (u := ()) (by rw [jwith, fO_mono (fO_y hf (by simp [fO_0, c_9_3, c_19_6])) (M 1 0) (by omega)]; rfl) ⟨hH.1, hH.2.1⟩ trivial (Nat.le_of_ble_eq_true rfl) (Nat.le_of_ble_eq_true rfl) dX2_jokeWith_23
  exact LP2_0 ((M 1 0 - 0) + 1) 0 (Nat.lt_succ_self _) (by omega) (rfl) _ _ hH ls (lv_sub hl [1, 2, 0] rfl)

set_option maxHeartbeats 4000000 in
set_option maxRecDepth 100000 in
theorem metX2_jokeAt (l : Launch) (G : va_G) (dA : Nat → ClassId) (dS : Nat → Nat) (B0 sz : Nat) (q : Nat → Nat) (M : mS) (a : Nat) (b : Nat) (ha : a < 2 ^ 31) (hb2 : b < 2 ^ 31) (hbw : ∀ k, k ≠ 12 → k ≠ 13 → M 1 k < 2 ^ 31) (h12 : M 1 0 ≤ 12) : Met l yX2_jokeAt (ws_ yX2_jokeAt cX2_jokeAt 4 (some FieldType.int)) ({ frames := 1, cells := 0, slots := 0, locals := 22 }) (zP G dA dS B0 [.ref (q 0), .int (nI a), .int (nI b)] sz (mW dA q M) (fun H => True)) (zQi G (fun (r : Int32) (u : Unit) => r = oI (jat (M 1) a b)) (fun (u : Unit) => mW dA q M) (fun (u : Unit) (H : Heap) => True) (va_A (mW dA q M) sz)) 0 0 (va_A (mW dA q M) sz) := by
  refine zM (by decide) (Nat.le_of_ble_eq_true rfl) ?_
  intro p e s m below meth c ls A H locs hHe hx hb hr hlocks hml hown hname hts hX hsz hB hAe hA hAB hH hRo hl
  have hl : lv_has ls 4 [(0, .ref (q 0)), (1, .int (nI a)), (2, .int (nI b))] := hl
  refine lv_iconst (v := nI 0) hx hb dX2_jokeAt_0 (by decide) ?_
  refine lv_istore_n (lv' := [(3, .int (nI 0)), (0, .ref (q 0)), (1, .int (nI a)), (2, .int (nI b))]) hx hb dX2_jokeAt_1 rfl hl (by decide) rfl (fun ls hl => ?_)
  have LP2_0 : ∀ (fuel : Nat) (i : Nat) (hfu : (M 1 0 - i) < fuel) (hi : i ≤ M 1 0) (hf : fO (fun k => decide (jk (M 1) k 0 = a) && decide (jk (M 1) k 1 = b)) i = none) (H : Heap) (locs : List Loc), zH G A s.heap (mW dA q M) H locs → ∀ (ls : Array Slot), lv_has ls 4 [(0, .ref (q 0)), (1, .int (nI a)), (2, .int (nI b)), (3, .int (nI i))] → W p l e (headSpec (ws_ yX2_jokeAt cX2_jokeAt 4 (some FieldType.int)) ({ frames := 1, cells := 0, slots := 0, locals := 22 })).room s m ([.ref (q 0), .int (nI a), .int (nI b)] : List Value).toArray below meth c H locs 0 0 (MQ below (zQi G (fun (r : Int32) (u : Unit) => r = oI (jat (M 1) a b)) (fun (u : Unit) => mW dA q M) (fun (u : Unit) (H : Heap) => True) A) ([.ref (q 0), .int (nI a), .int (nI b)] : List Value).toArray s 0 0 A) (F0 m 2 ls []) := by
    intro fuel
    induction fuel with
    | zero => intro i hfu; exact absurd hfu (Nat.not_lt_zero _)
    | succ fuel ih =>
      intro i hfu hi hf H locs hH ls hl
      refine lv_iload_n hx hb dX2_jokeAt_2 rfl (lv_at hl 3 rfl) ?_
      refine lv_aload_n hx hb dX2_jokeAt_3 rfl (lv_at hl 0 rfl) ?_
      refine z_get (v := .ref (q 1)) hx hb hts hown hX kX2 6 (by decide) (hH.at 0 rfl) rfl q2016 (fun _ h9 => h9) dX2_jokeAt_4 ?_
      refine lv_iconst (v := nI 0) hx hb dX2_jokeAt_7 (by decide) ?_
      refine z_iald (x := nI (M 1 0)) hx hb hX (k := 0)  (hH.at 1 rfl) rfl (by omega) (by omega) rfl dX2_jokeAt_8 ?_
      have hbd_2 := hbw 0 (by omega) (by omega)
      refine z_icmp_ge (tgt := 40) hx hb dX2_jokeAt_9 (by decide) (by omega) (by omega) (fun c_9_3 => ?_) (fun c_9_3 => ?_)
      · skip
        have dc_9_3 := Nat.not_lt.mp c_9_3
        refine lv_iconst (v := (-1)) hx hb dX2_jokeAt_40 (by decide) ?_
        exact z_iret hx hb hr hlocks hH (u := ()) (by have e : i = M 1 0 := (by omega); rw [jat, ← e, hf]; rfl) ⟨hH.1, hH.2.1⟩ trivial (Nat.le_of_ble_eq_true rfl) (Nat.le_of_ble_eq_true rfl) dX2_jokeAt_41
      · skip
        refine lv_aload_n hx hb dX2_jokeAt_12 rfl (lv_at hl 0 rfl) ?_
        refine lv_iload_n hx hb dX2_jokeAt_13 rfl (lv_at hl 3 rfl) ?_
        refine lv_iconst (v := nI 0) hx hb dX2_jokeAt_14 (by decide) ?_
        refine z_ci (wr := []) (va_runV (As := [.int (nI i), .int (nI 0)]) (rest := []) ⟨hx, hb, hml, hown, hts⟩ (metX2_is l G dA dS B0 H.size q M i 0 (by first | exact hk | assumption | omega) (by first | exact hj | assumption | omega)) (cwV 2 hts (lw_V q2103 q2105 qs31 q91 q2106) rfl rfl rfl (by decide +kernel) ⟨Nat.le_of_ble_eq_true rfl, Nat.le_of_ble_eq_true rfl⟩) (zPV hX hH hB hAB (z_recv hX kX2 (hH.at 0 rfl)) [0, 1, 2, 3, 4, 5, 6, 7, 8] rfl rfl trivial) rfl rfl hl.1 rfl (lv_room (Nat.le_of_ble_eq_true rfl)) dX2_jokeAt_15 ⟨(Nat.le_of_ble_eq_true rfl), (Nat.le_of_ble_eq_true rfl)⟩) hH hA [0, 1, 2, 3, 4, 5, 6, 7, 8] [] rfl rfl (by decide) (by decide) (fun r_4 u_r_4 H locs hw_r_4 hH hR_r_4 hk_r_4 => ?_)
        obtain rfl := hw_r_4
        have hH : zH G A s.heap (mW dA q M) H locs := hH
        have hbd_5 : jk (M 1) i 0 < 2 ^ 31 := hbw _ (by omega) (by omega)
        refine lv_iload_n hx hb dX2_jokeAt_18 rfl (lv_at hl 1 rfl) ?_
        refine z_icmp_ne (tgt := 34) hx hb dX2_jokeAt_19 (by decide) (by omega) (by omega) (fun c_19_6 => ?_) (fun c_19_6 => ?_)
        · skip
          refine lv_iinc (v := nI (i + 1)) (lv' := [(3, .int (nI (i + 1))), (0, .ref (q 0)), (1, .int (nI a)), (2, .int (nI b))]) hx hb dX2_jokeAt_34 hl (k := 3) rfl (nI_1 _) (by decide) rfl (fun ls hl => ?_)
          refine lv_goto (tgt := 2) hx hb dX2_jokeAt_37 (by decide) ?_
          exact ih (i + 1) (by omega) (by omega) (fO_n hf (by simp [fO_0, c_9_3, c_19_6])) _ _ hH ls (lv_sub hl [1, 2, 3, 0] rfl)
        · skip
          refine lv_aload_n hx hb dX2_jokeAt_22 rfl (lv_at hl 0 rfl) ?_
          refine lv_iload_n hx hb dX2_jokeAt_23 rfl (lv_at hl 3 rfl) ?_
          refine lv_iconst (v := nI 1) hx hb dX2_jokeAt_24 (by decide) ?_
          refine z_ci (wr := []) (va_runV (As := [.int (nI i), .int (nI 1)]) (rest := []) ⟨hx, hb, hml, hown, hts⟩ (metX2_is l G dA dS B0 H.size q M i 1 (by first | exact hk | assumption | omega) (by first | exact hj | assumption | omega)) (cwV 2 hts (lw_V q2103 q2105 qs31 q91 q2106) rfl rfl rfl (by decide +kernel) ⟨Nat.le_of_ble_eq_true rfl, Nat.le_of_ble_eq_true rfl⟩) (zPV hX hH hB hAB (z_recv hX kX2 (hH.at 0 rfl)) [0, 1, 2, 3, 4, 5, 6, 7, 8] rfl rfl trivial) rfl rfl hl.1 rfl (lv_room (Nat.le_of_ble_eq_true rfl)) dX2_jokeAt_25 ⟨(Nat.le_of_ble_eq_true rfl), (Nat.le_of_ble_eq_true rfl)⟩) hH hA [0, 1, 2, 3, 4, 5, 6, 7, 8] [] rfl rfl (by decide) (by decide) (fun r_7 u_r_7 H locs hw_r_7 hH hR_r_7 hk_r_7 => ?_)
          obtain rfl := hw_r_7
          have hH : zH G A s.heap (mW dA q M) H locs := hH
          have hbd_8 : jk (M 1) i 1 < 2 ^ 31 := hbw _ (by omega) (by omega)
          refine lv_iload_n hx hb dX2_jokeAt_28 rfl (lv_at hl 2 rfl) ?_
          refine z_icmp_ne (tgt := 34) hx hb dX2_jokeAt_29 (by decide) (by omega) (by omega) (fun c_29_9 => ?_) (fun c_29_9 => ?_)
          · skip
            refine lv_iinc (v := nI (i + 1)) (lv' := [(3, .int (nI (i + 1))), (0, .ref (q 0)), (1, .int (nI a)), (2, .int (nI b))]) hx hb dX2_jokeAt_34 hl (k := 3) rfl (nI_1 _) (by decide) rfl (fun ls hl => ?_)
            refine lv_goto (tgt := 2) hx hb dX2_jokeAt_37 (by decide) ?_
            exact ih (i + 1) (by omega) (by omega) (fO_n hf (by simp [fO_0, c_9_3, c_19_6, c_29_9])) _ _ hH ls (lv_sub hl [1, 2, 3, 0] rfl)
          · skip
            refine lv_iload_n hx hb dX2_jokeAt_32 rfl (lv_at hl 3 rfl) ?_
            exact z_iret hx hb hr hlocks hH (u := ()) (by rw [jat, fO_mono (fO_y hf (by simp [fO_0, c_9_3, c_19_6, c_29_9])) (M 1 0) (by omega)]; rfl) ⟨hH.1, hH.2.1⟩ trivial (Nat.le_of_ble_eq_true rfl) (Nat.le_of_ble_eq_true rfl) dX2_jokeAt_33
  exact LP2_0 ((M 1 0 - 0) + 1) 0 (Nat.lt_succ_self _) (by omega) (rfl) _ _ hH ls (lv_sub hl [1, 2, 3, 0] rfl)

set_option maxHeartbeats 4000000 in
set_option maxRecDepth 100000 in
theorem metX2_above (l : Launch) (G : va_G) (dA : Nat → ClassId) (dS : Nat → Nat) (B0 sz : Nat) (q : Nat → Nat) (M : mS) (j : Nat) (hj : j < 12) (hbw : ∀ k, k ≠ 12 → k ≠ 13 → M 1 k < 2 ^ 31) (h12 : M 1 0 ≤ 12) : Met l yX2_above (ws_ yX2_above cX2_above 4 (some FieldType.int)) ({ frames := 1, cells := 0, slots := 0, locals := 22 }) (zP G dA dS B0 [.ref (q 0), .int (nI j)] sz (mW dA q M) (fun H => True)) (zQi G (fun (r : Int32) (u : Unit) => r = nI (abv (M 1) j)) (fun (u : Unit) => mW dA q M) (fun (u : Unit) (H : Heap) => True) (va_A (mW dA q M) sz)) 0 0 (va_A (mW dA q M) sz) := by
  refine zM (by decide) (Nat.le_of_ble_eq_true rfl) ?_
  intro p e s m below meth c ls A H locs hHe hx hb hr hlocks hml hown hname hts hX hsz hB hAe hA hAB hH hRo hl
  have hl : lv_has ls 4 [(0, .ref (q 0)), (1, .int (nI j))] := hl
  refine lv_iconst (v := nI 0) hx hb dX2_above_0 (by decide) ?_
  refine lv_istore_n (lv' := [(2, .int (nI 0)), (0, .ref (q 0)), (1, .int (nI j))]) hx hb dX2_above_1 rfl hl (by decide) rfl (fun ls hl => ?_)
  refine lv_iconst (v := nI 0) hx hb dX2_above_2 (by decide) ?_
  refine lv_istore_n (lv' := [(3, .int (nI 0)), (2, .int (nI 0)), (0, .ref (q 0)), (1, .int (nI j))]) hx hb dX2_above_3 rfl hl (by decide) rfl (fun ls hl => ?_)
  have LP4_0 : ∀ (fuel : Nat) (i : Nat) (hfu : (M 1 0 - i) < fuel) (hi : i ≤ M 1 0) (H : Heap) (locs : List Loc), zH G A s.heap (mW dA q M) H locs → ∀ (ls : Array Slot), lv_has ls 4 [(0, .ref (q 0)), (1, .int (nI j)), (2, .int (nI (cN (fun k => decide (jk (M 1) k 0 = jk (M 1) j 0) && decide (jk (M 1) k 1 < jk (M 1) j 1)) i))), (3, .int (nI i))] → W p l e (headSpec (ws_ yX2_above cX2_above 4 (some FieldType.int)) ({ frames := 1, cells := 0, slots := 0, locals := 22 })).room s m ([.ref (q 0), .int (nI j)] : List Value).toArray below meth c H locs 0 0 (MQ below (zQi G (fun (r : Int32) (u : Unit) => r = nI (abv (M 1) j)) (fun (u : Unit) => mW dA q M) (fun (u : Unit) (H : Heap) => True) A) ([.ref (q 0), .int (nI j)] : List Value).toArray s 0 0 A) (F0 m 4 ls []) := by
    intro fuel
    induction fuel with
    | zero => intro i hfu; exact absurd hfu (Nat.not_lt_zero _)
    | succ fuel ih =>
      intro i hfu hi H locs hH ls hl
      refine lv_iload_n hx hb dX2_above_4 rfl (lv_at hl 3 rfl) ?_
      refine lv_aload_n hx hb dX2_above_5 rfl (lv_at hl 0 rfl) ?_
      refine z_get (v := .ref (q 1)) hx hb hts hown hX kX2 6 (by decide) (hH.at 0 rfl) rfl q2016 (fun _ h9 => h9) dX2_above_6 ?_
      refine lv_iconst (v := nI 0) hx hb dX2_above_9 (by decide) ?_
      refine z_iald (x := nI (M 1 0)) hx hb hX (k := 0)  (hH.at 1 rfl) rfl (by omega) (by omega) rfl dX2_above_10 ?_
      have hbd_2 := hbw 0 (by omega) (by omega)
      refine z_icmp_ge (tgt := 58) hx hb dX2_above_11 (by decide) (by omega) (by omega) (fun c_11_3 => ?_) (fun c_11_3 => ?_)
      · skip
        have dc_11_3 := Nat.not_lt.mp c_11_3
        refine lv_iload_n hx hb dX2_above_58 rfl (lv_at hl 2 rfl) ?_
        exact z_iret hx hb hr hlocks hH (u := ()) (by have e : i = M 1 0 := (by omega); subst e; rfl) ⟨hH.1, hH.2.1⟩ trivial (Nat.le_of_ble_eq_true rfl) (Nat.le_of_ble_eq_true rfl) dX2_above_59
      · skip
        refine lv_iload_n hx hb dX2_above_14 rfl (lv_at hl 2 rfl) ?_
        refine lv_aload_n hx hb dX2_above_15 rfl (lv_at hl 0 rfl) ?_
        refine lv_iload_n hx hb dX2_above_16 rfl (lv_at hl 3 rfl) ?_
        refine lv_iconst (v := nI 0) hx hb dX2_above_17 (by decide) ?_
        refine z_ci (wr := []) (va_runV (As := [.int (nI i), .int (nI 0)]) (rest := [.int (nI (cN (fun k => decide (jk (M 1) k 0 = jk (M 1) j 0) && decide (jk (M 1) k 1 < jk (M 1) j 1)) i))]) ⟨hx, hb, hml, hown, hts⟩ (metX2_is l G dA dS B0 H.size q M i 0 (by first | exact hk | assumption | omega) (by first | exact hj | assumption | omega)) (cwV 2 hts (lw_V q2103 q2105 qs31 q91 q2106) rfl rfl rfl (by decide +kernel) ⟨Nat.le_of_ble_eq_true rfl, Nat.le_of_ble_eq_true rfl⟩) (zPV hX hH hB hAB (z_recv hX kX2 (hH.at 0 rfl)) [0, 1, 2, 3, 4, 5, 6, 7, 8] rfl rfl trivial) rfl rfl hl.1 rfl (lv_room (Nat.le_of_ble_eq_true rfl)) dX2_above_18 ⟨(Nat.le_of_ble_eq_true rfl), (Nat.le_of_ble_eq_true rfl)⟩) hH hA [0, 1, 2, 3, 4, 5, 6, 7, 8] [] rfl rfl (by decide) (by decide) (fun r_4 u_r_4 H locs hw_r_4 hH hR_r_4 hk_r_4 => ?_)
        obtain rfl := hw_r_4
        have hH : zH G A s.heap (mW dA q M) H locs := hH
        have hbd_5 : jk (M 1) i 0 < 2 ^ 31 := hbw _ (by omega) (by omega)
        refine lv_aload_n hx hb dX2_above_21 rfl (lv_at hl 0 rfl) ?_
        refine lv_iload_n hx hb dX2_above_22 rfl (lv_at hl 1 rfl) ?_
        refine lv_iconst (v := nI 0) hx hb dX2_above_23 (by decide) ?_
        refine z_ci (wr := []) (va_runV (As := [.int (nI j), .int (nI 0)]) (rest := [.int (nI (jk (M 1) i 0)), .int (nI (cN (fun k => decide (jk (M 1) k 0 = jk (M 1) j 0) && decide (jk (M 1) k 1 < jk (M 1) j 1)) i))]) ⟨hx, hb, hml, hown, hts⟩ (metX2_is l G dA dS B0 H.size q M j 0 (by first | exact hk | assumption | omega) (by first | exact hj | assumption | omega)) (cwV 2 hts (lw_V q2103 q2105 qs31 q91 q2106) rfl rfl rfl (by decide +kernel) ⟨Nat.le_of_ble_eq_true rfl, Nat.le_of_ble_eq_true rfl⟩) (zPV hX hH hB hAB (z_recv hX kX2 (hH.at 0 rfl)) [0, 1, 2, 3, 4, 5, 6, 7, 8] rfl rfl trivial) rfl rfl hl.1 rfl (lv_room (Nat.le_of_ble_eq_true rfl)) dX2_above_24 ⟨(Nat.le_of_ble_eq_true rfl), (Nat.le_of_ble_eq_true rfl)⟩) hH hA [0, 1, 2, 3, 4, 5, 6, 7, 8] [] rfl rfl (by decide) (by decide) (fun r_6 u_r_6 H locs hw_r_6 hH hR_r_6 hk_r_6 => ?_)
        obtain rfl := hw_r_6
        have hH : zH G A s.heap (mW dA q M) H locs := hH
        have hbd_7 : jk (M 1) j 0 < 2 ^ 31 := hbw _ (by omega) (by omega)
        refine z_icmp_ne (tgt := 49) hx hb dX2_above_27 (by decide) (by omega) (by omega) (fun c_27_8 => ?_) (fun c_27_8 => ?_)
        · skip
          refine lv_iconst (v := nI 0) hx hb dX2_above_49 (by decide) ?_
          refine lv_iadd hx hb dX2_above_50 ?_
          refine z_topi (y := nI (cN (fun k => decide (jk (M 1) k 0 = jk (M 1) j 0) && decide (jk (M 1) k 1 < jk (M 1) j 1)) i)) (nI_add _ _) ?_
          refine lv_istore_n (lv' := [(2, .int (nI (cN (fun k => decide (jk (M 1) k 0 = jk (M 1) j 0) && decide (jk (M 1) k 1 < jk (M 1) j 1)) i))), (0, .ref (q 0)), (1, .int (nI j)), (3, .int (nI i))]) hx hb dX2_above_51 rfl hl (by decide) rfl (fun ls hl => ?_)
          refine lv_iinc (v := nI (i + 1)) (lv' := [(3, .int (nI (i + 1))), (2, .int (nI (cN (fun k => decide (jk (M 1) k 0 = jk (M 1) j 0) && decide (jk (M 1) k 1 < jk (M 1) j 1)) i))), (0, .ref (q 0)), (1, .int (nI j))]) hx hb dX2_above_52 hl (k := 3) rfl (nI_1 _) (by decide) rfl (fun ls hl => ?_)
          refine lv_goto (tgt := 4) hx hb dX2_above_55 (by decide) ?_
          have ev_9 : nI (cN (fun k => decide (jk (M 1) k 0 = jk (M 1) j 0) && decide (jk (M 1) k 1 < jk (M 1) j 1)) i) = nI (cN (fun k => decide (jk (M 1) k 0 = jk (M 1) j 0) && decide (jk (M 1) k 1 < jk (M 1) j 1)) (i + 1)) := by first | rfl | (congr 1; done) | (congr 1; simp [cN, bN, c_11_3, c_27_8]; done) | (congr 1; simp [cN, bN, c_11_3, c_27_8]; omega)
          have hl : lv_has ls 4 [(0, .ref (q 0)), (1, .int (nI j)), (2, .int (nI (cN (fun k => decide (jk (M 1) k 0 = jk (M 1) j 0) && decide (jk (M 1) k 1 < jk (M 1) j 1)) (i + 1)))), (3, .int (nI (i + 1)))] := z_lv (lv_sub hl [2, 3, 1, 0] rfl) (by rw [ev_9] <;> rfl)
          exact ih (i + 1) (by omega) (by omega) _ _ hH ls (lv_sub hl [0, 1, 2, 3] rfl)
        · skip
          refine lv_aload_n hx hb dX2_above_30 rfl (lv_at hl 0 rfl) ?_
          refine lv_iload_n hx hb dX2_above_31 rfl (lv_at hl 3 rfl) ?_
          refine lv_iconst (v := nI 1) hx hb dX2_above_32 (by decide) ?_
          refine z_ci (wr := []) (va_runV (As := [.int (nI i), .int (nI 1)]) (rest := [.int (nI (cN (fun k => decide (jk (M 1) k 0 = jk (M 1) j 0) && decide (jk (M 1) k 1 < jk (M 1) j 1)) i))]) ⟨hx, hb, hml, hown, hts⟩ (metX2_is l G dA dS B0 H.size q M i 1 (by first | exact hk | assumption | omega) (by first | exact hj | assumption | omega)) (cwV 2 hts (lw_V q2103 q2105 qs31 q91 q2106) rfl rfl rfl (by decide +kernel) ⟨Nat.le_of_ble_eq_true rfl, Nat.le_of_ble_eq_true rfl⟩) (zPV hX hH hB hAB (z_recv hX kX2 (hH.at 0 rfl)) [0, 1, 2, 3, 4, 5, 6, 7, 8] rfl rfl trivial) rfl rfl hl.1 rfl (lv_room (Nat.le_of_ble_eq_true rfl)) dX2_above_33 ⟨(Nat.le_of_ble_eq_true rfl), (Nat.le_of_ble_eq_true rfl)⟩) hH hA [0, 1, 2, 3, 4, 5, 6, 7, 8] [] rfl rfl (by decide) (by decide) (fun r_10 u_r_10 H locs hw_r_10 hH hR_r_10 hk_r_10 => ?_)
          obtain rfl := hw_r_10
          have hH : zH G A s.heap (mW dA q M) H locs := hH
          have hbd_11 : jk (M 1) i 1 < 2 ^ 31 := hbw _ (by omega) (by omega)
          refine lv_aload_n hx hb dX2_above_36 rfl (lv_at hl 0 rfl) ?_
          refine lv_iload_n hx hb dX2_above_37 rfl (lv_at hl 1 rfl) ?_
          refine lv_iconst (v := nI 1) hx hb dX2_above_38 (by decide) ?_
          refine z_ci (wr := []) (va_runV (As := [.int (nI j), .int (nI 1)]) (rest := [.int (nI (jk (M 1) i 1)), .int (nI (cN (fun k => decide (jk (M 1) k 0 = jk (M 1) j 0) && decide (jk (M 1) k 1 < jk (M 1) j 1)) i))]) ⟨hx, hb, hml, hown, hts⟩ (metX2_is l G dA dS B0 H.size q M j 1 (by first | exact hk | assumption | omega) (by first | exact hj | assumption | omega)) (cwV 2 hts (lw_V q2103 q2105 qs31 q91 q2106) rfl rfl rfl (by decide +kernel) ⟨Nat.le_of_ble_eq_true rfl, Nat.le_of_ble_eq_true rfl⟩) (zPV hX hH hB hAB (z_recv hX kX2 (hH.at 0 rfl)) [0, 1, 2, 3, 4, 5, 6, 7, 8] rfl rfl trivial) rfl rfl hl.1 rfl (lv_room (Nat.le_of_ble_eq_true rfl)) dX2_above_39 ⟨(Nat.le_of_ble_eq_true rfl), (Nat.le_of_ble_eq_true rfl)⟩) hH hA [0, 1, 2, 3, 4, 5, 6, 7, 8] [] rfl rfl (by decide) (by decide) (fun r_12 u_r_12 H locs hw_r_12 hH hR_r_12 hk_r_12 => ?_)
          obtain rfl := hw_r_12
          have hH : zH G A s.heap (mW dA q M) H locs := hH
          have hbd_13 : jk (M 1) j 1 < 2 ^ 31 := hbw _ (by omega) (by omega)
          refine z_icmp_ge (tgt := 49) hx hb dX2_above_42 (by decide) (by omega) (by omega) (fun c_42_14 => ?_) (fun c_42_14 => ?_)
          · skip
            have dc_42_14 := Nat.not_lt.mp c_42_14
            refine lv_iconst (v := nI 0) hx hb dX2_above_49 (by decide) ?_
            refine lv_iadd hx hb dX2_above_50 ?_
            refine z_topi (y := nI (cN (fun k => decide (jk (M 1) k 0 = jk (M 1) j 0) && decide (jk (M 1) k 1 < jk (M 1) j 1)) i)) (nI_add _ _) ?_
            refine lv_istore_n (lv' := [(2, .int (nI (cN (fun k => decide (jk (M 1) k 0 = jk (M 1) j 0) && decide (jk (M 1) k 1 < jk (M 1) j 1)) i))), (0, .ref (q 0)), (1, .int (nI j)), (3, .int (nI i))]) hx hb dX2_above_51 rfl hl (by decide) rfl (fun ls hl => ?_)
            refine lv_iinc (v := nI (i + 1)) (lv' := [(3, .int (nI (i + 1))), (2, .int (nI (cN (fun k => decide (jk (M 1) k 0 = jk (M 1) j 0) && decide (jk (M 1) k 1 < jk (M 1) j 1)) i))), (0, .ref (q 0)), (1, .int (nI j))]) hx hb dX2_above_52 hl (k := 3) rfl (nI_1 _) (by decide) rfl (fun ls hl => ?_)
            refine lv_goto (tgt := 4) hx hb dX2_above_55 (by decide) ?_
            have ev_15 : nI (cN (fun k => decide (jk (M 1) k 0 = jk (M 1) j 0) && decide (jk (M 1) k 1 < jk (M 1) j 1)) i) = nI (cN (fun k => decide (jk (M 1) k 0 = jk (M 1) j 0) && decide (jk (M 1) k 1 < jk (M 1) j 1)) (i + 1)) := by first | rfl | (congr 1; done) | (congr 1; simp [cN, bN, c_11_3, c_27_8, c_42_14, dc_42_14]; done) | (congr 1; simp [cN, bN, c_11_3, c_27_8, c_42_14, dc_42_14]; omega)
            have hl : lv_has ls 4 [(0, .ref (q 0)), (1, .int (nI j)), (2, .int (nI (cN (fun k => decide (jk (M 1) k 0 = jk (M 1) j 0) && decide (jk (M 1) k 1 < jk (M 1) j 1)) (i + 1)))), (3, .int (nI (i + 1)))] := z_lv (lv_sub hl [2, 3, 1, 0] rfl) (by rw [ev_15] <;> rfl)
            exact ih (i + 1) (by omega) (by omega) _ _ hH ls (lv_sub hl [0, 1, 2, 3] rfl)
          · skip
            refine lv_iconst (v := nI 1) hx hb dX2_above_45 (by decide) ?_
            refine lv_goto (tgt := 50) hx hb dX2_above_46 (by decide) ?_
            refine lv_iadd hx hb dX2_above_50 ?_
            refine z_topi (y := nI (cN (fun k => decide (jk (M 1) k 0 = jk (M 1) j 0) && decide (jk (M 1) k 1 < jk (M 1) j 1)) i + 1)) (nI_add _ _) ?_
            refine lv_istore_n (lv' := [(2, .int (nI (cN (fun k => decide (jk (M 1) k 0 = jk (M 1) j 0) && decide (jk (M 1) k 1 < jk (M 1) j 1)) i + 1))), (0, .ref (q 0)), (1, .int (nI j)), (3, .int (nI i))]) hx hb dX2_above_51 rfl hl (by decide) rfl (fun ls hl => ?_)
            refine lv_iinc (v := nI (i + 1)) (lv' := [(3, .int (nI (i + 1))), (2, .int (nI (cN (fun k => decide (jk (M 1) k 0 = jk (M 1) j 0) && decide (jk (M 1) k 1 < jk (M 1) j 1)) i + 1))), (0, .ref (q 0)), (1, .int (nI j))]) hx hb dX2_above_52 hl (k := 3) rfl (nI_1 _) (by decide) rfl (fun ls hl => ?_)
            refine lv_goto (tgt := 4) hx hb dX2_above_55 (by decide) ?_
            have ev_16 : nI (cN (fun k => decide (jk (M 1) k 0 = jk (M 1) j 0) && decide (jk (M 1) k 1 < jk (M 1) j 1)) i + 1) = nI (cN (fun k => decide (jk (M 1) k 0 = jk (M 1) j 0) && decide (jk (M 1) k 1 < jk (M 1) j 1)) (i + 1)) := by first | rfl | (congr 1; done) | (congr 1; simp [cN, bN, c_11_3, c_27_8, c_42_14]; done) | (congr 1; simp [cN, bN, c_11_3, c_27_8, c_42_14]; omega)
            have hl : lv_has ls 4 [(0, .ref (q 0)), (1, .int (nI j)), (2, .int (nI (cN (fun k => decide (jk (M 1) k 0 = jk (M 1) j 0) && decide (jk (M 1) k 1 < jk (M 1) j 1)) (i + 1)))), (3, .int (nI (i + 1)))] := z_lv (lv_sub hl [2, 3, 1, 0] rfl) (by rw [ev_16] <;> rfl)
            exact ih (i + 1) (by omega) (by omega) _ _ hH ls (lv_sub hl [0, 1, 2, 3] rfl)
  have ev_17 : nI 0 = nI (cN (fun k => decide (jk (M 1) k 0 = jk (M 1) j 0) && decide (jk (M 1) k 1 < jk (M 1) j 1)) 0) := by first | rfl | (congr 1; done) | (congr 1; simp [cN, bN]; done) | (congr 1; simp [cN, bN]; omega)
  have hl : lv_has ls 4 [(0, .ref (q 0)), (1, .int (nI j)), (2, .int (nI (cN (fun k => decide (jk (M 1) k 0 = jk (M 1) j 0) && decide (jk (M 1) k 1 < jk (M 1) j 1)) 0))), (3, .int (nI 0))] := z_lv (lv_sub hl [2, 3, 1, 0] rfl) (by rw [ev_17] <;> rfl)
  exact LP4_0 ((M 1 0 - 0) + 1) 0 (Nat.lt_succ_self _) (by omega) _ _ hH ls (lv_sub hl [0, 1, 2, 3] rfl)

set_option maxHeartbeats 4000000 in
set_option maxRecDepth 100000 in
theorem metX2_atPlace (l : Launch) (G : va_G) (dA : Nat → ClassId) (dS : Nat → Nat) (B0 sz : Nat) (q : Nat → Nat) (M : mS) (a : Nat) (b : Int32) (ha : a < 2 ^ 31) (hbw : ∀ k, k ≠ 12 → k ≠ 13 → M 1 k < 2 ^ 31) (h12 : M 1 0 ≤ 12) : Met l yX2_atPlace (ws_ yX2_atPlace cX2_atPlace 4 (some FieldType.int)) ({ frames := 2, cells := 0, slots := 0, locals := 45 }) (zP G dA dS B0 [.ref (q 0), .int (nI a), .int (b)] sz (mW dA q M) (fun H => True)) (zQi G (fun (r : Int32) (u : Unit) => r = oI (pla (M 1) a b)) (fun (u : Unit) => mW dA q M) (fun (u : Unit) (H : Heap) => True) (va_A (mW dA q M) sz)) 0 0 (va_A (mW dA q M) sz) := by
  refine zM (by decide) (Nat.le_of_ble_eq_true rfl) ?_
  intro p e s m below meth c ls A H locs hHe hx hb hr hlocks hml hown hname hts hX hsz hB hAe hA hAB hH hRo hl
  have hl : lv_has ls 4 [(0, .ref (q 0)), (1, .int (nI a)), (2, .int (b))] := hl
  refine lv_iconst (v := nI 0) hx hb dX2_atPlace_0 (by decide) ?_
  refine lv_istore_n (lv' := [(3, .int (nI 0)), (0, .ref (q 0)), (1, .int (nI a)), (2, .int (b))]) hx hb dX2_atPlace_1 rfl hl (by decide) rfl (fun ls hl => ?_)
  have LP2_0 : ∀ (fuel : Nat) (i : Nat) (hfu : (M 1 0 - i) < fuel) (hi : i ≤ M 1 0) (hf : fO (fun k => decide (jk (M 1) k 0 = a) && decide (nI (abv (M 1) k) = b)) i = none) (H : Heap) (locs : List Loc), zH G A s.heap (mW dA q M) H locs → ∀ (ls : Array Slot), lv_has ls 4 [(0, .ref (q 0)), (1, .int (nI a)), (2, .int (b)), (3, .int (nI i))] → W p l e (headSpec (ws_ yX2_atPlace cX2_atPlace 4 (some FieldType.int)) ({ frames := 2, cells := 0, slots := 0, locals := 45 })).room s m ([.ref (q 0), .int (nI a), .int (b)] : List Value).toArray below meth c H locs 0 0 (MQ below (zQi G (fun (r : Int32) (u : Unit) => r = oI (pla (M 1) a b)) (fun (u : Unit) => mW dA q M) (fun (u : Unit) (H : Heap) => True) A) ([.ref (q 0), .int (nI a), .int (b)] : List Value).toArray s 0 0 A) (F0 m 2 ls []) := by
    intro fuel
    induction fuel with
    | zero => intro i hfu; exact absurd hfu (Nat.not_lt_zero _)
    | succ fuel ih =>
      intro i hfu hi hf H locs hH ls hl
      refine lv_iload_n hx hb dX2_atPlace_2 rfl (lv_at hl 3 rfl) ?_
      refine lv_aload_n hx hb dX2_atPlace_3 rfl (lv_at hl 0 rfl) ?_
      refine z_get (v := .ref (q 1)) hx hb hts hown hX kX2 6 (by decide) (hH.at 0 rfl) rfl q2016 (fun _ h9 => h9) dX2_atPlace_4 ?_
      refine lv_iconst (v := nI 0) hx hb dX2_atPlace_7 (by decide) ?_
      refine z_iald (x := nI (M 1 0)) hx hb hX (k := 0)  (hH.at 1 rfl) rfl (by omega) (by omega) rfl dX2_atPlace_8 ?_
      have hbd_2 := hbw 0 (by omega) (by omega)
      refine z_icmp_ge (tgt := 39) hx hb dX2_atPlace_9 (by decide) (by omega) (by omega) (fun c_9_3 => ?_) (fun c_9_3 => ?_)
      · skip
        have dc_9_3 := Nat.not_lt.mp c_9_3
        refine lv_iconst (v := (-1)) hx hb dX2_atPlace_39 (by decide) ?_
        exact z_iret hx hb hr hlocks hH (u := ()) (by have e : i = M 1 0 := (by omega); rw [pla, ← e, hf]; rfl) ⟨hH.1, hH.2.1⟩ trivial (Nat.le_of_ble_eq_true rfl) (Nat.le_of_ble_eq_true rfl) dX2_atPlace_40
      · skip
        refine lv_aload_n hx hb dX2_atPlace_12 rfl (lv_at hl 0 rfl) ?_
        refine lv_iload_n hx hb dX2_atPlace_13 rfl (lv_at hl 3 rfl) ?_
        refine lv_iconst (v := nI 0) hx hb dX2_atPlace_14 (by decide) ?_
        refine z_ci (wr := []) (va_runV (As := [.int (nI i), .int (nI 0)]) (rest := []) ⟨hx, hb, hml, hown, hts⟩ (metX2_is l G dA dS B0 H.size q M i 0 (by first | exact hk | assumption | omega) (by first | exact hj | assumption | omega)) (cwV 2 hts (lw_V q2103 q2105 qs31 q91 q2106) rfl rfl rfl (by decide +kernel) ⟨Nat.le_of_ble_eq_true rfl, Nat.le_of_ble_eq_true rfl⟩) (zPV hX hH hB hAB (z_recv hX kX2 (hH.at 0 rfl)) [0, 1, 2, 3, 4, 5, 6, 7, 8] rfl rfl trivial) rfl rfl hl.1 rfl (lv_room (Nat.le_of_ble_eq_true rfl)) dX2_atPlace_15 ⟨(Nat.le_of_ble_eq_true rfl), (Nat.le_of_ble_eq_true rfl)⟩) hH hA [0, 1, 2, 3, 4, 5, 6, 7, 8] [] rfl rfl (by decide) (by decide) (fun r_4 u_r_4 H locs hw_r_4 hH hR_r_4 hk_r_4 => ?_)
        obtain rfl := hw_r_4
        have hH : zH G A s.heap (mW dA q M) H locs := hH
        have hbd_5 : jk (M 1) i 0 < 2 ^ 31 := hbw _ (by omega) (by omega)
        refine lv_iload_n hx hb dX2_atPlace_18 rfl (lv_at hl 1 rfl) ?_
        refine z_icmp_ne (tgt := 33) hx hb dX2_atPlace_19 (by decide) (by omega) (by omega) (fun c_19_6 => ?_) (fun c_19_6 => ?_)
        · skip
          refine lv_iinc (v := nI (i + 1)) (lv' := [(3, .int (nI (i + 1))), (0, .ref (q 0)), (1, .int (nI a)), (2, .int (b))]) hx hb dX2_atPlace_33 hl (k := 3) rfl (nI_1 _) (by decide) rfl (fun ls hl => ?_)
          refine lv_goto (tgt := 2) hx hb dX2_atPlace_36 (by decide) ?_
          exact ih (i + 1) (by omega) (by omega) (fO_n hf (by simp [fO_0, c_9_3, c_19_6])) _ _ hH ls (lv_sub hl [1, 2, 3, 0] rfl)
        · skip
          refine lv_aload_n hx hb dX2_atPlace_22 rfl (lv_at hl 0 rfl) ?_
          refine lv_iload_n hx hb dX2_atPlace_23 rfl (lv_at hl 3 rfl) ?_
          refine z_ci (wr := []) (va_runV (As := [.int (nI i)]) (rest := []) ⟨hx, hb, hml, hown, hts⟩ (metX2_above l G dA dS B0 H.size q M i (by first | exact hj | assumption | omega) (by first | exact hbw | assumption | omega) (by first | exact h12 | assumption | omega)) (cwV 1 hts (lw_V q2234 q2236 qs56 q91 q2237) rfl rfl rfl (by decide +kernel) ⟨Nat.le_of_ble_eq_true rfl, Nat.le_of_ble_eq_true rfl⟩) (zPV hX hH hB hAB (z_recv hX kX2 (hH.at 0 rfl)) [0, 1, 2, 3, 4, 5, 6, 7, 8] rfl rfl trivial) rfl rfl hl.1 rfl (lv_room (Nat.le_of_ble_eq_true rfl)) dX2_atPlace_24 ⟨(Nat.le_of_ble_eq_true rfl), (Nat.le_of_ble_eq_true rfl)⟩) hH hA [0, 1, 2, 3, 4, 5, 6, 7, 8] [] rfl rfl (by decide) (by decide) (fun r_7 u_r_7 H locs hw_r_7 hH hR_r_7 hk_r_7 => ?_)
          obtain rfl := hw_r_7
          have hH : zH G A s.heap (mW dA q M) H locs := hH
          have hal_8 := abv_le (M 1) i
          refine lv_iload_n hx hb dX2_atPlace_27 rfl (lv_at hl 2 rfl) ?_
          refine lv_icmp_ne (tgt := 33) hx hb dX2_atPlace_28 (by decide) (fun c_28_9 => ?_) (fun c_28_9 => ?_)
          · skip
            refine lv_iinc (v := nI (i + 1)) (lv' := [(3, .int (nI (i + 1))), (0, .ref (q 0)), (1, .int (nI a)), (2, .int (b))]) hx hb dX2_atPlace_33 hl (k := 3) rfl (nI_1 _) (by decide) rfl (fun ls hl => ?_)
            refine lv_goto (tgt := 2) hx hb dX2_atPlace_36 (by decide) ?_
            exact ih (i + 1) (by omega) (by omega) (fO_n hf (by simp [fO_0, c_9_3, c_19_6, c_28_9])) _ _ hH ls (lv_sub hl [1, 2, 3, 0] rfl)
          · skip
            refine lv_iload_n hx hb dX2_atPlace_31 rfl (lv_at hl 3 rfl) ?_
            exact z_iret hx hb hr hlocks hH (u := ()) (by rw [pla, fO_mono (fO_y hf (by simp [fO_0, c_9_3, c_19_6, c_28_9])) (M 1 0) (by omega)]; rfl) ⟨hH.1, hH.2.1⟩ trivial (Nat.le_of_ble_eq_true rfl) (Nat.le_of_ble_eq_true rfl) dX2_atPlace_32
  exact LP2_0 ((M 1 0 - 0) + 1) 0 (Nat.lt_succ_self _) (by omega) (rfl) _ _ hH ls (lv_sub hl [1, 2, 3, 0] rfl)
