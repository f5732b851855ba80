/-! rows: what bounds hold of them; what is lifted -/
theorem lau_c {x y : UInt32} (h : vf_n32 x) (e : x = y) : vf_n32 y := e ▸ h
def rB (w : Nat → Nat) (B : Nat) : Prop :=
  w 0 ≤ 12 ∧ w 6 + w 0 ≤ 64 ∧ (∀ k, k < w 0 → jk w k 0 ≤ 3 ∧ 1 ≤ jk w k 1 ∧ jk w k 1 ≤ 30 ∧ jk w k 2 < 64 ∧ 1 ≤ jk w k 3 ∧ jk w k 3 ≤ 9 ∧ jk w k 4 ≤ 1) ∧
  w 1 ≤ 3 ∧ 1 ≤ w 2 ∧ w 2 ≤ 10 ∧ w 3 ≤ 30 ∧ w 4 ≤ 44 ∧ w 5 ≤ 9 ∧ w 7 ≤ B ∧ w 8 ≤ B ∧ w 9 ≤ B ∧ w 10 ≤ B ∧ w 11 ≤ 2139095040 ∧
  (∀ k, k < 4 → 1 ≤ w (14 + k) ∧ w (14 + k) ≤ 5) ∧ (∀ k, k < 4 → w (18 + k) ≤ w 6) ∧
  (∀ k, k < 64 → w (82 + 3 * k) < 64 ∧ w (82 + 3 * k + 1) ≤ 3 ∧ w (82 + 3 * k + 2) ≤ 2139095040) ∧
  (∀ i, 22 ≤ i → i < 82 → w i < 64) ∧ w 12 < 2 ^ 32 ∧ w 13 < 2 ^ 32 ∧ (∀ i, 274 ≤ i → w i = 0)
theorem rB.lt {w : Nat → Nat} {B : Nat} (h : rB w B) (hB : B < 2 ^ 30) : ∀ k, k ≠ 12 → k ≠ 13 → w k < 2 ^ 31 := by
  intro k h1 h2
  obtain ⟨a0, a1, a2, a3, a4, a5, a6, a7, a8, a9, a10, a11, a12, a13, a14, a15, a16, a17, a18, a19, a20⟩ := h
  by_cases c1 : k < 12
  · rcases (show k = 0 ∨ k = 1 ∨ k = 2 ∨ k = 3 ∨ k = 4 ∨ k = 5 ∨ k = 6 ∨ k = 7 ∨ k = 8 ∨ k = 9 ∨ k = 10 ∨ k = 11 by omega) with rfl | rfl | rfl | rfl | rfl | rfl | rfl | rfl | rfl | rfl | rfl | rfl <;> omega
  · by_cases c2 : k < 18
    · have := a14 (k - 14) (by omega)
      rw [show 14 + (k - 14) = k by omega] at this
      omega
    · by_cases c3 : k < 22
      · have := a15 (k - 18) (by omega)
        rw [show 18 + (k - 18) = k by omega] at this
        omega
      · by_cases c4 : k < 82
        · have := a17 k (by omega) c4
          omega
        · by_cases c5 : k < 274
          · have := a16 ((k - 82) / 3) (by omega)
            rcases (show k = 82 + 3 * ((k - 82) / 3) ∨ k = 82 + 3 * ((k - 82) / 3) + 1 ∨ k = 82 + 3 * ((k - 82) / 3) + 2 by omega) with e | e | e <;> (rw [e]; omega)
          · rw [a20 k (by omega)]; decide
theorem rB.lt32 {w : Nat → Nat} {B : Nat} (h : rB w B) (hB : B < 2 ^ 30) : ∀ i, w i < 2 ^ 32 := by
  intro i
  by_cases h1 : i = 12
  · rw [h1]; exact h.2.2.2.2.2.2.2.2.2.2.2.2.2.2.2.2.2.2.1
  · by_cases h2 : i = 13
    · rw [h2]; exact h.2.2.2.2.2.2.2.2.2.2.2.2.2.2.2.2.2.2.2.1
    · exact Nat.lt_trans (h.lt hB i h1 h2) (by decide)
theorem or_bit (a k : Nat) (hk : k < 32) : (nI a ||| (nI 1 <<< (nI k &&& 31))) = nI (a ||| 2 ^ k) := by
  apply b_ext
  intro i hi
  rw [b_or, b_shl k hk (nI 1) hi]
  have h1 : ∀ n, bt (nI n) i = n.testBit i := by
    intro n
    show (BitVec.ofNat 32 n).getLsbD i = _
    rw [BitVec.getLsbD_ofNat]; simp [hi]
  rw [h1, h1, Nat.testBit_or, Nat.testBit_two_pow]
  congr 1
  by_cases h2 : k ≤ i
  · have h3 : bt (nI 1) (i - k) = Nat.testBit 1 (i - k) := by
      show (BitVec.ofNat 32 1).getLsbD (i - k) = _
      rw [BitVec.getLsbD_ofNat]; simp [show i - k < 32 by omega]
    rw [h3]
    by_cases h4 : k = i
    · subst h4; simp
    · have h5 : i - k ≠ 0 := by omega
      have h6 : Nat.testBit 1 (i - k) = false := by
        rw [← Nat.pow_zero 2, Nat.testBit_two_pow]
        simp; omega
      rw [h6]; simp [h4]
  · simp [h2, show ¬ k = i by omega]
/-- the row behind a lift, the joke still there -/
def lf0 (w : Nat → Nat) (j : Nat) : Nat → Nat :=
  uP (uP (uP (uP (uP (uP (uP w (82 + 3 * w 6) (jk w j 2)) (82 + 3 * w 6 + 1) (jk w j 0)) (82 + 3 * w 6 + 2) (lauN (jk w j 3) (jk w j 4) (w 4))) 6 (w 6 + 1)) (18 + jk w j 0) (w (18 + jk w j 0) + 1)) (12 + jk w j 2 / 32) (w (12 + jk w j 2 / 32) ||| 2 ^ (jk w j 2 % 32))) 11 (faN (w 11) (lauN (jk w j 3) (jk w j 4) (w 4)))
def lft (w : Nat → Nat) (j : Nat) : Nat → Nat := gone (lf0 w j) j
theorem gone_lo {v : Nat → Nat} {j i : Nat} (h : i < 22) (h0 : i ≠ 0) : gone v j i = v i := by
  unfold gone go2 go1
  rw [if_neg (by omega), if_neg h0, if_neg (by omega)]
theorem gone_hi {v : Nat → Nat} {j i : Nat} (h : 82 ≤ i) (hv : v 0 ≤ 12) (hj : j < v 0) : gone v j i = v i := by
  unfold gone go2 go1
  rw [if_neg (by omega), if_neg (by omega), if_neg (by omega)]
theorem gone_jk {v : Nat → Nat} {j k e : Nat} (hk : k < v 0 - 1) (he : e < 5) : jk (gone v j) k e = jk v (if k < j then k else k + 1) e := by
  simp only [jk]
  unfold gone go2 go1
  rw [if_neg (by omega), if_neg (by omega)]
  by_cases h : k < j
  · rw [if_neg (by omega), if_pos h]
  · rw [if_pos (by omega), if_neg h]
    congr 1; omega
theorem gone_b {v : Nat → Nat} {j : Nat} {P : Nat → Prop} (h : ∀ i, 22 ≤ i → i < 82 → P (v i)) (h0 : P 0) (hv : v 0 ≤ 12) : ∀ i, 22 ≤ i → i < 82 → P (gone v j i) := by
  intro i h1 h2
  unfold gone go2 go1
  split
  · exact h0
  · rw [if_neg (by omega)]
    split
    · exact h _ (by omega) (by omega)
    · exact h _ h1 h2
theorem lf0_o {w : Nat → Nat} {j i : Nat} (ha : jk w j 0 ≤ 3) (hs : jk w j 2 < 64) (h6 : i ≠ 6) (h11 : i ≠ 11) (h12 : i ≠ 12) (h13 : i ≠ 13) (h18 : i < 18 ∨ 22 ≤ i) (h82 : i < 82) : lf0 w j i = w i := by
  unfold lf0
  simp only [uP]
  rw [if_neg (by omega), if_neg (by omega), if_neg (by omega), if_neg (by omega), if_neg (by omega), if_neg (by omega), if_neg (by omega)]
theorem lf0_6 {w : Nat → Nat} {j : Nat} (hs : jk w j 2 < 64) : lf0 w j 6 = w 6 + 1 := by
  unfold lf0
  simp only [uP]
  rw [if_neg (by omega), if_neg (by omega), if_neg (by omega), if_pos trivial]
theorem lf0_11 {w : Nat → Nat} {j : Nat} : lf0 w j 11 = faN (w 11) (lauN (jk w j 3) (jk w j 4) (w 4)) := by
  unfold lf0
  simp only [uP]
  rw [if_pos trivial]
theorem lf0_18 {w : Nat → Nat} {j k : Nat} (ha : jk w j 0 ≤ 3) (hs : jk w j 2 < 64) (hk : k < 4) : lf0 w j (18 + k) = w (18 + k) + (if k = jk w j 0 then 1 else 0) := by
  unfold lf0
  simp only [uP]
  rw [if_neg (by omega), if_neg (by omega)]
  by_cases h : k = jk w j 0
  · rw [if_pos (by omega), if_pos h, h]
  · rw [if_neg (by omega), if_neg (by omega), if_neg (by omega), if_neg (by omega), if_neg (by omega), if_neg h]; rfl
theorem lf0_12 {w : Nat → Nat} {j k : Nat} (ha : jk w j 0 ≤ 3) (hs : jk w j 2 < 64) (hk : k < 2) : lf0 w j (12 + k) = if k = jk w j 2 / 32 then w (12 + k) ||| 2 ^ (jk w j 2 % 32) else w (12 + k) := by
  unfold lf0
  simp only [uP]
  rw [if_neg (by omega)]
  by_cases h : k = jk w j 2 / 32
  · rw [if_pos (by omega), if_pos h, h]
  · rw [if_neg (by omega), if_neg (by omega), if_neg (by omega), if_neg (by omega), if_neg (by omega), if_neg (by omega), if_neg h]
theorem lf0_82 {w : Nat → Nat} {j i : Nat} (ha : jk w j 0 ≤ 3) (hs : jk w j 2 < 64) (hi : 82 ≤ i) : lf0 w j i = if i = 82 + 3 * w 6 + 2 then lauN (jk w j 3) (jk w j 4) (w 4) else if i = 82 + 3 * w 6 + 1 then jk w j 0 else if i = 82 + 3 * w 6 then jk w j 2 else w i := by
  unfold lf0
  simp only [uP]
  rw [if_neg (by omega), if_neg (by omega), if_neg (by omega), if_neg (by omega)]
theorem lf0_jk {w : Nat → Nat} {j k e : Nat} (ha : jk w j 0 ≤ 3) (hs : jk w j 2 < 64) (hk : k < 12) (he : e < 5) : jk (lf0 w j) k e = jk w k e := lf0_o ha hs (by omega) (by omega) (by omega) (by omega) (by omega) (by omega)
theorem lf0_0 {w : Nat → Nat} {j : Nat} (ha : jk w j 0 ≤ 3) (hs : jk w j 2 < 64) : lf0 w j 0 = w 0 := lf0_o ha hs (by omega) (by omega) (by omega) (by omega) (by omega) (by omega)
/-- bounds behind a lift -/
theorem rB_lft {w : Nat → Nat} {B j : Nat} (h : rB w B) (hj : j < w 0) : rB (lft w j) B := by
  obtain ⟨a0, a1, a2, a3, a4, a5, a6, a7, a8, a9, a10, a11, a12, a13, a14, a15, a16, a17, a18, a19, a20⟩ := h
  obtain ⟨b0, b1, b2, b3, b4, b5, b6⟩ := a2 j hj
  have z0 := lf0_0 (w := w) (j := j) b0 b3
  have z6 := lf0_6 (w := w) (j := j) b3
  have lo : ∀ i, i < 22 → i ≠ 0 → lft w j i = lf0 w j i := fun i h1 h2 => gone_lo h1 h2
  have hi : ∀ i, 82 ≤ i → lft w j i = lf0 w j i := fun i h1 => gone_hi h1 (by omega) (by omega)
  have c0 : lft w j 0 = w 0 - 1 := by unfold lft; rw [gone_0, z0]
  have c6 : lft w j 6 = w 6 + 1 := by rw [lo 6 (by omega) (by omega), z6]
  have oth : ∀ i, i < 22 → i ≠ 0 → i ≠ 6 → i ≠ 11 → i ≠ 12 → i ≠ 13 → i < 18 → lft w j i = w i := fun i h1 h2 h3 h4 h5 h6 h7 => by
    rw [lo i h1 h2]; exact lf0_o b0 b3 h3 h4 h5 h6 (Or.inl h7) (by omega)
  have hl := lau_t (jk w j 3) (by omega) (jk w j 4) (by omega) (w 4) (by omega)
  refine ⟨by omega, by omega, fun k hk => ?_, ?_, ?_, ?_, ?_, ?_, ?_, ?_, ?_, ?_, ?_, ?_, fun k hk => ?_, fun k hk => ?_, fun k hk => ?_, ?_, ?_, ?_, fun i hi2 => ?_⟩
  · have e : ∀ e, e < 5 → jk (lft w j) k e = jk w (if k < j then k else k + 1) e := by
      intro e he
      unfold lft
      rw [gone_jk (by rw [z0]; omega) he, lf0_jk b0 b3 (by split <;> omega) he]
    have := a2 (if k < j then k else k + 1) (by split <;> omega)
    rw [e 0 (by omega), e 1 (by omega), e 2 (by omega), e 3 (by omega), e 4 (by omega)]
    exact this
  · rw [oth 1 (by omega) (by omega) (by omega) (by omega) (by omega) (by omega) (by omega)]; exact a3
  · rw [oth 2 (by omega) (by omega) (by omega) (by omega) (by omega) (by omega) (by omega)]; exact a4
  · rw [oth 2 (by omega) (by omega) (by omega) (by omega) (by omega) (by omega) (by omega)]; exact a5
  · rw [oth 3 (by omega) (by omega) (by omega) (by omega) (by omega) (by omega) (by omega)]; exact a6
  · rw [oth 4 (by omega) (by omega) (by omega) (by omega) (by omega) (by omega) (by omega)]; exact a7
  · rw [oth 5 (by omega) (by omega) (by omega) (by omega) (by omega) (by omega) (by omega)]; exact a8
  · rw [oth 7 (by omega) (by omega) (by omega) (by omega) (by omega) (by omega) (by omega)]; exact a9
  · rw [oth 8 (by omega) (by omega) (by omega) (by omega) (by omega) (by omega) (by omega)]; exact a10
  · rw [oth 9 (by omega) (by omega) (by omega) (by omega) (by omega) (by omega) (by omega)]; exact a11
  · rw [oth 10 (by omega) (by omega) (by omega) (by omega) (by omega) (by omega) (by omega)]; exact a12
  · rw [lo 11 (by omega) (by omega), lf0_11]; exact faN_le a13 (by omega)
  · rw [oth (14 + k) (by omega) (by omega) (by omega) (by omega) (by omega) (by omega) (by omega)]; exact a14 k hk
  · rw [lo (18 + k) (by omega) (by omega), lf0_18 b0 b3 hk, c6]
    have := a15 k hk
    split <;> omega
  · rw [hi _ (by omega), hi _ (by omega), hi _ (by omega), lf0_82 b0 b3 (by omega), lf0_82 b0 b3 (by omega), lf0_82 b0 b3 (by omega)]
    obtain ⟨d0, d1, d2⟩ := a16 k hk
    by_cases hk6 : k = w 6
    · subst hk6
      rw [if_neg (by omega), if_neg (by omega), if_pos rfl, if_neg (by omega), if_pos rfl, if_pos rfl]
      exact ⟨b3, b0, by omega⟩
    · rw [if_neg (by omega), if_neg (by omega), if_neg (by omega), if_neg (by omega), if_neg (by omega), if_neg (by omega), if_neg (by omega), if_neg (by omega), if_neg (by omega)]
      exact ⟨d0, d1, d2⟩
  · exact gone_b (P := fun x => x < 64) (fun i h1 h2 => by rw [lf0_o b0 b3 (by omega) (by omega) (by omega) (by omega) (by omega) h2]; exact a17 i h1 h2) (by decide) (by omega)
  · rw [lo 12 (by omega) (by omega), lf0_12 (k := 0) b0 b3 (by omega)]
    split
    · exact Nat.or_lt_two_pow a18 (Nat.pow_lt_pow_right (by omega) (by omega))
    · exact a18
  · rw [lo 13 (by omega) (by omega), lf0_12 (k := 1) b0 b3 (by omega)]
    split
    · exact Nat.or_lt_two_pow a19 (Nat.pow_lt_pow_right (by omega) (by omega))
    · exact a19
  · rw [hi _ (by omega), lf0_82 b0 b3 (by omega), if_neg (by omega), if_neg (by omega), if_neg (by omega)]
    exact a20 i hi2
theorem rB_lf0 {w : Nat → Nat} {B j : Nat} (h : rB w B) (hj : j < w 0) (hB : B < 2 ^ 30) : (∀ k, k ≠ 12 → k ≠ 13 → lf0 w j k < 2 ^ 31) ∧ lf0 w j 0 ≤ 12 ∧ j < lf0 w j 0 := by
  have hlt := h.lt hB
  obtain ⟨a0, a1, a2, a3, a4, a5, a6, a7, a8, a9, a10, a11, a12, a13, a14, a15, a16, a17, a18, a19, a20⟩ := h
  obtain ⟨b0, b1, b2, b3, b4, b5, b6⟩ := a2 j hj
  have z0 := lf0_0 (w := w) (j := j) b0 b3
  have hl := lau_t (jk w j 3) (by omega) (jk w j 4) (by omega) (w 4) (by omega)
  refine ⟨fun k h1 h2 => ?_, by omega, by omega⟩
  by_cases c6 : k = 6
  · rw [c6, lf0_6 b3]; omega
  · by_cases c11 : k = 11
    · rw [c11, lf0_11]; have := faN_le a13 (b := lauN (jk w j 3) (jk w j 4) (w 4)) (by omega); omega
    · by_cases c18 : k < 18 ∨ 22 ≤ k
      · by_cases c82 : k < 82
        · rw [lf0_o b0 b3 c6 c11 h1 h2 c18 c82]; exact hlt k h1 h2
        · rw [lf0_82 b0 b3 (by omega)]
          have := hlt k h1 h2
          split
          · omega
          · split
            · omega
            · split <;> omega
      · have e : k = 18 + (k - 18) := by omega
        rw [e, lf0_18 b0 b3 (by omega)]
        have := a15 (k - 18) (by omega)
        split <;> omega
set_option maxHeartbeats 4000000 in
set_option maxRecDepth 100000 in
theorem metJ19_isNaN (l : Launch) (G : va_G) (dA : Nat → ClassId) (dS : Nat → Nat) (B0 sz : Nat) (n : Nat) (hle : n ≤ 2139095040) : Met l yJ19_isNaN (ws_ yJ19_isNaN cJ19_isNaN 1 (some FieldType.boolean)) ({ frames := 0, cells := 0, slots := 0, locals := 0 }) (zP G dA dS B0 [.float (UInt32.ofNat n)] sz [] (fun H => True)) (zQi G (fun (r : Int32) (u : Unit) => r = nI 0) (fun (u : Unit) => []) (fun (u : Unit) (H : Heap) => True) (va_A [] sz)) 0 0 (va_A [] sz) := by
  refine zMF (by decide +kernel) (Nat.le_of_ble_eq_true rfl) ?_
  intro p e s m below meth c ls A H locs hHe hx hb hr hlocks hml hown hname hts hX hsz hB hAe hA hAB hH hRo hl
  have hl : lv_has ls 1 [(0, .float (UInt32.ofNat n))] := hl
  refine lv_fload_n hx hb dJ19_isNaN_0 rfl (lv_at hl 0 rfl) ?_
  refine lv_fload_n hx hb dJ19_isNaN_1 rfl (lv_at hl 0 rfl) ?_
  refine lv_fcmp hx hb dJ19_isNaN_2 ?_
  refine z_topi (y := nI 0) (by rw [f_cmp hle]; rfl) ?_
  refine lv_if_eq (tgt := 10) hx hb dJ19_isNaN_3 (by decide) (fun _ => ?_) (fun h => absurd h (by decide))
  refine lv_iconst (v := nI 0) hx hb dJ19_isNaN_10 (by decide) ?_
  exact z_zret hx hb hr hlocks hH (by first | rfl | exact z_narB _ | decide) (u := ()) (by rfl) ⟨hH.1, hH.2.1⟩ trivial (Nat.le_of_ble_eq_true rfl) (Nat.le_of_ble_eq_true rfl) dJ19_isNaN_11

set_option maxHeartbeats 4000000 in
set_option maxRecDepth 100000 in
theorem metJ19_floatToIntBits (l : Launch) (G : va_G) (dA : Nat → ClassId) (dS : Nat → Nat) (B0 sz : Nat) (n : Nat) (hle : n ≤ 2139095040) : Met l yJ19_floatToIntBits (ws_ yJ19_floatToIntBits cJ19_floatToIntBits 1 (some FieldType.int)) ({ frames := 1, cells := 0, slots := 0, locals := 40 }) (zP G dA dS B0 [.float (UInt32.ofNat n)] sz [] (fun H => True)) (zQi G (fun (r : Int32) (u : Unit) => r = nI n) (fun (u : Unit) => []) (fun (u : Unit) (H : Heap) => True) (va_A [] sz)) 0 0 (va_A [] sz) := by
  refine zMF (by decide +kernel) (Nat.le_of_ble_eq_true rfl) ?_
  intro p e s m below meth c ls A H locs hHe hx hb hr hlocks hml hown hname hts hX hsz hB hAe hA hAB hH hRo hl
  have hl : lv_has ls 1 [(0, .float (UInt32.ofNat n))] := hl
  refine lv_fload_n hx hb dJ19_floatToIntBits_0 rfl (lv_at hl 0 rfl) ?_
  refine z_ci (wr := []) (va_runS (As := [.float (UInt32.ofNat n)]) (rest := []) ⟨hx, hb, hml, hown, hts⟩ (metJ19_isNaN l G dA dS B0 H.size n (by first | exact hle | assumption | omega)) (va_cwS 1 hts (lw_S q1418 q1419 q126 q1420) rfl rfl rfl (by decide +kernel) ⟨Nat.le_of_ble_eq_true rfl, Nat.le_of_ble_eq_true rfl⟩) (zPS hX hH hB hAB [] rfl rfl trivial) rfl rfl hl.1 rfl (lv_room (Nat.le_of_ble_eq_true rfl)) dJ19_floatToIntBits_1 ⟨(Nat.le_of_ble_eq_true rfl), (Nat.le_of_ble_eq_true rfl)⟩) hH hA [] [] rfl rfl (by decide) (by decide) (fun r_1 u_r_1 H locs hw_r_1 hH hR_r_1 hk_r_1 => ?_)
  obtain rfl := hw_r_1
  have hH : zH G A s.heap [] H locs := hH
  refine lv_if_ne (tgt := 12) hx hb dJ19_floatToIntBits_4 (by decide) (fun h => absurd h (by decide)) (fun _ => ?_)
  refine lv_fload_n hx hb dJ19_floatToIntBits_7 rfl (lv_at hl 0 rfl) ?_
  refine vn_f2i hx hb (hml.trans hl.1.symm) hown (hts _ q1421) (hts _ q1423) (hts _ q1422) (hts _ q126) (Nat.le_of_ble_eq_true rfl) (Nat.le_of_ble_eq_true rfl) dJ19_floatToIntBits_8 ?_
  refine z_topi (y := nI n) rfl ?_
  exact z_iret hx hb hr hlocks hH (u := ()) (by rfl) ⟨hH.1, hH.2.1⟩ trivial (Nat.le_of_ble_eq_true rfl) (Nat.le_of_ble_eq_true rfl) dJ19_floatToIntBits_11

set_option maxHeartbeats 4000000 in
set_option maxRecDepth 100000 in
theorem metX2_laughOf (l : Launch) (G : va_G) (dA : Nat → ClassId) (dS : Nat → Nat) (B0 sz : Nat) (q : Nat → Nat) (M : mS) (k : Nat) (g : Nat) (hk : k < 12) (hw9 : jk (M 1) k 3 < 10) (hp2 : jk (M 1) k 4 < 2) (hg : g < 51) : Met l yX2_laughOf (ws_ yX2_laughOf cX2_laughOf 4 (some FieldType.float)) ({ frames := 1, cells := 0, slots := 0, locals := 22 }) (zP G dA dS B0 [.ref (q 0), .int (nI k), .int (nI g)] sz (mW dA q M) (fun H => True)) (zQf G (fun (r : UInt32) (u : Unit) => r = UInt32.ofNat (lauN (jk (M 1) k 3) (jk (M 1) k 4) g)) (fun (u : Unit) => mW dA q M) (fun (u : Unit) (H : Heap) => True) (va_A (mW dA q M) sz)) 0 0 (va_A (mW dA q M) sz) := by
  refine zM (by decide) (Nat.le_of_ble_eq_true rfl) ?_
  intro p e s m below meth c ls A H locs hHe hx hb hr hlocks hml hown hname hts hX hsz hB hAe hA hAB hH hRo hl
  have hl : lv_has ls 4 [(0, .ref (q 0)), (1, .int (nI k)), (2, .int (nI g))] := hl
  refine lv_aload_n hx hb dX2_laughOf_0 rfl (lv_at hl 0 rfl) ?_
  refine lv_iload_n hx hb dX2_laughOf_1 rfl (lv_at hl 1 rfl) ?_
  refine lv_iconst (v := nI 3) hx hb dX2_laughOf_2 (by decide) ?_
  refine z_ci (wr := []) (va_runV (As := [.int (nI k), .int (nI 3)]) (rest := []) ⟨hx, hb, hml, hown, hts⟩ (metX2_is l G dA dS B0 H.size q M k 3 (by first | exact hk | assumption | omega) (by first | exact hj | assumption | omega)) (cwV 2 hts (lw_V q2103 q2105 qs31 q91 q2106) rfl rfl rfl (by decide +kernel) ⟨Nat.le_of_ble_eq_true rfl, Nat.le_of_ble_eq_true rfl⟩) (zPV hX hH hB hAB (z_recv hX kX2 (hH.at 0 rfl)) [0, 1, 2, 3, 4, 5, 6, 7, 8] rfl rfl trivial) rfl rfl hl.1 rfl (lv_room (Nat.le_of_ble_eq_true rfl)) dX2_laughOf_3 ⟨(Nat.le_of_ble_eq_true rfl), (Nat.le_of_ble_eq_true rfl)⟩) hH hA [0, 1, 2, 3, 4, 5, 6, 7, 8] [] rfl rfl (by decide) (by decide) (fun r_1 u_r_1 H locs hw_r_1 hH hR_r_1 hk_r_1 => ?_)
  obtain rfl := hw_r_1
  have hH : zH G A s.heap (mW dA q M) H locs := hH
  refine lv_i2f hx hb dX2_laughOf_6 ?_
  refine lv_fstore_n (lv' := [(3, .float (FP.i2f (nI (jk (M 1) k 3)))), (0, .ref (q 0)), (1, .int (nI k)), (2, .int (nI g))]) hx hb dX2_laughOf_7 rfl hl (by decide) rfl (fun ls hl => ?_)
  refine lv_aload_n hx hb dX2_laughOf_8 rfl (lv_at hl 1 rfl) ?_
  refine lv_iload_n hx hb dX2_laughOf_9 rfl (lv_at hl 2 rfl) ?_
  refine lv_iconst (v := nI 4) hx hb dX2_laughOf_10 (by decide) ?_
  refine z_ci (wr := []) (va_runV (As := [.int (nI k), .int (nI 4)]) (rest := []) ⟨hx, hb, hml, hown, hts⟩ (metX2_is l G dA dS B0 H.size q M k 4 (by first | exact hk | assumption | omega) (by first | exact hj | assumption | omega)) (cwV 2 hts (lw_V q2103 q2105 qs31 q91 q2106) rfl rfl rfl (by decide +kernel) ⟨Nat.le_of_ble_eq_true rfl, Nat.le_of_ble_eq_true rfl⟩) (zPV hX hH hB hAB (z_recv hX kX2 (hH.at 0 rfl)) [0, 1, 2, 3, 4, 5, 6, 7, 8] rfl rfl trivial) rfl rfl hl.1 rfl (lv_room (Nat.le_of_ble_eq_true rfl)) dX2_laughOf_11 ⟨(Nat.le_of_ble_eq_true rfl), (Nat.le_of_ble_eq_true rfl)⟩) hH hA [0, 1, 2, 3, 4, 5, 6, 7, 8] [] rfl rfl (by decide) (by decide) (fun r_2 u_r_2 H locs hw_r_2 hH hR_r_2 hk_r_2 => ?_)
  obtain rfl := hw_r_2
  have hH : zH G A s.heap (mW dA q M) H locs := hH
  refine lv_iconst (v := nI 1) hx hb dX2_laughOf_14 (by decide) ?_
  refine z_icmp_ne (tgt := 23) hx hb dX2_laughOf_15 (by decide) (by omega) (by omega) (fun c_15_3 => ?_) (fun c_15_3 => ?_)
  · skip
    refine lv_fload_n hx hb dX2_laughOf_23 rfl (lv_at hl 0 rfl) ?_
    refine lv_fconst1 hx hb dX2_laughOf_24 ?_
    refine lv_iload_n hx hb dX2_laughOf_25 rfl (lv_at hl 3 rfl) ?_
    refine lv_i2f hx hb dX2_laughOf_26 ?_
    refine lv_ldcf hx hb hown (hts _ q2247) dX2_laughOf_27 ?_
    refine lv_fdiv hx hb dX2_laughOf_29 (lau_d _ hg).1 ?_
    refine lv_fadd hx hb dX2_laughOf_30 (lau_d _ hg).2 ?_
    refine lv_fdiv hx hb dX2_laughOf_31 (lau_c (lau_n32 hw9 hp2 hg) (by simp [lauB, lauW, lauD, *])) ?_
    exact z_fret hx hb hr hlocks hH (u := ()) (by rw [← lau_eq]; simp [lauB, lauW, lauD, c_15_3]) ⟨hH.1, hH.2.1⟩ trivial (Nat.le_of_ble_eq_true rfl) (Nat.le_of_ble_eq_true rfl) dX2_laughOf_32
  · skip
    refine lv_fload_n hx hb dX2_laughOf_18 rfl (lv_at hl 0 rfl) ?_
    refine lv_ldcf hx hb hown (hts _ q2246) dX2_laughOf_19 ?_
    refine lv_fmul hx hb dX2_laughOf_21 (lau_m _ hw9) ?_
    refine lv_fstore_n (lv' := [(3, .float (FP.fmul (FP.i2f (nI (jk (M 1) k 3))) 1069547520)), (0, .ref (q 0)), (1, .int (nI k)), (2, .int (nI g))]) hx hb dX2_laughOf_22 rfl hl (by decide) rfl (fun ls hl => ?_)
    refine lv_fload_n hx hb dX2_laughOf_23 rfl (lv_at hl 0 rfl) ?_
    refine lv_fconst1 hx hb dX2_laughOf_24 ?_
    refine lv_iload_n hx hb dX2_laughOf_25 rfl (lv_at hl 3 rfl) ?_
    refine lv_i2f hx hb dX2_laughOf_26 ?_
    refine lv_ldcf hx hb hown (hts _ q2247) dX2_laughOf_27 ?_
    refine lv_fdiv hx hb dX2_laughOf_29 (lau_d _ hg).1 ?_
    refine lv_fadd hx hb dX2_laughOf_30 (lau_d _ hg).2 ?_
    refine lv_fdiv hx hb dX2_laughOf_31 (lau_c (lau_n32 hw9 hp2 hg) (by simp [lauB, lauW, lauD, *])) ?_
    exact z_fret hx hb hr hlocks hH (u := ()) (by rw [← lau_eq]; simp [lauB, lauW, lauD, c_15_3]) ⟨hH.1, hH.2.1⟩ trivial (Nat.le_of_ble_eq_true rfl) (Nat.le_of_ble_eq_true rfl) dX2_laughOf_32

set_option maxHeartbeats 4000000 in
set_option maxRecDepth 100000 in
theorem metX2_lifts (l : Launch) (G : va_G) (dA : Nat → ClassId) (dS : Nat → Nat) (B0 sz : Nat) (q : Nat → Nat) (M : mS) (j : Nat) (hj : j < M 1 0) (B : Nat) (hrb : rB (M 1) B) (hBb : B < 2 ^ 30) : Met l yX2_lifts (ws_ yX2_lifts cX2_lifts 5 (none)) ({ frames := 2, cells := 0, slots := 0, locals := 60 }) (zP G dA dS B0 [.ref (q 0), .int (nI j)] sz (mW dA q M) (fun H => True)) (zQv G (fun (u : Unit) => True) (fun (u : Unit) => mW dA q (ms M 1 (lft (M 1) j))) (fun (u : Unit) (H : Heap) => True) (va_A (mW dA q M) sz)) 0 0 (va_A (mW dA q M) sz) := by
  refine zM (by decide) (Nat.le_of_ble_eq_true rfl) ?_
  intro p e s m below meth c ls A H locs hHe hx hb hr hlocks hml hown hname hts hX hsz hB hAe hA hAB hH hRo hl
  have hl : lv_has ls 5 [(0, .ref (q 0)), (1, .int (nI j))] := hl
  have hbw := hrb.lt hBb
  have h12 := hrb.1
  obtain ⟨hj0, hj1, hj1', hj2, hj3, hj3', hj4⟩ := hrb.2.2.1 j hj
  have hj12 : j < 12 := by omega
  have hw4 := hrb.2.2.2.2.2.2.2.1
  have hw6 := hrb.2.1
  have hw11 := hrb.2.2.2.2.2.2.2.2.2.2.2.2.2.1
  have hw9 : jk (M 1) j 3 < 10 := by omega
  have hp2 : jk (M 1) j 4 < 2 := by omega
  have hg : M 1 4 < 51 := by omega
  refine lv_aload_n hx hb dX2_lifts_0 rfl (lv_at hl 0 rfl) ?_
  refine lv_iload_n hx hb dX2_lifts_1 rfl (lv_at hl 1 rfl) ?_
  refine lv_aload_n hx hb dX2_lifts_2 rfl (lv_at hl 0 rfl) ?_
  refine z_get (v := .ref (q 1)) hx hb hts hown hX kX2 6 (by decide) (hH.at 0 rfl) rfl q2016 (fun _ h9 => h9) dX2_lifts_3 ?_
  refine lv_iconst (v := nI 4) hx hb dX2_lifts_6 (by decide) ?_
  refine z_iald (x := nI (M 1 4)) hx hb hX (k := 4)  (hH.at 1 rfl) rfl (by omega) (by omega) rfl dX2_lifts_7 ?_
  have hbd_1 := hbw 4 (by omega) (by omega)
  refine z_cf (wr := []) (va_runV (As := [.int (nI j), .int (nI (M 1 4))]) (rest := []) ⟨hx, hb, hml, hown, hts⟩ (metX2_laughOf l G dA dS B0 H.size q M j (M 1 4) (by first | exact hk | assumption | omega) (by first | exact hw9 | assumption | omega) (by first | exact hp2 | assumption | omega) (by first | exact hg | assumption | omega)) (cwV 2 hts (lw_V q2242 q2244 qs58 q91 q2245) rfl rfl rfl (by decide +kernel) ⟨Nat.le_of_ble_eq_true rfl, Nat.le_of_ble_eq_true rfl⟩) (zPV hX hH hB hAB (z_recv hX kX2 (hH.at 0 rfl)) [0, 1, 2, 3, 4, 5, 6, 7, 8] rfl rfl trivial) rfl rfl hl.1 rfl (lv_room (Nat.le_of_ble_eq_true rfl)) dX2_lifts_8 ⟨(Nat.le_of_ble_eq_true rfl), (Nat.le_of_ble_eq_true rfl)⟩) hH hA [0, 1, 2, 3, 4, 5, 6, 7, 8] [] rfl rfl (by decide) (by decide) (fun r_2 u_r_2 H locs hw_r_2 hH hR_r_2 hk_r_2 => ?_)
  obtain rfl := hw_r_2
  have hH : zH G A s.heap (mW dA q M) H locs := hH
  have hlt_3 := lau_t (jk (M 1) j 3) (by omega) (jk (M 1) j 4) (by omega) (M 1 4) (by omega)
  refine lv_fstore_n (lv' := [(2, .float (UInt32.ofNat (lauN (jk (M 1) j 3) (jk (M 1) j 4) (M 1 4)))), (0, .ref (q 0)), (1, .int (nI j))]) hx hb dX2_lifts_11 rfl hl (by decide) rfl (fun ls hl => ?_)
  refine lv_aload_n hx hb dX2_lifts_12 rfl (lv_at hl 1 rfl) ?_
  refine lv_iload_n hx hb dX2_lifts_13 rfl (lv_at hl 2 rfl) ?_
  refine lv_iconst (v := nI 2) hx hb dX2_lifts_14 (by decide) ?_
  refine z_ci (wr := []) (va_runV (As := [.int (nI j), .int (nI 2)]) (rest := []) ⟨hx, hb, hml, hown, hts⟩ (metX2_is l G dA dS B0 H.size q M j 2 (by first | exact hk | assumption | omega) (by first | exact hj | assumption | omega)) (cwV 2 hts (lw_V q2103 q2105 qs31 q91 q2106) rfl rfl rfl (by decide +kernel) ⟨Nat.le_of_ble_eq_true rfl, Nat.le_of_ble_eq_true rfl⟩) (zPV hX hH hB hAB (z_recv hX kX2 (hH.at 0 rfl)) [0, 1, 2, 3, 4, 5, 6, 7, 8] rfl rfl trivial) rfl rfl hl.1 rfl (lv_room (Nat.le_of_ble_eq_true rfl)) dX2_lifts_15 ⟨(Nat.le_of_ble_eq_true rfl), (Nat.le_of_ble_eq_true rfl)⟩) hH hA [0, 1, 2, 3, 4, 5, 6, 7, 8] [] rfl rfl (by decide) (by decide) (fun r_4 u_r_4 H locs hw_r_4 hH hR_r_4 hk_r_4 => ?_)
  obtain rfl := hw_r_4
  have hH : zH G A s.heap (mW dA q M) H locs := hH
  have hbd_5 : jk (M 1) j 2 < 2 ^ 31 := hbw _ (by omega) (by omega)
  refine lv_istore_n (lv' := [(3, .int (nI (jk (M 1) j 2))), (2, .float (UInt32.ofNat (lauN (jk (M 1) j 3) (jk (M 1) j 4) (M 1 4)))), (0, .ref (q 0)), (1, .int (nI j))]) hx hb dX2_lifts_18 rfl hl (by decide) rfl (fun ls hl => ?_)
  refine lv_bipush (v := nI 82) hx hb dX2_lifts_19 (by decide) ?_
  refine lv_iconst (v := nI 3) hx hb dX2_lifts_21 (by decide) ?_
  refine lv_aload_n hx hb dX2_lifts_22 rfl (lv_at hl 2 rfl) ?_
  refine z_get (v := .ref (q 1)) hx hb hts hown hX kX2 6 (by decide) (hH.at 0 rfl) rfl q2016 (fun _ h9 => h9) dX2_lifts_23 ?_
  refine lv_bipush (v := nI 6) hx hb dX2_lifts_26 (by decide) ?_
  refine z_iald (x := nI (M 1 6)) hx hb hX (k := 6)  (hH.at 1 rfl) rfl (by omega) (by omega) rfl dX2_lifts_28 ?_
  have hbd_6 := hbw 6 (by omega) (by omega)
  refine lv_imul hx hb dX2_lifts_29 ?_
  refine z_topi (y := nI (3 * (M 1 6))) (pk_mul _ _) ?_
  refine lv_iadd hx hb dX2_lifts_30 ?_
  refine z_topi (y := nI (82 + (3 * (M 1 6)))) (nI_add _ _) ?_
  refine lv_istore (lv' := [(4, .int (nI (82 + (3 * (M 1 6))))), (3, .int (nI (jk (M 1) j 2))), (2, .float (UInt32.ofNat (lauN (jk (M 1) j 3) (jk (M 1) j 4) (M 1 4)))), (0, .ref (q 0)), (1, .int (nI j))]) hx hb dX2_lifts_31 hl (by decide) rfl (fun ls hl => ?_)
  refine lv_aload_n hx hb dX2_lifts_33 rfl (lv_at hl 3 rfl) ?_
  refine z_get (v := .ref (q 1)) hx hb hts hown hX kX2 6 (by decide) (hH.at 0 rfl) rfl q2016 (fun _ h9 => h9) dX2_lifts_34 ?_
  refine lv_iload hx hb dX2_lifts_37 (lv_at hl 0 rfl) ?_
  refine lv_iload_n hx hb dX2_lifts_39 rfl (lv_at hl 1 rfl) ?_
  refine z_iastN hx hb hX (k := (82 + (3 * (M 1 6)))) hH 1 rfl rfl (by omega) (by omega) dX2_lifts_40 (fun H locs hH => ?_)
  have hH : zH G A s.heap (mW dA q (mu M 1 (82 + (3 * (M 1 6))) (jk (M 1) j 2))) H locs := hH
  refine lv_aload_n hx hb dX2_lifts_41 rfl (lv_at hl 3 rfl) ?_
  refine z_get (v := .ref (q 1)) hx hb hts hown hX kX2 6 (by decide) (hH.at 0 rfl) rfl q2016 (fun _ h9 => h9) dX2_lifts_42 ?_
  refine lv_iload hx hb dX2_lifts_45 (lv_at hl 0 rfl) ?_
  refine lv_iconst (v := nI 1) hx hb dX2_lifts_47 (by decide) ?_
  refine lv_iadd hx hb dX2_lifts_48 ?_
  refine z_topi (y := nI ((82 + (3 * (M 1 6))) + 1)) (nI_add _ _) ?_
  refine lv_aload_n hx hb dX2_lifts_49 rfl (lv_at hl 3 rfl) ?_
  refine lv_iload_n hx hb dX2_lifts_50 rfl (lv_at hl 4 rfl) ?_
  refine lv_iconst (v := nI 0) hx hb dX2_lifts_51 (by decide) ?_
  refine z_ci (wr := []) (va_runV (As := [.int (nI j), .int (nI 0)]) (rest := [.int (nI ((82 + (3 * (M 1 6))) + 1)), .ref (q 1)]) ⟨hx, hb, hml, hown, hts⟩ (metX2_is l G dA dS B0 H.size q (mu M 1 (82 + (3 * (M 1 6))) (jk (M 1) j 2)) j 0 (by first | exact hk | assumption | omega) (by first | exact hj | assumption | omega)) (cwV 2 hts (lw_V q2103 q2105 qs31 q91 q2106) rfl rfl rfl (by decide +kernel) ⟨Nat.le_of_ble_eq_true rfl, Nat.le_of_ble_eq_true rfl⟩) (zPV hX hH hB hAB (z_recv hX kX2 (hH.at 0 rfl)) [0, 1, 2, 3, 4, 5, 6, 7, 8] rfl rfl trivial) rfl rfl hl.1 rfl (lv_room (Nat.le_of_ble_eq_true rfl)) dX2_lifts_52 ⟨(Nat.le_of_ble_eq_true rfl), (Nat.le_of_ble_eq_true rfl)⟩) hH hA [0, 1, 2, 3, 4, 5, 6, 7, 8] [] rfl rfl (by decide) (by decide) (fun r_7 u_r_7 H locs hw_r_7 hH hR_r_7 hk_r_7 => ?_)
  obtain rfl := hw_r_7
  have hH : zH G A s.heap (mW dA q (mu M 1 (82 + (3 * (M 1 6))) (jk (M 1) j 2))) H locs := hH
  refine z_topi (y := nI (jk (M 1) j 0)) (by simp only [jk, mu_s, uP]; repeat (rw [if_neg (by omega)])) ?_
  have hbd_8 : jk (M 1) j 0 < 2 ^ 31 := hbw _ (by omega) (by omega)
  refine z_iastN hx hb hX (k := ((82 + (3 * (M 1 6))) + 1)) hH 1 rfl rfl (by omega) (by omega) dX2_lifts_55 (fun H locs hH => ?_)
  have hH : zH G A s.heap (mW dA q (mu (mu M 1 (82 + (3 * (M 1 6))) (jk (M 1) j 2)) 1 ((82 + (3 * (M 1 6))) + 1) (jk (M 1) j 0))) H locs := hH
  refine lv_aload_n hx hb dX2_lifts_56 rfl (lv_at hl 3 rfl) ?_
  refine z_get (v := .ref (q 1)) hx hb hts hown hX kX2 6 (by decide) (hH.at 0 rfl) rfl q2016 (fun _ h9 => h9) dX2_lifts_57 ?_
  refine lv_iload hx hb dX2_lifts_60 (lv_at hl 0 rfl) ?_
  refine lv_iconst (v := nI 2) hx hb dX2_lifts_62 (by decide) ?_
  refine lv_iadd hx hb dX2_lifts_63 ?_
  refine z_topi (y := nI ((82 + (3 * (M 1 6))) + 2)) (nI_add _ _) ?_
  refine lv_fload_n hx hb dX2_lifts_64 rfl (lv_at hl 2 rfl) ?_
  refine z_ci (wr := mW dA q (mu (mu M 1 (82 + (3 * (M 1 6))) (jk (M 1) j 2)) 1 ((82 + (3 * (M 1 6))) + 1) (jk (M 1) j 0))) (va_runS (As := [.float (UInt32.ofNat (lauN (jk (M 1) j 3) (jk (M 1) j 4) (M 1 4)))]) (rest := [.int (nI ((82 + (3 * (M 1 6))) + 2)), .ref (q 1)]) ⟨hx, hb, hml, hown, hts⟩ (metJ19_floatToIntBits l G dA dS B0 H.size (lauN (jk (M 1) j 3) (jk (M 1) j 4) (M 1 4)) (by first | exact hle | assumption | omega)) (va_cwS 1 hts (lw_S q2248 q1416 q126 q1417) rfl rfl rfl (by decide +kernel) ⟨Nat.le_of_ble_eq_true rfl, Nat.le_of_ble_eq_true rfl⟩) (zPS hX hH hB hAB [] rfl rfl trivial) rfl rfl hl.1 rfl (lv_room (Nat.le_of_ble_eq_true rfl)) dX2_lifts_65 ⟨(Nat.le_of_ble_eq_true rfl), (Nat.le_of_ble_eq_true rfl)⟩) hH hA [] [0, 1, 2, 3, 4, 5, 6, 7, 8] rfl rfl (by decide) (by decide) (fun r_9 u_r_9 H locs hw_r_9 hH hR_r_9 hk_r_9 => ?_)
  obtain rfl := hw_r_9
  have hH : zH G A s.heap (mW dA q (mu (mu M 1 (82 + (3 * (M 1 6))) (jk (M 1) j 2)) 1 ((82 + (3 * (M 1 6))) + 1) (jk (M 1) j 0))) H locs := hH
  refine z_iastN hx hb hX (k := ((82 + (3 * (M 1 6))) + 2)) hH 1 rfl rfl (by omega) (by omega) dX2_lifts_68 (fun H locs hH => ?_)
  have hH : zH G A s.heap (mW dA q (mu (mu (mu M 1 (82 + (3 * (M 1 6))) (jk (M 1) j 2)) 1 ((82 + (3 * (M 1 6))) + 1) (jk (M 1) j 0)) 1 ((82 + (3 * (M 1 6))) + 2) (lauN (jk (M 1) j 3) (jk (M 1) j 4) (M 1 4)))) H locs := hH
  refine lv_aload_n hx hb dX2_lifts_69 rfl (lv_at hl 3 rfl) ?_
  refine z_get (v := .ref (q 1)) hx hb hts hown hX kX2 6 (by decide) (hH.at 0 rfl) rfl q2016 (fun _ h9 => h9) dX2_lifts_70 ?_
  refine lv_bipush (v := nI 6) hx hb dX2_lifts_73 (by decide) ?_
  refine lv_dup2_11 hx hb dX2_lifts_75 rfl rfl ?_
  refine z_iald (x := nI (M 1 6)) hx hb hX (k := 6)  (hH.at 1 rfl) rfl (by omega) (by omega) (by simp only [nA, mu_s, uP]; repeat (rw [if_neg (by omega)])) dX2_lifts_76 ?_
  have hbd_10 := hbw 6 (by omega) (by omega)
  refine lv_iconst (v := nI 1) hx hb dX2_lifts_77 (by decide) ?_
  refine lv_iadd hx hb dX2_lifts_78 ?_
  refine z_topi (y := nI (M 1 6 + 1)) (nI_add _ _) ?_
  refine z_iastN hx hb hX (k := 6) hH 1 rfl rfl (by omega) (by omega) dX2_lifts_79 (fun H locs hH => ?_)
  have hH : zH G A s.heap (mW dA q (mu (mu (mu (mu M 1 (82 + (3 * (M 1 6))) (jk (M 1) j 2)) 1 ((82 + (3 * (M 1 6))) + 1) (jk (M 1) j 0)) 1 ((82 + (3 * (M 1 6))) + 2) (lauN (jk (M 1) j 3) (jk (M 1) j 4) (M 1 4))) 1 6 (M 1 6 + 1))) H locs := hH
  refine lv_aload_n hx hb dX2_lifts_80 rfl (lv_at hl 3 rfl) ?_
  refine z_get (v := .ref (q 1)) hx hb hts hown hX kX2 6 (by decide) (hH.at 0 rfl) rfl q2016 (fun _ h9 => h9) dX2_lifts_81 ?_
  refine lv_bipush (v := nI 18) hx hb dX2_lifts_84 (by decide) ?_
  refine lv_aload_n hx hb dX2_lifts_86 rfl (lv_at hl 3 rfl) ?_
  refine lv_iload_n hx hb dX2_lifts_87 rfl (lv_at hl 4 rfl) ?_
  refine lv_iconst (v := nI 0) hx hb dX2_lifts_88 (by decide) ?_
  refine z_ci (wr := []) (va_runV (As := [.int (nI j), .int (nI 0)]) (rest := [.int (nI 18), .ref (q 1)]) ⟨hx, hb, hml, hown, hts⟩ (metX2_is l G dA dS B0 H.size q (mu (mu (mu (mu M 1 (82 + (3 * (M 1 6))) (jk (M 1) j 2)) 1 ((82 + (3 * (M 1 6))) + 1) (jk (M 1) j 0)) 1 ((82 + (3 * (M 1 6))) + 2) (lauN (jk (M 1) j 3) (jk (M 1) j 4) (M 1 4))) 1 6 (M 1 6 + 1)) j 0 (by first | exact hk | assumption | omega) (by first | exact hj | assumption | omega)) (cwV 2 hts (lw_V q2103 q2105 qs31 q91 q2106) rfl rfl rfl (by decide +kernel) ⟨Nat.le_of_ble_eq_true rfl, Nat.le_of_ble_eq_true rfl⟩) (zPV hX hH hB hAB (z_recv hX kX2 (hH.at 0 rfl)) [0, 1, 2, 3, 4, 5, 6, 7, 8] rfl rfl trivial) rfl rfl hl.1 rfl (lv_room (Nat.le_of_ble_eq_true rfl)) dX2_lifts_89 ⟨(Nat.le_of_ble_eq_true rfl), (Nat.le_of_ble_eq_true rfl)⟩) hH hA [0, 1, 2, 3, 4, 5, 6, 7, 8] [] rfl rfl (by decide) (by decide) (fun r_11 u_r_11 H locs hw_r_11 hH hR_r_11 hk_r_11 => ?_)
  obtain rfl := hw_r_11
  have hH : zH G A s.heap (mW dA q (mu (mu (mu (mu M 1 (82 + (3 * (M 1 6))) (jk (M 1) j 2)) 1 ((82 + (3 * (M 1 6))) + 1) (jk (M 1) j 0)) 1 ((82 + (3 * (M 1 6))) + 2) (lauN (jk (M 1) j 3) (jk (M 1) j 4) (M 1 4))) 1 6 (M 1 6 + 1))) H locs := hH
  refine z_topi (y := nI (jk (M 1) j 0)) (by simp only [jk, mu_s, uP]; repeat (rw [if_neg (by omega)])) ?_
  have hbd_12 : jk (M 1) j 0 < 2 ^ 31 := hbw _ (by omega) (by omega)
  refine lv_iadd hx hb dX2_lifts_92 ?_
  refine z_topi (y := nI (18 + jk (M 1) j 0)) (nI_add _ _) ?_
  refine lv_dup2_11 hx hb dX2_lifts_93 rfl rfl ?_
  refine z_iald (x := nI (M 1 (18 + jk (M 1) j 0))) hx hb hX (k := (18 + jk (M 1) j 0))  (hH.at 1 rfl) rfl (by omega) (by omega) (by simp only [nA, mu_s, uP]; repeat (rw [if_neg (by omega)])) dX2_lifts_94 ?_
  have hbd_13 := hbw (18 + jk (M 1) j 0) (by omega) (by omega)
  refine lv_iconst (v := nI 1) hx hb dX2_lifts_95 (by decide) ?_
  refine lv_iadd hx hb dX2_lifts_96 ?_
  refine z_topi (y := nI (M 1 (18 + jk (M 1) j 0) + 1)) (nI_add _ _) ?_
  refine z_iastN hx hb hX (k := (18 + jk (M 1) j 0)) hH 1 rfl rfl (by omega) (by omega) dX2_lifts_97 (fun H locs hH => ?_)
  have hH : zH G A s.heap (mW dA q (mu (mu (mu (mu (mu M 1 (82 + (3 * (M 1 6))) (jk (M 1) j 2)) 1 ((82 + (3 * (M 1 6))) + 1) (jk (M 1) j 0)) 1 ((82 + (3 * (M 1 6))) + 2) (lauN (jk (M 1) j 3) (jk (M 1) j 4) (M 1 4))) 1 6 (M 1 6 + 1)) 1 (18 + jk (M 1) j 0) (M 1 (18 + jk (M 1) j 0) + 1))) H locs := hH
  refine lv_aload_n hx hb dX2_lifts_98 rfl (lv_at hl 3 rfl) ?_
  refine z_get (v := .ref (q 1)) hx hb hts hown hX kX2 6 (by decide) (hH.at 0 rfl) rfl q2016 (fun _ h9 => h9) dX2_lifts_99 ?_
  refine lv_bipush (v := nI 12) hx hb dX2_lifts_102 (by decide) ?_
  refine lv_iload_n hx hb dX2_lifts_104 rfl (lv_at hl 1 rfl) ?_
  refine lv_bipush (v := nI 32) hx hb dX2_lifts_105 (by decide) ?_
  refine lv_idiv hx hb dX2_lifts_107 (by decide) ?_
  refine z_topi (y := nI ((jk (M 1) j 2) / 32)) (pk_div (by omega) (by omega) (by omega)) ?_
  refine lv_iadd hx hb dX2_lifts_108 ?_
  refine z_topi (y := nI (12 + ((jk (M 1) j 2) / 32))) (nI_add _ _) ?_
  refine lv_dup2_11 hx hb dX2_lifts_109 rfl rfl ?_
  refine z_iald (x := nI (M 1 (12 + ((jk (M 1) j 2) / 32)))) hx hb hX (k := (12 + ((jk (M 1) j 2) / 32)))  (hH.at 1 rfl) rfl (by omega) (by omega) (by simp only [nA, mu_s, uP]; repeat (rw [if_neg (by omega)])) dX2_lifts_110 ?_
  refine lv_iconst (v := nI 1) hx hb dX2_lifts_111 (by decide) ?_
  refine lv_iload_n hx hb dX2_lifts_112 rfl (lv_at hl 1 rfl) ?_
  refine lv_bipush (v := nI 32) hx hb dX2_lifts_113 (by decide) ?_
  refine lv_irem hx hb dX2_lifts_115 (by decide) ?_
  refine z_topi (y := nI ((jk (M 1) j 2) % 32)) (pk_rem (by omega) (by omega) (by omega)) ?_
  refine lv_ishl hx hb dX2_lifts_116 ?_
  refine lv_ior hx hb dX2_lifts_117 ?_
  refine z_topi (y := nI (M 1 (12 + ((jk (M 1) j 2) / 32)) ||| 2 ^ (jk (M 1) j 2 % 32))) (or_bit _ _ (by omega)) ?_
  refine z_iastN hx hb hX (k := (12 + ((jk (M 1) j 2) / 32))) hH 1 rfl rfl (by omega) (by omega) dX2_lifts_118 (fun H locs hH => ?_)
  have hH : zH G A s.heap (mW dA q (mu (mu (mu (mu (mu (mu M 1 (82 + (3 * (M 1 6))) (jk (M 1) j 2)) 1 ((82 + (3 * (M 1 6))) + 1) (jk (M 1) j 0)) 1 ((82 + (3 * (M 1 6))) + 2) (lauN (jk (M 1) j 3) (jk (M 1) j 4) (M 1 4))) 1 6 (M 1 6 + 1)) 1 (18 + jk (M 1) j 0) (M 1 (18 + jk (M 1) j 0) + 1)) 1 (12 + ((jk (M 1) j 2) / 32)) (M 1 (12 + ((jk (M 1) j 2) / 32)) ||| 2 ^ (jk (M 1) j 2 % 32)))) H locs := hH
  refine lv_aload_n hx hb dX2_lifts_119 rfl (lv_at hl 3 rfl) ?_
  refine z_get (v := .ref (q 1)) hx hb hts hown hX kX2 6 (by decide) (hH.at 0 rfl) rfl q2016 (fun _ h9 => h9) dX2_lifts_120 ?_
  refine lv_bipush (v := nI 11) hx hb dX2_lifts_123 (by decide) ?_
  refine lv_aload_n hx hb dX2_lifts_125 rfl (lv_at hl 3 rfl) ?_
  refine z_get (v := .ref (q 1)) hx hb hts hown hX kX2 6 (by decide) (hH.at 0 rfl) rfl q2016 (fun _ h9 => h9) dX2_lifts_126 ?_
  refine lv_bipush (v := nI 11) hx hb dX2_lifts_129 (by decide) ?_
  refine z_iald (x := nI (M 1 11)) hx hb hX (k := 11)  (hH.at 1 rfl) rfl (by omega) (by omega) (by simp only [nA, mu_s, uP]; repeat (rw [if_neg (by omega)])) dX2_lifts_131 ?_
  have hbd_14 := hbw 11 (by omega) (by omega)
  refine vn_i2f hx hb (hml.trans hl.1.symm) hown (hts _ q2249) (hts _ q2251) (hts _ q2250) (hts _ q126) (f_sni (by omega)) (Nat.le_of_ble_eq_true rfl) (Nat.le_of_ble_eq_true rfl) dX2_lifts_132 ?_
  refine z_topf (y := UInt32.ofNat (M 1 11)) rfl ?_
  refine lv_fload_n hx hb dX2_lifts_135 rfl (lv_at hl 2 rfl) ?_
  refine lv_fadd hx hb dX2_lifts_136 (faN_n32 (by omega) (by omega)) ?_
  refine z_topf (y := UInt32.ofNat (faN (M 1 11) (lauN (jk (M 1) j 3) (jk (M 1) j 4) (M 1 4)))) (faN_eq _ _) ?_
  have hfa_15 := faN_le (a := (M 1 11)) (b := (lauN (jk (M 1) j 3) (jk (M 1) j 4) (M 1 4))) (by omega) (by omega)
  refine z_ci (wr := mW dA q (mu (mu (mu (mu (mu (mu M 1 (82 + (3 * (M 1 6))) (jk (M 1) j 2)) 1 ((82 + (3 * (M 1 6))) + 1) (jk (M 1) j 0)) 1 ((82 + (3 * (M 1 6))) + 2) (lauN (jk (M 1) j 3) (jk (M 1) j 4) (M 1 4))) 1 6 (M 1 6 + 1)) 1 (18 + jk (M 1) j 0) (M 1 (18 + jk (M 1) j 0) + 1)) 1 (12 + ((jk (M 1) j 2) / 32)) (M 1 (12 + ((jk (M 1) j 2) / 32)) ||| 2 ^ (jk (M 1) j 2 % 32)))) (va_runS (As := [.float (UInt32.ofNat (faN (M 1 11) (lauN (jk (M 1) j 3) (jk (M 1) j 4) (M 1 4))))]) (rest := [.int (nI 11), .ref (q 1)]) ⟨hx, hb, hml, hown, hts⟩ (metJ19_floatToIntBits l G dA dS B0 H.size (faN (M 1 11) (lauN (jk (M 1) j 3) (jk (M 1) j 4) (M 1 4))) (by first | exact hle | assumption | omega)) (va_cwS 1 hts (lw_S q2248 q1416 q126 q1417) rfl rfl rfl (by decide +kernel) ⟨Nat.le_of_ble_eq_true rfl, Nat.le_of_ble_eq_true rfl⟩) (zPS hX hH hB hAB [] rfl rfl trivial) rfl rfl hl.1 rfl (lv_room (Nat.le_of_ble_eq_true rfl)) dX2_lifts_137 ⟨(Nat.le_of_ble_eq_true rfl), (Nat.le_of_ble_eq_true rfl)⟩) hH hA [] [0, 1, 2, 3, 4, 5, 6, 7, 8] rfl rfl (by decide) (by decide) (fun r_16 u_r_16 H locs hw_r_16 hH hR_r_16 hk_r_16 => ?_)
  obtain rfl := hw_r_16
  have hH : zH G A s.heap (mW dA q (mu (mu (mu (mu (mu (mu M 1 (82 + (3 * (M 1 6))) (jk (M 1) j 2)) 1 ((82 + (3 * (M 1 6))) + 1) (jk (M 1) j 0)) 1 ((82 + (3 * (M 1 6))) + 2) (lauN (jk (M 1) j 3) (jk (M 1) j 4) (M 1 4))) 1 6 (M 1 6 + 1)) 1 (18 + jk (M 1) j 0) (M 1 (18 + jk (M 1) j 0) + 1)) 1 (12 + ((jk (M 1) j 2) / 32)) (M 1 (12 + ((jk (M 1) j 2) / 32)) ||| 2 ^ (jk (M 1) j 2 % 32)))) H locs := hH
  refine z_iastN hx hb hX (k := 11) hH 1 rfl rfl (by omega) (by omega) dX2_lifts_140 (fun H locs hH => ?_)
  have hH : zH G A s.heap (mW dA q (mu (mu (mu (mu (mu (mu (mu M 1 (82 + (3 * (M 1 6))) (jk (M 1) j 2)) 1 ((82 + (3 * (M 1 6))) + 1) (jk (M 1) j 0)) 1 ((82 + (3 * (M 1 6))) + 2) (lauN (jk (M 1) j 3) (jk (M 1) j 4) (M 1 4))) 1 6 (M 1 6 + 1)) 1 (18 + jk (M 1) j 0) (M 1 (18 + jk (M 1) j 0) + 1)) 1 (12 + ((jk (M 1) j 2) / 32)) (M 1 (12 + ((jk (M 1) j 2) / 32)) ||| 2 ^ (jk (M 1) j 2 % 32))) 1 11 (faN (M 1 11) (lauN (jk (M 1) j 3) (jk (M 1) j 4) (M 1 4))))) H locs := hH
  have eS : mu (mu (mu (mu (mu (mu (mu M 1 (82 + (3 * (M 1 6))) (jk (M 1) j 2)) 1 ((82 + (3 * (M 1 6))) + 1) (jk (M 1) j 0)) 1 ((82 + (3 * (M 1 6))) + 2) (lauN (jk (M 1) j 3) (jk (M 1) j 4) (M 1 4))) 1 6 (M 1 6 + 1)) 1 (18 + jk (M 1) j 0) (M 1 (18 + jk (M 1) j 0) + 1)) 1 (12 + ((jk (M 1) j 2) / 32)) (M 1 (12 + ((jk (M 1) j 2) / 32)) ||| 2 ^ (jk (M 1) j 2 % 32))) 1 11 (faN (M 1 11) (lauN (jk (M 1) j 3) (jk (M 1) j 4) (M 1 4))) = ms M 1 (lf0 (M 1) j) := by simp only [mu_as_ms, ms_ms, ms_s]; rfl
  rw [eS] at hH
  have hbw2 := rB_lf0 hrb hj hBb
  refine lv_aload_n hx hb dX2_lifts_141 rfl (lv_at hl 3 rfl) ?_
  refine lv_iload_n hx hb dX2_lifts_142 rfl (lv_at hl 4 rfl) ?_
  refine z_cv (wr := []) (va_runV (As := [.int (nI j)]) (rest := []) ⟨hx, hb, hml, hown, hts⟩ (metX2_goes l G dA dS B0 H.size q (ms M 1 (lf0 (M 1) j)) j hbw2.2.2 hbw2.1 hbw2.2.1) (cwV 1 hts (lw_V q2163 q2165 qs44 q91 q2166) rfl rfl rfl (by decide +kernel) ⟨Nat.le_of_ble_eq_true rfl, Nat.le_of_ble_eq_true rfl⟩) (zPV hX hH hB hAB (z_recv hX kX2 (hH.at 0 rfl)) [0, 1, 2, 3, 4, 5, 6, 7, 8] rfl rfl trivial) rfl rfl hl.1 rfl (lv_room (Nat.le_of_ble_eq_true rfl)) dX2_lifts_143 ⟨(Nat.le_of_ble_eq_true rfl), (Nat.le_of_ble_eq_true rfl)⟩) hH hA [0, 1, 2, 3, 4, 5, 6, 7, 8] [] rfl rfl (by decide) (by decide) (fun u_r_17 H locs hw_r_17 hH hR_r_17 hk_r_17 => ?_)
  have hH : zH G A s.heap (mW dA q (ms M 1 (gone ((lf0 (M 1) j)) j))) H locs := hH
  have eM : ms M 1 (gone ((lf0 (M 1) j)) j) = ms M 1 (lft (M 1) j) := by rfl
  rw [eM] at hH
  exact z_vret hx hb hr hlocks hH (u := ()) trivial ⟨hH.1, hH.2.1⟩ trivial (Nat.le_of_ble_eq_true rfl) (Nat.le_of_ble_eq_true rfl) dX2_lifts_146

