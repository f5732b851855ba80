/-! pumping; what the public methods change -/
theorem stk_B {a : Nat} : ∀ (f : Nat) (w : Nat → Nat) (B : Nat), rB w B → rB (stk w a f).2 B ∧ (stk w a f).1 ≤ f
  | 0, w, B, h => ⟨h, Nat.le_refl _⟩
  | f + 1, w, B, h => by
    simp only [stk]
    cases hp : pla w a (nI 0) with
    | none => exact ⟨h, Nat.zero_le _⟩
    | some k =>
      simp only
      split
      · have h1 := stk_B f (lft w k) B (rB_lft h (fO_spec hp).1) (a := a)
        exact ⟨h1.1, by have := h1.2; omega⟩
      · exact ⟨h, Nat.zero_le _⟩
theorem strO_B {w : Nat → Nat} {B : Nat} (h : rB w B) (hg : w 4 ≤ 40) : rB (strO w).2 (B + 1) ∧ (strO w).1 ≤ 5 := by
  have h1 := stk_B (a := w 1) (w (14 + w 1)) (str1 w) (B + 1) (rB_str1 h hg)
  refine ⟨h1.1, Nat.le_trans h1.2 ?_⟩
  have h2 := h.2.2.2.1
  exact (h.2.2.2.2.2.2.2.2.2.2.2.2.2.2.1 (w 1) (by omega)).2
/-- so many strokes at most -/
def pmp (w : Nat → Nat) : Nat → Nat × (Nat → Nat)
  | 0 => (0, w)
  | k + 1 => if 40 < w 4 then (0, w) else ((strO w).1 + (pmp (strO w).2 k).1, (pmp (strO w).2 k).2)
section PMP
variable {v : Nat → Nat} {i k s n : Nat} {r : Nat → Nat}
theorem pmp_s (h : s + (pmp v (k - i)).1 = n ∧ (pmp v (k - i)).2 = r) (hi : i < k) (hg : ¬ 40 < v 4) : (s + (strO v).1) + (pmp (strO v).2 (k - (i + 1))).1 = n ∧ (pmp (strO v).2 (k - (i + 1))).2 = r := by
  rw [show k - i = (k - (i + 1)) + 1 by omega] at h
  simp only [pmp, if_neg hg] at h
  exact ⟨by omega, h.2⟩
theorem pmp_e (h : s + (pmp v (k - i)).1 = n ∧ (pmp v (k - i)).2 = r) (hi : k - i = 0 ∨ 40 < v 4) : s = n ∧ v = r := by
  cases hb : k - i with
  | zero => rw [hb] at h; exact h
  | succ f =>
    have hg : 40 < v 4 := by omega
    rw [hb] at h
    simp only [pmp, if_pos hg] at h
    exact h
end PMP
def mNotPump (M : mS) (a : Int32) : Int32 × mS := if inR a (nI 1) (nI 9) = false then (-2, M) else if 40 < M 1 4 then (-5, mNot M 8 (M 1 4)) else (nI 0, M)
def mRem (M : mS) : mS := mKeep (mCp M 4 1)
theorem mKeep_1 (M : mS) : mKeep M 1 = M 1 := by unfold mKeep; split <;> rfl
theorem mRem_1 (M : mS) : mRem M 1 = M 1 := by unfold mRem; rw [mKeep_1]; rfl
theorem inR_f {v lo hi : Int32} (h : inR v lo hi ≠ true) : inR v lo hi = false := by simpa using h
theorem z_m5 : ¬ ((-5 : Int32) = 0) := by decide
theorem cl_n {n : Nat} (h : n < 2 ^ 31) : cl (nI n) = n := nI_clamp h
theorem notJoke_0 {M : mS} {a b c d : Int32} (h12 : M 1 0 ≤ 12) (h : (mNotJoke M a b c d).1 = 0) : (∃ n : Nat, a = nI n ∧ n ≤ 3) ∧ (∃ n : Nat, b = nI n ∧ 1 ≤ n ∧ n ≤ 30) ∧ (∃ n : Nat, c = nI n ∧ n ≤ 63) ∧ (∃ n : Nat, d = nI n ∧ 1 ≤ n ∧ n ≤ 9) ∧ (mNotJoke M a b c d).2 = M ∧ M 1 0 ≤ 11 := by
  unfold mNotJoke at h ⊢
  by_cases h1 : inR a (nI 0) (nI 3) = true
  · by_cases h2 : inR b (nI 1) (nI 30) = true
    · by_cases h3 : inR c (nI 0) (nI 63) = true
      · by_cases h4 : inR d (nI 1) (nI 9) = true
        · obtain ⟨n1, rfl, e1, e2⟩ := inR_n (by decide) (by decide) h1
          obtain ⟨n2, rfl, e3, e4⟩ := inR_n (by decide) (by decide) h2
          obtain ⟨n3, rfl, e5, e6⟩ := inR_n (by decide) (by decide) h3
          obtain ⟨n4, rfl, e7, e8⟩ := inR_n (by decide) (by decide) h4
          simp only [h1, h2, h3, h4, Bool.true_eq_false, if_false] at h ⊢
          refine ⟨⟨_, rfl, e2⟩, ⟨_, rfl, e3, e4⟩, ⟨_, rfl, e6⟩, ⟨_, rfl, e7, e8⟩, ?_⟩
          unfold notJ at h ⊢
          split at h
          · exact absurd h (by first | exact z_m5 | decide)
          · rename_i hk
            rw [if_neg hk]
            cases hj : jwith (M 1) (cl (nI n3)) with
            | some k => rw [hj] at h; exact absurd h (by first | exact z_m5 | decide)
            | none =>
              rw [hj] at h
              simp only at h ⊢
              cases hj2 : jat (M 1) (cl (nI n1)) (cl (nI n2)) with
              | some k => rw [hj2] at h; exact absurd h (by first | exact z_m5 | decide)
              | none =>
                rw [hj2] at h
                simp only at h ⊢
                split at h
                · exact absurd h (by first | exact z_m5 | decide)
                · rename_i h12b
                  rw [if_neg h12b]
                  split at h
                  · exact absurd h (by first | exact z_m5 | decide)
                  · rename_i h6
                    rw [if_neg h6]
                    exact ⟨rfl, by omega⟩
        · rw [inR_f h4] at h; simp only [h1, h2, h3, Bool.true_eq_false, if_false, if_true] at h; exact absurd h (by first | exact z_m5 | decide)
      · rw [inR_f h3] at h; simp only [h1, h2, Bool.true_eq_false, if_false, if_true] at h; exact absurd h (by first | exact z_m5 | decide)
    · rw [inR_f h2] at h; simp only [h1, Bool.true_eq_false, if_false, if_true] at h; exact absurd h (by first | exact z_m5 | decide)
  · rw [inR_f h1] at h; simp only [if_true] at h; exact absurd h (by first | exact z_m5 | decide)
theorem notPrime_0 {M : mS} {a : Int32} (h12 : M 1 0 ≤ 12) (h : (mNotPrime M a).1 = 0) : ∃ n : Nat, a = nI n ∧ n < M 1 0 ∧ jk (M 1) n 4 ≠ 1 ∧ 1 ≤ M 1 5 ∧ (mNotPrime M a).2 = M := by
  unfold mNotPrime at h ⊢
  by_cases h1 : inR a (nI 0) (nI (M 1 0) - nI 1) = true
  · obtain ⟨n, rfl, e1⟩ := isj_n h12 h1
    simp only [h1, Bool.true_eq_false, if_false] at h ⊢
    rw [cl_n (show n < 2 ^ 31 by omega)] at h ⊢
    refine ⟨n, rfl, e1, ?_⟩
    split at h
    · exact absurd h (by first | exact z_m5 | decide)
    · rename_i h2
      rw [if_neg h2]
      split at h
      · exact absurd h (by first | exact z_m5 | decide)
      · rename_i h3
        rw [if_neg h3]
        exact ⟨h2, by omega, rfl⟩
  · rw [inR_f h1] at h; simp only [if_true] at h; exact absurd h (by first | exact z_m5 | decide)
theorem notDrop_0 {M : mS} {a : Int32} (h12 : M 1 0 ≤ 12) (h : mNotDrop M a = 0) : ∃ n : Nat, a = nI n ∧ n < M 1 0 := by
  unfold mNotDrop at h
  split at h
  · exact isj_n h12 (by assumption)
  · exact absurd h (by first | exact z_m5 | decide)
theorem notDrain_0 {M : mS} {a : Int32} (h : (mNotDrain M a).1 = 0) : ∃ n : Nat, a = nI n ∧ 1 ≤ n ∧ n ≤ 50 ∧ n ≤ M 1 4 ∧ (mNotDrain M a).2 = M := by
  unfold mNotDrain at h ⊢
  by_cases h1 : inR a (nI 1) (nI 50) = true
  · obtain ⟨n, rfl, e1, e2⟩ := inR_n (by decide) (by decide) h1
    simp only [h1, Bool.true_eq_false, if_false] at h ⊢
    rw [cl_n (show n < 2 ^ 31 by omega)] at h ⊢
    refine ⟨n, rfl, e1, e2, ?_⟩
    split at h
    · exact absurd h (by first | exact z_m5 | decide)
    · rename_i h2
      rw [if_neg h2]
      exact ⟨by omega, rfl⟩
  · rw [inR_f h1] at h; simp only [if_true] at h; exact absurd h (by first | exact z_m5 | decide)
theorem notStroke_0 {M : mS} {a : Int32} (h : (mNotStroke M a).1 = 0) : ∃ n : Nat, a = nI n ∧ 1 ≤ n ∧ n ≤ 10 ∧ M 1 2 ≠ n ∧ (mNotStroke M a).2 = M := by
  unfold mNotStroke at h ⊢
  by_cases h1 : inR a (nI 1) (nI 10) = true
  · obtain ⟨n, rfl, e1, e2⟩ := inR_n (by decide) (by decide) h1
    simp only [h1, Bool.true_eq_false, if_false] at h ⊢
    rw [cl_n (show n < 2 ^ 31 by omega)] at h ⊢
    refine ⟨n, rfl, e1, e2, ?_⟩
    split at h
    · exact absurd h (by first | exact z_m5 | decide)
    · rename_i h2
      rw [if_neg h2]
      exact ⟨h2, rfl⟩
  · rw [inR_f h1] at h; simp only [if_true] at h; exact absurd h (by first | exact z_m5 | decide)
theorem notBucket_0 {M : mS} {a b : Int32} (h : (mNotBucket M a b).1 = 0) : ∃ n m : Nat, a = nI n ∧ b = nI m ∧ n ≤ 3 ∧ 1 ≤ m ∧ m ≤ 5 ∧ M 1 (14 + n) ≠ m ∧ (mNotBucket M a b).2 = M := by
  unfold mNotBucket at h ⊢
  by_cases h1 : inR a (nI 0) (nI 3) = true
  · by_cases h2 : inR b (nI 1) (nI 5) = true
    · obtain ⟨n, rfl, e1, e2⟩ := inR_n (by decide) (by decide) h1
      obtain ⟨m, rfl, e3, e4⟩ := inR_n (by decide) (by decide) h2
      simp only [h1, h2, Bool.true_eq_false, if_false] at h ⊢
      rw [cl_n (show n < 2 ^ 31 by omega), cl_n (show m < 2 ^ 31 by omega)] at h ⊢
      refine ⟨n, m, rfl, rfl, e2, e3, e4, ?_⟩
      split at h
      · exact absurd h (by first | exact z_m5 | decide)
      · rename_i h3
        rw [if_neg h3]
        exact ⟨h3, rfl⟩
    · rw [inR_f h2] at h; simp only [h1, Bool.true_eq_false, if_false, if_true] at h; exact absurd h (by first | exact z_m5 | decide)
  · rw [inR_f h1] at h; simp only [if_true] at h; exact absurd h (by first | exact z_m5 | decide)
theorem notGo_0 {M : mS} {a : Int32} (h : (mNotGo M a).1 = 0) : ∃ n : Nat, a = nI n ∧ n ≤ 3 ∧ M 1 1 ≠ n ∧ (mNotGo M a).2 = M := by
  unfold mNotGo at h ⊢
  by_cases h1 : inR a (nI 0) (nI 3) = true
  · obtain ⟨n, rfl, e1, e2⟩ := inR_n (by decide) (by decide) h1
    simp only [h1, Bool.true_eq_false, if_false] at h ⊢
    rw [cl_n (show n < 2 ^ 31 by omega)] at h ⊢
    refine ⟨n, rfl, e2, ?_⟩
    split at h
    · exact absurd h (by first | exact z_m5 | decide)
    · rename_i h2
      rw [if_neg h2]
      exact ⟨h2, rfl⟩
  · rw [inR_f h1] at h; simp only [if_true] at h; exact absurd h (by first | exact z_m5 | decide)
theorem notPump_0 {M : mS} {a : Int32} (h : (mNotPump M a).1 = 0) : ∃ n : Nat, a = nI n ∧ 1 ≤ n ∧ n ≤ 9 ∧ M 1 4 ≤ 40 ∧ (mNotPump M a).2 = M := by
  unfold mNotPump at h ⊢
  by_cases h1 : inR a (nI 1) (nI 9) = true
  · obtain ⟨n, rfl, e1, e2⟩ := inR_n (by decide) (by decide) h1
    simp only [h1, Bool.true_eq_false, if_false] at h ⊢
    refine ⟨n, rfl, e1, e2, ?_⟩
    split at h
    · exact absurd h (by first | exact z_m5 | decide)
    · rename_i h2
      rw [if_neg h2]
      exact ⟨by omega, rfl⟩
  · rw [inR_f h1] at h; simp only [if_true] at h; exact absurd h (by first | exact z_m5 | decide)
def mRef (r : Int32 × mS) : Int32 × mS := (r.1, mAns r.2 r.1)
def mJoke (M : mS) (a b c d : Int32) : Int32 × mS := if (mNotJoke M a b c d).1 = 0 then (nI (mRem M 1 0), mComes (mRem M) (cl a) (cl b) (cl c) (cl d)) else mRef (mNotJoke M a b c d)
def mPrime (M : mS) (a : Int32) : Int32 × mS := if (mNotPrime M a).1 = 0 then (nI (mRem M 1 5 - 1), mu (mu (mRem M) 1 (22 + 5 * cl a + 4) 1) 1 5 (mRem M 1 5 - 1)) else mRef (mNotPrime M a)
def mDrop (M : mS) (a : Int32) : Int32 × mS := if mNotDrop M a = 0 then (nI (mRem M 1 0 - 1), mDrops (mRem M) (cl a)) else (mNotDrop M a, M)
def mDrain (M : mS) (a : Int32) : Int32 × mS := if (mNotDrain M a).1 = 0 then (nI (drp (mRem M) (cl a)), mDrains (mRem M) (cl a)) else mRef (mNotDrain M a)
def mStroke (M : mS) (a : Int32) : Int32 × mS := if (mNotStroke M a).1 = 0 then (nI (mRem M 1 2), mu (mRem M) 1 2 (cl a)) else mRef (mNotStroke M a)
def mBucket (M : mS) (a b : Int32) : Int32 × mS := if (mNotBucket M a b).1 = 0 then (nI (mRem M 1 (14 + cl a)), mu (mRem M) 1 (14 + cl a) (cl b)) else mRef (mNotBucket M a b)
def mGo (M : mS) (a : Int32) : Int32 × mS := if (mNotGo M a).1 = 0 then (nI (mRem M 1 1), mu (mu (mRem M) 1 3 0) 1 1 (cl a)) else mRef (mNotGo M a)
def mPump (M : mS) (a : Int32) : Int32 × mS := if (mNotPump M a).1 = 0 then (nI (pmp (mRem M 1) (cl a)).1, ms (mRem M) 1 (pmp (mRem M 1) (cl a)).2) else mRef (mNotPump M a)
/-- strokes tried on the row, which is set back -/
def mTry (M : mS) (k : Nat) : mS := mCp (ms (mCp M 5 1) 1 (pmp (M 1) k).2) 1 5
def mWould (M : mS) (a : Int32) : Int32 × mS := if inR a (nI 0) (nI 20) = true then (nI (pmp (M 1) (cl a)).1, mTry M (cl a)) else (-2, M)
def mGroansIn (M : mS) (a : Int32) : Int32 × mS := if inR a (nI 0) (nI 20) = true then (nI ((pmp (M 1) (cl a)).2 4), mTry M (cl a)) else (-2, M)
theorem pmp_B : ∀ (k : Nat) (w : Nat → Nat) (B : Nat), rB w B → rB (pmp w k).2 (B + k) ∧ (pmp w k).1 ≤ 5 * k
  | 0, w, B, h => ⟨h, Nat.zero_le _⟩
  | k + 1, w, B, h => by
    simp only [pmp]
    split
    · exact ⟨h.mono (by omega), Nat.zero_le _⟩
    · have h1 := strO_B h (by omega)
      have h2 := pmp_B k (strO w).2 (B + 1) h1.1
      exact ⟨by rw [show B + (k + 1) = B + 1 + k by omega]; exact h2.1, by have := h2.2; have := h1.2; simp only; omega⟩
set_option maxHeartbeats 4000000 in
set_option maxRecDepth 100000 in
theorem metX2_notPump (l : Launch) (G : va_G) (dA : Nat → ClassId) (dS : Nat → Nat) (B0 sz : Nat) (q : Nat → Nat) (M : mS) (a : Int32) (hbw : ∀ k, k ≠ 12 → k ≠ 13 → M 1 k < 2 ^ 31) (h12 : M 1 0 ≤ 12) : Met l yX2_notPump (ws_ yX2_notPump cX2_notPump 2 (some FieldType.int)) ({ frames := 1, cells := 0, slots := 0, locals := 22 }) (zP G dA dS B0 [.ref (q 0), .int (a)] sz (mW dA q M) (fun H => True)) (zQi G (fun (r : Int32) (u : Unit) => r = (mNotPump M a).1) (fun (u : Unit) => mW dA q ((mNotPump M a).2)) (fun (u : Unit) (H : Heap) => True) (va_A (mW dA q M) sz)) 0 0 (va_A (mW dA q M) sz) := by
  refine zM (by decide) (Nat.le_of_ble_eq_true rfl) ?_
  intro p e s m below meth c ls A H locs hHe hx hb hr hlocks hml hown hname hts hX hsz hB hAe hA hAB hH hRo hl
  have hl : lv_has ls 2 [(0, .ref (q 0)), (1, .int (a))] := hl
  refine lv_iload_n hx hb dX2_notPump_0 rfl (lv_at hl 1 rfl) ?_
  refine lv_iconst (v := nI 1) hx hb dX2_notPump_1 (by decide) ?_
  refine lv_bipush (v := nI 9) hx hb dX2_notPump_2 (by decide) ?_
  refine z_ci (wr := mW dA q M) (va_runS (As := [.int (a), .int (nI 1), .int (nI 9)]) (rest := []) ⟨hx, hb, hml, hown, hts⟩ (metX2_isBetween l G dA dS B0 H.size a (nI 1) (nI 9)) (va_cwS 3 hts (lw_S q2001 q2002 q91 q2003) rfl rfl rfl (by decide +kernel) ⟨Nat.le_of_ble_eq_true rfl, Nat.le_of_ble_eq_true rfl⟩) (zPS hX hH hB hAB [] rfl rfl trivial) rfl rfl hl.1 rfl (lv_room (Nat.le_of_ble_eq_true rfl)) dX2_notPump_4 ⟨(Nat.le_of_ble_eq_true rfl), (Nat.le_of_ble_eq_true rfl)⟩) hH hA [] [0, 1, 2, 3, 4, 5, 6, 7, 8] rfl rfl (by decide) (by decide) (fun r_1 u_r_1 H locs hw_r_1 hH hR_r_1 hk_r_1 => ?_)
  obtain rfl := hw_r_1
  have hH : zH G A s.heap (mW dA q M) H locs := hH
  refine z_ifneB (b := inR a (nI 1) (nI 9)) (tgt := 13) hx hb dX2_notPump_7 (by decide) (fun c_7_2 => ?_) (fun c_7_2 => ?_)
  · skip
    obtain ⟨a1, rfl, hl1, hu1⟩ := inR_n (a := 1) (b := 9) (by decide) (by decide) c_7_2
    refine lv_aload_n hx hb dX2_notPump_13 rfl (lv_at hl 0 rfl) ?_
    refine z_get (v := .ref (q 1)) hx hb hts hown hX kX2 6 (by decide) (hH.at 0 rfl) rfl q2016 (fun _ h9 => h9) dX2_notPump_14 ?_
    refine lv_iconst (v := nI 4) hx hb dX2_notPump_17 (by decide) ?_
    refine z_iald (x := nI (M 1 4)) hx hb hX (k := 4)  (hH.at 1 rfl) rfl (by omega) (by omega) rfl dX2_notPump_18 ?_
    have hbd_3 := hbw 4 (by omega) (by omega)
    refine lv_bipush (v := nI 40) hx hb dX2_notPump_19 (by decide) ?_
    refine z_icmp_le (tgt := 39) hx hb dX2_notPump_21 (by decide) (by omega) (by omega) (fun c_21_4 => ?_) (fun c_21_4 => ?_)
    · skip
      have dc_21_4 := Nat.not_lt.mp c_21_4
      refine lv_iconst (v := nI 0) hx hb dX2_notPump_39 (by decide) ?_
      have eM : M = (mNotPump M (nI a1)).2 := by simp [mNotPump, nI_clamp (show a1 < 2 ^ 31 by omega), c_7_2, c_21_4, dc_21_4]
      rw [eM] at hH
      exact z_iret hx hb hr hlocks hH (u := ()) (by simp [mNotPump, nI_clamp (show a1 < 2 ^ 31 by omega), c_7_2, c_21_4, dc_21_4]) ⟨hH.1, hH.2.1⟩ trivial (Nat.le_of_ble_eq_true rfl) (Nat.le_of_ble_eq_true rfl) dX2_notPump_40
    · skip
      refine lv_aload_n hx hb dX2_notPump_24 rfl (lv_at hl 0 rfl) ?_
      refine lv_bipush (v := nI 8) hx hb dX2_notPump_25 (by decide) ?_
      refine lv_aload_n hx hb dX2_notPump_27 rfl (lv_at hl 0 rfl) ?_
      refine z_get (v := .ref (q 1)) hx hb hts hown hX kX2 6 (by decide) (hH.at 0 rfl) rfl q2016 (fun _ h9 => h9) dX2_notPump_28 ?_
      refine lv_iconst (v := nI 4) hx hb dX2_notPump_31 (by decide) ?_
      refine z_iald (x := nI (M 1 4)) hx hb hX (k := 4)  (hH.at 1 rfl) rfl (by omega) (by omega) rfl dX2_notPump_32 ?_
      have hbd_5 := hbw 4 (by omega) (by omega)
      refine z_ci (wr := []) (va_runV (As := [.int (nI 8), .int (nI (M 1 4))]) (rest := []) ⟨hx, hb, hml, hown, hts⟩ (metX2_isNot l G dA dS B0 H.size q M 8 (M 1 4)) (cwV 2 hts (lw_V q2095 q2097 qs29 q91 q2098) rfl rfl rfl (by decide +kernel) ⟨Nat.le_of_ble_eq_true rfl, Nat.le_of_ble_eq_true rfl⟩) (zPV hX hH hB hAB (z_recv hX kX2 (hH.at 0 rfl)) [0, 1, 2, 3, 4, 5, 6, 7, 8] rfl rfl trivial) rfl rfl hl.1 rfl (lv_room (Nat.le_of_ble_eq_true rfl)) dX2_notPump_33 ⟨(Nat.le_of_ble_eq_true rfl), (Nat.le_of_ble_eq_true rfl)⟩) hH hA [0, 1, 2, 3, 4, 5, 6, 7, 8] [] rfl rfl (by decide) (by decide) (fun r_6 u_r_6 H locs hw_r_6 hH hR_r_6 hk_r_6 => ?_)
      obtain rfl := hw_r_6
      have hH : zH G A s.heap (mW dA q (mNot M 8 (M 1 4))) H locs := hH
      refine lv_goto (tgt := 40) hx hb dX2_notPump_36 (by decide) ?_
      have eM : mNot M 8 (M 1 4) = (mNotPump M (nI a1)).2 := by simp [mNotPump, nI_clamp (show a1 < 2 ^ 31 by omega), c_7_2, c_21_4]
      rw [eM] at hH
      exact z_iret hx hb hr hlocks hH (u := ()) (by simp [mNotPump, nI_clamp (show a1 < 2 ^ 31 by omega), c_7_2, c_21_4]) ⟨hH.1, hH.2.1⟩ trivial (Nat.le_of_ble_eq_true rfl) (Nat.le_of_ble_eq_true rfl) dX2_notPump_40
  · skip
    refine lv_bipush (v := (-2)) hx hb dX2_notPump_10 (by decide) ?_
    have eM : M = (mNotPump M a).2 := by simp [mNotPump, c_7_2]
    rw [eM] at hH
    exact z_iret hx hb hr hlocks hH (u := ()) (by simp [mNotPump, c_7_2]) ⟨hH.1, hH.2.1⟩ trivial (Nat.le_of_ble_eq_true rfl) (Nat.le_of_ble_eq_true rfl) dX2_notPump_12

set_option maxHeartbeats 4000000 in
set_option maxRecDepth 100000 in
theorem metX2_pumps (l : Launch) (G : va_G) (dA : Nat → ClassId) (dS : Nat → Nat) (B0 sz : Nat) (q : Nat → Nat) (M : mS) (k : Nat) (hk : k ≤ 20) (B : Nat) (hrb : rB (M 1) B) (hBb : B + 20 < 2 ^ 30) : Met l yX2_pumps (ws_ yX2_pumps cX2_pumps 4 (some FieldType.int)) ({ frames := 4, cells := 0, slots := 0, locals := 107 }) (zP G dA dS B0 [.ref (q 0), .int (nI k)] sz (mW dA q M) (fun H => True)) (zQi G (fun (r : Int32) (u : Unit) => r = nI ((pmp (M 1) k).1)) (fun (u : Unit) => mW dA q (ms M 1 (pmp (M 1) k).2)) (fun (u : Unit) (H : Heap) => True) (va_A (mW dA q M) sz)) 0 0 (va_A (mW dA q M) sz) := by
  refine zM (by decide) (Nat.le_of_ble_eq_true rfl) ?_
  intro p e s m below meth c ls A H locs hHe hx hb hr hlocks hml hown hname hts hX hsz hB hAe hA hAB hH hRo hl
  have hl : lv_has ls 4 [(0, .ref (q 0)), (1, .int (nI k))] := hl
  have hbw := hrb.lt (by omega)
  have h12 := hrb.1
  refine lv_iconst (v := nI 0) hx hb dX2_pumps_0 (by decide) ?_
  refine lv_istore_n (lv' := [(2, .int (nI 0)), (0, .ref (q 0)), (1, .int (nI k))]) hx hb dX2_pumps_1 rfl hl (by decide) rfl (fun ls hl => ?_)
  refine lv_iconst (v := nI 0) hx hb dX2_pumps_2 (by decide) ?_
  refine lv_istore_n (lv' := [(3, .int (nI 0)), (2, .int (nI 0)), (0, .ref (q 0)), (1, .int (nI k))]) hx hb dX2_pumps_3 rfl hl (by decide) rfl (fun ls hl => ?_)
  have LP4_0 : ∀ (fuel : Nat) (v : Nat → Nat) (i : Nat) (sm : Nat) (hfu : (k - i) < fuel) (hrb_v : rB v (B + i)) (hi : i ≤ k) (hsm : sm ≤ 5 * i) (hst : sm + (pmp v (k - i)).1 = (pmp (M 1) k).1 ∧ (pmp v (k - i)).2 = (pmp (M 1) k).2) (H : Heap) (locs : List Loc), zH G A s.heap (mW dA q (ms M 1 v)) H locs → ∀ (ls : Array Slot), lv_has ls 4 [(0, .ref (q 0)), (1, .int (nI k)), (2, .int (nI sm)), (3, .int (nI i))] → W p l e (headSpec (ws_ yX2_pumps cX2_pumps 4 (some FieldType.int)) ({ frames := 4, cells := 0, slots := 0, locals := 107 })).room s m ([.ref (q 0), .int (nI k)] : List Value).toArray below meth c H locs 0 0 (MQ below (zQi G (fun (r : Int32) (u : Unit) => r = nI ((pmp (M 1) k).1)) (fun (u : Unit) => mW dA q (ms M 1 (pmp (M 1) k).2)) (fun (u : Unit) (H : Heap) => True) A) ([.ref (q 0), .int (nI k)] : List Value).toArray s 0 0 A) (F0 m 4 ls []) := by
    intro fuel
    induction fuel with
    | zero => intro v i sm hfu; exact absurd hfu (Nat.not_lt_zero _)
    | succ fuel ih =>
      intro v i sm hfu hrb_v hi hsm hst H locs hH ls hl
      have hbw_v := hrb_v.lt (by omega)
      refine lv_iload_n hx hb dX2_pumps_4 rfl (lv_at hl 3 rfl) ?_
      refine lv_iload_n hx hb dX2_pumps_5 rfl (lv_at hl 1 rfl) ?_
      refine z_icmp_ge (tgt := 33) hx hb dX2_pumps_6 (by decide) (by omega) (by omega) (fun c_6_2 => ?_) (fun c_6_2 => ?_)
      · skip
        have dc_6_2 := Nat.not_lt.mp c_6_2
        refine lv_iload_n hx hb dX2_pumps_33 rfl (lv_at hl 2 rfl) ?_
        have eM : ms M 1 v = ms M 1 (pmp (M 1) k).2 := by exact congrArg (ms M 1) (pmp_e hst (by omega)).2
        rw [eM] at hH
        exact z_iret hx hb hr hlocks hH (u := ()) (by exact congrArg nI (pmp_e hst (by omega)).1) ⟨hH.1, hH.2.1⟩ trivial (Nat.le_of_ble_eq_true rfl) (Nat.le_of_ble_eq_true rfl) dX2_pumps_34
      · skip
        refine lv_aload_n hx hb dX2_pumps_9 rfl (lv_at hl 0 rfl) ?_
        refine z_get (v := .ref (q 1)) hx hb hts hown hX kX2 6 (by decide) (hH.at 0 rfl) rfl q2016 (fun _ h9 => h9) dX2_pumps_10 ?_
        refine lv_iconst (v := nI 4) hx hb dX2_pumps_13 (by decide) ?_
        refine z_iald (x := nI (v 4)) hx hb hX (k := 4)  (hH.at 1 rfl) rfl (by omega) (by omega) rfl dX2_pumps_14 ?_
        have hbd_3 := hbw_v 4 (by omega) (by omega)
        refine lv_bipush (v := nI 40) hx hb dX2_pumps_15 (by decide) ?_
        refine z_icmp_gt (tgt := 33) hx hb dX2_pumps_17 (by decide) (by omega) (by omega) (fun c_17_4 => ?_) (fun c_17_4 => ?_)
        · skip
          refine lv_iload_n hx hb dX2_pumps_33 rfl (lv_at hl 2 rfl) ?_
          have eM : ms M 1 v = ms M 1 (pmp (M 1) k).2 := by exact congrArg (ms M 1) (pmp_e hst (by omega)).2
          rw [eM] at hH
          exact z_iret hx hb hr hlocks hH (u := ()) (by exact congrArg nI (pmp_e hst (by omega)).1) ⟨hH.1, hH.2.1⟩ trivial (Nat.le_of_ble_eq_true rfl) (Nat.le_of_ble_eq_true rfl) dX2_pumps_34
        · skip
          have dc_17_4 := Nat.not_lt.mp c_17_4
          refine lv_iload_n hx hb dX2_pumps_20 rfl (lv_at hl 2 rfl) ?_
          refine lv_aload_n hx hb dX2_pumps_21 rfl (lv_at hl 0 rfl) ?_
          refine z_ci (wr := []) (va_runV (As := []) (rest := [.int (nI sm)]) ⟨hx, hb, hml, hown, hts⟩ (metX2_strokesOnce l G dA dS B0 H.size q (ms M 1 v) (B + i) hrb_v (by omega) (by show v 4 ≤ 40; omega)) (cwV 0 hts (lw_V q2223 q2225 qs54 q91 q2226) rfl rfl rfl (by decide +kernel) ⟨Nat.le_of_ble_eq_true rfl, Nat.le_of_ble_eq_true rfl⟩) (zPV hX hH hB hAB (z_recv hX kX2 (hH.at 0 rfl)) [0, 1, 2, 3, 4, 5, 6, 7, 8] rfl rfl trivial) rfl rfl hl.1 rfl (lv_room (Nat.le_of_ble_eq_true rfl)) dX2_pumps_22 ⟨(Nat.le_of_ble_eq_true rfl), (Nat.le_of_ble_eq_true rfl)⟩) hH hA [0, 1, 2, 3, 4, 5, 6, 7, 8] [] rfl rfl (by decide) (by decide) (fun r_5 u_r_5 H locs hw_r_5 hH hR_r_5 hk_r_5 => ?_)
          obtain rfl := hw_r_5
          refine z_topi (y := nI ((strO v).1)) rfl ?_
          have hH : zH G A s.heap (mW dA q (ms M 1 (strO v).2)) H locs := hH
          have hso_6 := (strO_B hrb_v (by omega)).2
          refine lv_iadd hx hb dX2_pumps_25 ?_
          refine z_topi (y := nI (sm + (strO v).1)) (nI_add _ _) ?_
          refine lv_istore_n (lv' := [(2, .int (nI (sm + (strO v).1))), (0, .ref (q 0)), (1, .int (nI k)), (3, .int (nI i))]) hx hb dX2_pumps_26 rfl hl (by decide) rfl (fun ls hl => ?_)
          refine lv_iinc (v := nI (i + 1)) (lv' := [(3, .int (nI (i + 1))), (2, .int (nI (sm + (strO v).1))), (0, .ref (q 0)), (1, .int (nI k))]) hx hb dX2_pumps_27 hl (k := 3) rfl (nI_1 _) (by decide) rfl (fun ls hl => ?_)
          refine lv_goto (tgt := 4) hx hb dX2_pumps_30 (by decide) ?_
          have eL : ms M 1 (strO v).2 = ms M 1 ((strO v).2) := by rfl
          rw [eL] at hH
          exact ih ((strO v).2) (i + 1) (sm + (strO v).1) (by omega) ((strO_B hrb_v (by omega)).1) (by omega) (by have := (strO_B hrb_v (by omega)).2; omega) (pmp_s hst (by omega) (by omega)) _ _ hH ls (lv_sub hl [2, 3, 1, 0] rfl)
  have eL : M = ms M 1 (M 1) := by exact (ms_id M 1).symm
  rw [eL] at hH
  exact LP4_0 ((k - 0) + 1) (M 1) 0 0 (Nat.lt_succ_self _) (hrb) (by omega) (by omega) (by rw [Nat.zero_add, Nat.sub_zero]; exact ⟨rfl, rfl⟩) _ _ hH ls (lv_sub hl [2, 3, 1, 0] rfl)

set_option maxHeartbeats 4000000 in
set_option maxRecDepth 100000 in
theorem metX2_joke (l : Launch) (G : va_G) (dA : Nat → ClassId) (dS : Nat → Nat) (B0 sz : Nat) (q : Nat → Nat) (M : mS) (a : Int32) (b : Int32) (c9 : Int32) (d9 : Int32) (B : Nat) (hrb : rB (M 1) B) (hBb : B + 20 < 2 ^ 30) (hch : M 0 11 ≤ 8) (hfc : M 0 12 < 8) : Met l yX2_joke (ws_ yX2_joke cX2_joke 6 (some FieldType.int)) ({ frames := 3, cells := 0, slots := 0, locals := 69 }) (zP G dA dS B0 [.ref (q 0), .int (a), .int (b), .int (c9), .int (d9)] sz (mW dA q M) (fun H => True)) (zQi G (fun (r : Int32) (u : Unit) => r = (mJoke M a b c9 d9).1) (fun (u : Unit) => mW dA q ((mJoke M a b c9 d9).2)) (fun (u : Unit) (H : Heap) => True) (va_A (mW dA q M) sz)) 0 0 (va_A (mW dA q M) sz) := by
  refine zM (by decide) (Nat.le_of_ble_eq_true rfl) ?_
  intro p e s m below meth c ls A H locs hHe hx hb hr hlocks hml hown hname hts hX hsz hB hAe hA hAB hH hRo hl
  have hl : lv_has ls 6 [(0, .ref (q 0)), (1, .int (a)), (2, .int (b)), (3, .int (c9)), (4, .int (d9))] := hl
  have hbw := hrb.lt (by omega)
  have h12 := hrb.1
  have hd9 := hrb.2.2.2.2.2.2.2.2.1
  refine lv_aload_n hx hb dX2_joke_0 rfl (lv_at hl 0 rfl) ?_
  refine lv_iload_n hx hb dX2_joke_1 rfl (lv_at hl 1 rfl) ?_
  refine lv_iload_n hx hb dX2_joke_2 rfl (lv_at hl 2 rfl) ?_
  refine lv_iload_n hx hb dX2_joke_3 rfl (lv_at hl 3 rfl) ?_
  refine lv_iload hx hb dX2_joke_4 (lv_at hl 4 rfl) ?_
  refine z_ci (wr := []) (va_runV (As := [.int (a), .int (b), .int (c9), .int (d9)]) (rest := []) ⟨hx, hb, hml, hown, hts⟩ (metX2_notJoke l G dA dS B0 H.size q M a b c9 d9 (by first | exact hbw | assumption | omega) (by first | exact h12 | assumption | omega) (hrb.lt32 (by omega))) (cwV 4 hts (lw_V q2084 q2086 qs27 q91 q2087) rfl rfl rfl (by decide +kernel) ⟨Nat.le_of_ble_eq_true rfl, Nat.le_of_ble_eq_true rfl⟩) (zPV hX hH hB hAB (z_recv hX kX2 (hH.at 0 rfl)) [0, 1, 2, 3, 4, 5, 6, 7, 8] rfl rfl trivial) rfl rfl hl.1 rfl (lv_room (Nat.le_of_ble_eq_true rfl)) dX2_joke_6 ⟨(Nat.le_of_ble_eq_true rfl), (Nat.le_of_ble_eq_true rfl)⟩) hH hA [0, 1, 2, 3, 4, 5, 6, 7, 8] [] rfl rfl (by decide) (by decide) (fun r_1 u_r_1 H locs hw_r_1 hH hR_r_1 hk_r_1 => ?_)
  obtain rfl := hw_r_1
  have hH : zH G A s.heap (mW dA q ((mNotJoke M a b c9 d9).2)) H locs := hH
  refine lv_istore (lv' := [(5, .int ((mNotJoke M a b c9 d9).1)), (0, .ref (q 0)), (1, .int (a)), (2, .int (b)), (3, .int (c9)), (4, .int (d9))]) hx hb dX2_joke_9 hl (by decide) rfl (fun ls hl => ?_)
  refine lv_iload hx hb dX2_joke_11 (lv_at hl 0 rfl) ?_
  refine lv_if_eq (tgt := 23) hx hb dX2_joke_13 (by decide) (fun c_13_2 => ?_) (fun c_13_2 => ?_)
  · skip
    obtain ⟨⟨a1, rfl, ha1⟩, ⟨b1, rfl, hb0, hb1⟩, ⟨c1, rfl, hc1⟩, ⟨d1, rfl, hd0, hd1⟩, hM, h11⟩ := notJoke_0 h12 c_13_2
    rw [hM] at hH
    refine lv_aload_n hx hb dX2_joke_23 rfl (lv_at hl 1 rfl) ?_
    refine z_cv (wr := []) (va_runV (As := []) (rest := []) ⟨hx, hb, hml, hown, hts⟩ (metX2_remembers l G dA dS B0 H.size q M (by first | exact hch | assumption | omega) (by first | exact hfc | assumption | omega)) (cwV 0 hts (lw_V q2119 q2121 qs35 q91 q2122) rfl rfl rfl (by decide +kernel) ⟨Nat.le_of_ble_eq_true rfl, Nat.le_of_ble_eq_true rfl⟩) (zPV hX hH hB hAB (z_recv hX kX2 (hH.at 0 rfl)) [0, 1, 2, 3, 4, 5, 6, 7, 8] rfl rfl trivial) rfl rfl hl.1 rfl (lv_room (Nat.le_of_ble_eq_true rfl)) dX2_joke_24 ⟨(Nat.le_of_ble_eq_true rfl), (Nat.le_of_ble_eq_true rfl)⟩) hH hA [0, 1, 2, 3, 4, 5, 6, 7, 8] [] rfl rfl (by decide) (by decide) (fun u_r_3 H locs hw_r_3 hH hR_r_3 hk_r_3 => ?_)
    have hH : zH G A s.heap (mW dA q (mKeep (mCp M 4 1))) H locs := hH
    have hH : zH G A s.heap (mW dA q (mRem M)) H locs := hH
    refine lv_aload_n hx hb dX2_joke_27 rfl (lv_at hl 1 rfl) ?_
    refine lv_iload_n hx hb dX2_joke_28 rfl (lv_at hl 2 rfl) ?_
    refine lv_iload_n hx hb dX2_joke_29 rfl (lv_at hl 3 rfl) ?_
    refine lv_iload_n hx hb dX2_joke_30 rfl (lv_at hl 4 rfl) ?_
    refine lv_iload hx hb dX2_joke_31 (lv_at hl 5 rfl) ?_
    refine z_ci (wr := []) (va_runV (As := [.int (nI a1), .int (nI b1), .int (nI c1), .int (nI d1)]) (rest := []) ⟨hx, hb, hml, hown, hts⟩ (metX2_comes l G dA dS B0 H.size q (mRem M) a1 b1 c1 d1 (by rw [mRem_1]; exact hbw) (by rw [mRem_1]; exact h11)) (cwV 4 hts (lw_V q2131 q2133 qs38 q91 q2134) rfl rfl rfl (by decide +kernel) ⟨Nat.le_of_ble_eq_true rfl, Nat.le_of_ble_eq_true rfl⟩) (zPV hX hH hB hAB (z_recv hX kX2 (hH.at 0 rfl)) [0, 1, 2, 3, 4, 5, 6, 7, 8] rfl rfl trivial) rfl rfl hl.1 rfl (lv_room (Nat.le_of_ble_eq_true rfl)) dX2_joke_33 ⟨(Nat.le_of_ble_eq_true rfl), (Nat.le_of_ble_eq_true rfl)⟩) hH hA [0, 1, 2, 3, 4, 5, 6, 7, 8] [] rfl rfl (by decide) (by decide) (fun r_4 u_r_4 H locs hw_r_4 hH hR_r_4 hk_r_4 => ?_)
    obtain rfl := hw_r_4
    have hH : zH G A s.heap (mW dA q (mComes (mRem M) a1 b1 c1 d1)) H locs := hH
    have eM : mComes (mRem M) a1 b1 c1 d1 = (mJoke M (nI a1) (nI b1) (nI c1) (nI d1)).2 := by rw [mJoke, if_pos c_13_2]; first | done | (simp only [cl, nI_clamp (show a1 < 2 ^ 31 by omega), nI_clamp (show b1 < 2 ^ 31 by omega), nI_clamp (show c1 < 2 ^ 31 by omega), nI_clamp (show d1 < 2 ^ 31 by omega)]; done) | rfl
    rw [eM] at hH
    exact z_iret hx hb hr hlocks hH (u := ()) (by rw [mJoke, if_pos c_13_2]; first | done | (simp only [cl, nI_clamp (show a1 < 2 ^ 31 by omega), nI_clamp (show b1 < 2 ^ 31 by omega), nI_clamp (show c1 < 2 ^ 31 by omega), nI_clamp (show d1 < 2 ^ 31 by omega)]; done) | rfl) ⟨hH.1, hH.2.1⟩ trivial (Nat.le_of_ble_eq_true rfl) (Nat.le_of_ble_eq_true rfl) dX2_joke_36
  · skip
    refine lv_aload_n hx hb dX2_joke_16 rfl (lv_at hl 1 rfl) ?_
    refine lv_iload hx hb dX2_joke_17 (lv_at hl 0 rfl) ?_
    refine z_ci (wr := []) (va_runV (As := [.int ((mNotJoke M a b c9 d9).1)]) (rest := []) ⟨hx, hb, hml, hown, hts⟩ (metX2_answers l G dA dS B0 H.size q ((mNotJoke M a b c9 d9).2) ((mNotJoke M a b c9 d9).1)) (cwV 1 hts (lw_V q2115 q2117 qs34 q91 q2118) rfl rfl rfl (by decide +kernel) ⟨Nat.le_of_ble_eq_true rfl, Nat.le_of_ble_eq_true rfl⟩) (zPV hX hH hB hAB (z_recv hX kX2 (hH.at 0 rfl)) [0, 1, 2, 3, 4, 5, 6, 7, 8] rfl rfl trivial) rfl rfl hl.1 rfl (lv_room (Nat.le_of_ble_eq_true rfl)) dX2_joke_19 ⟨(Nat.le_of_ble_eq_true rfl), (Nat.le_of_ble_eq_true rfl)⟩) hH hA [0, 1, 2, 3, 4, 5, 6, 7, 8] [] rfl rfl (by decide) (by decide) (fun r_5 u_r_5 H locs hw_r_5 hH hR_r_5 hk_r_5 => ?_)
    obtain rfl := hw_r_5
    have hH : zH G A s.heap (mW dA q (mAns ((mNotJoke M a b c9 d9).2) ((mNotJoke M a b c9 d9).1))) H locs := hH
    have eM : mAns ((mNotJoke M a b c9 d9).2) ((mNotJoke M a b c9 d9).1) = (mJoke M a b c9 d9).2 := by rw [mJoke, if_neg c_13_2]; first | done | rfl
    rw [eM] at hH
    exact z_iret hx hb hr hlocks hH (u := ()) (by rw [mJoke, if_neg c_13_2]; first | done | rfl) ⟨hH.1, hH.2.1⟩ trivial (Nat.le_of_ble_eq_true rfl) (Nat.le_of_ble_eq_true rfl) dX2_joke_22

set_option maxHeartbeats 4000000 in
set_option maxRecDepth 100000 in
theorem metX2_prime (l : Launch) (G : va_G) (dA : Nat → ClassId) (dS : Nat → Nat) (B0 sz : Nat) (q : Nat → Nat) (M : mS) (a : Int32) (B : Nat) (hrb : rB (M 1) B) (hBb : B + 20 < 2 ^ 30) (hch : M 0 11 ≤ 8) (hfc : M 0 12 < 8) : Met l yX2_prime (ws_ yX2_prime cX2_prime 3 (some FieldType.int)) ({ frames := 3, cells := 0, slots := 0, locals := 64 }) (zP G dA dS B0 [.ref (q 0), .int (a)] sz (mW dA q M) (fun H => True)) (zQi G (fun (r : Int32) (u : Unit) => r = (mPrime M a).1) (fun (u : Unit) => mW dA q ((mPrime M a).2)) (fun (u : Unit) (H : Heap) => True) (va_A (mW dA q M) sz)) 0 0 (va_A (mW dA q M) sz) := by
  refine zM (by decide) (Nat.le_of_ble_eq_true rfl) ?_
  intro p e s m below meth c ls A H locs hHe hx hb hr hlocks hml hown hname hts hX hsz hB hAe hA hAB hH hRo hl
  have hl : lv_has ls 3 [(0, .ref (q 0)), (1, .int (a))] := hl
  have hbw := hrb.lt (by omega)
  have h12 := hrb.1
  have hd9 := hrb.2.2.2.2.2.2.2.2.1
  refine lv_aload_n hx hb dX2_prime_0 rfl (lv_at hl 0 rfl) ?_
  refine lv_iload_n hx hb dX2_prime_1 rfl (lv_at hl 1 rfl) ?_
  refine z_ci (wr := []) (va_runV (As := [.int (a)]) (rest := []) ⟨hx, hb, hml, hown, hts⟩ (metX2_notPrime l G dA dS B0 H.size q M a (by first | exact hbw | assumption | omega) (by first | exact h12 | assumption | omega)) (cwV 1 hts (lw_V q2139 q2141 qs39 q91 q2142) rfl rfl rfl (by decide +kernel) ⟨Nat.le_of_ble_eq_true rfl, Nat.le_of_ble_eq_true rfl⟩) (zPV hX hH hB hAB (z_recv hX kX2 (hH.at 0 rfl)) [0, 1, 2, 3, 4, 5, 6, 7, 8] rfl rfl trivial) rfl rfl hl.1 rfl (lv_room (Nat.le_of_ble_eq_true rfl)) dX2_prime_2 ⟨(Nat.le_of_ble_eq_true rfl), (Nat.le_of_ble_eq_true rfl)⟩) hH hA [0, 1, 2, 3, 4, 5, 6, 7, 8] [] rfl rfl (by decide) (by decide) (fun r_1 u_r_1 H locs hw_r_1 hH hR_r_1 hk_r_1 => ?_)
  obtain rfl := hw_r_1
  have hH : zH G A s.heap (mW dA q ((mNotPrime M a).2)) H locs := hH
  refine lv_istore_n (lv' := [(2, .int ((mNotPrime M a).1)), (0, .ref (q 0)), (1, .int (a))]) hx hb dX2_prime_5 rfl hl (by decide) rfl (fun ls hl => ?_)
  refine lv_iload_n hx hb dX2_prime_6 rfl (lv_at hl 0 rfl) ?_
  refine lv_if_eq (tgt := 16) hx hb dX2_prime_7 (by decide) (fun c_7_2 => ?_) (fun c_7_2 => ?_)
  · skip
    obtain ⟨a1, rfl, ha1, ha4, hd1, hM⟩ := notPrime_0 h12 c_7_2
    rw [hM] at hH
    refine lv_aload_n hx hb dX2_prime_16 rfl (lv_at hl 1 rfl) ?_
    refine z_cv (wr := []) (va_runV (As := []) (rest := []) ⟨hx, hb, hml, hown, hts⟩ (metX2_remembers l G dA dS B0 H.size q M (by first | exact hch | assumption | omega) (by first | exact hfc | assumption | omega)) (cwV 0 hts (lw_V q2119 q2121 qs35 q91 q2122) rfl rfl rfl (by decide +kernel) ⟨Nat.le_of_ble_eq_true rfl, Nat.le_of_ble_eq_true rfl⟩) (zPV hX hH hB hAB (z_recv hX kX2 (hH.at 0 rfl)) [0, 1, 2, 3, 4, 5, 6, 7, 8] rfl rfl trivial) rfl rfl hl.1 rfl (lv_room (Nat.le_of_ble_eq_true rfl)) dX2_prime_17 ⟨(Nat.le_of_ble_eq_true rfl), (Nat.le_of_ble_eq_true rfl)⟩) hH hA [0, 1, 2, 3, 4, 5, 6, 7, 8] [] rfl rfl (by decide) (by decide) (fun u_r_3 H locs hw_r_3 hH hR_r_3 hk_r_3 => ?_)
    have hH : zH G A s.heap (mW dA q (mKeep (mCp M 4 1))) H locs := hH
    have hH : zH G A s.heap (mW dA q (mRem M)) H locs := hH
    refine lv_aload_n hx hb dX2_prime_20 rfl (lv_at hl 1 rfl) ?_
    refine lv_iload_n hx hb dX2_prime_21 rfl (lv_at hl 2 rfl) ?_
    refine z_ci (wr := []) (va_runV (As := [.int (nI a1)]) (rest := []) ⟨hx, hb, hml, hown, hts⟩ (metX2_primes l G dA dS B0 H.size q (mRem M) a1 (by omega) (by rw [mRem_1]; exact hbw) (by rw [mRem_1]; exact hd1)) (cwV 1 hts (lw_V q2147 q2149 qs41 q91 q2150) rfl rfl rfl (by decide +kernel) ⟨Nat.le_of_ble_eq_true rfl, Nat.le_of_ble_eq_true rfl⟩) (zPV hX hH hB hAB (z_recv hX kX2 (hH.at 0 rfl)) [0, 1, 2, 3, 4, 5, 6, 7, 8] rfl rfl trivial) rfl rfl hl.1 rfl (lv_room (Nat.le_of_ble_eq_true rfl)) dX2_prime_22 ⟨(Nat.le_of_ble_eq_true rfl), (Nat.le_of_ble_eq_true rfl)⟩) hH hA [0, 1, 2, 3, 4, 5, 6, 7, 8] [] rfl rfl (by decide) (by decide) (fun r_4 u_r_4 H locs hw_r_4 hH hR_r_4 hk_r_4 => ?_)
    obtain rfl := hw_r_4
    have hH : zH G A s.heap (mW dA q (mu (mu (mRem M) 1 (22 + 5 * a1 + 4) 1) 1 5 ((mRem M) 1 5 - 1))) H locs := hH
    have eM : mu (mu (mRem M) 1 (22 + 5 * a1 + 4) 1) 1 5 ((mRem M) 1 5 - 1) = (mPrime M (nI a1)).2 := by rw [mPrime, if_pos c_7_2]; first | done | (simp only [cl, nI_clamp (show a1 < 2 ^ 31 by omega)]; done) | rfl
    rw [eM] at hH
    exact z_iret hx hb hr hlocks hH (u := ()) (by rw [mPrime, if_pos c_7_2]; first | done | (simp only [cl, nI_clamp (show a1 < 2 ^ 31 by omega)]; done) | rfl) ⟨hH.1, hH.2.1⟩ trivial (Nat.le_of_ble_eq_true rfl) (Nat.le_of_ble_eq_true rfl) dX2_prime_25
  · skip
    refine lv_aload_n hx hb dX2_prime_10 rfl (lv_at hl 1 rfl) ?_
    refine lv_iload_n hx hb dX2_prime_11 rfl (lv_at hl 0 rfl) ?_
    refine z_ci (wr := []) (va_runV (As := [.int ((mNotPrime M a).1)]) (rest := []) ⟨hx, hb, hml, hown, hts⟩ (metX2_answers l G dA dS B0 H.size q ((mNotPrime M a).2) ((mNotPrime M a).1)) (cwV 1 hts (lw_V q2115 q2117 qs34 q91 q2118) rfl rfl rfl (by decide +kernel) ⟨Nat.le_of_ble_eq_true rfl, Nat.le_of_ble_eq_true rfl⟩) (zPV hX hH hB hAB (z_recv hX kX2 (hH.at 0 rfl)) [0, 1, 2, 3, 4, 5, 6, 7, 8] rfl rfl trivial) rfl rfl hl.1 rfl (lv_room (Nat.le_of_ble_eq_true rfl)) dX2_prime_12 ⟨(Nat.le_of_ble_eq_true rfl), (Nat.le_of_ble_eq_true rfl)⟩) hH hA [0, 1, 2, 3, 4, 5, 6, 7, 8] [] rfl rfl (by decide) (by decide) (fun r_5 u_r_5 H locs hw_r_5 hH hR_r_5 hk_r_5 => ?_)
    obtain rfl := hw_r_5
    have hH : zH G A s.heap (mW dA q (mAns ((mNotPrime M a).2) ((mNotPrime M a).1))) H locs := hH
    have eM : mAns ((mNotPrime M a).2) ((mNotPrime M a).1) = (mPrime M a).2 := by rw [mPrime, if_neg c_7_2]; first | done | rfl
    rw [eM] at hH
    exact z_iret hx hb hr hlocks hH (u := ()) (by rw [mPrime, if_neg c_7_2]; first | done | rfl) ⟨hH.1, hH.2.1⟩ trivial (Nat.le_of_ble_eq_true rfl) (Nat.le_of_ble_eq_true rfl) dX2_prime_15

set_option maxHeartbeats 4000000 in
set_option maxRecDepth 100000 in
theorem metX2_drop (l : Launch) (G : va_G) (dA : Nat → ClassId) (dS : Nat → Nat) (B0 sz : Nat) (q : Nat → Nat) (M : mS) (a : Int32) (B : Nat) (hrb : rB (M 1) B) (hBb : B + 20 < 2 ^ 30) (hch : M 0 11 ≤ 8) (hfc : M 0 12 < 8) : Met l yX2_drop (ws_ yX2_drop cX2_drop 3 (some FieldType.int)) ({ frames := 3, cells := 0, slots := 0, locals := 64 }) (zP G dA dS B0 [.ref (q 0), .int (a)] sz (mW dA q M) (fun H => True)) (zQi G (fun (r : Int32) (u : Unit) => r = (mDrop M a).1) (fun (u : Unit) => mW dA q ((mDrop M a).2)) (fun (u : Unit) (H : Heap) => True) (va_A (mW dA q M) sz)) 0 0 (va_A (mW dA q M) sz) := by
  refine zM (by decide) (Nat.le_of_ble_eq_true rfl) ?_
  intro p e s m below meth c ls A H locs hHe hx hb hr hlocks hml hown hname hts hX hsz hB hAe hA hAB hH hRo hl
  have hl : lv_has ls 3 [(0, .ref (q 0)), (1, .int (a))] := hl
  have hbw := hrb.lt (by omega)
  have h12 := hrb.1
  have hd9 := hrb.2.2.2.2.2.2.2.2.1
  refine lv_aload_n hx hb dX2_drop_0 rfl (lv_at hl 0 rfl) ?_
  refine lv_iload_n hx hb dX2_drop_1 rfl (lv_at hl 1 rfl) ?_
  refine z_ci (wr := []) (va_runV (As := [.int (a)]) (rest := []) ⟨hx, hb, hml, hown, hts⟩ (metX2_notDrop l G dA dS B0 H.size q M a) (cwV 1 hts (lw_V q2155 q2157 qs42 q91 q2158) rfl rfl rfl (by decide +kernel) ⟨Nat.le_of_ble_eq_true rfl, Nat.le_of_ble_eq_true rfl⟩) (zPV hX hH hB hAB (z_recv hX kX2 (hH.at 0 rfl)) [0, 1, 2, 3, 4, 5, 6, 7, 8] rfl rfl trivial) rfl rfl hl.1 rfl (lv_room (Nat.le_of_ble_eq_true rfl)) dX2_drop_2 ⟨(Nat.le_of_ble_eq_true rfl), (Nat.le_of_ble_eq_true rfl)⟩) hH hA [0, 1, 2, 3, 4, 5, 6, 7, 8] [] rfl rfl (by decide) (by decide) (fun r_1 u_r_1 H locs hw_r_1 hH hR_r_1 hk_r_1 => ?_)
  obtain rfl := hw_r_1
  have hH : zH G A s.heap (mW dA q M) H locs := hH
  refine lv_istore_n (lv' := [(2, .int (mNotDrop M a)), (0, .ref (q 0)), (1, .int (a))]) hx hb dX2_drop_5 rfl hl (by decide) rfl (fun ls hl => ?_)
  refine lv_iload_n hx hb dX2_drop_6 rfl (lv_at hl 0 rfl) ?_
  refine lv_if_eq (tgt := 12) hx hb dX2_drop_7 (by decide) (fun c_7_2 => ?_) (fun c_7_2 => ?_)
  · skip
    obtain ⟨a1, rfl, hj⟩ := notDrop_0 h12 c_7_2
    refine lv_aload_n hx hb dX2_drop_12 rfl (lv_at hl 1 rfl) ?_
    refine z_cv (wr := []) (va_runV (As := []) (rest := []) ⟨hx, hb, hml, hown, hts⟩ (metX2_remembers l G dA dS B0 H.size q M (by first | exact hch | assumption | omega) (by first | exact hfc | assumption | omega)) (cwV 0 hts (lw_V q2119 q2121 qs35 q91 q2122) rfl rfl rfl (by decide +kernel) ⟨Nat.le_of_ble_eq_true rfl, Nat.le_of_ble_eq_true rfl⟩) (zPV hX hH hB hAB (z_recv hX kX2 (hH.at 0 rfl)) [0, 1, 2, 3, 4, 5, 6, 7, 8] rfl rfl trivial) rfl rfl hl.1 rfl (lv_room (Nat.le_of_ble_eq_true rfl)) dX2_drop_13 ⟨(Nat.le_of_ble_eq_true rfl), (Nat.le_of_ble_eq_true rfl)⟩) hH hA [0, 1, 2, 3, 4, 5, 6, 7, 8] [] rfl rfl (by decide) (by decide) (fun u_r_3 H locs hw_r_3 hH hR_r_3 hk_r_3 => ?_)
    have hH : zH G A s.heap (mW dA q (mKeep (mCp M 4 1))) H locs := hH
    have hH : zH G A s.heap (mW dA q (mRem M)) H locs := hH
    refine lv_aload_n hx hb dX2_drop_16 rfl (lv_at hl 1 rfl) ?_
    refine lv_iload_n hx hb dX2_drop_17 rfl (lv_at hl 2 rfl) ?_
    refine z_ci (wr := []) (va_runV (As := [.int (nI a1)]) (rest := []) ⟨hx, hb, hml, hown, hts⟩ (metX2_drops l G dA dS B0 H.size q (mRem M) a1 (by rw [mRem_1]; exact hj) (by rw [mRem_1]; exact hbw) (by rw [mRem_1]; exact h12)) (cwV 1 hts (lw_V q2159 q2161 qs43 q91 q2162) rfl rfl rfl (by decide +kernel) ⟨Nat.le_of_ble_eq_true rfl, Nat.le_of_ble_eq_true rfl⟩) (zPV hX hH hB hAB (z_recv hX kX2 (hH.at 0 rfl)) [0, 1, 2, 3, 4, 5, 6, 7, 8] rfl rfl trivial) rfl rfl hl.1 rfl (lv_room (Nat.le_of_ble_eq_true rfl)) dX2_drop_18 ⟨(Nat.le_of_ble_eq_true rfl), (Nat.le_of_ble_eq_true rfl)⟩) hH hA [0, 1, 2, 3, 4, 5, 6, 7, 8] [] rfl rfl (by decide) (by decide) (fun r_4 u_r_4 H locs hw_r_4 hH hR_r_4 hk_r_4 => ?_)
    obtain rfl := hw_r_4
    have hH : zH G A s.heap (mW dA q (mDrops (mRem M) a1)) H locs := hH
    have eM : mDrops (mRem M) a1 = (mDrop M (nI a1)).2 := by rw [mDrop, if_pos c_7_2]; first | done | (simp only [cl, nI_clamp (show a1 < 2 ^ 31 by omega)]; done) | rfl
    rw [eM] at hH
    exact z_iret hx hb hr hlocks hH (u := ()) (by rw [mDrop, if_pos c_7_2]; first | done | (simp only [cl, nI_clamp (show a1 < 2 ^ 31 by omega)]; done) | rfl) ⟨hH.1, hH.2.1⟩ trivial (Nat.le_of_ble_eq_true rfl) (Nat.le_of_ble_eq_true rfl) dX2_drop_21
  · skip
    refine lv_iload_n hx hb dX2_drop_10 rfl (lv_at hl 0 rfl) ?_
    have eM : M = (mDrop M a).2 := by rw [mDrop, if_neg c_7_2]; first | done | rfl
    rw [eM] at hH
    exact z_iret hx hb hr hlocks hH (u := ()) (by rw [mDrop, if_neg c_7_2]; first | done | rfl) ⟨hH.1, hH.2.1⟩ trivial (Nat.le_of_ble_eq_true rfl) (Nat.le_of_ble_eq_true rfl) dX2_drop_11

set_option maxHeartbeats 4000000 in
set_option maxRecDepth 100000 in
theorem metX2_drain (l : Launch) (G : va_G) (dA : Nat → ClassId) (dS : Nat → Nat) (B0 sz : Nat) (q : Nat → Nat) (M : mS) (a : Int32) (B : Nat) (hrb : rB (M 1) B) (hBb : B + 20 < 2 ^ 30) (hch : M 0 11 ≤ 8) (hfc : M 0 12 < 8) : Met l yX2_drain (ws_ yX2_drain cX2_drain 3 (some FieldType.int)) ({ frames := 2, cells := 0, slots := 0, locals := 43 }) (zP G dA dS B0 [.ref (q 0), .int (a)] sz (mW dA q M) (fun H => True)) (zQi G (fun (r : Int32) (u : Unit) => r = (mDrain M a).1) (fun (u : Unit) => mW dA q ((mDrain M a).2)) (fun (u : Unit) (H : Heap) => True) (va_A (mW dA q M) sz)) 0 0 (va_A (mW dA q M) sz) := by
  refine zM (by decide) (Nat.le_of_ble_eq_true rfl) ?_
  intro p e s m below meth c ls A H locs hHe hx hb hr hlocks hml hown hname hts hX hsz hB hAe hA hAB hH hRo hl
  have hl : lv_has ls 3 [(0, .ref (q 0)), (1, .int (a))] := hl
  have hbw := hrb.lt (by omega)
  have h12 := hrb.1
  have hd9 := hrb.2.2.2.2.2.2.2.2.1
  refine lv_aload_n hx hb dX2_drain_0 rfl (lv_at hl 0 rfl) ?_
  refine lv_iload_n hx hb dX2_drain_1 rfl (lv_at hl 1 rfl) ?_
  refine z_ci (wr := []) (va_runV (As := [.int (a)]) (rest := []) ⟨hx, hb, hml, hown, hts⟩ (metX2_notDrain l G dA dS B0 H.size q M a (by first | exact hbw | assumption | omega) (by first | exact h12 | assumption | omega)) (cwV 1 hts (lw_V q2171 q2173 qs45 q91 q2174) rfl rfl rfl (by decide +kernel) ⟨Nat.le_of_ble_eq_true rfl, Nat.le_of_ble_eq_true rfl⟩) (zPV hX hH hB hAB (z_recv hX kX2 (hH.at 0 rfl)) [0, 1, 2, 3, 4, 5, 6, 7, 8] rfl rfl trivial) rfl rfl hl.1 rfl (lv_room (Nat.le_of_ble_eq_true rfl)) dX2_drain_2 ⟨(Nat.le_of_ble_eq_true rfl), (Nat.le_of_ble_eq_true rfl)⟩) hH hA [0, 1, 2, 3, 4, 5, 6, 7, 8] [] rfl rfl (by decide) (by decide) (fun r_1 u_r_1 H locs hw_r_1 hH hR_r_1 hk_r_1 => ?_)
  obtain rfl := hw_r_1
  have hH : zH G A s.heap (mW dA q ((mNotDrain M a).2)) H locs := hH
  refine lv_istore_n (lv' := [(2, .int ((mNotDrain M a).1)), (0, .ref (q 0)), (1, .int (a))]) hx hb dX2_drain_5 rfl hl (by decide) rfl (fun ls hl => ?_)
  refine lv_iload_n hx hb dX2_drain_6 rfl (lv_at hl 0 rfl) ?_
  refine lv_if_eq (tgt := 16) hx hb dX2_drain_7 (by decide) (fun c_7_2 => ?_) (fun c_7_2 => ?_)
  · skip
    obtain ⟨a1, rfl, ha0, ha1, hg, hM⟩ := notDrain_0 c_7_2
    rw [hM] at hH
    refine lv_aload_n hx hb dX2_drain_16 rfl (lv_at hl 1 rfl) ?_
    refine z_cv (wr := []) (va_runV (As := []) (rest := []) ⟨hx, hb, hml, hown, hts⟩ (metX2_remembers l G dA dS B0 H.size q M (by first | exact hch | assumption | omega) (by first | exact hfc | assumption | omega)) (cwV 0 hts (lw_V q2119 q2121 qs35 q91 q2122) rfl rfl rfl (by decide +kernel) ⟨Nat.le_of_ble_eq_true rfl, Nat.le_of_ble_eq_true rfl⟩) (zPV hX hH hB hAB (z_recv hX kX2 (hH.at 0 rfl)) [0, 1, 2, 3, 4, 5, 6, 7, 8] rfl rfl trivial) rfl rfl hl.1 rfl (lv_room (Nat.le_of_ble_eq_true rfl)) dX2_drain_17 ⟨(Nat.le_of_ble_eq_true rfl), (Nat.le_of_ble_eq_true rfl)⟩) hH hA [0, 1, 2, 3, 4, 5, 6, 7, 8] [] rfl rfl (by decide) (by decide) (fun u_r_3 H locs hw_r_3 hH hR_r_3 hk_r_3 => ?_)
    have hH : zH G A s.heap (mW dA q (mKeep (mCp M 4 1))) H locs := hH
    have hH : zH G A s.heap (mW dA q (mRem M)) H locs := hH
    refine lv_aload_n hx hb dX2_drain_20 rfl (lv_at hl 1 rfl) ?_
    refine lv_iload_n hx hb dX2_drain_21 rfl (lv_at hl 2 rfl) ?_
    refine z_ci (wr := []) (va_runV (As := [.int (nI a1)]) (rest := []) ⟨hx, hb, hml, hown, hts⟩ (metX2_drains l G dA dS B0 H.size q (mRem M) a1 (by rw [mRem_1]; exact hg) (by omega) (by rw [mRem_1]; exact hbw) (by rw [mRem_1]; exact hd9)) (cwV 1 hts (lw_V q2175 q2177 qs46 q91 q2178) rfl rfl rfl (by decide +kernel) ⟨Nat.le_of_ble_eq_true rfl, Nat.le_of_ble_eq_true rfl⟩) (zPV hX hH hB hAB (z_recv hX kX2 (hH.at 0 rfl)) [0, 1, 2, 3, 4, 5, 6, 7, 8] rfl rfl trivial) rfl rfl hl.1 rfl (lv_room (Nat.le_of_ble_eq_true rfl)) dX2_drain_22 ⟨(Nat.le_of_ble_eq_true rfl), (Nat.le_of_ble_eq_true rfl)⟩) hH hA [0, 1, 2, 3, 4, 5, 6, 7, 8] [] rfl rfl (by decide) (by decide) (fun r_4 u_r_4 H locs hw_r_4 hH hR_r_4 hk_r_4 => ?_)
    obtain rfl := hw_r_4
    have hH : zH G A s.heap (mW dA q (mDrains (mRem M) a1)) H locs := hH
    have eM : mDrains (mRem M) a1 = (mDrain M (nI a1)).2 := by rw [mDrain, if_pos c_7_2]; first | done | (simp only [cl, nI_clamp (show a1 < 2 ^ 31 by omega)]; done) | rfl
    rw [eM] at hH
    exact z_iret hx hb hr hlocks hH (u := ()) (by rw [mDrain, if_pos c_7_2]; first | done | (simp only [cl, nI_clamp (show a1 < 2 ^ 31 by omega)]; done) | rfl) ⟨hH.1, hH.2.1⟩ trivial (Nat.le_of_ble_eq_true rfl) (Nat.le_of_ble_eq_true rfl) dX2_drain_25
  · skip
    refine lv_aload_n hx hb dX2_drain_10 rfl (lv_at hl 1 rfl) ?_
    refine lv_iload_n hx hb dX2_drain_11 rfl (lv_at hl 0 rfl) ?_
    refine z_ci (wr := []) (va_runV (As := [.int ((mNotDrain M a).1)]) (rest := []) ⟨hx, hb, hml, hown, hts⟩ (metX2_answers l G dA dS B0 H.size q ((mNotDrain M a).2) ((mNotDrain M a).1)) (cwV 1 hts (lw_V q2115 q2117 qs34 q91 q2118) rfl rfl rfl (by decide +kernel) ⟨Nat.le_of_ble_eq_true rfl, Nat.le_of_ble_eq_true rfl⟩) (zPV hX hH hB hAB (z_recv hX kX2 (hH.at 0 rfl)) [0, 1, 2, 3, 4, 5, 6, 7, 8] rfl rfl trivial) rfl rfl hl.1 rfl (lv_room (Nat.le_of_ble_eq_true rfl)) dX2_drain_12 ⟨(Nat.le_of_ble_eq_true rfl), (Nat.le_of_ble_eq_true rfl)⟩) hH hA [0, 1, 2, 3, 4, 5, 6, 7, 8] [] rfl rfl (by decide) (by decide) (fun r_5 u_r_5 H locs hw_r_5 hH hR_r_5 hk_r_5 => ?_)
    obtain rfl := hw_r_5
    have hH : zH G A s.heap (mW dA q (mAns ((mNotDrain M a).2) ((mNotDrain M a).1))) H locs := hH
    have eM : mAns ((mNotDrain M a).2) ((mNotDrain M a).1) = (mDrain M a).2 := by rw [mDrain, if_neg c_7_2]; first | done | rfl
    rw [eM] at hH
    exact z_iret hx hb hr hlocks hH (u := ()) (by rw [mDrain, if_neg c_7_2]; first | done | rfl) ⟨hH.1, hH.2.1⟩ trivial (Nat.le_of_ble_eq_true rfl) (Nat.le_of_ble_eq_true rfl) dX2_drain_15

set_option maxHeartbeats 4000000 in
set_option maxRecDepth 100000 in
theorem metX2_stroke (l : Launch) (G : va_G) (dA : Nat → ClassId) (dS : Nat → Nat) (B0 sz : Nat) (q : Nat → Nat) (M : mS) (a : Int32) (B : Nat) (hrb : rB (M 1) B) (hBb : B + 20 < 2 ^ 30) (hch : M 0 11 ≤ 8) (hfc : M 0 12 < 8) : Met l yX2_stroke (ws_ yX2_stroke cX2_stroke 3 (some FieldType.int)) ({ frames := 2, cells := 0, slots := 0, locals := 43 }) (zP G dA dS B0 [.ref (q 0), .int (a)] sz (mW dA q M) (fun H => True)) (zQi G (fun (r : Int32) (u : Unit) => r = (mStroke M a).1) (fun (u : Unit) => mW dA q ((mStroke M a).2)) (fun (u : Unit) (H : Heap) => True) (va_A (mW dA q M) sz)) 0 0 (va_A (mW dA q M) sz) := by
  refine zM (by decide) (Nat.le_of_ble_eq_true rfl) ?_
  intro p e s m below meth c ls A H locs hHe hx hb hr hlocks hml hown hname hts hX hsz hB hAe hA hAB hH hRo hl
  have hl : lv_has ls 3 [(0, .ref (q 0)), (1, .int (a))] := hl
  have hbw := hrb.lt (by omega)
  have h12 := hrb.1
  have hd9 := hrb.2.2.2.2.2.2.2.2.1
  refine lv_aload_n hx hb dX2_stroke_0 rfl (lv_at hl 0 rfl) ?_
  refine lv_iload_n hx hb dX2_stroke_1 rfl (lv_at hl 1 rfl) ?_
  refine z_ci (wr := []) (va_runV (As := [.int (a)]) (rest := []) ⟨hx, hb, hml, hown, hts⟩ (metX2_notStroke l G dA dS B0 H.size q M a (by first | exact hbw | assumption | omega) (by first | exact h12 | assumption | omega)) (cwV 1 hts (lw_V q2183 q2185 qs47 q91 q2186) rfl rfl rfl (by decide +kernel) ⟨Nat.le_of_ble_eq_true rfl, Nat.le_of_ble_eq_true rfl⟩) (zPV hX hH hB hAB (z_recv hX kX2 (hH.at 0 rfl)) [0, 1, 2, 3, 4, 5, 6, 7, 8] rfl rfl trivial) rfl rfl hl.1 rfl (lv_room (Nat.le_of_ble_eq_true rfl)) dX2_stroke_2 ⟨(Nat.le_of_ble_eq_true rfl), (Nat.le_of_ble_eq_true rfl)⟩) hH hA [0, 1, 2, 3, 4, 5, 6, 7, 8] [] rfl rfl (by decide) (by decide) (fun r_1 u_r_1 H locs hw_r_1 hH hR_r_1 hk_r_1 => ?_)
  obtain rfl := hw_r_1
  have hH : zH G A s.heap (mW dA q ((mNotStroke M a).2)) H locs := hH
  refine lv_istore_n (lv' := [(2, .int ((mNotStroke M a).1)), (0, .ref (q 0)), (1, .int (a))]) hx hb dX2_stroke_5 rfl hl (by decide) rfl (fun ls hl => ?_)
  refine lv_iload_n hx hb dX2_stroke_6 rfl (lv_at hl 0 rfl) ?_
  refine lv_if_eq (tgt := 16) hx hb dX2_stroke_7 (by decide) (fun c_7_2 => ?_) (fun c_7_2 => ?_)
  · skip
    obtain ⟨a1, rfl, ha0, ha1, ha2, hM⟩ := notStroke_0 c_7_2
    rw [hM] at hH
    refine lv_aload_n hx hb dX2_stroke_16 rfl (lv_at hl 1 rfl) ?_
    refine z_cv (wr := []) (va_runV (As := []) (rest := []) ⟨hx, hb, hml, hown, hts⟩ (metX2_remembers l G dA dS B0 H.size q M (by first | exact hch | assumption | omega) (by first | exact hfc | assumption | omega)) (cwV 0 hts (lw_V q2119 q2121 qs35 q91 q2122) rfl rfl rfl (by decide +kernel) ⟨Nat.le_of_ble_eq_true rfl, Nat.le_of_ble_eq_true rfl⟩) (zPV hX hH hB hAB (z_recv hX kX2 (hH.at 0 rfl)) [0, 1, 2, 3, 4, 5, 6, 7, 8] rfl rfl trivial) rfl rfl hl.1 rfl (lv_room (Nat.le_of_ble_eq_true rfl)) dX2_stroke_17 ⟨(Nat.le_of_ble_eq_true rfl), (Nat.le_of_ble_eq_true rfl)⟩) hH hA [0, 1, 2, 3, 4, 5, 6, 7, 8] [] rfl rfl (by decide) (by decide) (fun u_r_3 H locs hw_r_3 hH hR_r_3 hk_r_3 => ?_)
    have hH : zH G A s.heap (mW dA q (mKeep (mCp M 4 1))) H locs := hH
    have hH : zH G A s.heap (mW dA q (mRem M)) H locs := hH
    refine lv_aload_n hx hb dX2_stroke_20 rfl (lv_at hl 1 rfl) ?_
    refine lv_iconst (v := nI 2) hx hb dX2_stroke_21 (by decide) ?_
    refine lv_iload_n hx hb dX2_stroke_22 rfl (lv_at hl 2 rfl) ?_
    refine z_ci (wr := []) (va_runV (As := [.int (nI 2), .int (nI a1)]) (rest := []) ⟨hx, hb, hml, hown, hts⟩ (metX2_tells l G dA dS B0 H.size q (mRem M) 2 a1 (by first | exact hk | assumption | omega)) (cwV 2 hts (lw_V q2187 q2189 qs48 q91 q2190) rfl rfl rfl (by decide +kernel) ⟨Nat.le_of_ble_eq_true rfl, Nat.le_of_ble_eq_true rfl⟩) (zPV hX hH hB hAB (z_recv hX kX2 (hH.at 0 rfl)) [0, 1, 2, 3, 4, 5, 6, 7, 8] rfl rfl trivial) rfl rfl hl.1 rfl (lv_room (Nat.le_of_ble_eq_true rfl)) dX2_stroke_23 ⟨(Nat.le_of_ble_eq_true rfl), (Nat.le_of_ble_eq_true rfl)⟩) hH hA [0, 1, 2, 3, 4, 5, 6, 7, 8] [] rfl rfl (by decide) (by decide) (fun r_4 u_r_4 H locs hw_r_4 hH hR_r_4 hk_r_4 => ?_)
    obtain rfl := hw_r_4
    have hH : zH G A s.heap (mW dA q (mu (mRem M) 1 2 a1)) H locs := hH
    have eM : mu (mRem M) 1 2 a1 = (mStroke M (nI a1)).2 := by rw [mStroke, if_pos c_7_2]; first | done | (simp only [cl, nI_clamp (show a1 < 2 ^ 31 by omega)]; done) | rfl
    rw [eM] at hH
    exact z_iret hx hb hr hlocks hH (u := ()) (by rw [mStroke, if_pos c_7_2]; first | done | (simp only [cl, nI_clamp (show a1 < 2 ^ 31 by omega)]; done) | rfl) ⟨hH.1, hH.2.1⟩ trivial (Nat.le_of_ble_eq_true rfl) (Nat.le_of_ble_eq_true rfl) dX2_stroke_26
  · skip
    refine lv_aload_n hx hb dX2_stroke_10 rfl (lv_at hl 1 rfl) ?_
    refine lv_iload_n hx hb dX2_stroke_11 rfl (lv_at hl 0 rfl) ?_
    refine z_ci (wr := []) (va_runV (As := [.int ((mNotStroke M a).1)]) (rest := []) ⟨hx, hb, hml, hown, hts⟩ (metX2_answers l G dA dS B0 H.size q ((mNotStroke M a).2) ((mNotStroke M a).1)) (cwV 1 hts (lw_V q2115 q2117 qs34 q91 q2118) rfl rfl rfl (by decide +kernel) ⟨Nat.le_of_ble_eq_true rfl, Nat.le_of_ble_eq_true rfl⟩) (zPV hX hH hB hAB (z_recv hX kX2 (hH.at 0 rfl)) [0, 1, 2, 3, 4, 5, 6, 7, 8] rfl rfl trivial) rfl rfl hl.1 rfl (lv_room (Nat.le_of_ble_eq_true rfl)) dX2_stroke_12 ⟨(Nat.le_of_ble_eq_true rfl), (Nat.le_of_ble_eq_true rfl)⟩) hH hA [0, 1, 2, 3, 4, 5, 6, 7, 8] [] rfl rfl (by decide) (by decide) (fun r_5 u_r_5 H locs hw_r_5 hH hR_r_5 hk_r_5 => ?_)
    obtain rfl := hw_r_5
    have hH : zH G A s.heap (mW dA q (mAns ((mNotStroke M a).2) ((mNotStroke M a).1))) H locs := hH
    have eM : mAns ((mNotStroke M a).2) ((mNotStroke M a).1) = (mStroke M a).2 := by rw [mStroke, if_neg c_7_2]; first | done | rfl
    rw [eM] at hH
    exact z_iret hx hb hr hlocks hH (u := ()) (by rw [mStroke, if_neg c_7_2]; first | done | rfl) ⟨hH.1, hH.2.1⟩ trivial (Nat.le_of_ble_eq_true rfl) (Nat.le_of_ble_eq_true rfl) dX2_stroke_15

set_option maxHeartbeats 4000000 in
set_option maxRecDepth 100000 in
theorem metX2_bucket (l : Launch) (G : va_G) (dA : Nat → ClassId) (dS : Nat → Nat) (B0 sz : Nat) (q : Nat → Nat) (M : mS) (a : Int32) (b : Int32) (B : Nat) (hrb : rB (M 1) B) (hBb : B + 20 < 2 ^ 30) (hch : M 0 11 ≤ 8) (hfc : M 0 12 < 8) : Met l yX2_bucket (ws_ yX2_bucket cX2_bucket 4 (some FieldType.int)) ({ frames := 3, cells := 0, slots := 0, locals := 64 }) (zP G dA dS B0 [.ref (q 0), .int (a), .int (b)] sz (mW dA q M) (fun H => True)) (zQi G (fun (r : Int32) (u : Unit) => r = (mBucket M a b).1) (fun (u : Unit) => mW dA q ((mBucket M a b).2)) (fun (u : Unit) (H : Heap) => True) (va_A (mW dA q M) sz)) 0 0 (va_A (mW dA q M) sz) := by
  refine zM (by decide) (Nat.le_of_ble_eq_true rfl) ?_
  intro p e s m below meth c ls A H locs hHe hx hb hr hlocks hml hown hname hts hX hsz hB hAe hA hAB hH hRo hl
  have hl : lv_has ls 4 [(0, .ref (q 0)), (1, .int (a)), (2, .int (b))] := hl
  have hbw := hrb.lt (by omega)
  have h12 := hrb.1
  have hd9 := hrb.2.2.2.2.2.2.2.2.1
  refine lv_aload_n hx hb dX2_bucket_0 rfl (lv_at hl 0 rfl) ?_
  refine lv_iload_n hx hb dX2_bucket_1 rfl (lv_at hl 1 rfl) ?_
  refine lv_iload_n hx hb dX2_bucket_2 rfl (lv_at hl 2 rfl) ?_
  refine z_ci (wr := []) (va_runV (As := [.int (a), .int (b)]) (rest := []) ⟨hx, hb, hml, hown, hts⟩ (metX2_notBucket l G dA dS B0 H.size q M a b (by first | exact hbw | assumption | omega) (by first | exact h12 | assumption | omega)) (cwV 2 hts (lw_V q2195 q2197 qs49 q91 q2198) rfl rfl rfl (by decide +kernel) ⟨Nat.le_of_ble_eq_true rfl, Nat.le_of_ble_eq_true rfl⟩) (zPV hX hH hB hAB (z_recv hX kX2 (hH.at 0 rfl)) [0, 1, 2, 3, 4, 5, 6, 7, 8] rfl rfl trivial) rfl rfl hl.1 rfl (lv_room (Nat.le_of_ble_eq_true rfl)) dX2_bucket_3 ⟨(Nat.le_of_ble_eq_true rfl), (Nat.le_of_ble_eq_true rfl)⟩) hH hA [0, 1, 2, 3, 4, 5, 6, 7, 8] [] rfl rfl (by decide) (by decide) (fun r_1 u_r_1 H locs hw_r_1 hH hR_r_1 hk_r_1 => ?_)
  obtain rfl := hw_r_1
  have hH : zH G A s.heap (mW dA q ((mNotBucket M a b).2)) H locs := hH
  refine lv_istore_n (lv' := [(3, .int ((mNotBucket M a b).1)), (0, .ref (q 0)), (1, .int (a)), (2, .int (b))]) hx hb dX2_bucket_6 rfl hl (by decide) rfl (fun ls hl => ?_)
  refine lv_iload_n hx hb dX2_bucket_7 rfl (lv_at hl 0 rfl) ?_
  refine lv_if_eq (tgt := 17) hx hb dX2_bucket_8 (by decide) (fun c_8_2 => ?_) (fun c_8_2 => ?_)
  · skip
    obtain ⟨a1, b1, rfl, rfl, ha1, hb0, hb1, ha2, hM⟩ := notBucket_0 c_8_2
    rw [hM] at hH
    refine lv_aload_n hx hb dX2_bucket_17 rfl (lv_at hl 1 rfl) ?_
    refine z_cv (wr := []) (va_runV (As := []) (rest := []) ⟨hx, hb, hml, hown, hts⟩ (metX2_remembers l G dA dS B0 H.size q M (by first | exact hch | assumption | omega) (by first | exact hfc | assumption | omega)) (cwV 0 hts (lw_V q2119 q2121 qs35 q91 q2122) rfl rfl rfl (by decide +kernel) ⟨Nat.le_of_ble_eq_true rfl, Nat.le_of_ble_eq_true rfl⟩) (zPV hX hH hB hAB (z_recv hX kX2 (hH.at 0 rfl)) [0, 1, 2, 3, 4, 5, 6, 7, 8] rfl rfl trivial) rfl rfl hl.1 rfl (lv_room (Nat.le_of_ble_eq_true rfl)) dX2_bucket_18 ⟨(Nat.le_of_ble_eq_true rfl), (Nat.le_of_ble_eq_true rfl)⟩) hH hA [0, 1, 2, 3, 4, 5, 6, 7, 8] [] rfl rfl (by decide) (by decide) (fun u_r_3 H locs hw_r_3 hH hR_r_3 hk_r_3 => ?_)
    have hH : zH G A s.heap (mW dA q (mKeep (mCp M 4 1))) H locs := hH
    have hH : zH G A s.heap (mW dA q (mRem M)) H locs := hH
    refine lv_aload_n hx hb dX2_bucket_21 rfl (lv_at hl 1 rfl) ?_
    refine lv_bipush (v := nI 14) hx hb dX2_bucket_22 (by decide) ?_
    refine lv_iload_n hx hb dX2_bucket_24 rfl (lv_at hl 2 rfl) ?_
    refine lv_iadd hx hb dX2_bucket_25 ?_
    refine z_topi (y := nI (14 + a1)) (nI_add _ _) ?_
    refine lv_iload_n hx hb dX2_bucket_26 rfl (lv_at hl 3 rfl) ?_
    refine z_ci (wr := []) (va_runV (As := [.int (nI (14 + a1)), .int (nI b1)]) (rest := []) ⟨hx, hb, hml, hown, hts⟩ (metX2_tells l G dA dS B0 H.size q (mRem M) (14 + a1) b1 (by first | exact hk | assumption | omega)) (cwV 2 hts (lw_V q2187 q2189 qs48 q91 q2190) rfl rfl rfl (by decide +kernel) ⟨Nat.le_of_ble_eq_true rfl, Nat.le_of_ble_eq_true rfl⟩) (zPV hX hH hB hAB (z_recv hX kX2 (hH.at 0 rfl)) [0, 1, 2, 3, 4, 5, 6, 7, 8] rfl rfl trivial) rfl rfl hl.1 rfl (lv_room (Nat.le_of_ble_eq_true rfl)) dX2_bucket_27 ⟨(Nat.le_of_ble_eq_true rfl), (Nat.le_of_ble_eq_true rfl)⟩) hH hA [0, 1, 2, 3, 4, 5, 6, 7, 8] [] rfl rfl (by decide) (by decide) (fun r_4 u_r_4 H locs hw_r_4 hH hR_r_4 hk_r_4 => ?_)
    obtain rfl := hw_r_4
    have hH : zH G A s.heap (mW dA q (mu (mRem M) 1 (14 + a1) b1)) H locs := hH
    have eM : mu (mRem M) 1 (14 + a1) b1 = (mBucket M (nI a1) (nI b1)).2 := by rw [mBucket, if_pos c_8_2]; first | done | (simp only [cl, nI_clamp (show a1 < 2 ^ 31 by omega), nI_clamp (show b1 < 2 ^ 31 by omega)]; done) | rfl
    rw [eM] at hH
    exact z_iret hx hb hr hlocks hH (u := ()) (by rw [mBucket, if_pos c_8_2]; first | done | (simp only [cl, nI_clamp (show a1 < 2 ^ 31 by omega), nI_clamp (show b1 < 2 ^ 31 by omega)]; done) | rfl) ⟨hH.1, hH.2.1⟩ trivial (Nat.le_of_ble_eq_true rfl) (Nat.le_of_ble_eq_true rfl) dX2_bucket_30
  · skip
    refine lv_aload_n hx hb dX2_bucket_11 rfl (lv_at hl 1 rfl) ?_
    refine lv_iload_n hx hb dX2_bucket_12 rfl (lv_at hl 0 rfl) ?_
    refine z_ci (wr := []) (va_runV (As := [.int ((mNotBucket M a b).1)]) (rest := []) ⟨hx, hb, hml, hown, hts⟩ (metX2_answers l G dA dS B0 H.size q ((mNotBucket M a b).2) ((mNotBucket M a b).1)) (cwV 1 hts (lw_V q2115 q2117 qs34 q91 q2118) rfl rfl rfl (by decide +kernel) ⟨Nat.le_of_ble_eq_true rfl, Nat.le_of_ble_eq_true rfl⟩) (zPV hX hH hB hAB (z_recv hX kX2 (hH.at 0 rfl)) [0, 1, 2, 3, 4, 5, 6, 7, 8] rfl rfl trivial) rfl rfl hl.1 rfl (lv_room (Nat.le_of_ble_eq_true rfl)) dX2_bucket_13 ⟨(Nat.le_of_ble_eq_true rfl), (Nat.le_of_ble_eq_true rfl)⟩) hH hA [0, 1, 2, 3, 4, 5, 6, 7, 8] [] rfl rfl (by decide) (by decide) (fun r_5 u_r_5 H locs hw_r_5 hH hR_r_5 hk_r_5 => ?_)
    obtain rfl := hw_r_5
    have hH : zH G A s.heap (mW dA q (mAns ((mNotBucket M a b).2) ((mNotBucket M a b).1))) H locs := hH
    have eM : mAns ((mNotBucket M a b).2) ((mNotBucket M a b).1) = (mBucket M a b).2 := by rw [mBucket, if_neg c_8_2]; first | done | rfl
    rw [eM] at hH
    exact z_iret hx hb hr hlocks hH (u := ()) (by rw [mBucket, if_neg c_8_2]; first | done | rfl) ⟨hH.1, hH.2.1⟩ trivial (Nat.le_of_ble_eq_true rfl) (Nat.le_of_ble_eq_true rfl) dX2_bucket_16

set_option maxHeartbeats 4000000 in
set_option maxRecDepth 100000 in
theorem metX2_go (l : Launch) (G : va_G) (dA : Nat → ClassId) (dS : Nat → Nat) (B0 sz : Nat) (q : Nat → Nat) (M : mS) (a : Int32) (B : Nat) (hrb : rB (M 1) B) (hBb : B + 20 < 2 ^ 30) (hch : M 0 11 ≤ 8) (hfc : M 0 12 < 8) : Met l yX2_go (ws_ yX2_go cX2_go 3 (some FieldType.int)) ({ frames := 3, cells := 0, slots := 0, locals := 63 }) (zP G dA dS B0 [.ref (q 0), .int (a)] sz (mW dA q M) (fun H => True)) (zQi G (fun (r : Int32) (u : Unit) => r = (mGo M a).1) (fun (u : Unit) => mW dA q ((mGo M a).2)) (fun (u : Unit) (H : Heap) => True) (va_A (mW dA q M) sz)) 0 0 (va_A (mW dA q M) sz) := by
  refine zM (by decide) (Nat.le_of_ble_eq_true rfl) ?_
  intro p e s m below meth c ls A H locs hHe hx hb hr hlocks hml hown hname hts hX hsz hB hAe hA hAB hH hRo hl
  have hl : lv_has ls 3 [(0, .ref (q 0)), (1, .int (a))] := hl
  have hbw := hrb.lt (by omega)
  have h12 := hrb.1
  have hd9 := hrb.2.2.2.2.2.2.2.2.1
  refine lv_aload_n hx hb dX2_go_0 rfl (lv_at hl 0 rfl) ?_
  refine lv_iload_n hx hb dX2_go_1 rfl (lv_at hl 1 rfl) ?_
  refine z_ci (wr := []) (va_runV (As := [.int (a)]) (rest := []) ⟨hx, hb, hml, hown, hts⟩ (metX2_notGo l G dA dS B0 H.size q M a (by first | exact hbw | assumption | omega) (by first | exact h12 | assumption | omega)) (cwV 1 hts (lw_V q2203 q2205 qs50 q91 q2206) rfl rfl rfl (by decide +kernel) ⟨Nat.le_of_ble_eq_true rfl, Nat.le_of_ble_eq_true rfl⟩) (zPV hX hH hB hAB (z_recv hX kX2 (hH.at 0 rfl)) [0, 1, 2, 3, 4, 5, 6, 7, 8] rfl rfl trivial) rfl rfl hl.1 rfl (lv_room (Nat.le_of_ble_eq_true rfl)) dX2_go_2 ⟨(Nat.le_of_ble_eq_true rfl), (Nat.le_of_ble_eq_true rfl)⟩) hH hA [0, 1, 2, 3, 4, 5, 6, 7, 8] [] rfl rfl (by decide) (by decide) (fun r_1 u_r_1 H locs hw_r_1 hH hR_r_1 hk_r_1 => ?_)
  obtain rfl := hw_r_1
  have hH : zH G A s.heap (mW dA q ((mNotGo M a).2)) H locs := hH
  refine lv_istore_n (lv' := [(2, .int ((mNotGo M a).1)), (0, .ref (q 0)), (1, .int (a))]) hx hb dX2_go_5 rfl hl (by decide) rfl (fun ls hl => ?_)
  refine lv_iload_n hx hb dX2_go_6 rfl (lv_at hl 0 rfl) ?_
  refine lv_if_eq (tgt := 16) hx hb dX2_go_7 (by decide) (fun c_7_2 => ?_) (fun c_7_2 => ?_)
  · skip
    obtain ⟨a1, rfl, ha1, ha2, hM⟩ := notGo_0 c_7_2
    rw [hM] at hH
    refine lv_aload_n hx hb dX2_go_16 rfl (lv_at hl 1 rfl) ?_
    refine z_cv (wr := []) (va_runV (As := []) (rest := []) ⟨hx, hb, hml, hown, hts⟩ (metX2_remembers l G dA dS B0 H.size q M (by first | exact hch | assumption | omega) (by first | exact hfc | assumption | omega)) (cwV 0 hts (lw_V q2119 q2121 qs35 q91 q2122) rfl rfl rfl (by decide +kernel) ⟨Nat.le_of_ble_eq_true rfl, Nat.le_of_ble_eq_true rfl⟩) (zPV hX hH hB hAB (z_recv hX kX2 (hH.at 0 rfl)) [0, 1, 2, 3, 4, 5, 6, 7, 8] rfl rfl trivial) rfl rfl hl.1 rfl (lv_room (Nat.le_of_ble_eq_true rfl)) dX2_go_17 ⟨(Nat.le_of_ble_eq_true rfl), (Nat.le_of_ble_eq_true rfl)⟩) hH hA [0, 1, 2, 3, 4, 5, 6, 7, 8] [] rfl rfl (by decide) (by decide) (fun u_r_3 H locs hw_r_3 hH hR_r_3 hk_r_3 => ?_)
    have hH : zH G A s.heap (mW dA q (mKeep (mCp M 4 1))) H locs := hH
    have hH : zH G A s.heap (mW dA q (mRem M)) H locs := hH
    refine lv_aload_n hx hb dX2_go_20 rfl (lv_at hl 1 rfl) ?_
    refine lv_iload_n hx hb dX2_go_21 rfl (lv_at hl 2 rfl) ?_
    refine z_ci (wr := []) (va_runV (As := [.int (nI a1)]) (rest := []) ⟨hx, hb, hml, hown, hts⟩ (metX2_moves l G dA dS B0 H.size q (mRem M) a1) (cwV 1 hts (lw_V q2207 q2209 qs51 q91 q2210) rfl rfl rfl (by decide +kernel) ⟨Nat.le_of_ble_eq_true rfl, Nat.le_of_ble_eq_true rfl⟩) (zPV hX hH hB hAB (z_recv hX kX2 (hH.at 0 rfl)) [0, 1, 2, 3, 4, 5, 6, 7, 8] rfl rfl trivial) rfl rfl hl.1 rfl (lv_room (Nat.le_of_ble_eq_true rfl)) dX2_go_22 ⟨(Nat.le_of_ble_eq_true rfl), (Nat.le_of_ble_eq_true rfl)⟩) hH hA [0, 1, 2, 3, 4, 5, 6, 7, 8] [] rfl rfl (by decide) (by decide) (fun r_4 u_r_4 H locs hw_r_4 hH hR_r_4 hk_r_4 => ?_)
    obtain rfl := hw_r_4
    have hH : zH G A s.heap (mW dA q (mu (mu (mRem M) 1 3 0) 1 1 a1)) H locs := hH
    have eM : mu (mu (mRem M) 1 3 0) 1 1 a1 = (mGo M (nI a1)).2 := by rw [mGo, if_pos c_7_2]; first | done | (simp only [cl, nI_clamp (show a1 < 2 ^ 31 by omega)]; done) | rfl
    rw [eM] at hH
    exact z_iret hx hb hr hlocks hH (u := ()) (by rw [mGo, if_pos c_7_2]; first | done | (simp only [cl, nI_clamp (show a1 < 2 ^ 31 by omega)]; done) | rfl) ⟨hH.1, hH.2.1⟩ trivial (Nat.le_of_ble_eq_true rfl) (Nat.le_of_ble_eq_true rfl) dX2_go_25
  · skip
    refine lv_aload_n hx hb dX2_go_10 rfl (lv_at hl 1 rfl) ?_
    refine lv_iload_n hx hb dX2_go_11 rfl (lv_at hl 0 rfl) ?_
    refine z_ci (wr := []) (va_runV (As := [.int ((mNotGo M a).1)]) (rest := []) ⟨hx, hb, hml, hown, hts⟩ (metX2_answers l G dA dS B0 H.size q ((mNotGo M a).2) ((mNotGo M a).1)) (cwV 1 hts (lw_V q2115 q2117 qs34 q91 q2118) rfl rfl rfl (by decide +kernel) ⟨Nat.le_of_ble_eq_true rfl, Nat.le_of_ble_eq_true rfl⟩) (zPV hX hH hB hAB (z_recv hX kX2 (hH.at 0 rfl)) [0, 1, 2, 3, 4, 5, 6, 7, 8] rfl rfl trivial) rfl rfl hl.1 rfl (lv_room (Nat.le_of_ble_eq_true rfl)) dX2_go_12 ⟨(Nat.le_of_ble_eq_true rfl), (Nat.le_of_ble_eq_true rfl)⟩) hH hA [0, 1, 2, 3, 4, 5, 6, 7, 8] [] rfl rfl (by decide) (by decide) (fun r_5 u_r_5 H locs hw_r_5 hH hR_r_5 hk_r_5 => ?_)
    obtain rfl := hw_r_5
    have hH : zH G A s.heap (mW dA q (mAns ((mNotGo M a).2) ((mNotGo M a).1))) H locs := hH
    have eM : mAns ((mNotGo M a).2) ((mNotGo M a).1) = (mGo M a).2 := by rw [mGo, if_neg c_7_2]; first | done | rfl
    rw [eM] at hH
    exact z_iret hx hb hr hlocks hH (u := ()) (by rw [mGo, if_neg c_7_2]; first | done | rfl) ⟨hH.1, hH.2.1⟩ trivial (Nat.le_of_ble_eq_true rfl) (Nat.le_of_ble_eq_true rfl) dX2_go_15

set_option maxHeartbeats 4000000 in
set_option maxRecDepth 100000 in
theorem metX2_pump (l : Launch) (G : va_G) (dA : Nat → ClassId) (dS : Nat → Nat) (B0 sz : Nat) (q : Nat → Nat) (M : mS) (a : Int32) (B : Nat) (hrb : rB (M 1) B) (hBb : B + 20 < 2 ^ 30) (hch : M 0 11 ≤ 8) (hfc : M 0 12 < 8) : Met l yX2_pump (ws_ yX2_pump cX2_pump 3 (some FieldType.int)) ({ frames := 5, cells := 0, slots := 0, locals := 130 }) (zP G dA dS B0 [.ref (q 0), .int (a)] sz (mW dA q M) (fun H => True)) (zQi G (fun (r : Int32) (u : Unit) => r = (mPump M a).1) (fun (u : Unit) => mW dA q ((mPump M a).2)) (fun (u : Unit) (H : Heap) => True) (va_A (mW dA q M) sz)) 0 0 (va_A (mW dA q M) sz) := by
  refine zM (by decide) (Nat.le_of_ble_eq_true rfl) ?_
  intro p e s m below meth c ls A H locs hHe hx hb hr hlocks hml hown hname hts hX hsz hB hAe hA hAB hH hRo hl
  have hl : lv_has ls 3 [(0, .ref (q 0)), (1, .int (a))] := hl
  have hbw := hrb.lt (by omega)
  have h12 := hrb.1
  have hd9 := hrb.2.2.2.2.2.2.2.2.1
  refine lv_aload_n hx hb dX2_pump_0 rfl (lv_at hl 0 rfl) ?_
  refine lv_iload_n hx hb dX2_pump_1 rfl (lv_at hl 1 rfl) ?_
  refine z_ci (wr := []) (va_runV (As := [.int (a)]) (rest := []) ⟨hx, hb, hml, hown, hts⟩ (metX2_notPump l G dA dS B0 H.size q M a (by first | exact hbw | assumption | omega) (by first | exact h12 | assumption | omega)) (cwV 1 hts (lw_V q2215 q2217 qs52 q91 q2218) rfl rfl rfl (by decide +kernel) ⟨Nat.le_of_ble_eq_true rfl, Nat.le_of_ble_eq_true rfl⟩) (zPV hX hH hB hAB (z_recv hX kX2 (hH.at 0 rfl)) [0, 1, 2, 3, 4, 5, 6, 7, 8] rfl rfl trivial) rfl rfl hl.1 rfl (lv_room (Nat.le_of_ble_eq_true rfl)) dX2_pump_2 ⟨(Nat.le_of_ble_eq_true rfl), (Nat.le_of_ble_eq_true rfl)⟩) hH hA [0, 1, 2, 3, 4, 5, 6, 7, 8] [] rfl rfl (by decide) (by decide) (fun r_1 u_r_1 H locs hw_r_1 hH hR_r_1 hk_r_1 => ?_)
  obtain rfl := hw_r_1
  have hH : zH G A s.heap (mW dA q ((mNotPump M a).2)) H locs := hH
  refine lv_istore_n (lv' := [(2, .int ((mNotPump M a).1)), (0, .ref (q 0)), (1, .int (a))]) hx hb dX2_pump_5 rfl hl (by decide) rfl (fun ls hl => ?_)
  refine lv_iload_n hx hb dX2_pump_6 rfl (lv_at hl 0 rfl) ?_
  refine lv_if_eq (tgt := 16) hx hb dX2_pump_7 (by decide) (fun c_7_2 => ?_) (fun c_7_2 => ?_)
  · skip
    obtain ⟨a1, rfl, ha0, ha1, ha2, hM⟩ := notPump_0 c_7_2
    rw [hM] at hH
    refine lv_aload_n hx hb dX2_pump_16 rfl (lv_at hl 1 rfl) ?_
    refine z_cv (wr := []) (va_runV (As := []) (rest := []) ⟨hx, hb, hml, hown, hts⟩ (metX2_remembers l G dA dS B0 H.size q M (by first | exact hch | assumption | omega) (by first | exact hfc | assumption | omega)) (cwV 0 hts (lw_V q2119 q2121 qs35 q91 q2122) rfl rfl rfl (by decide +kernel) ⟨Nat.le_of_ble_eq_true rfl, Nat.le_of_ble_eq_true rfl⟩) (zPV hX hH hB hAB (z_recv hX kX2 (hH.at 0 rfl)) [0, 1, 2, 3, 4, 5, 6, 7, 8] rfl rfl trivial) rfl rfl hl.1 rfl (lv_room (Nat.le_of_ble_eq_true rfl)) dX2_pump_17 ⟨(Nat.le_of_ble_eq_true rfl), (Nat.le_of_ble_eq_true rfl)⟩) hH hA [0, 1, 2, 3, 4, 5, 6, 7, 8] [] rfl rfl (by decide) (by decide) (fun u_r_3 H locs hw_r_3 hH hR_r_3 hk_r_3 => ?_)
    have hH : zH G A s.heap (mW dA q (mKeep (mCp M 4 1))) H locs := hH
    have hH : zH G A s.heap (mW dA q (mRem M)) H locs := hH
    refine lv_aload_n hx hb dX2_pump_20 rfl (lv_at hl 1 rfl) ?_
    refine lv_iload_n hx hb dX2_pump_21 rfl (lv_at hl 2 rfl) ?_
    refine z_ci (wr := []) (va_runV (As := [.int (nI a1)]) (rest := []) ⟨hx, hb, hml, hown, hts⟩ (metX2_pumps l G dA dS B0 H.size q (mRem M) a1 (by first | exact hk | assumption | omega) B (by rw [mRem_1]; exact hrb) hBb) (cwV 1 hts (lw_V q2219 q2221 qs53 q91 q2222) rfl rfl rfl (by decide +kernel) ⟨Nat.le_of_ble_eq_true rfl, Nat.le_of_ble_eq_true rfl⟩) (zPV hX hH hB hAB (z_recv hX kX2 (hH.at 0 rfl)) [0, 1, 2, 3, 4, 5, 6, 7, 8] rfl rfl trivial) rfl rfl hl.1 rfl (lv_room (Nat.le_of_ble_eq_true rfl)) dX2_pump_22 ⟨(Nat.le_of_ble_eq_true rfl), (Nat.le_of_ble_eq_true rfl)⟩) hH hA [0, 1, 2, 3, 4, 5, 6, 7, 8] [] rfl rfl (by decide) (by decide) (fun r_4 u_r_4 H locs hw_r_4 hH hR_r_4 hk_r_4 => ?_)
    obtain rfl := hw_r_4
    have hH : zH G A s.heap (mW dA q (ms (mRem M) 1 (pmp ((mRem M) 1) a1).2)) H locs := hH
    have eM : ms (mRem M) 1 (pmp ((mRem M) 1) a1).2 = (mPump M (nI a1)).2 := by rw [mPump, if_pos c_7_2]; first | done | (simp only [cl, nI_clamp (show a1 < 2 ^ 31 by omega)]; done) | rfl
    rw [eM] at hH
    exact z_iret hx hb hr hlocks hH (u := ()) (by rw [mPump, if_pos c_7_2]; first | done | (simp only [cl, nI_clamp (show a1 < 2 ^ 31 by omega)]; done) | rfl) ⟨hH.1, hH.2.1⟩ trivial (Nat.le_of_ble_eq_true rfl) (Nat.le_of_ble_eq_true rfl) dX2_pump_25
  · skip
    refine lv_aload_n hx hb dX2_pump_10 rfl (lv_at hl 1 rfl) ?_
    refine lv_iload_n hx hb dX2_pump_11 rfl (lv_at hl 0 rfl) ?_
    refine z_ci (wr := []) (va_runV (As := [.int ((mNotPump M a).1)]) (rest := []) ⟨hx, hb, hml, hown, hts⟩ (metX2_answers l G dA dS B0 H.size q ((mNotPump M a).2) ((mNotPump M a).1)) (cwV 1 hts (lw_V q2115 q2117 qs34 q91 q2118) rfl rfl rfl (by decide +kernel) ⟨Nat.le_of_ble_eq_true rfl, Nat.le_of_ble_eq_true rfl⟩) (zPV hX hH hB hAB (z_recv hX kX2 (hH.at 0 rfl)) [0, 1, 2, 3, 4, 5, 6, 7, 8] rfl rfl trivial) rfl rfl hl.1 rfl (lv_room (Nat.le_of_ble_eq_true rfl)) dX2_pump_12 ⟨(Nat.le_of_ble_eq_true rfl), (Nat.le_of_ble_eq_true rfl)⟩) hH hA [0, 1, 2, 3, 4, 5, 6, 7, 8] [] rfl rfl (by decide) (by decide) (fun r_5 u_r_5 H locs hw_r_5 hH hR_r_5 hk_r_5 => ?_)
    obtain rfl := hw_r_5
    have hH : zH G A s.heap (mW dA q (mAns ((mNotPump M a).2) ((mNotPump M a).1))) H locs := hH
    have eM : mAns ((mNotPump M a).2) ((mNotPump M a).1) = (mPump M a).2 := by rw [mPump, if_neg c_7_2]; first | done | rfl
    rw [eM] at hH
    exact z_iret hx hb hr hlocks hH (u := ()) (by rw [mPump, if_neg c_7_2]; first | done | rfl) ⟨hH.1, hH.2.1⟩ trivial (Nat.le_of_ble_eq_true rfl) (Nat.le_of_ble_eq_true rfl) dX2_pump_15

