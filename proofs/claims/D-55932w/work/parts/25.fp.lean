/-! FLOATS THAT ARE NO NaN AND NOT BELOW ZERO: by their bits, n ≤ 0x7f800000 -/
def fNN (d : FP.Core.Datum) : Prop := (∃ c q, d = .fin false c q) ∨ d = .inf false
theorem fS_0 {n : Nat} (h : n ≤ 2139095040) : FP.Core.fieldS FP.Core.b32 n = false := by
  have h1 : n / 8388608 / 256 = 0 := by omega
  show (n / 8388608 / 256 % 2 == 1) = false
  rw [h1]; rfl
theorem f_dec {n : Nat} (h : n ≤ 2139095040) : fNN (FP.Core.decode FP.Core.b32 n) := by
  unfold FP.Core.decode
  rw [fS_0 h]
  by_cases h1 : FP.Core.fieldE FP.Core.b32 n = FP.Core.b32.exps - 1
  · rw [if_pos h1]
    have h2 : n / 8388608 % 256 = 255 := h1
    have h3 : FP.Core.fieldT FP.Core.b32 n = 0 := by
      show n % 8388608 = 0
      omega
    rw [if_pos h3]
    exact Or.inr rfl
  · rw [if_neg h1]
    by_cases h2 : FP.Core.fieldE FP.Core.b32 n = 0
    · rw [if_pos h2]; exact Or.inl ⟨_, _, rfl⟩
    · rw [if_neg h2]; exact Or.inl ⟨_, _, rfl⟩
def fNB (d : FP.Core.Datum) : Prop := (∃ c q, d = .fin false c q ∧ c < 16777216 ∧ q ≤ 104) ∨ d = .inf false
theorem f_enc {d : FP.Core.Datum} (h : fNB d) : FP.Core.encode FP.Core.b32 d ≤ 2139095040 := by
  rcases h with ⟨c, q, rfl, h1, h3⟩ | rfl
  · have e1 : FP.Core.b32.tails = 8388608 := by decide
    have e3 : FP.Core.b32.qmin = -149 := by decide
    have e5 : FP.Core.b32.exps = 256 := by decide
    unfold FP.Core.encode FP.Core.assemble
    rw [e1, e3, e5]
    simp only [Bool.toNat_false]
    split
    · omega
    · have h5 : (q - (-149)).toNat ≤ 253 := by omega
      omega
  · decide
theorem f_bound {c : Nat} {q : Int} (hc : c < 16777216) : fNB (FP.Core.bound FP.Core.b32 false c q) := by
  have e4 : FP.Core.b32.qmax = 104 := by decide
  unfold FP.Core.bound
  rw [e4]
  split
  · exact Or.inl ⟨_, _, rfl, hc, by assumption⟩
  · exact Or.inr rfl
theorem f_ratio (num den : Nat) (e : Int) : fNB (FP.Core.roundRatio FP.Core.b32 false num den e) := by
  have e2 : (2 : Nat) ^ FP.Core.b32.p = 16777216 := by decide
  unfold FP.Core.roundRatio
  split
  · exact Or.inl ⟨_, _, rfl, by decide, by decide⟩
  · unfold FP.Core.roundAt FP.Core.settle
    rw [e2]
    split
    · exact f_bound (by assumption)
    · exact f_bound (by decide)
theorem f_round {d : FP.Core.Datum} (h : fNN d) : fNB (FP.Core.round FP.Core.b32 d) := by
  rcases h with ⟨c, q, rfl⟩ | rfl
  · exact f_ratio _ _ _
  · exact Or.inr rfl
theorem f_sum {d e : FP.Core.Datum} (h : fNN d) (k : fNN e) : fNN (FP.Core.exactSum d e) := by
  rcases h with ⟨c, q, rfl⟩ | rfl <;> rcases k with ⟨c', q', rfl⟩ | rfl
  · refine Or.inl ⟨(FP.Core.sumUnits false c q false c' q' (min q q')).natAbs, min q q', ?_⟩
    · show FP.Core.Datum.fin (FP.Core.sumSign false false _) _ _ = _
      have h1 : 0 ≤ FP.Core.sumUnits false c q false c' q' (min q q') := by
        unfold FP.Core.sumUnits FP.Core.signed
        simp only [Bool.false_eq_true, if_false]
        omega
      congr 1
      unfold FP.Core.sumSign
      split
      · rfl
      · simp; omega
  · exact Or.inr rfl
  · exact Or.inr rfl
  · exact Or.inr rfl
/-- the bits of a sum -/
def faN (a b : Nat) : Nat := (FP.fadd (UInt32.ofNat a) (UInt32.ofNat b)).toNat
theorem u32_tn {a : Nat} (h : a ≤ 2139095040) : (UInt32.ofNat a).toNat = a := by
  rw [UInt32.toNat_ofNat']; omega
theorem u32_n32 {x : UInt32} (h : x.toNat ≤ 2139095040) : vf_n32 x := by
  unfold vf_n32
  rw [UInt32.le_iff_toNat_le]
  rw [UInt32.toNat_and]
  have h1 : x.toNat &&& (0x7fffffff : UInt32).toNat ≤ x.toNat := Nat.and_le_left
  exact Nat.le_trans h1 h
theorem faN_le {a b : Nat} (ha : a ≤ 2139095040) (hb : b ≤ 2139095040) : faN a b ≤ 2139095040 := by
  unfold faN
  show (UInt32.ofNat (FP.Core.add FP.Core.b32 _ _)).toNat ≤ _
  have h1 : FP.Core.add FP.Core.b32 (UInt32.ofNat a).toNat (UInt32.ofNat b).toNat ≤ 2139095040 := by
    rw [u32_tn ha, u32_tn hb]
    exact f_enc (f_round (f_sum (f_dec ha) (f_dec hb)))
  rw [u32_tn h1]
  exact h1
theorem faN_n32 {a b : Nat} (ha : a ≤ 2139095040) (hb : b ≤ 2139095040) : vf_n32 (FP.fadd (UInt32.ofNat a) (UInt32.ofNat b)) := u32_n32 (faN_le ha hb)
theorem u32_id (x : UInt32) : x = UInt32.ofNat x.toNat := by simp
theorem faN_eq (a b : Nat) : FP.fadd (UInt32.ofNat a) (UInt32.ofNat b) = UInt32.ofNat (faN a b) := u32_id _
theorem i32_u (n : Nat) : (UInt32.ofNat n).toInt32 = nI n := rfl
theorem u32_i (n : Nat) : (nI n).toUInt32 = UInt32.ofNat n := rfl
theorem f_sni {n : Nat} (h : n ≤ 2139095040) : vn_sni2f (nI n) = false := by
  unfold vn_sni2f
  rw [u32_i]
  have h1 : ¬ (UInt32.ofNat n &&& 0x7fffffff > 0x7f800000) := by
    have := u32_n32 (x := UInt32.ofNat n) (by rw [u32_tn h]; exact h)
    unfold vf_n32 at this
    exact UInt32.not_lt.mpr this
  simp [h1]
theorem f_ord {d : FP.Core.Datum} (h : fNN d) : FP.Core.order d d = some .eq := by
  rcases h with ⟨c, q, rfl⟩ | rfl
  · simp [FP.Core.order]
  · rfl
theorem f_cmp {n : Nat} (h : n ≤ 2139095040) : FP.fcmp (UInt32.ofNat n) (UInt32.ofNat n) = some .eq := by
  show FP.Core.order (FP.Core.decode FP.Core.b32 _) (FP.Core.decode FP.Core.b32 _) = _
  rw [u32_tn h]
  exact f_ord (f_dec h)
/-- a joke's laugh: wit, primed, groans -/
def lauW (w p : Nat) : UInt32 := if p = 1 then FP.fmul (FP.i2f (nI w)) 1069547520 else FP.i2f (nI w)
def lauD (g : Nat) : UInt32 := FP.fadd FP.fconst1 (FP.fdiv (FP.i2f (nI g)) 1098907648)
def lauB (w p g : Nat) : UInt32 := FP.fdiv (lauW w p) (lauD g)
def lauN (w p g : Nat) : Nat := (lauB w p g).toNat
theorem lau_m : ∀ w, w < 10 → vf_n32 (FP.fmul (FP.i2f (nI w)) 1069547520) := by unfold vf_n32; decide +kernel
theorem lau_d : ∀ g, g < 51 → vf_n32 (FP.fdiv (FP.i2f (nI g)) 1098907648) ∧ vf_n32 (lauD g) := by unfold vf_n32; decide +kernel
set_option maxRecDepth 100000 in
theorem lau_t : ∀ w, w < 10 → ∀ p, p < 2 → ∀ g, g < 51 → lauN w p g ≤ 2139095039 := by decide +kernel
theorem lau_n32 {w p g : Nat} (hw : w < 10) (hp : p < 2) (hg : g < 51) : vf_n32 (lauB w p g) := u32_n32 (Nat.le_trans (lau_t w hw p hp g hg) (by decide))
theorem lau_eq (w p g : Nat) : lauB w p g = UInt32.ofNat (lauN w p g) := u32_id _
