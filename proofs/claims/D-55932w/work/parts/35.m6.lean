/-! answers that change nothing -/
/-- the value of a finite float not below zero, in units of the smallest -/
def fK (n : Nat) : Nat := if n / 8388608 = 0 then n else (8388608 + n % 8388608) * 2 ^ (n / 8388608 - 1)
theorem fK_lt {a b : Nat} (h : a < b) : fK a < fK b := by
  unfold fK
  have hT : a % 8388608 < 8388608 := Nat.mod_lt _ (by decide)
  have hU : b % 8388608 < 8388608 := Nat.mod_lt _ (by decide)
  generalize hEa : a / 8388608 = E at *
  generalize hEb : b / 8388608 = F at *
  generalize hTa : a % 8388608 = T at *
  generalize hTb : b % 8388608 = U at *
  have ea : a = 8388608 * E + T := by omega
  have eb : b = 8388608 * F + U := by omega
  by_cases hE : E = 0
  · subst hE
    rw [if_pos rfl]
    by_cases hF : F = 0
    · rw [if_pos hF]; exact h
    · rw [if_neg hF]
      have h1 : 1 ≤ 2 ^ (F - 1) := Nat.one_le_two_pow
      have h2 : (8388608 + U) * 1 ≤ (8388608 + U) * 2 ^ (F - 1) := Nat.mul_le_mul_left _ h1
      omega
  · have hF : ¬ F = 0 := by omega
    rw [if_neg hE, if_neg hF]
    by_cases hEF : E = F
    · subst hEF
      exact Nat.mul_lt_mul_of_pos_right (by omega) (Nat.two_pow_pos _)
    · have h1 : (8388608 + T) * 2 ^ (E - 1) < 16777216 * 2 ^ (E - 1) := Nat.mul_lt_mul_of_pos_right (by omega) (Nat.two_pow_pos _)
      have h2 : 16777216 * 2 ^ (E - 1) = 8388608 * 2 ^ E := by
        rw [show E = (E - 1) + 1 by omega, Nat.pow_succ]
        simp only [Nat.add_sub_cancel]
        omega
      have h3 : 2 ^ E ≤ 2 ^ (F - 1) := Nat.pow_le_pow_right (by omega) (by omega)
      have h4 : 8388608 * 2 ^ E ≤ 8388608 * 2 ^ (F - 1) := Nat.mul_le_mul_left _ h3
      have h5 : 8388608 * 2 ^ (F - 1) ≤ (8388608 + U) * 2 ^ (F - 1) := Nat.mul_le_mul_right _ (by omega)
      omega
theorem f_decK {n : Nat} (h : n < 2139095040) : ∃ (c : Nat) (q : Int), FP.Core.decode FP.Core.b32 n = .fin false c q ∧ -149 ≤ q ∧ fK n = c * 2 ^ (q + 149).toNat := by
  have hE : FP.Core.fieldE FP.Core.b32 n = n / 8388608 := by
    show n / 8388608 % 256 = _
    omega
  have hT : FP.Core.fieldT FP.Core.b32 n = n % 8388608 := rfl
  have e1 : FP.Core.b32.tails = 8388608 := by decide
  have e3 : FP.Core.b32.qmin = -149 := by decide
  have e5 : FP.Core.b32.exps = 256 := by decide
  unfold FP.Core.decode
  rw [fS_0 (by omega), hE, hT, e1, e3, e5, if_neg (by omega)]
  unfold fK
  by_cases h0 : n / 8388608 = 0
  · rw [if_pos h0, if_pos h0]
    refine ⟨_, _, rfl, by omega, ?_⟩
    have : n % 8388608 = n := by omega
    rw [this]; simp
  · rw [if_neg h0, if_neg h0]
    refine ⟨_, _, rfl, by omega, ?_⟩
    congr 2
    omega
theorem f_cmp2 {a b : Nat} (ha : a < 2139095040) (hb : b < 2139095040) : FP.fcmp (UInt32.ofNat a) (UInt32.ofNat b) = some (compare a b) := by
  show FP.Core.order (FP.Core.decode FP.Core.b32 _) (FP.Core.decode FP.Core.b32 _) = _
  rw [u32_tn (by omega), u32_tn (by omega)]
  obtain ⟨c, q, e1, h1, k1⟩ := f_decK ha
  obtain ⟨d, r, e2, h2, k2⟩ := f_decK hb
  rw [e1, e2]
  show some (compare (FP.Core.signed false (FP.Core.inUnits c q (min q r))) (FP.Core.signed false (FP.Core.inUnits d r (min q r)))) = _
  congr 1
  unfold FP.Core.signed FP.Core.inUnits
  simp only [Bool.false_eq_true, if_false]
  have hm : ∃ m : Nat, min q r = (m : Int) - 149 := ⟨(min q r + 149).toNat, by omega⟩
  obtain ⟨m, hm⟩ := hm
  have x1 : fK a = c * 2 ^ (q - min q r).toNat * 2 ^ m := by
    rw [k1, Nat.mul_assoc, ← Nat.pow_add]; congr 2; omega
  have x2 : fK b = d * 2 ^ (r - min q r).toNat * 2 ^ m := by
    rw [k2, Nat.mul_assoc, ← Nat.pow_add]; congr 2; omega
  generalize c * 2 ^ (q - min q r).toNat = X at *
  generalize d * 2 ^ (r - min q r).toNat = Y at *
  have hp : 0 < 2 ^ m := Nat.two_pow_pos _
  rcases Nat.lt_trichotomy a b with h | h | h
  · have h3 := fK_lt h
    rw [x1, x2] at h3
    have h4 : X < Y := Nat.lt_of_mul_lt_mul_right h3
    rw [Nat.compare_eq_lt.mpr h]
    exact Int.compare_eq_lt.mpr (by omega)
  · subst h
    have h4 : X = Y := by
      have : X * 2 ^ m = Y * 2 ^ m := by rw [← x1, ← x2]
      exact Nat.eq_of_mul_eq_mul_right hp this
    subst h4
    rw [Nat.compare_eq_eq.mpr rfl]
    exact Int.compare_eq_eq.mpr rfl
  · have h3 := fK_lt h
    rw [x1, x2] at h3
    have h4 : Y < X := Nat.lt_of_mul_lt_mul_right h3
    rw [Nat.compare_eq_gt.mpr h]
    exact Int.compare_eq_gt.mpr (by omega)
theorem dd_t : ∀ n, n < 361 → ∀ s, s < 13 → s ≠ 0 → vf_n64 (FP.ddiv (FP.i2d (nI n)) (FP.i2d (nI s))) := by unfold vf_n64; decide +kernel
theorem ks_t : ∀ n, n < 65 → vf_n32 (FP.fdiv (FP.i2f (nI n)) 1115684864) := by unfold vf_n32; decide +kernel
def aReason (M : mS) (a : Int32) (b : Bool) : Int32 := if inR a (nI 0) (nI 1) = false then -2 else if M 0 0 = 0 then -3 else if a = 0 then (if b = true then nI (M 0 1) else nI (M 0 0)) else if M 0 2 = 0 then -6 else if b = true then nI (M 0 3) else nI (M 0 2)
def aJokeOf (w : Nat → Nat) (a b : Int32) : Int32 := if inR a (nI 0) (nI (w 0) - nI 1) = false then -1 else if inR b (nI 0) (nI 5) = false then -2 else if cl b = 5 then nI (abv w (cl a)) else nI (jk w (cl a) (cl b))
def aLeast (w : Nat → Nat) (a : Nat) : Int32 := match pla w a (nI 0) with
  | none => nI 0
  | some k => nI (jk w k 1)
def aWellOf (w : Nat → Nat) (a b : Int32) : Int32 := if inR a (nI 0) (nI 3) = false then -1 else if b = nI 0 then nI (w (14 + cl a)) else if b = nI 1 then nI (jin w (cl a)) else if b = nI 2 then aLeast w (cl a) else if b = nI 3 then nI (w (18 + cl a)) else -2
def aKnown (w : Nat → Nat) (a : Int32) : Int32 := if inR a (nI 0) (nI 63) = false then -1 else nI (bN (kn w (cl a)))
def aLB (w : Nat → Nat) (a b : Int32) : Int32 := if inR a (nI 0) (nI (w 0) - nI 1) = false then -1 else if inR b (nI 0) (nI 50) = true then nI (lauN (jk w (cl a) 3) (jk w (cl a) 4) (cl b)) else -2
/-- the sum of the first laughs that were lifted -/
def lsum (w : Nat → Nat) : Nat → Nat
  | 0 => 0
  | k + 1 => faN (lsum w k) (w (82 + 3 * k + 2))
theorem lsum_le {w : Nat → Nat} {B : Nat} (h : rB w B) : ∀ k, k ≤ 64 → lsum w k ≤ 2139095040
  | 0, _ => Nat.zero_le _
  | k + 1, hk => faN_le (lsum_le h k (by omega)) (h.2.2.2.2.2.2.2.2.2.2.2.2.2.2.2.2.1 k (by omega)).2.2
def aLift (w : Nat → Nat) (a b : Int32) : Int32 := if inR a (nI 0) (nI (w 6) - nI 1) = false then -1 else if inR b (nI 0) (nI 2) = true then nI (w (82 + 3 * (w 6 - 1 - cl a) + cl b)) else -2
theorem isl_n {a : Int32} {n : Nat} (hn : n ≤ 64) (h : inR a (nI 0) (nI n - nI 1) = true) : ∃ k : Nat, a = nI k ∧ k < n := by
  by_cases h0 : n = 0
  · subst h0
    exfalso
    rw [inR_iff] at h
    have h1 := Int32.le_iff_toInt_le.mp h.1
    have h2 := Int32.le_iff_toInt_le.mp h.2
    have h3 : (nI 0).toInt = 0 := by decide
    have h4 : (nI 0 - nI 1).toInt = -1 := by decide
    omega
  · rw [pk_sub (by omega)] at h
    obtain ⟨k, rfl, -, h2⟩ := inR_n (by decide) (by omega) h
    exact ⟨k, rfl, by omega⟩
/-- strokes until a depth is reached: steps, length, depth, reach -/
def stN (st d : Nat) : Nat → Nat → Nat
  | 0, _ => 0
  | f + 1, r => if r < d then stN st d f (nR r st) + 1 else 0
def aStrokes (w : Nat → Nat) (a : Int32) : Int32 := if inR a (nI 1) (nI 30) = false then -2 else nI (stN (w 2) (cl a) 30 (w 3))
theorem nR_gt {r st d : Nat} (h : r < d) (hd : d ≤ 30) (hs : 1 ≤ st) : r + 1 ≤ nR r st := by unfold nR; split <;> omega
theorem stN_s {st d n r N : Nat} (h : n + stN st d (30 - n) r = N) (hr : r < d) (hn : n < 30) : (n + 1) + stN st d (30 - (n + 1)) (nR r st) = N := by
  rw [show 30 - n = (30 - (n + 1)) + 1 by omega] at h
  simp only [stN, if_pos hr] at h
  omega
theorem stN_e {st d n r N : Nat} (h : n + stN st d (30 - n) r = N) (hr : ¬ r < d) : n = N := by
  cases hb : 30 - n with
  | zero => rw [hb] at h; exact h
  | succ f => rw [hb] at h; simp only [stN, if_neg hr] at h; exact h
/-- groans until a depth is reached -/
def gtL (ln d : Nat) : Nat → Nat → Nat
  | 0, _ => 0
  | f + 1, r => if r < d then (1 + nR r ln / 10) + gtL ln d f (nR r ln) else 0
def gT (w : Nat → Nat) (d ln : Nat) : Nat := (1 + nR (w 3) ln / 10) + gtL ln d 30 (nR (w 3) ln)
theorem gtL_s {ln d n r s N : Nat} (h : s + gtL ln d (30 - n) r = N) (hr : r < d) (hn : n < 30) : (s + (1 + nR r ln / 10)) + gtL ln d (30 - (n + 1)) (nR r ln) = N := by
  rw [show 30 - n = (30 - (n + 1)) + 1 by omega] at h
  simp only [gtL, if_pos hr] at h
  omega
theorem gtL_e {ln d n r s N : Nat} (h : s + gtL ln d (30 - n) r = N) (hr : ¬ r < d) : s = N := by
  cases hb : 30 - n with
  | zero => rw [hb] at h; exact h
  | succ f => rw [hb] at h; simp only [gtL, if_neg hr] at h; exact h
theorem gtL_le (ln d : Nat) : ∀ f r, gtL ln d f r ≤ 4 * f
  | 0, _ => Nat.le_refl _
  | f + 1, r => by
    have h1 := gtL_le ln d f (nR r ln)
    have h2 := nR_le (a := r) (b := ln)
    simp only [gtL]
    split <;> omega
theorem gT_le (w : Nat → Nat) (d ln : Nat) : gT w d ln ≤ 124 := by
  unfold gT
  have h1 := gtL_le ln d 30 (nR (w 3) ln)
  have h2 := nR_le (a := w 3) (b := ln)
  omega
def bB (f : Nat → Nat) : Nat → Nat
  | 0 => 1
  | i + 1 => if f (i + 2) < f (bB f i) then i + 2 else bB f i
theorem bB_in (f : Nat → Nat) : ∀ i, 1 ≤ bB f i ∧ bB f i ≤ i + 1
  | 0 => ⟨Nat.le_refl _, Nat.le_refl _⟩
  | i + 1 => by have := bB_in f i; simp only [bB]; split <;> omega
def aBest (w : Nat → Nat) : Int32 := match pla w (w 1) (nI 0) with
  | none => -6
  | some k => nI (bB (gT w (jk w k 1)) 9)
/-- joke a stands ahead of joke b -/
def fnr (w : Nat → Nat) (a b : Nat) : Bool := if lauN (jk w a 3) (jk w a 4) (w 4) = lauN (jk w b 3) (jk w b 4) (w 4) then (if jk w b 1 = jk w a 1 then decide (a < b) else decide (jk w a 1 < jk w b 1)) else decide (lauN (jk w b 3) (jk w b 4) (w 4) < lauN (jk w a 3) (jk w a 4) (w 4))
theorem sub_0 {a b : Nat} (ha : a < 2 ^ 30) (hb : b < 2 ^ 30) : nI a - nI b = 0 ↔ a = b := by
  constructor
  · intro h
    have h1 := pk_sub_toInt ha hb
    rw [h, Int32.toInt_zero] at h1
    omega
  · intro h; subst h; rw [pk_sub (Nat.le_refl _), Nat.sub_self]; rfl
theorem sub_p {a b : Nat} (ha : a < 2 ^ 30) (hb : b < 2 ^ 30) : nI a - nI b ≤ 0 ↔ a ≤ b := by
  rw [Int32.le_iff_toInt_le, pk_sub_toInt ha hb, Int32.toInt_zero]
  omega
theorem f_eq0 {a b : Nat} (ha : a < 2139095040) (hb : b < 2139095040) : Op.cmpValue (FP.fcmp (UInt32.ofNat a) (UInt32.ofNat b)) .l = 0 ↔ a = b := by
  rw [f_cmp2 ha hb]
  rcases Nat.lt_trichotomy a b with h | h | h
  · rw [Nat.compare_eq_lt.mpr h]
    exact ⟨fun z => absurd z (by decide), fun z => by omega⟩
  · rw [Nat.compare_eq_eq.mpr h]
    exact ⟨fun _ => h, fun _ => rfl⟩
  · rw [Nat.compare_eq_gt.mpr h]
    exact ⟨fun z => absurd z (by decide), fun z => by omega⟩
theorem f_le0 {a b : Nat} (ha : a < 2139095040) (hb : b < 2139095040) : Op.cmpValue (FP.fcmp (UInt32.ofNat a) (UInt32.ofNat b)) .l ≤ 0 ↔ a ≤ b := by
  rw [f_cmp2 ha hb]
  rcases Nat.lt_trichotomy a b with h | h | h
  · rw [Nat.compare_eq_lt.mpr h]
    exact ⟨fun _ => by omega, fun _ => by decide⟩
  · rw [Nat.compare_eq_eq.mpr h]
    exact ⟨fun _ => by omega, fun _ => by decide⟩
  · rw [Nat.compare_eq_gt.mpr h]
    exact ⟨fun z => absurd z (by decide), fun z => by omega⟩
def aFunniest (w : Nat → Nat) (a : Int32) : Int32 := oI (fO (fun x => decide (nI (cN (fun y => fnr w y x) (w 0)) = a)) (w 0))
def flr (w : Nat → Nat) (a b : Nat) : Bool := if jin w a = jin w b then (if w (14 + a) = w (14 + b) then decide (a < b) else decide (w (14 + b) < w (14 + a))) else decide (jin w b < jin w a)
def aFullest (w : Nat → Nat) (a : Int32) : Int32 := oI (fO (fun x => decide (nI (cN (fun y => flr w y x) 4) = a)) 4)
def aInWell (w : Nat → Nat) (a b : Int32) : Int32 := if inR a (nI 0) (nI 3) = true then oI (pla w (cl a) b) else -1
def aCounted (w : Nat → Nat) : Bool := if (fO (fun k => kn w (jk w k 2)) (w 0)).isSome = true then false else decide (w 7 = w 0 + w 6 + w 8) && decide (w 11 = lsum w (w 6))
def dsum (w : Nat → Nat) : Nat → Nat
  | 0 => 0
  | k + 1 => dsum w k + jk w k 1
def aMean (w : Nat → Nat) : UInt64 := if w 0 = 0 then FP.dconst0 else FP.ddiv (FP.i2d (nI (dsum w (w 0)))) (FP.i2d (nI (w 0)))
theorem dsum_le {w : Nat → Nat} {B : Nat} (h : rB w B) : ∀ k, k ≤ w 0 → dsum w k ≤ 30 * k
  | 0, _ => Nat.le_refl _
  | k + 1, hk => by
    have h1 := dsum_le h k (by omega)
    have h2 := (h.2.2.1 k (by omega)).2.2.1
    show dsum w k + jk w k 1 ≤ _
    omega
def aShare (w : Nat → Nat) : UInt32 := FP.fdiv (FP.i2f (nI (cN (kn w) 64))) 1115684864
def psum (w : Nat → Nat) : Nat → Nat
  | 0 => 0
  | k + 1 => psum w k + jk w k 4
theorem psum_le {w : Nat → Nat} {B : Nat} (h : rB w B) : ∀ k, k ≤ w 0 → psum w k ≤ k
  | 0, _ => Nat.le_refl _
  | k + 1, hk => by
    have h1 := psum_le h k (by omega)
    have h2 := (h.2.2.1 k (by omega)).2.2.2.2.2.2
    show psum w k + jk w k 4 ≤ _
    omega
def aAccount (M : mS) (a : Int32) : Int32 :=
  if a = nI 0 then nI (M 1 0) else if a = nI 1 then nI (M 1 1) else if a = nI 2 then nI (M 1 2) else if a = nI 3 then nI (M 1 3) else if a = nI 4 then nI (M 1 4) else if a = nI 5 then nI (M 1 5) else if a = nI 6 then nI (M 1 6) else if a = nI 7 then nI (M 1 7) else if a = nI 8 then nI (M 1 8) else if a = nI 9 then nI (M 1 9) else if a = nI 10 then nI (M 1 10) else if a = nI 11 then nI (psum (M 1) (M 1 0)) else if a = nI 12 then nI (M 0 17) else if a = nI 13 then nI (M 0 11) else -2
theorem t_nf {b : Bool} (h : b = true) : ¬ b = false := by rw [h]; decide
theorem t_nt {b : Bool} (h : b = false) : ¬ b = true := by rw [h]; decide
theorem fO_none {p : Nat → Bool} : ∀ {k : Nat}, fO p k = none → ∀ i, i < k → p i = false := by
  intro k
  induction k with
  | zero => intro _ i hi; exact absurd hi (Nat.not_lt_zero _)
  | succ k ih =>
    intro h i hi
    cases hk : fO p k with
    | some j => rw [fO_mono hk (k + 1) (by omega)] at h; cases h
    | none =>
      by_cases hik : i = k
      · subst hik
        cases hp : p i with
        | false => rfl
        | true => rw [fO_y hk hp] at h; cases h
      · exact ih hk i (by omega)
/-- where a well has jokes, one lies least deep -/
theorem pla_0 {w : Nat → Nat} {a : Nat} (h : jin w a ≠ 0) : ∃ k, pla w a (nI 0) = some k := by
  have key : ∀ n (p : Nat → Bool) (f : Nat → Nat), cN p n ≠ 0 → ∃ k, k < n ∧ p k = true ∧ ∀ i, i < n → p i = true → f k ≤ f i := by
    intro n p f
    induction n with
    | zero => intro h; exact absurd rfl h
    | succ n ih =>
      intro h
      by_cases hn : cN p n = 0
      · have hp : p n = true := by
          cases hq : p n with
          | true => rfl
          | false => exfalso; apply h; show cN p n + bN (p n) = 0; rw [hn, hq]; rfl
        refine ⟨n, by omega, hp, fun i hi hpi => ?_⟩
        by_cases hin : i = n
        · subst hin; exact Nat.le_refl _
        · exfalso
          have : ∀ m, m ≤ n → i < m → cN p m ≠ 0 := by
            intro m hm him
            induction m with
            | zero => omega
            | succ m ihm =>
              show cN p m + bN (p m) ≠ 0
              by_cases him2 : i = m
              · subst him2; rw [hpi]; show cN p i + 1 ≠ 0; omega
              · have := ihm (by omega) (by omega); omega
          exact this n (Nat.le_refl _) (by omega) hn
      · obtain ⟨k, hk, hpk, hmin⟩ := ih hn
        cases hq : p n with
        | false =>
          refine ⟨k, by omega, hpk, fun i hi hpi => ?_⟩
          by_cases hin : i = n
          · subst hin; rw [hq] at hpi; cases hpi
          · exact hmin i (by omega) hpi
        | true =>
          by_cases hf : f k ≤ f n
          · refine ⟨k, by omega, hpk, fun i hi hpi => ?_⟩
            by_cases hin : i = n
            · subst hin; exact hf
            · exact hmin i (by omega) hpi
          · refine ⟨n, by omega, hq, fun i hi hpi => ?_⟩
            by_cases hin : i = n
            · subst hin; exact Nat.le_refl _
            · have := hmin i (by omega) hpi; omega
  obtain ⟨k, hk, hpk, hmin⟩ := key (w 0) (fun k => decide (jk w k 0 = a)) (fun k => jk w k 1) h
  have hw : jk w k 0 = a := by simpa using hpk
  have h0 : abv w k = 0 := by
    have z : ∀ n, n ≤ w 0 → cN (fun i => decide (jk w i 0 = jk w k 0) && decide (jk w i 1 < jk w k 1)) n = 0 := by
      intro n
      induction n with
      | zero => intro _; rfl
      | succ n ihn =>
        intro hn
        show cN _ n + bN _ = 0
        rw [ihn (by omega)]
        by_cases hwn : jk w n 0 = jk w k 0
        · have := hmin n (by omega) (by simp [hwn, hw])
          simp [hwn, Nat.not_lt.mpr this, bN]
        · simp [hwn, bN]
    exact z _ (Nat.le_refl _)
  cases hp : pla w a (nI 0) with
  | some j => exact ⟨j, rfl⟩
  | none =>
    exfalso
    have := fO_none hp k hk
    simp [hw, h0] at this
theorem pla_n {w : Nat → Nat} {a : Nat} {b : Int32} (h : jin w a = 0) : pla w a b = none := by
  cases hp : pla w a b with
  | none => rfl
  | some k =>
    exfalso
    obtain ⟨h1, h2, -⟩ := fO_spec hp
    have h3 : jk w k 0 = a := by
      rw [Bool.and_eq_true] at h2
      exact of_decide_eq_true h2.1
    have key : ∀ m, k < m → cN (fun k => decide (jk w k 0 = a)) m ≠ 0 := by
      intro m hm
      induction m with
      | zero => omega
      | succ m ih =>
        show cN (fun k => decide (jk w k 0 = a)) m + bN (decide (jk w m 0 = a)) ≠ 0
        by_cases hkm : k = m
        · subst hkm
          have : bN (decide (jk w k 0 = a)) = 1 := by rw [h3]; simp [bN]
          omega
        · have := ih (by omega); omega
    exact key _ h1 h
set_option maxHeartbeats 4000000 in
set_option maxRecDepth 100000 in
theorem metX2_reason (l : Launch) (G : va_G) (dA : Nat → ClassId) (dS : Nat → Nat) (B0 sz : Nat) (q : Nat → Nat) (M : mS) (a : Int32) (b : Bool) (hy0 : M 0 0 < 2 ^ 31) (hy2 : M 0 2 < 2 ^ 31) : Met l yX2_reason (ws_ yX2_reason cX2_reason 3 (some FieldType.int)) ({ frames := 1, cells := 0, slots := 0, locals := 22 }) (zP G dA dS B0 [.ref (q 0), .int (a), .int (nI (bN b))] sz (mW dA q M) (fun H => True)) (zQi G (fun (r : Int32) (u : Unit) => r = aReason M a b) (fun (u : Unit) => mW dA q M) (fun (u : Unit) (H : Heap) => True) (va_A (mW dA q M) sz)) 0 0 (va_A (mW dA q M) sz) := by
  refine zM (by decide) (Nat.le_of_ble_eq_true rfl) ?_
  intro p e s m below meth c ls A H locs hHe hx hb hr hlocks hml hown hname hts hX hsz hB hAe hA hAB hH hRo hl
  have hl : lv_has ls 3 [(0, .ref (q 0)), (1, .int (a)), (2, .int (nI (bN b)))] := hl
  refine lv_iload_n hx hb dX2_reason_0 rfl (lv_at hl 1 rfl) ?_
  refine lv_iconst (v := nI 0) hx hb dX2_reason_1 (by decide) ?_
  refine lv_iconst (v := nI 1) hx hb dX2_reason_2 (by decide) ?_
  refine z_ci (wr := mW dA q M) (va_runS (As := [.int (a), .int (nI 0), .int (nI 1)]) (rest := []) ⟨hx, hb, hml, hown, hts⟩ (metX2_isBetween l G dA dS B0 H.size a (nI 0) (nI 1)) (va_cwS 3 hts (lw_S q2001 q2002 q91 q2003) rfl rfl rfl (by decide +kernel) ⟨Nat.le_of_ble_eq_true rfl, Nat.le_of_ble_eq_true rfl⟩) (zPS hX hH hB hAB [] rfl rfl trivial) rfl rfl hl.1 rfl (lv_room (Nat.le_of_ble_eq_true rfl)) dX2_reason_3 ⟨(Nat.le_of_ble_eq_true rfl), (Nat.le_of_ble_eq_true rfl)⟩) hH hA [] [0, 1, 2, 3, 4, 5, 6, 7, 8] rfl rfl (by decide) (by decide) (fun r_1 u_r_1 H locs hw_r_1 hH hR_r_1 hk_r_1 => ?_)
  obtain rfl := hw_r_1
  have hH : zH G A s.heap (mW dA q M) H locs := hH
  refine z_ifneB (b := inR a (nI 0) (nI 1)) (tgt := 12) hx hb dX2_reason_6 (by decide) (fun c_6_2 => ?_) (fun c_6_2 => ?_)
  · skip
    refine lv_aload_n hx hb dX2_reason_12 rfl (lv_at hl 0 rfl) ?_
    refine z_get (v := .int (nI (M 0 0))) hx hb hts hown hX kX2 0 (by decide) (hH.at 0 rfl) rfl q2010 (fun _ h9 => h9) dX2_reason_13 ?_
    refine z_ifneN (tgt := 22) hx hb dX2_reason_16 (by decide) (by omega) (fun c_16_3 => ?_) (fun c_16_3 => ?_)
    · skip
      refine lv_iload_n hx hb dX2_reason_22 rfl (lv_at hl 1 rfl) ?_
      refine lv_if_ne (tgt := 42) hx hb dX2_reason_23 (by decide) (fun c_23_4 => ?_) (fun c_23_4 => ?_)
      · skip
        refine lv_aload_n hx hb dX2_reason_42 rfl (lv_at hl 0 rfl) ?_
        refine z_get (v := .int (nI (M 0 2))) hx hb hts hown hX kX2 2 (by decide) (hH.at 0 rfl) rfl q2012 (fun _ h9 => h9) dX2_reason_43 ?_
        refine z_ifneN (tgt := 52) hx hb dX2_reason_46 (by decide) (by omega) (fun c_46_5 => ?_) (fun c_46_5 => ?_)
        · skip
          refine lv_iload_n hx hb dX2_reason_52 rfl (lv_at hl 2 rfl) ?_
          refine z_ifeqB (b := b) (tgt := 63) hx hb dX2_reason_53 (by decide) (fun c_53_6 => ?_) (fun c_53_6 => ?_)
          · skip
            refine lv_aload_n hx hb dX2_reason_63 rfl (lv_at hl 0 rfl) ?_
            refine z_get (v := .int (nI (M 0 2))) hx hb hts hown hX kX2 2 (by decide) (hH.at 0 rfl) rfl q2012 (fun _ h9 => h9) dX2_reason_64 ?_
            exact z_iret hx hb hr hlocks hH (u := ()) (by simp only [aReason, cl, if_pos c_6_2, if_neg (t_nf c_6_2), if_neg c_16_3, if_neg c_23_4, if_neg c_46_5, if_pos c_53_6, if_neg (t_nt c_53_6)]; first | done | rfl) ⟨hH.1, hH.2.1⟩ trivial (Nat.le_of_ble_eq_true rfl) (Nat.le_of_ble_eq_true rfl) dX2_reason_67
          · skip
            refine lv_aload_n hx hb dX2_reason_56 rfl (lv_at hl 0 rfl) ?_
            refine z_get (v := .int (nI (M 0 3))) hx hb hts hown hX kX2 3 (by decide) (hH.at 0 rfl) rfl q2013 (fun _ h9 => h9) dX2_reason_57 ?_
            refine lv_goto (tgt := 67) hx hb dX2_reason_60 (by decide) ?_
            exact z_iret hx hb hr hlocks hH (u := ()) (by simp only [aReason, cl, if_pos c_6_2, if_neg (t_nf c_6_2), if_neg c_16_3, if_neg c_23_4, if_neg c_46_5, if_pos c_53_6, if_neg (t_nf c_53_6)]; first | done | rfl) ⟨hH.1, hH.2.1⟩ trivial (Nat.le_of_ble_eq_true rfl) (Nat.le_of_ble_eq_true rfl) dX2_reason_67
        · skip
          refine lv_bipush (v := (-6)) hx hb dX2_reason_49 (by decide) ?_
          exact z_iret hx hb hr hlocks hH (u := ()) (by simp only [aReason, cl, if_pos c_6_2, if_neg (t_nf c_6_2), if_neg c_16_3, if_neg c_23_4, if_pos c_46_5]; first | done | rfl) ⟨hH.1, hH.2.1⟩ trivial (Nat.le_of_ble_eq_true rfl) (Nat.le_of_ble_eq_true rfl) dX2_reason_51
      · skip
        refine lv_iload_n hx hb dX2_reason_26 rfl (lv_at hl 2 rfl) ?_
        refine z_ifeqB (b := b) (tgt := 37) hx hb dX2_reason_27 (by decide) (fun c_27_7 => ?_) (fun c_27_7 => ?_)
        · skip
          refine lv_aload_n hx hb dX2_reason_37 rfl (lv_at hl 0 rfl) ?_
          refine z_get (v := .int (nI (M 0 0))) hx hb hts hown hX kX2 0 (by decide) (hH.at 0 rfl) rfl q2010 (fun _ h9 => h9) dX2_reason_38 ?_
          exact z_iret hx hb hr hlocks hH (u := ()) (by simp only [aReason, cl, if_pos c_6_2, if_neg (t_nf c_6_2), if_neg c_16_3, if_pos c_23_4, if_pos c_27_7, if_neg (t_nt c_27_7)]; first | done | rfl) ⟨hH.1, hH.2.1⟩ trivial (Nat.le_of_ble_eq_true rfl) (Nat.le_of_ble_eq_true rfl) dX2_reason_41
        · skip
          refine lv_aload_n hx hb dX2_reason_30 rfl (lv_at hl 0 rfl) ?_
          refine z_get (v := .int (nI (M 0 1))) hx hb hts hown hX kX2 1 (by decide) (hH.at 0 rfl) rfl q2011 (fun _ h9 => h9) dX2_reason_31 ?_
          refine lv_goto (tgt := 41) hx hb dX2_reason_34 (by decide) ?_
          exact z_iret hx hb hr hlocks hH (u := ()) (by simp only [aReason, cl, if_pos c_6_2, if_neg (t_nf c_6_2), if_neg c_16_3, if_pos c_23_4, if_pos c_27_7, if_neg (t_nf c_27_7)]; first | done | rfl) ⟨hH.1, hH.2.1⟩ trivial (Nat.le_of_ble_eq_true rfl) (Nat.le_of_ble_eq_true rfl) dX2_reason_41
    · skip
      refine lv_bipush (v := (-3)) hx hb dX2_reason_19 (by decide) ?_
      exact z_iret hx hb hr hlocks hH (u := ()) (by simp only [aReason, cl, if_pos c_6_2, if_neg (t_nf c_6_2), if_pos c_16_3]; first | done | rfl) ⟨hH.1, hH.2.1⟩ trivial (Nat.le_of_ble_eq_true rfl) (Nat.le_of_ble_eq_true rfl) dX2_reason_21
  · skip
    refine lv_bipush (v := (-2)) hx hb dX2_reason_9 (by decide) ?_
    exact z_iret hx hb hr hlocks hH (u := ()) (by simp only [aReason, cl, if_pos c_6_2, if_neg (t_nt c_6_2)]; first | done | rfl) ⟨hH.1, hH.2.1⟩ trivial (Nat.le_of_ble_eq_true rfl) (Nat.le_of_ble_eq_true rfl) dX2_reason_11

set_option maxHeartbeats 4000000 in
set_option maxRecDepth 100000 in
theorem metX2_jokeOf (l : Launch) (G : va_G) (dA : Nat → ClassId) (dS : Nat → Nat) (B0 sz : Nat) (q : Nat → Nat) (M : mS) (a : Int32) (b : Int32) (B : Nat) (hrb : rB (M 1) B) (hBb : B + 20 < 2 ^ 30) : Met l yX2_jokeOf (ws_ yX2_jokeOf cX2_jokeOf 3 (some FieldType.int)) ({ frames := 2, cells := 0, slots := 0, locals := 45 }) (zP G dA dS B0 [.ref (q 0), .int (a), .int (b)] sz (mW dA q M) (fun H => True)) (zQi G (fun (r : Int32) (u : Unit) => r = aJokeOf (M 1) a b) (fun (u : Unit) => mW dA q M) (fun (u : Unit) (H : Heap) => True) (va_A (mW dA q M) sz)) 0 0 (va_A (mW dA q M) sz) := by
  refine zM (by decide) (Nat.le_of_ble_eq_true rfl) ?_
  intro p e s m below meth c ls A H locs hHe hx hb hr hlocks hml hown hname hts hX hsz hB hAe hA hAB hH hRo hl
  have hl : lv_has ls 3 [(0, .ref (q 0)), (1, .int (a)), (2, .int (b))] := hl
  have hbw := hrb.lt (by omega)
  have h12 := hrb.1
  refine lv_aload_n hx hb dX2_jokeOf_0 rfl (lv_at hl 0 rfl) ?_
  refine lv_iload_n hx hb dX2_jokeOf_1 rfl (lv_at hl 1 rfl) ?_
  refine z_ci (wr := []) (va_runV (As := [.int (a)]) (rest := []) ⟨hx, hb, hml, hown, hts⟩ (metX2_isJoke l G dA dS B0 H.size q M a) (cwV 1 hts (lw_V q2143 q2145 qs40 q91 q2146) rfl rfl rfl (by decide +kernel) ⟨Nat.le_of_ble_eq_true rfl, Nat.le_of_ble_eq_true rfl⟩) (zPV hX hH hB hAB (z_recv hX kX2 (hH.at 0 rfl)) [0, 1, 2, 3, 4, 5, 6, 7, 8] rfl rfl trivial) rfl rfl hl.1 rfl (lv_room (Nat.le_of_ble_eq_true rfl)) dX2_jokeOf_2 ⟨(Nat.le_of_ble_eq_true rfl), (Nat.le_of_ble_eq_true rfl)⟩) hH hA [0, 1, 2, 3, 4, 5, 6, 7, 8] [] rfl rfl (by decide) (by decide) (fun r_1 u_r_1 H locs hw_r_1 hH hR_r_1 hk_r_1 => ?_)
  obtain rfl := hw_r_1
  have hH : zH G A s.heap (mW dA q M) H locs := hH
  refine z_ifneB (b := inR a (nI 0) (nI (M 1 0) - nI 1)) (tgt := 10) hx hb dX2_jokeOf_5 (by decide) (fun c_5_2 => ?_) (fun c_5_2 => ?_)
  · skip
    obtain ⟨a1, rfl, hja1⟩ := isj_n h12 c_5_2
    refine lv_iload_n hx hb dX2_jokeOf_10 rfl (lv_at hl 2 rfl) ?_
    refine lv_iconst (v := nI 0) hx hb dX2_jokeOf_11 (by decide) ?_
    refine lv_iconst (v := nI 5) hx hb dX2_jokeOf_12 (by decide) ?_
    refine z_ci (wr := mW dA q M) (va_runS (As := [.int (b), .int (nI 0), .int (nI 5)]) (rest := []) ⟨hx, hb, hml, hown, hts⟩ (metX2_isBetween l G dA dS B0 H.size b (nI 0) (nI 5)) (va_cwS 3 hts (lw_S q2001 q2002 q91 q2003) rfl rfl rfl (by decide +kernel) ⟨Nat.le_of_ble_eq_true rfl, Nat.le_of_ble_eq_true rfl⟩) (zPS hX hH hB hAB [] rfl rfl trivial) rfl rfl hl.1 rfl (lv_room (Nat.le_of_ble_eq_true rfl)) dX2_jokeOf_13 ⟨(Nat.le_of_ble_eq_true rfl), (Nat.le_of_ble_eq_true rfl)⟩) hH hA [] [0, 1, 2, 3, 4, 5, 6, 7, 8] rfl rfl (by decide) (by decide) (fun r_3 u_r_3 H locs hw_r_3 hH hR_r_3 hk_r_3 => ?_)
    obtain rfl := hw_r_3
    have hH : zH G A s.heap (mW dA q M) H locs := hH
    refine z_ifneB (b := inR b (nI 0) (nI 5)) (tgt := 22) hx hb dX2_jokeOf_16 (by decide) (fun c_16_4 => ?_) (fun c_16_4 => ?_)
    · skip
      obtain ⟨b1, rfl, hlo_5, hup_6⟩ := inR_n (a := 0) (b := 5) (by decide) (by decide) c_16_4
      refine lv_iload_n hx hb dX2_jokeOf_22 rfl (lv_at hl 2 rfl) ?_
      refine lv_iconst (v := nI 5) hx hb dX2_jokeOf_23 (by decide) ?_
      refine z_icmp_ne (tgt := 35) hx hb dX2_jokeOf_24 (by decide) (by omega) (by omega) (fun c_24_7 => ?_) (fun c_24_7 => ?_)
      · skip
        refine lv_aload_n hx hb dX2_jokeOf_35 rfl (lv_at hl 0 rfl) ?_
        refine lv_iload_n hx hb dX2_jokeOf_36 rfl (lv_at hl 1 rfl) ?_
        refine lv_iload_n hx hb dX2_jokeOf_37 rfl (lv_at hl 2 rfl) ?_
        refine z_ci (wr := []) (va_runV (As := [.int (nI a1), .int (nI b1)]) (rest := []) ⟨hx, hb, hml, hown, hts⟩ (metX2_is l G dA dS B0 H.size q M a1 b1 (by first | exact hk | assumption | omega) (by first | exact hj | assumption | omega)) (cwV 2 hts (lw_V q2103 q2105 qs31 q91 q2106) rfl rfl rfl (by decide +kernel) ⟨Nat.le_of_ble_eq_true rfl, Nat.le_of_ble_eq_true rfl⟩) (zPV hX hH hB hAB (z_recv hX kX2 (hH.at 0 rfl)) [0, 1, 2, 3, 4, 5, 6, 7, 8] rfl rfl trivial) rfl rfl hl.1 rfl (lv_room (Nat.le_of_ble_eq_true rfl)) dX2_jokeOf_38 ⟨(Nat.le_of_ble_eq_true rfl), (Nat.le_of_ble_eq_true rfl)⟩) hH hA [0, 1, 2, 3, 4, 5, 6, 7, 8] [] rfl rfl (by decide) (by decide) (fun r_8 u_r_8 H locs hw_r_8 hH hR_r_8 hk_r_8 => ?_)
        obtain rfl := hw_r_8
        have hH : zH G A s.heap (mW dA q M) H locs := hH
        have hbd_9 : jk (M 1) a1 b1 < 2 ^ 31 := hbw _ (by omega) (by omega)
        exact z_iret hx hb hr hlocks hH (u := ()) (by simp only [aJokeOf, cl, nI_clamp (show a1 < 2 ^ 31 by omega), nI_clamp (show b1 < 2 ^ 31 by omega), if_pos c_5_2, if_neg (t_nf c_5_2), if_pos c_16_4, if_neg (t_nf c_16_4), if_neg c_24_7]; first | done | rfl) ⟨hH.1, hH.2.1⟩ trivial (Nat.le_of_ble_eq_true rfl) (Nat.le_of_ble_eq_true rfl) dX2_jokeOf_41
      · skip
        refine lv_aload_n hx hb dX2_jokeOf_27 rfl (lv_at hl 0 rfl) ?_
        refine lv_iload_n hx hb dX2_jokeOf_28 rfl (lv_at hl 1 rfl) ?_
        refine z_ci (wr := []) (va_runV (As := [.int (nI a1)]) (rest := []) ⟨hx, hb, hml, hown, hts⟩ (metX2_above l G dA dS B0 H.size q M a1 (by first | exact hj | assumption | omega) (by first | exact hbw | assumption | omega) (by first | exact h12 | assumption | omega)) (cwV 1 hts (lw_V q2234 q2236 qs56 q91 q2237) rfl rfl rfl (by decide +kernel) ⟨Nat.le_of_ble_eq_true rfl, Nat.le_of_ble_eq_true rfl⟩) (zPV hX hH hB hAB (z_recv hX kX2 (hH.at 0 rfl)) [0, 1, 2, 3, 4, 5, 6, 7, 8] rfl rfl trivial) rfl rfl hl.1 rfl (lv_room (Nat.le_of_ble_eq_true rfl)) dX2_jokeOf_29 ⟨(Nat.le_of_ble_eq_true rfl), (Nat.le_of_ble_eq_true rfl)⟩) hH hA [0, 1, 2, 3, 4, 5, 6, 7, 8] [] rfl rfl (by decide) (by decide) (fun r_10 u_r_10 H locs hw_r_10 hH hR_r_10 hk_r_10 => ?_)
        obtain rfl := hw_r_10
        have hH : zH G A s.heap (mW dA q M) H locs := hH
        have hal_11 := abv_le (M 1) a1
        refine lv_goto (tgt := 41) hx hb dX2_jokeOf_32 (by decide) ?_
        exact z_iret hx hb hr hlocks hH (u := ()) (by simp only [aJokeOf, cl, nI_clamp (show a1 < 2 ^ 31 by omega), nI_clamp (show b1 < 2 ^ 31 by omega), if_pos c_5_2, if_neg (t_nf c_5_2), if_pos c_16_4, if_neg (t_nf c_16_4), if_pos c_24_7]; first | done | rfl) ⟨hH.1, hH.2.1⟩ trivial (Nat.le_of_ble_eq_true rfl) (Nat.le_of_ble_eq_true rfl) dX2_jokeOf_41
    · skip
      refine lv_bipush (v := (-2)) hx hb dX2_jokeOf_19 (by decide) ?_
      exact z_iret hx hb hr hlocks hH (u := ()) (by simp only [aJokeOf, cl, nI_clamp (show a1 < 2 ^ 31 by omega), if_pos c_5_2, if_neg (t_nf c_5_2), if_pos c_16_4, if_neg (t_nt c_16_4)]; first | done | rfl) ⟨hH.1, hH.2.1⟩ trivial (Nat.le_of_ble_eq_true rfl) (Nat.le_of_ble_eq_true rfl) dX2_jokeOf_21
  · skip
    refine lv_iconst (v := (-1)) hx hb dX2_jokeOf_8 (by decide) ?_
    exact z_iret hx hb hr hlocks hH (u := ()) (by simp only [aJokeOf, cl, if_pos c_5_2, if_neg (t_nt c_5_2)]; first | done | rfl) ⟨hH.1, hH.2.1⟩ trivial (Nat.le_of_ble_eq_true rfl) (Nat.le_of_ble_eq_true rfl) dX2_jokeOf_9

set_option maxHeartbeats 4000000 in
set_option maxRecDepth 100000 in
theorem metX2_wellOf (l : Launch) (G : va_G) (dA : Nat → ClassId) (dS : Nat → Nat) (B0 sz : Nat) (q : Nat → Nat) (M : mS) (a : Int32) (b : Int32) (B : Nat) (hrb : rB (M 1) B) (hBb : B + 20 < 2 ^ 30) : Met l yX2_wellOf (ws_ yX2_wellOf cX2_wellOf 3 (some FieldType.int)) ({ frames := 3, cells := 0, slots := 0, locals := 68 }) (zP G dA dS B0 [.ref (q 0), .int (a), .int (b)] sz (mW dA q M) (fun H => True)) (zQi G (fun (r : Int32) (u : Unit) => r = aWellOf (M 1) a b) (fun (u : Unit) => mW dA q M) (fun (u : Unit) (H : Heap) => True) (va_A (mW dA q M) sz)) 0 0 (va_A (mW dA q M) sz) := by
  refine zM (by decide) (Nat.le_of_ble_eq_true rfl) ?_
  intro p e s m below meth c ls A H locs hHe hx hb hr hlocks hml hown hname hts hX hsz hB hAe hA hAB hH hRo hl
  have hl : lv_has ls 3 [(0, .ref (q 0)), (1, .int (a)), (2, .int (b))] := hl
  have hbw := hrb.lt (by omega)
  have h12 := hrb.1
  refine lv_iload_n hx hb dX2_wellOf_0 rfl (lv_at hl 1 rfl) ?_
  refine z_ci (wr := mW dA q M) (va_runS (As := [.int (a)]) (rest := []) ⟨hx, hb, hml, hown, hts⟩ (metX2_isWell l G dA dS B0 H.size a) (va_cwS 1 hts (lw_S q2088 q2089 q91 q2090) rfl rfl rfl (by decide +kernel) ⟨Nat.le_of_ble_eq_true rfl, Nat.le_of_ble_eq_true rfl⟩) (zPS hX hH hB hAB [] rfl rfl trivial) rfl rfl hl.1 rfl (lv_room (Nat.le_of_ble_eq_true rfl)) dX2_wellOf_1 ⟨(Nat.le_of_ble_eq_true rfl), (Nat.le_of_ble_eq_true rfl)⟩) hH hA [] [0, 1, 2, 3, 4, 5, 6, 7, 8] rfl rfl (by decide) (by decide) (fun r_1 u_r_1 H locs hw_r_1 hH hR_r_1 hk_r_1 => ?_)
  obtain rfl := hw_r_1
  have hH : zH G A s.heap (mW dA q M) H locs := hH
  refine z_ifneB (b := inR a (nI 0) (nI 3)) (tgt := 9) hx hb dX2_wellOf_4 (by decide) (fun c_4_2 => ?_) (fun c_4_2 => ?_)
  · skip
    obtain ⟨a1, rfl, hlo_3, hup_4⟩ := inR_n (a := 0) (b := 3) (by decide) (by decide) c_4_2
    refine lv_iload_n hx hb dX2_wellOf_9 rfl (lv_at hl 2 rfl) ?_
    by_cases s_10_0 : b = nI 0
    · skip
      refine lv_tableIn (off := 30) (tgt := 40) hx hb dX2_wellOf_10 (by rw [s_10_0]; decide) (by rw [s_10_0]; decide) (by rw [s_10_0]; rfl) (by decide) ?_
      refine lv_aload_n hx hb dX2_wellOf_40 rfl (lv_at hl 0 rfl) ?_
      refine z_get (v := .ref (q 1)) hx hb hts hown hX kX2 6 (by decide) (hH.at 0 rfl) rfl q2016 (fun _ h9 => h9) dX2_wellOf_41 ?_
      refine lv_bipush (v := nI 14) hx hb dX2_wellOf_44 (by decide) ?_
      refine lv_iload_n hx hb dX2_wellOf_46 rfl (lv_at hl 1 rfl) ?_
      refine lv_iadd hx hb dX2_wellOf_47 ?_
      refine z_topi (y := nI (14 + a1)) (nI_add _ _) ?_
      refine z_iald (x := nI (M 1 (14 + a1))) hx hb hX (k := (14 + a1))  (hH.at 1 rfl) rfl (by omega) (by omega) rfl dX2_wellOf_48 ?_
      have hbd_5 := hbw (14 + a1) (by omega) (by omega)
      exact z_iret hx hb hr hlocks hH (u := ()) (by simp only [aWellOf, aLeast, cl, nI_clamp (show a1 < 2 ^ 31 by omega), if_pos c_4_2, if_neg (t_nf c_4_2), if_pos s_10_0]; first | done | rfl) ⟨hH.1, hH.2.1⟩ trivial (Nat.le_of_ble_eq_true rfl) (Nat.le_of_ble_eq_true rfl) dX2_wellOf_49
    by_cases s_10_1 : b = nI 1
    · skip
      refine lv_tableIn (off := 40) (tgt := 50) hx hb dX2_wellOf_10 (by rw [s_10_1]; decide) (by rw [s_10_1]; decide) (by rw [s_10_1]; rfl) (by decide) ?_
      refine lv_aload_n hx hb dX2_wellOf_50 rfl (lv_at hl 0 rfl) ?_
      refine lv_iload_n hx hb dX2_wellOf_51 rfl (lv_at hl 1 rfl) ?_
      refine z_ci (wr := []) (va_runV (As := [.int (nI a1)]) (rest := []) ⟨hx, hb, hml, hown, hts⟩ (metX2_jokesIn l G dA dS B0 H.size q M a1 (by first | exact ha | assumption | omega) (by first | exact hbw | assumption | omega) (by first | exact h12 | assumption | omega)) (cwV 1 hts (lw_V q2111 q2113 qs33 q91 q2114) rfl rfl rfl (by decide +kernel) ⟨Nat.le_of_ble_eq_true rfl, Nat.le_of_ble_eq_true rfl⟩) (zPV hX hH hB hAB (z_recv hX kX2 (hH.at 0 rfl)) [0, 1, 2, 3, 4, 5, 6, 7, 8] rfl rfl trivial) rfl rfl hl.1 rfl (lv_room (Nat.le_of_ble_eq_true rfl)) dX2_wellOf_52 ⟨(Nat.le_of_ble_eq_true rfl), (Nat.le_of_ble_eq_true rfl)⟩) hH hA [0, 1, 2, 3, 4, 5, 6, 7, 8] [] rfl rfl (by decide) (by decide) (fun r_6 u_r_6 H locs hw_r_6 hH hR_r_6 hk_r_6 => ?_)
      obtain rfl := hw_r_6
      have hH : zH G A s.heap (mW dA q M) H locs := hH
      have hjl_7 := jin_le (M 1) a1
      exact z_iret hx hb hr hlocks hH (u := ()) (by simp only [aWellOf, aLeast, cl, nI_clamp (show a1 < 2 ^ 31 by omega), if_pos c_4_2, if_neg (t_nf c_4_2), if_neg s_10_0, if_pos s_10_1]; first | done | rfl) ⟨hH.1, hH.2.1⟩ trivial (Nat.le_of_ble_eq_true rfl) (Nat.le_of_ble_eq_true rfl) dX2_wellOf_55
    by_cases s_10_2 : b = nI 2
    · skip
      refine lv_tableIn (off := 46) (tgt := 56) hx hb dX2_wellOf_10 (by rw [s_10_2]; decide) (by rw [s_10_2]; decide) (by rw [s_10_2]; rfl) (by decide) ?_
      refine lv_aload_n hx hb dX2_wellOf_56 rfl (lv_at hl 0 rfl) ?_
      refine lv_iload_n hx hb dX2_wellOf_57 rfl (lv_at hl 1 rfl) ?_
      refine z_ci (wr := []) (va_runV (As := [.int (nI a1)]) (rest := []) ⟨hx, hb, hml, hown, hts⟩ (metX2_jokesIn l G dA dS B0 H.size q M a1 (by first | exact ha | assumption | omega) (by first | exact hbw | assumption | omega) (by first | exact h12 | assumption | omega)) (cwV 1 hts (lw_V q2111 q2113 qs33 q91 q2114) rfl rfl rfl (by decide +kernel) ⟨Nat.le_of_ble_eq_true rfl, Nat.le_of_ble_eq_true rfl⟩) (zPV hX hH hB hAB (z_recv hX kX2 (hH.at 0 rfl)) [0, 1, 2, 3, 4, 5, 6, 7, 8] rfl rfl trivial) rfl rfl hl.1 rfl (lv_room (Nat.le_of_ble_eq_true rfl)) dX2_wellOf_58 ⟨(Nat.le_of_ble_eq_true rfl), (Nat.le_of_ble_eq_true rfl)⟩) hH hA [0, 1, 2, 3, 4, 5, 6, 7, 8] [] rfl rfl (by decide) (by decide) (fun r_8 u_r_8 H locs hw_r_8 hH hR_r_8 hk_r_8 => ?_)
      obtain rfl := hw_r_8
      have hH : zH G A s.heap (mW dA q M) H locs := hH
      have hjl_9 := jin_le (M 1) a1
      refine z_ifneN (tgt := 68) hx hb dX2_wellOf_61 (by decide) (by omega) (fun c_61_10 => ?_) (fun c_61_10 => ?_)
      · skip
        refine lv_aload_n hx hb dX2_wellOf_68 rfl (lv_at hl 0 rfl) ?_
        refine lv_aload_n hx hb dX2_wellOf_69 rfl (lv_at hl 0 rfl) ?_
        refine lv_iload_n hx hb dX2_wellOf_70 rfl (lv_at hl 1 rfl) ?_
        refine lv_iconst (v := nI 0) hx hb dX2_wellOf_71 (by decide) ?_
        refine z_ci (wr := []) (va_runV (As := [.int (nI a1), .int (nI 0)]) (rest := [.ref (q 0)]) ⟨hx, hb, hml, hown, hts⟩ (metX2_atPlace l G dA dS B0 H.size q M a1 (nI 0) (by first | exact ha | assumption | omega) (by first | exact hbw | assumption | omega) (by first | exact h12 | assumption | omega)) (cwV 2 hts (lw_V q2230 q2232 qs55 q91 q2233) rfl rfl rfl (by decide +kernel) ⟨Nat.le_of_ble_eq_true rfl, Nat.le_of_ble_eq_true rfl⟩) (zPV hX hH hB hAB (z_recv hX kX2 (hH.at 0 rfl)) [0, 1, 2, 3, 4, 5, 6, 7, 8] rfl rfl trivial) rfl rfl hl.1 rfl (lv_room (Nat.le_of_ble_eq_true rfl)) dX2_wellOf_72 ⟨(Nat.le_of_ble_eq_true rfl), (Nat.le_of_ble_eq_true rfl)⟩) hH hA [0, 1, 2, 3, 4, 5, 6, 7, 8] [] rfl rfl (by decide) (by decide) (fun r_11 u_r_11 H locs hw_r_11 hH hR_r_11 hk_r_11 => ?_)
        obtain rfl := hw_r_11
        have hH : zH G A s.heap (mW dA q M) H locs := hH
        obtain ⟨k9, hk9⟩ := pla_0 (w := M 1) (a := a1) c_61_10
        have hk91 := (fO_spec hk9).1
        refine z_topi (y := nI k9) (by rw [hk9]; rfl) ?_
        refine lv_iconst (v := nI 1) hx hb dX2_wellOf_75 (by decide) ?_
        refine z_ci (wr := []) (va_runV (As := [.int (nI k9), .int (nI 1)]) (rest := []) ⟨hx, hb, hml, hown, hts⟩ (metX2_is l G dA dS B0 H.size q M k9 1 (by first | exact hk | assumption | omega) (by first | exact hj | assumption | omega)) (cwV 2 hts (lw_V q2103 q2105 qs31 q91 q2106) rfl rfl rfl (by decide +kernel) ⟨Nat.le_of_ble_eq_true rfl, Nat.le_of_ble_eq_true rfl⟩) (zPV hX hH hB hAB (z_recv hX kX2 (hH.at 0 rfl)) [0, 1, 2, 3, 4, 5, 6, 7, 8] rfl rfl trivial) rfl rfl hl.1 rfl (lv_room (Nat.le_of_ble_eq_true rfl)) dX2_wellOf_76 ⟨(Nat.le_of_ble_eq_true rfl), (Nat.le_of_ble_eq_true rfl)⟩) hH hA [0, 1, 2, 3, 4, 5, 6, 7, 8] [] rfl rfl (by decide) (by decide) (fun r_12 u_r_12 H locs hw_r_12 hH hR_r_12 hk_r_12 => ?_)
        obtain rfl := hw_r_12
        have hH : zH G A s.heap (mW dA q M) H locs := hH
        have hbd_13 : jk (M 1) k9 1 < 2 ^ 31 := hbw _ (by omega) (by omega)
        exact z_iret hx hb hr hlocks hH (u := ()) (by simp only [aWellOf, aLeast, cl, nI_clamp (show a1 < 2 ^ 31 by omega), hk9, if_pos c_4_2, if_neg (t_nf c_4_2), if_neg s_10_0, if_neg s_10_1, if_pos s_10_2, if_neg c_61_10]; first | done | rfl) ⟨hH.1, hH.2.1⟩ trivial (Nat.le_of_ble_eq_true rfl) (Nat.le_of_ble_eq_true rfl) dX2_wellOf_79
      · skip
        refine lv_iconst (v := nI 0) hx hb dX2_wellOf_64 (by decide) ?_
        refine lv_goto (tgt := 79) hx hb dX2_wellOf_65 (by decide) ?_
        exact z_iret hx hb hr hlocks hH (u := ()) (by simp only [aWellOf, aLeast, cl, nI_clamp (show a1 < 2 ^ 31 by omega), pla_n (b := nI 0) c_61_10, if_pos c_4_2, if_neg (t_nf c_4_2), if_neg s_10_0, if_neg s_10_1, if_pos s_10_2, if_pos c_61_10]; first | done | rfl) ⟨hH.1, hH.2.1⟩ trivial (Nat.le_of_ble_eq_true rfl) (Nat.le_of_ble_eq_true rfl) dX2_wellOf_79
    by_cases s_10_3 : b = nI 3
    · skip
      refine lv_tableIn (off := 70) (tgt := 80) hx hb dX2_wellOf_10 (by rw [s_10_3]; decide) (by rw [s_10_3]; decide) (by rw [s_10_3]; rfl) (by decide) ?_
      refine lv_aload_n hx hb dX2_wellOf_80 rfl (lv_at hl 0 rfl) ?_
      refine z_get (v := .ref (q 1)) hx hb hts hown hX kX2 6 (by decide) (hH.at 0 rfl) rfl q2016 (fun _ h9 => h9) dX2_wellOf_81 ?_
      refine lv_bipush (v := nI 18) hx hb dX2_wellOf_84 (by decide) ?_
      refine lv_iload_n hx hb dX2_wellOf_86 rfl (lv_at hl 1 rfl) ?_
      refine lv_iadd hx hb dX2_wellOf_87 ?_
      refine z_topi (y := nI (18 + a1)) (nI_add _ _) ?_
      refine z_iald (x := nI (M 1 (18 + a1))) hx hb hX (k := (18 + a1))  (hH.at 1 rfl) rfl (by omega) (by omega) rfl dX2_wellOf_88 ?_
      have hbd_14 := hbw (18 + a1) (by omega) (by omega)
      exact z_iret hx hb hr hlocks hH (u := ()) (by simp only [aWellOf, aLeast, cl, nI_clamp (show a1 < 2 ^ 31 by omega), if_pos c_4_2, if_neg (t_nf c_4_2), if_neg s_10_0, if_neg s_10_1, if_neg s_10_2, if_pos s_10_3]; first | done | rfl) ⟨hH.1, hH.2.1⟩ trivial (Nat.le_of_ble_eq_true rfl) (Nat.le_of_ble_eq_true rfl) dX2_wellOf_89
    refine lv_tableOut (tgt := 90) hx hb dX2_wellOf_10 (z_sw (lo := 0) (n := 4) (z_all4 s_10_0 s_10_1 s_10_2 s_10_3) (by decide) (by decide)) (by decide) ?_
    refine lv_bipush (v := (-2)) hx hb dX2_wellOf_90 (by decide) ?_
    exact z_iret hx hb hr hlocks hH (u := ()) (by simp only [aWellOf, aLeast, cl, nI_clamp (show a1 < 2 ^ 31 by omega), if_pos c_4_2, if_neg (t_nf c_4_2), if_neg s_10_0, if_neg s_10_1, if_neg s_10_2, if_neg s_10_3]; first | done | rfl) ⟨hH.1, hH.2.1⟩ trivial (Nat.le_of_ble_eq_true rfl) (Nat.le_of_ble_eq_true rfl) dX2_wellOf_92
  · skip
    refine lv_iconst (v := (-1)) hx hb dX2_wellOf_7 (by decide) ?_
    exact z_iret hx hb hr hlocks hH (u := ()) (by simp only [aWellOf, aLeast, cl, if_pos c_4_2, if_neg (t_nt c_4_2)]; first | done | rfl) ⟨hH.1, hH.2.1⟩ trivial (Nat.le_of_ble_eq_true rfl) (Nat.le_of_ble_eq_true rfl) dX2_wellOf_8

set_option maxHeartbeats 4000000 in
set_option maxRecDepth 100000 in
theorem metX2_isKnown (l : Launch) (G : va_G) (dA : Nat → ClassId) (dS : Nat → Nat) (B0 sz : Nat) (q : Nat → Nat) (M : mS) (a : Int32) (B : Nat) (hrb : rB (M 1) B) (hBb : B + 20 < 2 ^ 30) : Met l yX2_isKnown (ws_ yX2_isKnown cX2_isKnown 2 (some FieldType.int)) ({ frames := 1, cells := 0, slots := 0, locals := 22 }) (zP G dA dS B0 [.ref (q 0), .int (a)] sz (mW dA q M) (fun H => True)) (zQi G (fun (r : Int32) (u : Unit) => r = aKnown (M 1) a) (fun (u : Unit) => mW dA q M) (fun (u : Unit) (H : Heap) => True) (va_A (mW dA q M) sz)) 0 0 (va_A (mW dA q M) sz) := by
  refine zM (by decide) (Nat.le_of_ble_eq_true rfl) ?_
  intro p e s m below meth c ls A H locs hHe hx hb hr hlocks hml hown hname hts hX hsz hB hAe hA hAB hH hRo hl
  have hl : lv_has ls 2 [(0, .ref (q 0)), (1, .int (a))] := hl
  have hbw := hrb.lt (by omega)
  have h12 := hrb.1
  refine lv_iload_n hx hb dX2_isKnown_0 rfl (lv_at hl 1 rfl) ?_
  refine lv_iconst (v := nI 0) hx hb dX2_isKnown_1 (by decide) ?_
  refine lv_bipush (v := nI 63) hx hb dX2_isKnown_2 (by decide) ?_
  refine z_ci (wr := mW dA q M) (va_runS (As := [.int (a), .int (nI 0), .int (nI 63)]) (rest := []) ⟨hx, hb, hml, hown, hts⟩ (metX2_isBetween l G dA dS B0 H.size a (nI 0) (nI 63)) (va_cwS 3 hts (lw_S q2001 q2002 q91 q2003) rfl rfl rfl (by decide +kernel) ⟨Nat.le_of_ble_eq_true rfl, Nat.le_of_ble_eq_true rfl⟩) (zPS hX hH hB hAB [] rfl rfl trivial) rfl rfl hl.1 rfl (lv_room (Nat.le_of_ble_eq_true rfl)) dX2_isKnown_4 ⟨(Nat.le_of_ble_eq_true rfl), (Nat.le_of_ble_eq_true rfl)⟩) hH hA [] [0, 1, 2, 3, 4, 5, 6, 7, 8] rfl rfl (by decide) (by decide) (fun r_1 u_r_1 H locs hw_r_1 hH hR_r_1 hk_r_1 => ?_)
  obtain rfl := hw_r_1
  have hH : zH G A s.heap (mW dA q M) H locs := hH
  refine z_ifneB (b := inR a (nI 0) (nI 63)) (tgt := 12) hx hb dX2_isKnown_7 (by decide) (fun c_7_2 => ?_) (fun c_7_2 => ?_)
  · skip
    obtain ⟨a1, rfl, hlo_3, hup_4⟩ := inR_n (a := 0) (b := 63) (by decide) (by decide) c_7_2
    refine lv_aload_n hx hb dX2_isKnown_12 rfl (lv_at hl 0 rfl) ?_
    refine lv_iload_n hx hb dX2_isKnown_13 rfl (lv_at hl 1 rfl) ?_
    refine z_ci (wr := []) (va_runV (As := [.int (nI a1)]) (rest := []) ⟨hx, hb, hml, hown, hts⟩ (metX2_isKnownSign l G dA dS B0 H.size q M a1 (by first | exact hsg | assumption | omega) (hrb.lt32 (by omega) _)) (cwV 1 hts (lw_V q2091 q2093 qs28 q91 q2094) rfl rfl rfl (by decide +kernel) ⟨Nat.le_of_ble_eq_true rfl, Nat.le_of_ble_eq_true rfl⟩) (zPV hX hH hB hAB (z_recv hX kX2 (hH.at 0 rfl)) [0, 1, 2, 3, 4, 5, 6, 7, 8] rfl rfl trivial) rfl rfl hl.1 rfl (lv_room (Nat.le_of_ble_eq_true rfl)) dX2_isKnown_14 ⟨(Nat.le_of_ble_eq_true rfl), (Nat.le_of_ble_eq_true rfl)⟩) hH hA [0, 1, 2, 3, 4, 5, 6, 7, 8] [] rfl rfl (by decide) (by decide) (fun r_5 u_r_5 H locs hw_r_5 hH hR_r_5 hk_r_5 => ?_)
    obtain rfl := hw_r_5
    have hH : zH G A s.heap (mW dA q M) H locs := hH
    refine z_ifeqB (b := kn (M 1) a1) (tgt := 24) hx hb dX2_isKnown_17 (by decide) (fun c_17_6 => ?_) (fun c_17_6 => ?_)
    · skip
      refine lv_iconst (v := nI 0) hx hb dX2_isKnown_24 (by decide) ?_
      exact z_iret hx hb hr hlocks hH (u := ()) (by simp [aKnown, bN, nI_clamp (show a1 < 2 ^ 31 by omega), c_7_2, c_17_6]) ⟨hH.1, hH.2.1⟩ trivial (Nat.le_of_ble_eq_true rfl) (Nat.le_of_ble_eq_true rfl) dX2_isKnown_25
    · skip
      refine lv_iconst (v := nI 1) hx hb dX2_isKnown_20 (by decide) ?_
      refine lv_goto (tgt := 25) hx hb dX2_isKnown_21 (by decide) ?_
      exact z_iret hx hb hr hlocks hH (u := ()) (by simp [aKnown, bN, nI_clamp (show a1 < 2 ^ 31 by omega), c_7_2, c_17_6]) ⟨hH.1, hH.2.1⟩ trivial (Nat.le_of_ble_eq_true rfl) (Nat.le_of_ble_eq_true rfl) dX2_isKnown_25
  · skip
    refine lv_iconst (v := (-1)) hx hb dX2_isKnown_10 (by decide) ?_
    exact z_iret hx hb hr hlocks hH (u := ()) (by simp [aKnown, bN, c_7_2]) ⟨hH.1, hH.2.1⟩ trivial (Nat.le_of_ble_eq_true rfl) (Nat.le_of_ble_eq_true rfl) dX2_isKnown_11

set_option maxHeartbeats 4000000 in
set_option maxRecDepth 100000 in
theorem metX2_laughBits (l : Launch) (G : va_G) (dA : Nat → ClassId) (dS : Nat → Nat) (B0 sz : Nat) (q : Nat → Nat) (M : mS) (a : Int32) (b : Int32) (B : Nat) (hrb : rB (M 1) B) (hBb : B + 20 < 2 ^ 30) : Met l yX2_laughBits (ws_ yX2_laughBits cX2_laughBits 3 (some FieldType.int)) ({ frames := 2, cells := 0, slots := 0, locals := 60 }) (zP G dA dS B0 [.ref (q 0), .int (a), .int (b)] sz (mW dA q M) (fun H => True)) (zQi G (fun (r : Int32) (u : Unit) => r = aLB (M 1) a b) (fun (u : Unit) => mW dA q M) (fun (u : Unit) (H : Heap) => True) (va_A (mW dA q M) sz)) 0 0 (va_A (mW dA q M) sz) := by
  refine zM (by decide) (Nat.le_of_ble_eq_true rfl) ?_
  intro p e s m below meth c ls A H locs hHe hx hb hr hlocks hml hown hname hts hX hsz hB hAe hA hAB hH hRo hl
  have hl : lv_has ls 3 [(0, .ref (q 0)), (1, .int (a)), (2, .int (b))] := hl
  have hbw := hrb.lt (by omega)
  have h12 := hrb.1
  refine lv_aload_n hx hb dX2_laughBits_0 rfl (lv_at hl 0 rfl) ?_
  refine lv_iload_n hx hb dX2_laughBits_1 rfl (lv_at hl 1 rfl) ?_
  refine z_ci (wr := []) (va_runV (As := [.int (a)]) (rest := []) ⟨hx, hb, hml, hown, hts⟩ (metX2_isJoke l G dA dS B0 H.size q M a) (cwV 1 hts (lw_V q2143 q2145 qs40 q91 q2146) rfl rfl rfl (by decide +kernel) ⟨Nat.le_of_ble_eq_true rfl, Nat.le_of_ble_eq_true rfl⟩) (zPV hX hH hB hAB (z_recv hX kX2 (hH.at 0 rfl)) [0, 1, 2, 3, 4, 5, 6, 7, 8] rfl rfl trivial) rfl rfl hl.1 rfl (lv_room (Nat.le_of_ble_eq_true rfl)) dX2_laughBits_2 ⟨(Nat.le_of_ble_eq_true rfl), (Nat.le_of_ble_eq_true rfl)⟩) hH hA [0, 1, 2, 3, 4, 5, 6, 7, 8] [] rfl rfl (by decide) (by decide) (fun r_1 u_r_1 H locs hw_r_1 hH hR_r_1 hk_r_1 => ?_)
  obtain rfl := hw_r_1
  have hH : zH G A s.heap (mW dA q M) H locs := hH
  refine z_ifneB (b := inR a (nI 0) (nI (M 1 0) - nI 1)) (tgt := 10) hx hb dX2_laughBits_5 (by decide) (fun c_5_2 => ?_) (fun c_5_2 => ?_)
  · skip
    obtain ⟨a1, rfl, hja1⟩ := isj_n h12 c_5_2
    obtain ⟨hj0, hj1, hi1, hj2, hj3, hi3, hj4⟩ := hrb.2.2.1 a1 hja1
    refine lv_iload_n hx hb dX2_laughBits_10 rfl (lv_at hl 2 rfl) ?_
    refine lv_iconst (v := nI 0) hx hb dX2_laughBits_11 (by decide) ?_
    refine lv_bipush (v := nI 50) hx hb dX2_laughBits_12 (by decide) ?_
    refine z_ci (wr := mW dA q M) (va_runS (As := [.int (b), .int (nI 0), .int (nI 50)]) (rest := []) ⟨hx, hb, hml, hown, hts⟩ (metX2_isBetween l G dA dS B0 H.size b (nI 0) (nI 50)) (va_cwS 3 hts (lw_S q2001 q2002 q91 q2003) rfl rfl rfl (by decide +kernel) ⟨Nat.le_of_ble_eq_true rfl, Nat.le_of_ble_eq_true rfl⟩) (zPS hX hH hB hAB [] rfl rfl trivial) rfl rfl hl.1 rfl (lv_room (Nat.le_of_ble_eq_true rfl)) dX2_laughBits_14 ⟨(Nat.le_of_ble_eq_true rfl), (Nat.le_of_ble_eq_true rfl)⟩) hH hA [] [0, 1, 2, 3, 4, 5, 6, 7, 8] rfl rfl (by decide) (by decide) (fun r_3 u_r_3 H locs hw_r_3 hH hR_r_3 hk_r_3 => ?_)
    obtain rfl := hw_r_3
    have hH : zH G A s.heap (mW dA q M) H locs := hH
    refine z_ifeqB (b := inR b (nI 0) (nI 50)) (tgt := 32) hx hb dX2_laughBits_17 (by decide) (fun c_17_4 => ?_) (fun c_17_4 => ?_)
    · skip
      refine lv_bipush (v := (-2)) hx hb dX2_laughBits_32 (by decide) ?_
      exact z_iret hx hb hr hlocks hH (u := ()) (by simp only [aLB, cl, nI_clamp (show a1 < 2 ^ 31 by omega), if_pos c_5_2, if_neg (t_nf c_5_2), if_pos c_17_4, if_neg (t_nt c_17_4)]; first | done | rfl) ⟨hH.1, hH.2.1⟩ trivial (Nat.le_of_ble_eq_true rfl) (Nat.le_of_ble_eq_true rfl) dX2_laughBits_34
    · skip
      obtain ⟨b1, rfl, hlo_5, hup_6⟩ := inR_n (a := 0) (b := 50) (by decide) (by decide) c_17_4
      refine lv_aload_n hx hb dX2_laughBits_20 rfl (lv_at hl 0 rfl) ?_
      refine lv_iload_n hx hb dX2_laughBits_21 rfl (lv_at hl 1 rfl) ?_
      refine lv_iload_n hx hb dX2_laughBits_22 rfl (lv_at hl 2 rfl) ?_
      refine z_cf (wr := []) (va_runV (As := [.int (nI a1), .int (nI b1)]) (rest := []) ⟨hx, hb, hml, hown, hts⟩ (metX2_laughOf l G dA dS B0 H.size q M a1 b1 (by first | exact hk | assumption | omega) (by omega) (by omega) (by omega)) (cwV 2 hts (lw_V q2242 q2244 qs58 q91 q2245) rfl rfl rfl (by decide +kernel) ⟨Nat.le_of_ble_eq_true rfl, Nat.le_of_ble_eq_true rfl⟩) (zPV hX hH hB hAB (z_recv hX kX2 (hH.at 0 rfl)) [0, 1, 2, 3, 4, 5, 6, 7, 8] rfl rfl trivial) rfl rfl hl.1 rfl (lv_room (Nat.le_of_ble_eq_true rfl)) dX2_laughBits_23 ⟨(Nat.le_of_ble_eq_true rfl), (Nat.le_of_ble_eq_true rfl)⟩) hH hA [0, 1, 2, 3, 4, 5, 6, 7, 8] [] rfl rfl (by decide) (by decide) (fun r_7 u_r_7 H locs hw_r_7 hH hR_r_7 hk_r_7 => ?_)
      obtain rfl := hw_r_7
      have hH : zH G A s.heap (mW dA q M) H locs := hH
      have hlt_8 := lau_t (jk (M 1) a1 3) (by omega) (jk (M 1) a1 4) (by omega) (b1) (by omega)
      refine z_ci (wr := mW dA q M) (va_runS (As := [.float (UInt32.ofNat (lauN (jk (M 1) a1 3) (jk (M 1) a1 4) b1))]) (rest := []) ⟨hx, hb, hml, hown, hts⟩ (metJ19_floatToIntBits l G dA dS B0 H.size (lauN (jk (M 1) a1 3) (jk (M 1) a1 4) b1) (by omega)) (va_cwS 1 hts (lw_S q2248 q1416 q126 q1417) rfl rfl rfl (by decide +kernel) ⟨Nat.le_of_ble_eq_true rfl, Nat.le_of_ble_eq_true rfl⟩) (zPS hX hH hB hAB [] rfl rfl trivial) rfl rfl hl.1 rfl (lv_room (Nat.le_of_ble_eq_true rfl)) dX2_laughBits_26 ⟨(Nat.le_of_ble_eq_true rfl), (Nat.le_of_ble_eq_true rfl)⟩) hH hA [] [0, 1, 2, 3, 4, 5, 6, 7, 8] rfl rfl (by decide) (by decide) (fun r_9 u_r_9 H locs hw_r_9 hH hR_r_9 hk_r_9 => ?_)
      obtain rfl := hw_r_9
      have hH : zH G A s.heap (mW dA q M) H locs := hH
      refine lv_goto (tgt := 34) hx hb dX2_laughBits_29 (by decide) ?_
      exact z_iret hx hb hr hlocks hH (u := ()) (by simp only [aLB, cl, nI_clamp (show a1 < 2 ^ 31 by omega), nI_clamp (show b1 < 2 ^ 31 by omega), if_pos c_5_2, if_neg (t_nf c_5_2), if_pos c_17_4, if_neg (t_nf c_17_4)]; first | done | rfl) ⟨hH.1, hH.2.1⟩ trivial (Nat.le_of_ble_eq_true rfl) (Nat.le_of_ble_eq_true rfl) dX2_laughBits_34
  · skip
    refine lv_iconst (v := (-1)) hx hb dX2_laughBits_8 (by decide) ?_
    exact z_iret hx hb hr hlocks hH (u := ()) (by simp only [aLB, cl, if_pos c_5_2, if_neg (t_nt c_5_2)]; first | done | rfl) ⟨hH.1, hH.2.1⟩ trivial (Nat.le_of_ble_eq_true rfl) (Nat.le_of_ble_eq_true rfl) dX2_laughBits_9

set_option maxHeartbeats 4000000 in
set_option maxRecDepth 100000 in
theorem metX2_laughs (l : Launch) (G : va_G) (dA : Nat → ClassId) (dS : Nat → Nat) (B0 sz : Nat) (q : Nat → Nat) (M : mS) (B : Nat) (hrb : rB (M 1) B) (hBb : B + 20 < 2 ^ 30) : Met l yX2_laughs (ws_ yX2_laughs cX2_laughs 1 (some FieldType.float)) ({ frames := 1, cells := 0, slots := 0, locals := 40 }) (zP G dA dS B0 [.ref (q 0)] sz (mW dA q M) (fun H => True)) (zQf G (fun (r : UInt32) (u : Unit) => r = UInt32.ofNat (M 1 11)) (fun (u : Unit) => mW dA q M) (fun (u : Unit) (H : Heap) => True) (va_A (mW dA q M) sz)) 0 0 (va_A (mW dA q M) sz) := by
  refine zM (by decide) (Nat.le_of_ble_eq_true rfl) ?_
  intro p e s m below meth c ls A H locs hHe hx hb hr hlocks hml hown hname hts hX hsz hB hAe hA hAB hH hRo hl
  have hl : lv_has ls 1 [(0, .ref (q 0))] := hl
  have hbw := hrb.lt (by omega)
  have h12 := hrb.1
  have hw11 := hrb.2.2.2.2.2.2.2.2.2.2.2.2.2.1
  have hw6 := hrb.2.1
  refine lv_aload_n hx hb dX2_laughs_0 rfl (lv_at hl 0 rfl) ?_
  refine z_get (v := .ref (q 1)) hx hb hts hown hX kX2 6 (by decide) (hH.at 0 rfl) rfl q2016 (fun _ h9 => h9) dX2_laughs_1 ?_
  refine lv_bipush (v := nI 11) hx hb dX2_laughs_4 (by decide) ?_
  refine z_iald (x := nI (M 1 11)) hx hb hX (k := 11)  (hH.at 1 rfl) rfl (by omega) (by omega) rfl dX2_laughs_6 ?_
  have hbd_1 := hbw 11 (by omega) (by omega)
  refine vn_i2f hx hb (hml.trans hl.1.symm) hown (hts _ q2249) (hts _ q2251) (hts _ q2250) (hts _ q126) (f_sni (by omega)) (Nat.le_of_ble_eq_true rfl) (Nat.le_of_ble_eq_true rfl) dX2_laughs_7 ?_
  refine z_topf (y := UInt32.ofNat (M 1 11)) rfl ?_
  exact z_fret hx hb hr hlocks hH (u := ()) (by rfl) ⟨hH.1, hH.2.1⟩ trivial (Nat.le_of_ble_eq_true rfl) (Nat.le_of_ble_eq_true rfl) dX2_laughs_10

set_option maxHeartbeats 4000000 in
set_option maxRecDepth 100000 in
theorem metX2_wholeLaughs (l : Launch) (G : va_G) (dA : Nat → ClassId) (dS : Nat → Nat) (B0 sz : Nat) (q : Nat → Nat) (M : mS) (B : Nat) (hrb : rB (M 1) B) (hBb : B + 20 < 2 ^ 30) : Met l yX2_wholeLaughs (ws_ yX2_wholeLaughs cX2_wholeLaughs 1 (some FieldType.int)) ({ frames := 2, cells := 0, slots := 0, locals := 60 }) (zP G dA dS B0 [.ref (q 0)] sz (mW dA q M) (fun H => True)) (zQi G (fun (r : Int32) (u : Unit) => r = FP.f2i (UInt32.ofNat (M 1 11))) (fun (u : Unit) => mW dA q M) (fun (u : Unit) (H : Heap) => True) (va_A (mW dA q M) sz)) 0 0 (va_A (mW dA q M) sz) := by
  refine zM (by decide) (Nat.le_of_ble_eq_true rfl) ?_
  intro p e s m below meth c ls A H locs hHe hx hb hr hlocks hml hown hname hts hX hsz hB hAe hA hAB hH hRo hl
  have hl : lv_has ls 1 [(0, .ref (q 0))] := hl
  have hbw := hrb.lt (by omega)
  have h12 := hrb.1
  refine lv_aload_n hx hb dX2_wholeLaughs_0 rfl (lv_at hl 0 rfl) ?_
  refine z_cf (wr := []) (va_runV (As := []) (rest := []) ⟨hx, hb, hml, hown, hts⟩ (metX2_laughs l G dA dS B0 H.size q M B (by first | exact hrb | assumption | omega) (by first | exact hBb | assumption | omega)) (cwV 0 hts (lw_V q2280 q2269 q2270 q91 q2271) rfl rfl rfl (by decide +kernel) ⟨Nat.le_of_ble_eq_true rfl, Nat.le_of_ble_eq_true rfl⟩) (zPV hX hH hB hAB (z_recv hX kX2 (hH.at 0 rfl)) [0, 1, 2, 3, 4, 5, 6, 7, 8] rfl rfl trivial) rfl rfl hl.1 rfl (lv_room (Nat.le_of_ble_eq_true rfl)) dX2_wholeLaughs_1 ⟨(Nat.le_of_ble_eq_true rfl), (Nat.le_of_ble_eq_true rfl)⟩) hH hA [0, 1, 2, 3, 4, 5, 6, 7, 8] [] rfl rfl (by decide) (by decide) (fun r_1 u_r_1 H locs hw_r_1 hH hR_r_1 hk_r_1 => ?_)
  obtain rfl := hw_r_1
  have hH : zH G A s.heap (mW dA q M) H locs := hH
  refine lv_f2i hx hb dX2_wholeLaughs_4 ?_
  exact z_iret hx hb hr hlocks hH (u := ()) (by rfl) ⟨hH.1, hH.2.1⟩ trivial (Nat.le_of_ble_eq_true rfl) (Nat.le_of_ble_eq_true rfl) dX2_wholeLaughs_5

set_option maxHeartbeats 4000000 in
set_option maxRecDepth 100000 in
theorem metX2_laughsAgain (l : Launch) (G : va_G) (dA : Nat → ClassId) (dS : Nat → Nat) (B0 sz : Nat) (q : Nat → Nat) (M : mS) (B : Nat) (hrb : rB (M 1) B) (hBb : B + 20 < 2 ^ 30) : Met l yX2_laughsAgain (ws_ yX2_laughsAgain cX2_laughsAgain 3 (some FieldType.float)) ({ frames := 1, cells := 0, slots := 0, locals := 40 }) (zP G dA dS B0 [.ref (q 0)] sz (mW dA q M) (fun H => True)) (zQf G (fun (r : UInt32) (u : Unit) => r = UInt32.ofNat (lsum (M 1) (M 1 6))) (fun (u : Unit) => mW dA q M) (fun (u : Unit) (H : Heap) => True) (va_A (mW dA q M) sz)) 0 0 (va_A (mW dA q M) sz) := by
  refine zM (by decide) (Nat.le_of_ble_eq_true rfl) ?_
  intro p e s m below meth c ls A H locs hHe hx hb hr hlocks hml hown hname hts hX hsz hB hAe hA hAB hH hRo hl
  have hl : lv_has ls 3 [(0, .ref (q 0))] := hl
  have hbw := hrb.lt (by omega)
  have h12 := hrb.1
  have hw11 := hrb.2.2.2.2.2.2.2.2.2.2.2.2.2.1
  have hw6 := hrb.2.1
  refine lv_fconst0 hx hb dX2_laughsAgain_0 ?_
  refine z_topf (y := UInt32.ofNat 0) rfl ?_
  refine lv_fstore_n (lv' := [(1, .float (UInt32.ofNat 0)), (0, .ref (q 0))]) hx hb dX2_laughsAgain_1 rfl hl (by decide) rfl (fun ls hl => ?_)
  refine lv_iconst (v := nI 0) hx hb dX2_laughsAgain_2 (by decide) ?_
  refine lv_istore_n (lv' := [(2, .int (nI 0)), (1, .float (UInt32.ofNat 0)), (0, .ref (q 0))]) hx hb dX2_laughsAgain_3 rfl hl (by decide) rfl (fun ls hl => ?_)
  have LP4_0 : ∀ (fuel : Nat) (i : Nat) (hfu : (M 1 6 - i) < fuel) (hi : i ≤ M 1 6) (H : Heap) (locs : List Loc), zH G A s.heap (mW dA q M) H locs → ∀ (ls : Array Slot), lv_has ls 3 [(0, .ref (q 0)), (1, .float (UInt32.ofNat (lsum (M 1) i))), (2, .int (nI i))] → W p l e (headSpec (ws_ yX2_laughsAgain cX2_laughsAgain 3 (some FieldType.float)) ({ frames := 1, cells := 0, slots := 0, locals := 40 })).room s m ([.ref (q 0)] : List Value).toArray below meth c H locs 0 0 (MQ below (zQf G (fun (r : UInt32) (u : Unit) => r = UInt32.ofNat (lsum (M 1) (M 1 6))) (fun (u : Unit) => mW dA q M) (fun (u : Unit) (H : Heap) => True) A) ([.ref (q 0)] : List Value).toArray s 0 0 A) (F0 m 4 ls []) := by
    intro fuel
    induction fuel with
    | zero => intro i hfu; exact absurd hfu (Nat.not_lt_zero _)
    | succ fuel ih4 =>
      intro i hfu hi H locs hH ls hl
      have hli := lsum_le hrb i (by omega)
      refine lv_iload_n hx hb dX2_laughsAgain_4 rfl (lv_at hl 2 rfl) ?_
      refine lv_aload_n hx hb dX2_laughsAgain_5 rfl (lv_at hl 0 rfl) ?_
      refine z_get (v := .ref (q 1)) hx hb hts hown hX kX2 6 (by decide) (hH.at 0 rfl) rfl q2016 (fun _ h9 => h9) dX2_laughsAgain_6 ?_
      refine lv_bipush (v := nI 6) hx hb dX2_laughsAgain_9 (by decide) ?_
      refine z_iald (x := nI (M 1 6)) hx hb hX (k := 6)  (hH.at 1 rfl) rfl (by omega) (by omega) rfl dX2_laughsAgain_11 ?_
      have hbd_2 := hbw 6 (by omega) (by omega)
      refine z_icmp_ge (tgt := 40) hx hb dX2_laughsAgain_12 (by decide) (by omega) (by omega) (fun c_12_3 => ?_) (fun c_12_3 => ?_)
      · skip
        have dc_12_3 := Nat.not_lt.mp c_12_3
        refine lv_fload_n hx hb dX2_laughsAgain_40 rfl (lv_at hl 1 rfl) ?_
        exact z_fret hx hb hr hlocks hH (u := ()) (by (have e : i = M 1 6 := (by omega)); subst e; rfl) ⟨hH.1, hH.2.1⟩ trivial (Nat.le_of_ble_eq_true rfl) (Nat.le_of_ble_eq_true rfl) dX2_laughsAgain_41
      · skip
        refine lv_fload_n hx hb dX2_laughsAgain_15 rfl (lv_at hl 1 rfl) ?_
        refine lv_aload_n hx hb dX2_laughsAgain_16 rfl (lv_at hl 0 rfl) ?_
        refine z_get (v := .ref (q 1)) hx hb hts hown hX kX2 6 (by decide) (hH.at 0 rfl) rfl q2016 (fun _ h9 => h9) dX2_laughsAgain_17 ?_
        refine lv_bipush (v := nI 82) hx hb dX2_laughsAgain_20 (by decide) ?_
        refine lv_iconst (v := nI 3) hx hb dX2_laughsAgain_22 (by decide) ?_
        refine lv_iload_n hx hb dX2_laughsAgain_23 rfl (lv_at hl 2 rfl) ?_
        refine lv_imul hx hb dX2_laughsAgain_24 ?_
        refine z_topi (y := nI (3 * i)) (pk_mul _ _) ?_
        refine lv_iadd hx hb dX2_laughsAgain_25 ?_
        refine z_topi (y := nI (82 + (3 * i))) (nI_add _ _) ?_
        refine lv_iconst (v := nI 2) hx hb dX2_laughsAgain_26 (by decide) ?_
        refine lv_iadd hx hb dX2_laughsAgain_27 ?_
        refine z_topi (y := nI ((82 + (3 * i)) + 2)) (nI_add _ _) ?_
        refine z_iald (x := nI (M 1 ((82 + (3 * i)) + 2))) hx hb hX (k := ((82 + (3 * i)) + 2))  (hH.at 1 rfl) rfl (by omega) (by omega) rfl dX2_laughsAgain_28 ?_
        have hbd_4 := hbw ((82 + (3 * i)) + 2) (by omega) (by omega)
        have hlg := (hrb.2.2.2.2.2.2.2.2.2.2.2.2.2.2.2.2.1 i (by omega)).2.2
        refine vn_i2f hx hb (hml.trans hl.1.symm) hown (hts _ q2249) (hts _ q2251) (hts _ q2250) (hts _ q126) (f_sni (by omega)) (Nat.le_of_ble_eq_true rfl) (Nat.le_of_ble_eq_true rfl) dX2_laughsAgain_29 ?_
        refine z_topf (y := UInt32.ofNat (M 1 ((82 + (3 * i)) + 2))) rfl ?_
        refine lv_fadd hx hb dX2_laughsAgain_32 (faN_n32 (by omega) (by omega)) ?_
        refine z_topf (y := UInt32.ofNat (faN (lsum (M 1) i) (M 1 ((82 + (3 * i)) + 2)))) (faN_eq _ _) ?_
        have hfa_5 := faN_le (a := (lsum (M 1) i)) (b := (M 1 ((82 + (3 * i)) + 2))) (by omega) (by omega)
        refine lv_fstore_n (lv' := [(1, .float (UInt32.ofNat (faN (lsum (M 1) i) (M 1 ((82 + (3 * i)) + 2))))), (0, .ref (q 0)), (2, .int (nI i))]) hx hb dX2_laughsAgain_33 rfl hl (by decide) rfl (fun ls hl => ?_)
        refine lv_iinc (v := nI (i + 1)) (lv' := [(2, .int (nI (i + 1))), (1, .float (UInt32.ofNat (faN (lsum (M 1) i) (M 1 ((82 + (3 * i)) + 2))))), (0, .ref (q 0))]) hx hb dX2_laughsAgain_34 hl (k := 2) rfl (nI_1 _) (by decide) rfl (fun ls hl => ?_)
        refine lv_goto (tgt := 4) hx hb dX2_laughsAgain_37 (by decide) ?_
        have ev_6 : UInt32.ofNat (faN (lsum (M 1) i) (M 1 ((82 + (3 * i)) + 2))) = UInt32.ofNat (lsum (M 1) (i + 1)) := by rfl
        have hl : lv_has ls 3 [(0, .ref (q 0)), (1, .float (UInt32.ofNat (lsum (M 1) (i + 1)))), (2, .int (nI (i + 1)))] := z_lv (lv_sub hl [2, 1, 0] rfl) (by rw [ev_6] <;> rfl)
        exact ih4 (i + 1) (by omega) (by omega) _ _ hH ls (lv_sub hl [0, 1, 2] rfl)
  have ev_7 : UInt32.ofNat 0 = UInt32.ofNat (lsum (M 1) 0) := by rfl
  have hl : lv_has ls 3 [(0, .ref (q 0)), (1, .float (UInt32.ofNat (lsum (M 1) 0))), (2, .int (nI 0))] := z_lv (lv_sub hl [2, 1, 0] rfl) (by rw [ev_7] <;> rfl)
  exact LP4_0 ((M 1 6 - 0) + 1) 0 (Nat.lt_succ_self _) (by omega) _ _ hH ls (lv_sub hl [0, 1, 2] rfl)

set_option maxHeartbeats 4000000 in
set_option maxRecDepth 100000 in
theorem metX2_liftedOf (l : Launch) (G : va_G) (dA : Nat → ClassId) (dS : Nat → Nat) (B0 sz : Nat) (q : Nat → Nat) (M : mS) (a : Int32) (b : Int32) (B : Nat) (hrb : rB (M 1) B) (hBb : B + 20 < 2 ^ 30) : Met l yX2_liftedOf (ws_ yX2_liftedOf cX2_liftedOf 3 (some FieldType.int)) ({ frames := 1, cells := 0, slots := 0, locals := 22 }) (zP G dA dS B0 [.ref (q 0), .int (a), .int (b)] sz (mW dA q M) (fun H => True)) (zQi G (fun (r : Int32) (u : Unit) => r = aLift (M 1) a b) (fun (u : Unit) => mW dA q M) (fun (u : Unit) (H : Heap) => True) (va_A (mW dA q M) sz)) 0 0 (va_A (mW dA q M) sz) := by
  refine zM (by decide) (Nat.le_of_ble_eq_true rfl) ?_
  intro p e s m below meth c ls A H locs hHe hx hb hr hlocks hml hown hname hts hX hsz hB hAe hA hAB hH hRo hl
  have hl : lv_has ls 3 [(0, .ref (q 0)), (1, .int (a)), (2, .int (b))] := hl
  have hbw := hrb.lt (by omega)
  have h12 := hrb.1
  have hw11 := hrb.2.2.2.2.2.2.2.2.2.2.2.2.2.1
  have hw6 := hrb.2.1
  refine lv_iload_n hx hb dX2_liftedOf_0 rfl (lv_at hl 1 rfl) ?_
  refine lv_iconst (v := nI 0) hx hb dX2_liftedOf_1 (by decide) ?_
  refine lv_aload_n hx hb dX2_liftedOf_2 rfl (lv_at hl 0 rfl) ?_
  refine z_get (v := .ref (q 1)) hx hb hts hown hX kX2 6 (by decide) (hH.at 0 rfl) rfl q2016 (fun _ h9 => h9) dX2_liftedOf_3 ?_
  refine lv_bipush (v := nI 6) hx hb dX2_liftedOf_6 (by decide) ?_
  refine z_iald (x := nI (M 1 6)) hx hb hX (k := 6)  (hH.at 1 rfl) rfl (by omega) (by omega) rfl dX2_liftedOf_8 ?_
  have hbd_1 := hbw 6 (by omega) (by omega)
  refine lv_iconst (v := nI 1) hx hb dX2_liftedOf_9 (by decide) ?_
  refine lv_isub hx hb dX2_liftedOf_10 ?_
  refine z_ci (wr := mW dA q M) (va_runS (As := [.int (a), .int (nI 0), .int ((nI (M 1 6)) - (nI 1))]) (rest := []) ⟨hx, hb, hml, hown, hts⟩ (metX2_isBetween l G dA dS B0 H.size a (nI 0) ((nI (M 1 6)) - (nI 1))) (va_cwS 3 hts (lw_S q2001 q2002 q91 q2003) rfl rfl rfl (by decide +kernel) ⟨Nat.le_of_ble_eq_true rfl, Nat.le_of_ble_eq_true rfl⟩) (zPS hX hH hB hAB [] rfl rfl trivial) rfl rfl hl.1 rfl (lv_room (Nat.le_of_ble_eq_true rfl)) dX2_liftedOf_11 ⟨(Nat.le_of_ble_eq_true rfl), (Nat.le_of_ble_eq_true rfl)⟩) hH hA [] [0, 1, 2, 3, 4, 5, 6, 7, 8] rfl rfl (by decide) (by decide) (fun r_2 u_r_2 H locs hw_r_2 hH hR_r_2 hk_r_2 => ?_)
  obtain rfl := hw_r_2
  have hH : zH G A s.heap (mW dA q M) H locs := hH
  refine z_ifneB (b := inR a (nI 0) ((nI (M 1 6)) - (nI 1))) (tgt := 19) hx hb dX2_liftedOf_14 (by decide) (fun c_14_3 => ?_) (fun c_14_3 => ?_)
  · skip
    obtain ⟨a1, rfl, hja1⟩ := isl_n (by omega) c_14_3
    refine lv_iload_n hx hb dX2_liftedOf_19 rfl (lv_at hl 2 rfl) ?_
    refine lv_iconst (v := nI 0) hx hb dX2_liftedOf_20 (by decide) ?_
    refine lv_iconst (v := nI 2) hx hb dX2_liftedOf_21 (by decide) ?_
    refine z_ci (wr := mW dA q M) (va_runS (As := [.int (b), .int (nI 0), .int (nI 2)]) (rest := []) ⟨hx, hb, hml, hown, hts⟩ (metX2_isBetween l G dA dS B0 H.size b (nI 0) (nI 2)) (va_cwS 3 hts (lw_S q2001 q2002 q91 q2003) rfl rfl rfl (by decide +kernel) ⟨Nat.le_of_ble_eq_true rfl, Nat.le_of_ble_eq_true rfl⟩) (zPS hX hH hB hAB [] rfl rfl trivial) rfl rfl hl.1 rfl (lv_room (Nat.le_of_ble_eq_true rfl)) dX2_liftedOf_22 ⟨(Nat.le_of_ble_eq_true rfl), (Nat.le_of_ble_eq_true rfl)⟩) hH hA [] [0, 1, 2, 3, 4, 5, 6, 7, 8] rfl rfl (by decide) (by decide) (fun r_4 u_r_4 H locs hw_r_4 hH hR_r_4 hk_r_4 => ?_)
    obtain rfl := hw_r_4
    have hH : zH G A s.heap (mW dA q M) H locs := hH
    refine z_ifeqB (b := inR b (nI 0) (nI 2)) (tgt := 54) hx hb dX2_liftedOf_25 (by decide) (fun c_25_5 => ?_) (fun c_25_5 => ?_)
    · skip
      refine lv_bipush (v := (-2)) hx hb dX2_liftedOf_54 (by decide) ?_
      exact z_iret hx hb hr hlocks hH (u := ()) (by simp only [aLift, cl, nI_clamp (show a1 < 2 ^ 31 by omega), if_pos c_14_3, if_neg (t_nf c_14_3), if_pos c_25_5, if_neg (t_nt c_25_5)]; first | done | rfl) ⟨hH.1, hH.2.1⟩ trivial (Nat.le_of_ble_eq_true rfl) (Nat.le_of_ble_eq_true rfl) dX2_liftedOf_56
    · skip
      obtain ⟨b1, rfl, hlo_6, hup_7⟩ := inR_n (a := 0) (b := 2) (by decide) (by decide) c_25_5
      refine lv_aload_n hx hb dX2_liftedOf_28 rfl (lv_at hl 0 rfl) ?_
      refine z_get (v := .ref (q 1)) hx hb hts hown hX kX2 6 (by decide) (hH.at 0 rfl) rfl q2016 (fun _ h9 => h9) dX2_liftedOf_29 ?_
      refine lv_bipush (v := nI 82) hx hb dX2_liftedOf_32 (by decide) ?_
      refine lv_iconst (v := nI 3) hx hb dX2_liftedOf_34 (by decide) ?_
      refine lv_aload_n hx hb dX2_liftedOf_35 rfl (lv_at hl 0 rfl) ?_
      refine z_get (v := .ref (q 1)) hx hb hts hown hX kX2 6 (by decide) (hH.at 0 rfl) rfl q2016 (fun _ h9 => h9) dX2_liftedOf_36 ?_
      refine lv_bipush (v := nI 6) hx hb dX2_liftedOf_39 (by decide) ?_
      refine z_iald (x := nI (M 1 6)) hx hb hX (k := 6)  (hH.at 1 rfl) rfl (by omega) (by omega) rfl dX2_liftedOf_41 ?_
      have hbd_8 := hbw 6 (by omega) (by omega)
      refine lv_iconst (v := nI 1) hx hb dX2_liftedOf_42 (by decide) ?_
      refine lv_isub hx hb dX2_liftedOf_43 ?_
      refine z_topi (y := nI ((M 1 6) - 1)) (pk_sub (by omega)) ?_
      refine lv_iload_n hx hb dX2_liftedOf_44 rfl (lv_at hl 1 rfl) ?_
      refine lv_isub hx hb dX2_liftedOf_45 ?_
      refine z_topi (y := nI (((M 1 6) - 1) - a1)) (pk_sub (by omega)) ?_
      refine lv_imul hx hb dX2_liftedOf_46 ?_
      refine z_topi (y := nI (3 * (((M 1 6) - 1) - a1))) (pk_mul _ _) ?_
      refine lv_iadd hx hb dX2_liftedOf_47 ?_
      refine z_topi (y := nI (82 + (3 * (((M 1 6) - 1) - a1)))) (nI_add _ _) ?_
      refine lv_iload_n hx hb dX2_liftedOf_48 rfl (lv_at hl 2 rfl) ?_
      refine lv_iadd hx hb dX2_liftedOf_49 ?_
      refine z_topi (y := nI ((82 + (3 * (((M 1 6) - 1) - a1))) + b1)) (nI_add _ _) ?_
      refine z_iald (x := nI (M 1 ((82 + (3 * (((M 1 6) - 1) - a1))) + b1))) hx hb hX (k := ((82 + (3 * (((M 1 6) - 1) - a1))) + b1))  (hH.at 1 rfl) rfl (by omega) (by omega) rfl dX2_liftedOf_50 ?_
      have hbd_9 := hbw ((82 + (3 * (((M 1 6) - 1) - a1))) + b1) (by omega) (by omega)
      refine lv_goto (tgt := 56) hx hb dX2_liftedOf_51 (by decide) ?_
      exact z_iret hx hb hr hlocks hH (u := ()) (by simp only [aLift, cl, nI_clamp (show a1 < 2 ^ 31 by omega), nI_clamp (show b1 < 2 ^ 31 by omega), if_pos c_14_3, if_neg (t_nf c_14_3), if_pos c_25_5, if_neg (t_nf c_25_5)]; first | done | rfl) ⟨hH.1, hH.2.1⟩ trivial (Nat.le_of_ble_eq_true rfl) (Nat.le_of_ble_eq_true rfl) dX2_liftedOf_56
  · skip
    refine lv_iconst (v := (-1)) hx hb dX2_liftedOf_17 (by decide) ?_
    exact z_iret hx hb hr hlocks hH (u := ()) (by simp only [aLift, cl, if_pos c_14_3, if_neg (t_nt c_14_3)]; first | done | rfl) ⟨hH.1, hH.2.1⟩ trivial (Nat.le_of_ble_eq_true rfl) (Nat.le_of_ble_eq_true rfl) dX2_liftedOf_18

set_option maxHeartbeats 4000000 in
set_option maxRecDepth 100000 in
theorem metX2_strokes (l : Launch) (G : va_G) (dA : Nat → ClassId) (dS : Nat → Nat) (B0 sz : Nat) (q : Nat → Nat) (M : mS) (a : Int32) (B : Nat) (hrb : rB (M 1) B) (hBb : B + 20 < 2 ^ 30) : Met l yX2_strokes (ws_ yX2_strokes cX2_strokes 4 (some FieldType.int)) ({ frames := 1, cells := 0, slots := 0, locals := 22 }) (zP G dA dS B0 [.ref (q 0), .int (a)] sz (mW dA q M) (fun H => True)) (zQi G (fun (r : Int32) (u : Unit) => r = aStrokes (M 1) a) (fun (u : Unit) => mW dA q M) (fun (u : Unit) (H : Heap) => True) (va_A (mW dA q M) sz)) 0 0 (va_A (mW dA q M) sz) := by
  refine zM (by decide) (Nat.le_of_ble_eq_true rfl) ?_
  intro p e s m below meth c ls A H locs hHe hx hb hr hlocks hml hown hname hts hX hsz hB hAe hA hAB hH hRo hl
  have hl : lv_has ls 4 [(0, .ref (q 0)), (1, .int (a))] := hl
  have hbw := hrb.lt (by omega)
  have h12 := hrb.1
  have hw2 := hrb.2.2.2.2.1
  have hw2' := hrb.2.2.2.2.2.1
  have hw3 := hrb.2.2.2.2.2.2.1
  have hw1 := hrb.2.2.2.1
  refine lv_iload_n hx hb dX2_strokes_0 rfl (lv_at hl 1 rfl) ?_
  refine lv_iconst (v := nI 1) hx hb dX2_strokes_1 (by decide) ?_
  refine lv_bipush (v := nI 30) hx hb dX2_strokes_2 (by decide) ?_
  refine z_ci (wr := mW dA q M) (va_runS (As := [.int (a), .int (nI 1), .int (nI 30)]) (rest := []) ⟨hx, hb, hml, hown, hts⟩ (metX2_isBetween l G dA dS B0 H.size a (nI 1) (nI 30)) (va_cwS 3 hts (lw_S q2001 q2002 q91 q2003) rfl rfl rfl (by decide +kernel) ⟨Nat.le_of_ble_eq_true rfl, Nat.le_of_ble_eq_true rfl⟩) (zPS hX hH hB hAB [] rfl rfl trivial) rfl rfl hl.1 rfl (lv_room (Nat.le_of_ble_eq_true rfl)) dX2_strokes_4 ⟨(Nat.le_of_ble_eq_true rfl), (Nat.le_of_ble_eq_true rfl)⟩) hH hA [] [0, 1, 2, 3, 4, 5, 6, 7, 8] rfl rfl (by decide) (by decide) (fun r_1 u_r_1 H locs hw_r_1 hH hR_r_1 hk_r_1 => ?_)
  obtain rfl := hw_r_1
  have hH : zH G A s.heap (mW dA q M) H locs := hH
  refine z_ifneB (b := inR a (nI 1) (nI 30)) (tgt := 13) hx hb dX2_strokes_7 (by decide) (fun c_7_2 => ?_) (fun c_7_2 => ?_)
  · skip
    obtain ⟨a1, rfl, hl1, hu1⟩ := inR_n (a := 1) (b := 30) (by decide) (by decide) c_7_2
    refine lv_iconst (v := nI 0) hx hb dX2_strokes_13 (by decide) ?_
    refine lv_istore_n (lv' := [(2, .int (nI 0)), (0, .ref (q 0)), (1, .int (nI a1))]) hx hb dX2_strokes_14 rfl hl (by decide) rfl (fun ls hl => ?_)
    refine lv_aload_n hx hb dX2_strokes_15 rfl (lv_at hl 1 rfl) ?_
    refine z_get (v := .ref (q 1)) hx hb hts hown hX kX2 6 (by decide) (hH.at 0 rfl) rfl q2016 (fun _ h9 => h9) dX2_strokes_16 ?_
    refine lv_iconst (v := nI 3) hx hb dX2_strokes_19 (by decide) ?_
    refine z_iald (x := nI (M 1 3)) hx hb hX (k := 3)  (hH.at 1 rfl) rfl (by omega) (by omega) rfl dX2_strokes_20 ?_
    have hbd_3 := hbw 3 (by omega) (by omega)
    refine lv_istore_n (lv' := [(3, .int (nI (M 1 3))), (2, .int (nI 0)), (0, .ref (q 0)), (1, .int (nI a1))]) hx hb dX2_strokes_21 rfl hl (by decide) rfl (fun ls hl => ?_)
    have LP22_3 : ∀ (fuel : Nat) (n : Nat) (r : Nat) (hfu : (a1 - r) < fuel) (hr9 : r ≤ 30) (hf9 : (a1 - r) + n ≤ 30) (hst : n + stN (M 1 2) a1 (30 - n) r = stN (M 1 2) a1 30 (M 1 3)) (H : Heap) (locs : List Loc), zH G A s.heap (mW dA q M) H locs → ∀ (ls : Array Slot), lv_has ls 4 [(0, .ref (q 0)), (1, .int (nI a1)), (2, .int (nI n)), (3, .int (nI r))] → W p l e (headSpec (ws_ yX2_strokes cX2_strokes 4 (some FieldType.int)) ({ frames := 1, cells := 0, slots := 0, locals := 22 })).room s m ([.ref (q 0), .int ((nI a1))] : List Value).toArray below meth c H locs 0 0 (MQ below (zQi G (fun (r : Int32) (u : Unit) => r = aStrokes (M 1) (nI a1)) (fun (u : Unit) => mW dA q M) (fun (u : Unit) (H : Heap) => True) A) ([.ref (q 0), .int ((nI a1))] : List Value).toArray s 0 0 A) (F0 m 22 ls []) := by
      intro fuel
      induction fuel with
      | zero => intro n r hfu; exact absurd hfu (Nat.not_lt_zero _)
      | succ fuel ih22 =>
        intro n r hfu hr9 hf9 hst H locs hH ls hl
        refine lv_iload_n hx hb dX2_strokes_22 rfl (lv_at hl 3 rfl) ?_
        refine lv_iload_n hx hb dX2_strokes_23 rfl (lv_at hl 1 rfl) ?_
        refine z_icmp_ge (tgt := 44) hx hb dX2_strokes_24 (by decide) (by omega) (by omega) (fun c_24_5 => ?_) (fun c_24_5 => ?_)
        · skip
          have dc_24_5 := Nat.not_lt.mp c_24_5
          refine lv_iload_n hx hb dX2_strokes_44 rfl (lv_at hl 2 rfl) ?_
          exact z_iret hx hb hr hlocks hH (u := ()) (by have e9 := stN_e hst (by omega); subst e9; simp [aStrokes, nI_clamp (show a1 < 2 ^ 31 by omega), c_7_2]) ⟨hH.1, hH.2.1⟩ trivial (Nat.le_of_ble_eq_true rfl) (Nat.le_of_ble_eq_true rfl) dX2_strokes_45
        · skip
          refine lv_iinc (v := nI (n + 1)) (lv' := [(2, .int (nI (n + 1))), (0, .ref (q 0)), (1, .int (nI a1)), (3, .int (nI r))]) hx hb dX2_strokes_27 hl (k := 2) rfl (nI_1 _) (by decide) rfl (fun ls hl => ?_)
          refine lv_iload_n hx hb dX2_strokes_30 rfl (lv_at hl 3 rfl) ?_
          refine lv_aload_n hx hb dX2_strokes_31 rfl (lv_at hl 1 rfl) ?_
          refine z_get (v := .ref (q 1)) hx hb hts hown hX kX2 6 (by decide) (hH.at 0 rfl) rfl q2016 (fun _ h9 => h9) dX2_strokes_32 ?_
          refine lv_iconst (v := nI 2) hx hb dX2_strokes_35 (by decide) ?_
          refine z_iald (x := nI (M 1 2)) hx hb hX (k := 2)  (hH.at 1 rfl) rfl (by omega) (by omega) rfl dX2_strokes_36 ?_
          have hbd_6 := hbw 2 (by omega) (by omega)
          refine z_ci (wr := mW dA q M) (va_runS (As := [.int (nI r), .int (nI (M 1 2))]) (rest := []) ⟨hx, hb, hml, hown, hts⟩ (metX2_nextReach l G dA dS B0 H.size r (M 1 2) (by first | exact ha | assumption | omega) (by first | exact hb2 | assumption | omega)) (va_cwS 2 hts (lw_S q2227 q2228 q91 q2229) rfl rfl rfl (by decide +kernel) ⟨Nat.le_of_ble_eq_true rfl, Nat.le_of_ble_eq_true rfl⟩) (zPS hX hH hB hAB [] rfl rfl trivial) rfl rfl hl.1 rfl (lv_room (Nat.le_of_ble_eq_true rfl)) dX2_strokes_37 ⟨(Nat.le_of_ble_eq_true rfl), (Nat.le_of_ble_eq_true rfl)⟩) hH hA [] [0, 1, 2, 3, 4, 5, 6, 7, 8] rfl rfl (by decide) (by decide) (fun r_7 u_r_7 H locs hw_r_7 hH hR_r_7 hk_r_7 => ?_)
          obtain rfl := hw_r_7
          have hH : zH G A s.heap (mW dA q M) H locs := hH
          have hnr_8 : (nR r (M 1 2)) ≤ 30 := nR_le
          refine lv_istore_n (lv' := [(3, .int (nI (nR r (M 1 2)))), (2, .int (nI (n + 1))), (0, .ref (q 0)), (1, .int (nI a1))]) hx hb dX2_strokes_40 rfl hl (by decide) rfl (fun ls hl => ?_)
          refine lv_goto (tgt := 22) hx hb dX2_strokes_41 (by decide) ?_
          exact ih22 (n + 1) (nR r (M 1 2)) (by have := nR_gt (st := M 1 2) (by assumption) hu1 hw2; omega) (by omega) (by have := nR_gt (st := M 1 2) c_24_5 hu1 hw2; omega) (stN_s hst c_24_5 (by omega)) _ _ hH ls (lv_sub hl [2, 3, 1, 0] rfl)
    exact LP22_3 ((a1 - (M 1 3)) + 1) 0 (M 1 3) (Nat.lt_succ_self _) (by omega) (by omega) (by rw [Nat.zero_add, Nat.sub_zero]) _ _ hH ls (lv_sub hl [2, 3, 1, 0] rfl)
  · skip
    refine lv_bipush (v := (-2)) hx hb dX2_strokes_10 (by decide) ?_
    exact z_iret hx hb hr hlocks hH (u := ()) (by simp [aStrokes, c_7_2]) ⟨hH.1, hH.2.1⟩ trivial (Nat.le_of_ble_eq_true rfl) (Nat.le_of_ble_eq_true rfl) dX2_strokes_12

set_option maxHeartbeats 4000000 in
set_option maxRecDepth 100000 in
theorem metX2_strokesAgain (l : Launch) (G : va_G) (dA : Nat → ClassId) (dS : Nat → Nat) (B0 sz : Nat) (q : Nat → Nat) (M : mS) (a : Int32) (B : Nat) (hrb : rB (M 1) B) (hBb : B + 20 < 2 ^ 30) : Met l yX2_strokesAgain (ws_ yX2_strokesAgain cX2_strokesAgain 2 (some FieldType.int)) ({ frames := 2, cells := 0, slots := 0, locals := 45 }) (zP G dA dS B0 [.ref (q 0), .int (a)] sz (mW dA q M) (fun H => True)) (zQi G (fun (r : Int32) (u : Unit) => r = aStrokes (M 1) a) (fun (u : Unit) => mW dA q M) (fun (u : Unit) (H : Heap) => True) (va_A (mW dA q M) sz)) 0 0 (va_A (mW dA q M) sz) := by
  refine zM (by decide) (Nat.le_of_ble_eq_true rfl) ?_
  intro p e s m below meth c ls A H locs hHe hx hb hr hlocks hml hown hname hts hX hsz hB hAe hA hAB hH hRo hl
  have hl : lv_has ls 2 [(0, .ref (q 0)), (1, .int (a))] := hl
  have hbw := hrb.lt (by omega)
  have h12 := hrb.1
  refine lv_aload_n hx hb dX2_strokesAgain_0 rfl (lv_at hl 0 rfl) ?_
  refine lv_iload_n hx hb dX2_strokesAgain_1 rfl (lv_at hl 1 rfl) ?_
  refine z_ci (wr := []) (va_runV (As := [.int (a)]) (rest := []) ⟨hx, hb, hml, hown, hts⟩ (metX2_strokes l G dA dS B0 H.size q M a B (by first | exact hrb | assumption | omega) (by first | exact hBb | assumption | omega)) (cwV 1 hts (lw_V q2293 q2286 q2287 q91 q2288) rfl rfl rfl (by decide +kernel) ⟨Nat.le_of_ble_eq_true rfl, Nat.le_of_ble_eq_true rfl⟩) (zPV hX hH hB hAB (z_recv hX kX2 (hH.at 0 rfl)) [0, 1, 2, 3, 4, 5, 6, 7, 8] rfl rfl trivial) rfl rfl hl.1 rfl (lv_room (Nat.le_of_ble_eq_true rfl)) dX2_strokesAgain_2 ⟨(Nat.le_of_ble_eq_true rfl), (Nat.le_of_ble_eq_true rfl)⟩) hH hA [0, 1, 2, 3, 4, 5, 6, 7, 8] [] rfl rfl (by decide) (by decide) (fun r_1 u_r_1 H locs hw_r_1 hH hR_r_1 hk_r_1 => ?_)
  obtain rfl := hw_r_1
  have hH : zH G A s.heap (mW dA q M) H locs := hH
  exact z_iret hx hb hr hlocks hH (u := ()) (by rfl) ⟨hH.1, hH.2.1⟩ trivial (Nat.le_of_ble_eq_true rfl) (Nat.le_of_ble_eq_true rfl) dX2_strokesAgain_5

set_option maxHeartbeats 4000000 in
set_option maxRecDepth 100000 in
theorem metX2_groansTo (l : Launch) (G : va_G) (dA : Nat → ClassId) (dS : Nat → Nat) (B0 sz : Nat) (q : Nat → Nat) (M : mS) (d : Nat) (ln : Nat) (hd : d ≤ 30) (hln : 1 ≤ ln) (hln2 : ln ≤ 10) (B : Nat) (hrb : rB (M 1) B) (hBb : B + 20 < 2 ^ 30) : Met l yX2_groansTo (ws_ yX2_groansTo cX2_groansTo 5 (some FieldType.int)) ({ frames := 1, cells := 0, slots := 0, locals := 21 }) (zP G dA dS B0 [.ref (q 0), .int (nI d), .int (nI ln)] sz (mW dA q M) (fun H => True)) (zQi G (fun (r : Int32) (u : Unit) => r = nI (gT (M 1) d ln)) (fun (u : Unit) => mW dA q M) (fun (u : Unit) (H : Heap) => True) (va_A (mW dA q M) sz)) 0 0 (va_A (mW dA q M) sz) := by
  refine zM (by decide) (Nat.le_of_ble_eq_true rfl) ?_
  intro p e s m below meth c ls A H locs hHe hx hb hr hlocks hml hown hname hts hX hsz hB hAe hA hAB hH hRo hl
  have hl : lv_has ls 5 [(0, .ref (q 0)), (1, .int (nI d)), (2, .int (nI ln))] := hl
  have hbw := hrb.lt (by omega)
  have h12 := hrb.1
  have hw2 := hrb.2.2.2.2.1
  have hw2' := hrb.2.2.2.2.2.1
  have hw3 := hrb.2.2.2.2.2.2.1
  have hw1 := hrb.2.2.2.1
  refine lv_aload_n hx hb dX2_groansTo_0 rfl (lv_at hl 0 rfl) ?_
  refine z_get (v := .ref (q 1)) hx hb hts hown hX kX2 6 (by decide) (hH.at 0 rfl) rfl q2016 (fun _ h9 => h9) dX2_groansTo_1 ?_
  refine lv_iconst (v := nI 3) hx hb dX2_groansTo_4 (by decide) ?_
  refine z_iald (x := nI (M 1 3)) hx hb hX (k := 3)  (hH.at 1 rfl) rfl (by omega) (by omega) rfl dX2_groansTo_5 ?_
  have hbd_1 := hbw 3 (by omega) (by omega)
  refine lv_iload_n hx hb dX2_groansTo_6 rfl (lv_at hl 2 rfl) ?_
  refine z_ci (wr := mW dA q M) (va_runS (As := [.int (nI (M 1 3)), .int (nI ln)]) (rest := []) ⟨hx, hb, hml, hown, hts⟩ (metX2_nextReach l G dA dS B0 H.size (M 1 3) ln (by first | exact ha | assumption | omega) (by first | exact hb2 | assumption | omega)) (va_cwS 2 hts (lw_S q2227 q2228 q91 q2229) rfl rfl rfl (by decide +kernel) ⟨Nat.le_of_ble_eq_true rfl, Nat.le_of_ble_eq_true rfl⟩) (zPS hX hH hB hAB [] rfl rfl trivial) rfl rfl hl.1 rfl (lv_room (Nat.le_of_ble_eq_true rfl)) dX2_groansTo_7 ⟨(Nat.le_of_ble_eq_true rfl), (Nat.le_of_ble_eq_true rfl)⟩) hH hA [] [0, 1, 2, 3, 4, 5, 6, 7, 8] rfl rfl (by decide) (by decide) (fun r_2 u_r_2 H locs hw_r_2 hH hR_r_2 hk_r_2 => ?_)
  obtain rfl := hw_r_2
  have hH : zH G A s.heap (mW dA q M) H locs := hH
  have hnr_3 : (nR (M 1 3) ln) ≤ 30 := nR_le
  refine lv_istore_n (lv' := [(3, .int (nI (nR (M 1 3) ln))), (0, .ref (q 0)), (1, .int (nI d)), (2, .int (nI ln))]) hx hb dX2_groansTo_10 rfl hl (by decide) rfl (fun ls hl => ?_)
  refine lv_iconst (v := nI 1) hx hb dX2_groansTo_11 (by decide) ?_
  refine lv_iload_n hx hb dX2_groansTo_12 rfl (lv_at hl 0 rfl) ?_
  refine lv_bipush (v := nI 10) hx hb dX2_groansTo_13 (by decide) ?_
  refine lv_idiv hx hb dX2_groansTo_15 (by decide) ?_
  refine z_topi (y := nI ((nR (M 1 3) ln) / 10)) (pk_div (by omega) (by omega) (by omega)) ?_
  refine lv_iadd hx hb dX2_groansTo_16 ?_
  refine z_topi (y := nI (1 + ((nR (M 1 3) ln) / 10))) (nI_add _ _) ?_
  refine lv_istore (lv' := [(4, .int (nI (1 + ((nR (M 1 3) ln) / 10)))), (3, .int (nI (nR (M 1 3) ln))), (0, .ref (q 0)), (1, .int (nI d)), (2, .int (nI ln))]) hx hb dX2_groansTo_17 hl (by decide) rfl (fun ls hl => ?_)
  have LP19_3 : ∀ (fuel : Nat) (n : Nat) (r : Nat) (sm : Nat) (hfu : (d - r) < fuel) (hr9 : r ≤ 30) (hf9 : (d - r) + n ≤ 30) (hsm : sm ≤ 4 * (n + 1)) (hst : sm + gtL ln d (30 - n) r = gT (M 1) d ln) (H : Heap) (locs : List Loc), zH G A s.heap (mW dA q M) H locs → ∀ (ls : Array Slot), lv_has ls 5 [(0, .ref (q 0)), (1, .int (nI d)), (2, .int (nI ln)), (3, .int (nI r)), (4, .int (nI sm))] → W p l e (headSpec (ws_ yX2_groansTo cX2_groansTo 5 (some FieldType.int)) ({ frames := 1, cells := 0, slots := 0, locals := 21 })).room s m ([.ref (q 0), .int (nI d), .int (nI ln)] : List Value).toArray below meth c H locs 0 0 (MQ below (zQi G (fun (r : Int32) (u : Unit) => r = nI (gT (M 1) d ln)) (fun (u : Unit) => mW dA q M) (fun (u : Unit) (H : Heap) => True) A) ([.ref (q 0), .int (nI d), .int (nI ln)] : List Value).toArray s 0 0 A) (F0 m 19 ls []) := by
    intro fuel
    induction fuel with
    | zero => intro n r sm hfu; exact absurd hfu (Nat.not_lt_zero _)
    | succ fuel ih19 =>
      intro n r sm hfu hr9 hf9 hsm hst H locs hH ls hl
      refine lv_iload_n hx hb dX2_groansTo_19 rfl (lv_at hl 3 rfl) ?_
      refine lv_iload_n hx hb dX2_groansTo_20 rfl (lv_at hl 1 rfl) ?_
      refine z_icmp_ge (tgt := 44) hx hb dX2_groansTo_21 (by decide) (by omega) (by omega) (fun c_21_5 => ?_) (fun c_21_5 => ?_)
      · skip
        have dc_21_5 := Nat.not_lt.mp c_21_5
        refine lv_iload hx hb dX2_groansTo_44 (lv_at hl 4 rfl) ?_
        exact z_iret hx hb hr hlocks hH (u := ()) (by exact congrArg nI (gtL_e hst (by omega))) ⟨hH.1, hH.2.1⟩ trivial (Nat.le_of_ble_eq_true rfl) (Nat.le_of_ble_eq_true rfl) dX2_groansTo_46
      · skip
        refine lv_iload_n hx hb dX2_groansTo_24 rfl (lv_at hl 3 rfl) ?_
        refine lv_iload_n hx hb dX2_groansTo_25 rfl (lv_at hl 2 rfl) ?_
        refine z_ci (wr := mW dA q M) (va_runS (As := [.int (nI r), .int (nI ln)]) (rest := []) ⟨hx, hb, hml, hown, hts⟩ (metX2_nextReach l G dA dS B0 H.size r ln (by first | exact ha | assumption | omega) (by first | exact hb2 | assumption | omega)) (va_cwS 2 hts (lw_S q2227 q2228 q91 q2229) rfl rfl rfl (by decide +kernel) ⟨Nat.le_of_ble_eq_true rfl, Nat.le_of_ble_eq_true rfl⟩) (zPS hX hH hB hAB [] rfl rfl trivial) rfl rfl hl.1 rfl (lv_room (Nat.le_of_ble_eq_true rfl)) dX2_groansTo_26 ⟨(Nat.le_of_ble_eq_true rfl), (Nat.le_of_ble_eq_true rfl)⟩) hH hA [] [0, 1, 2, 3, 4, 5, 6, 7, 8] rfl rfl (by decide) (by decide) (fun r_6 u_r_6 H locs hw_r_6 hH hR_r_6 hk_r_6 => ?_)
        obtain rfl := hw_r_6
        have hH : zH G A s.heap (mW dA q M) H locs := hH
        have hnr_7 : (nR r ln) ≤ 30 := nR_le
        refine lv_istore_n (lv' := [(3, .int (nI (nR r ln))), (0, .ref (q 0)), (1, .int (nI d)), (2, .int (nI ln)), (4, .int (nI sm))]) hx hb dX2_groansTo_29 rfl hl (by decide) rfl (fun ls hl => ?_)
        refine lv_iload hx hb dX2_groansTo_30 (lv_at hl 4 rfl) ?_
        refine lv_iconst (v := nI 1) hx hb dX2_groansTo_32 (by decide) ?_
        refine lv_iload_n hx hb dX2_groansTo_33 rfl (lv_at hl 0 rfl) ?_
        refine lv_bipush (v := nI 10) hx hb dX2_groansTo_34 (by decide) ?_
        refine lv_idiv hx hb dX2_groansTo_36 (by decide) ?_
        refine z_topi (y := nI ((nR r ln) / 10)) (pk_div (by omega) (by omega) (by omega)) ?_
        refine lv_iadd hx hb dX2_groansTo_37 ?_
        refine z_topi (y := nI (1 + ((nR r ln) / 10))) (nI_add _ _) ?_
        refine lv_iadd hx hb dX2_groansTo_38 ?_
        refine z_topi (y := nI (sm + (1 + ((nR r ln) / 10)))) (nI_add _ _) ?_
        refine lv_istore (lv' := [(4, .int (nI (sm + (1 + ((nR r ln) / 10))))), (3, .int (nI (nR r ln))), (0, .ref (q 0)), (1, .int (nI d)), (2, .int (nI ln))]) hx hb dX2_groansTo_39 hl (by decide) rfl (fun ls hl => ?_)
        refine lv_goto (tgt := 19) hx hb dX2_groansTo_41 (by decide) ?_
        have ev_8 : nI (sm + (1 + ((nR r ln) / 10))) = nI (sm + (1 + nR r ln / 10)) := by first | rfl | (congr 1; done) | (congr 1; simp [cN, bN, c_21_5]; done) | (congr 1; simp [cN, bN, c_21_5]; omega)
        have hl : lv_has ls 5 [(0, .ref (q 0)), (1, .int (nI d)), (2, .int (nI ln)), (3, .int (nI (nR r ln))), (4, .int (nI (sm + (1 + nR r ln / 10))))] := z_lv (lv_sub hl [2, 3, 4, 1, 0] rfl) (by rw [ev_8] <;> rfl)
        exact ih19 (n + 1) (nR r ln) (sm + (1 + nR r ln / 10)) (by have := nR_gt (st := ln) (by assumption) hd hln; omega) (by omega) (by have := nR_gt (st := ln) c_21_5 hd hln; omega) (by have := nR_le (a := r) (b := ln); omega) (gtL_s hst c_21_5 (by omega)) _ _ hH ls (lv_sub hl [0, 1, 2, 3, 4] rfl)
  have ev_9 : nI (1 + ((nR (M 1 3) ln) / 10)) = nI (1 + nR (M 1 3) ln / 10) := by first | rfl | (congr 1; done) | (congr 1; simp [cN, bN]; done) | (congr 1; simp [cN, bN]; omega)
  have hl : lv_has ls 5 [(0, .ref (q 0)), (1, .int (nI d)), (2, .int (nI ln)), (3, .int (nI (nR (M 1 3) ln))), (4, .int (nI (1 + nR (M 1 3) ln / 10)))] := z_lv (lv_sub hl [2, 3, 4, 1, 0] rfl) (by rw [ev_9] <;> rfl)
  exact LP19_3 ((d - (nR (M 1 3) ln)) + 1) 0 (nR (M 1 3) ln) (1 + nR (M 1 3) ln / 10) (Nat.lt_succ_self _) (by omega) (by omega) (by omega) (rfl) _ _ hH ls (lv_sub hl [0, 1, 2, 3, 4] rfl)

set_option maxHeartbeats 4000000 in
set_option maxRecDepth 100000 in
theorem metX2_bestStroke (l : Launch) (G : va_G) (dA : Nat → ClassId) (dS : Nat → Nat) (B0 sz : Nat) (q : Nat → Nat) (M : mS) (B : Nat) (hrb : rB (M 1) B) (hBb : B + 20 < 2 ^ 30) : Met l yX2_bestStroke (ws_ yX2_bestStroke cX2_bestStroke 4 (some FieldType.int)) ({ frames := 3, cells := 0, slots := 0, locals := 68 }) (zP G dA dS B0 [.ref (q 0)] sz (mW dA q M) (fun H => True)) (zQi G (fun (r : Int32) (u : Unit) => r = aBest (M 1)) (fun (u : Unit) => mW dA q M) (fun (u : Unit) (H : Heap) => True) (va_A (mW dA q M) sz)) 0 0 (va_A (mW dA q M) sz) := by
  refine zM (by decide) (Nat.le_of_ble_eq_true rfl) ?_
  intro p e s m below meth c ls A H locs hHe hx hb hr hlocks hml hown hname hts hX hsz hB hAe hA hAB hH hRo hl
  have hl : lv_has ls 4 [(0, .ref (q 0))] := hl
  have hbw := hrb.lt (by omega)
  have h12 := hrb.1
  have hw2 := hrb.2.2.2.2.1
  have hw2' := hrb.2.2.2.2.2.1
  have hw3 := hrb.2.2.2.2.2.2.1
  have hw1 := hrb.2.2.2.1
  refine lv_aload_n hx hb dX2_bestStroke_0 rfl (lv_at hl 0 rfl) ?_
  refine lv_aload_n hx hb dX2_bestStroke_1 rfl (lv_at hl 0 rfl) ?_
  refine z_get (v := .ref (q 1)) hx hb hts hown hX kX2 6 (by decide) (hH.at 0 rfl) rfl q2016 (fun _ h9 => h9) dX2_bestStroke_2 ?_
  refine lv_iconst (v := nI 1) hx hb dX2_bestStroke_5 (by decide) ?_
  refine z_iald (x := nI (M 1 1)) hx hb hX (k := 1)  (hH.at 1 rfl) rfl (by omega) (by omega) rfl dX2_bestStroke_6 ?_
  have hbd_1 := hbw 1 (by omega) (by omega)
  refine lv_iconst (v := nI 0) hx hb dX2_bestStroke_7 (by decide) ?_
  refine z_ci (wr := []) (va_runV (As := [.int (nI (M 1 1)), .int (nI 0)]) (rest := []) ⟨hx, hb, hml, hown, hts⟩ (metX2_atPlace l G dA dS B0 H.size q M (M 1 1) (nI 0) (by first | exact ha | assumption | omega) (by first | exact hbw | assumption | omega) (by first | exact h12 | assumption | omega)) (cwV 2 hts (lw_V q2230 q2232 qs55 q91 q2233) rfl rfl rfl (by decide +kernel) ⟨Nat.le_of_ble_eq_true rfl, Nat.le_of_ble_eq_true rfl⟩) (zPV hX hH hB hAB (z_recv hX kX2 (hH.at 0 rfl)) [0, 1, 2, 3, 4, 5, 6, 7, 8] rfl rfl trivial) rfl rfl hl.1 rfl (lv_room (Nat.le_of_ble_eq_true rfl)) dX2_bestStroke_8 ⟨(Nat.le_of_ble_eq_true rfl), (Nat.le_of_ble_eq_true rfl)⟩) hH hA [0, 1, 2, 3, 4, 5, 6, 7, 8] [] rfl rfl (by decide) (by decide) (fun r_2 u_r_2 H locs hw_r_2 hH hR_r_2 hk_r_2 => ?_)
  obtain rfl := hw_r_2
  have hH : zH G A s.heap (mW dA q M) H locs := hH
  refine lv_istore_n (lv' := [(1, .int (oI (pla (M 1) (M 1 1) (nI 0)))), (0, .ref (q 0))]) hx hb dX2_bestStroke_11 rfl hl (by decide) rfl (fun ls hl => ?_)
  refine lv_iload_n hx hb dX2_bestStroke_12 rfl (lv_at hl 0 rfl) ?_
  rcases ho_13 : pla (M 1) (M 1 1) (nI 0) with _ | k9
  · skip
    refine z_topi (y := (-1)) rfl ?_
    refine lv_if_ge (tgt := 19) hx hb dX2_bestStroke_13 (by decide) (fun h => absurd h (by decide)) (fun _ => ?_)
    refine lv_bipush (v := (-6)) hx hb dX2_bestStroke_16 (by decide) ?_
    exact z_iret hx hb hr hlocks hH (u := ()) (by simp [aBest, ho_13]) ⟨hH.1, hH.2.1⟩ trivial (Nat.le_of_ble_eq_true rfl) (Nat.le_of_ble_eq_true rfl) dX2_bestStroke_18
  · skip
    refine z_topi (y := nI k9) rfl ?_
    have hs_13 := fO_spec ho_13
    have hs1_13 := hs_13.1
    have hkb := hrb.2.2.1 k9 hs1_13
    refine z_ifgeN (tgt := 19) hx hb dX2_bestStroke_13 (by decide) (by omega) (fun c_13_4 => ?_) (fun c_13_4 => ?_)
    · skip
      refine lv_iconst (v := nI 1) hx hb dX2_bestStroke_19 (by decide) ?_
      refine lv_istore_n (lv' := [(2, .int (nI 1)), (1, .int (oI (pla (M 1) (M 1 1) (nI 0)))), (0, .ref (q 0))]) hx hb dX2_bestStroke_20 rfl hl (by decide) rfl (fun ls hl => ?_)
      refine lv_iconst (v := nI 2) hx hb dX2_bestStroke_21 (by decide) ?_
      refine lv_istore_n (lv' := [(3, .int (nI 2)), (2, .int (nI 1)), (1, .int (oI (pla (M 1) (M 1 1) (nI 0)))), (0, .ref (q 0))]) hx hb dX2_bestStroke_22 rfl hl (by decide) rfl (fun ls hl => ?_)
      have LP23_4 : ∀ (fuel : Nat) (i : Nat) (hfu : (9 - i) < fuel) (hi : i ≤ 9) (H : Heap) (locs : List Loc), zH G A s.heap (mW dA q M) H locs → ∀ (ls : Array Slot), lv_has ls 4 [(0, .ref (q 0)), (1, .int (nI k9)), (2, .int (nI (bB (gT (M 1) (jk (M 1) k9 1)) i))), (3, .int (nI (i + 2)))] → W p l e (headSpec (ws_ yX2_bestStroke cX2_bestStroke 4 (some FieldType.int)) ({ frames := 3, cells := 0, slots := 0, locals := 68 })).room s m ([.ref (q 0)] : List Value).toArray below meth c H locs 0 0 (MQ below (zQi G (fun (r : Int32) (u : Unit) => r = aBest (M 1)) (fun (u : Unit) => mW dA q M) (fun (u : Unit) (H : Heap) => True) A) ([.ref (q 0)] : List Value).toArray s 0 0 A) (F0 m 23 ls []) := by
        intro fuel
        induction fuel with
        | zero => intro i hfu; exact absurd hfu (Nat.not_lt_zero _)
        | succ fuel ih23 =>
          intro i hfu hi H locs hH ls hl
          have hbb := bB_in (gT (M 1) (jk (M 1) k9 1)) i
          refine lv_iload_n hx hb dX2_bestStroke_23 rfl (lv_at hl 3 rfl) ?_
          refine lv_bipush (v := nI 10) hx hb dX2_bestStroke_24 (by decide) ?_
          refine z_icmp_gt (tgt := 66) hx hb dX2_bestStroke_26 (by decide) (by omega) (by omega) (fun c_26_6 => ?_) (fun c_26_6 => ?_)
          · skip
            refine lv_iload_n hx hb dX2_bestStroke_66 rfl (lv_at hl 2 rfl) ?_
            exact z_iret hx hb hr hlocks hH (u := ()) (by have e9 : i = 9 := (by omega); subst e9; simp [aBest, ho_13]) ⟨hH.1, hH.2.1⟩ trivial (Nat.le_of_ble_eq_true rfl) (Nat.le_of_ble_eq_true rfl) dX2_bestStroke_67
          · skip
            have dc_26_6 := Nat.not_lt.mp c_26_6
            refine lv_aload_n hx hb dX2_bestStroke_29 rfl (lv_at hl 0 rfl) ?_
            refine lv_aload_n hx hb dX2_bestStroke_30 rfl (lv_at hl 0 rfl) ?_
            refine lv_iload_n hx hb dX2_bestStroke_31 rfl (lv_at hl 1 rfl) ?_
            refine lv_iconst (v := nI 1) hx hb dX2_bestStroke_32 (by decide) ?_
            refine z_ci (wr := []) (va_runV (As := [.int (nI k9), .int (nI 1)]) (rest := [.ref (q 0)]) ⟨hx, hb, hml, hown, hts⟩ (metX2_is l G dA dS B0 H.size q M k9 1 (by first | exact hk | assumption | omega) (by first | exact hj | assumption | omega)) (cwV 2 hts (lw_V q2103 q2105 qs31 q91 q2106) rfl rfl rfl (by decide +kernel) ⟨Nat.le_of_ble_eq_true rfl, Nat.le_of_ble_eq_true rfl⟩) (zPV hX hH hB hAB (z_recv hX kX2 (hH.at 0 rfl)) [0, 1, 2, 3, 4, 5, 6, 7, 8] rfl rfl trivial) rfl rfl hl.1 rfl (lv_room (Nat.le_of_ble_eq_true rfl)) dX2_bestStroke_33 ⟨(Nat.le_of_ble_eq_true rfl), (Nat.le_of_ble_eq_true rfl)⟩) hH hA [0, 1, 2, 3, 4, 5, 6, 7, 8] [] rfl rfl (by decide) (by decide) (fun r_7 u_r_7 H locs hw_r_7 hH hR_r_7 hk_r_7 => ?_)
            obtain rfl := hw_r_7
            have hH : zH G A s.heap (mW dA q M) H locs := hH
            have hbd_8 : jk (M 1) k9 1 < 2 ^ 31 := hbw _ (by omega) (by omega)
            refine lv_iload_n hx hb dX2_bestStroke_36 rfl (lv_at hl 3 rfl) ?_
            refine z_ci (wr := []) (va_runV (As := [.int (nI (jk (M 1) k9 1)), .int (nI (i + 2))]) (rest := []) ⟨hx, hb, hml, hown, hts⟩ (metX2_groansTo l G dA dS B0 H.size q M (jk (M 1) k9 1) (i + 2) (by first | exact hd | assumption | omega) (by first | exact hln | assumption | omega) (by first | exact hln2 | assumption | omega) B (by first | exact hrb | assumption | omega) (by first | exact hBb | assumption | omega)) (cwV 2 hts (lw_V q2314 q2316 qs61 q91 q2317) rfl rfl rfl (by decide +kernel) ⟨Nat.le_of_ble_eq_true rfl, Nat.le_of_ble_eq_true rfl⟩) (zPV hX hH hB hAB (z_recv hX kX2 (hH.at 0 rfl)) [0, 1, 2, 3, 4, 5, 6, 7, 8] rfl rfl trivial) rfl rfl hl.1 rfl (lv_room (Nat.le_of_ble_eq_true rfl)) dX2_bestStroke_37 ⟨(Nat.le_of_ble_eq_true rfl), (Nat.le_of_ble_eq_true rfl)⟩) hH hA [0, 1, 2, 3, 4, 5, 6, 7, 8] [] rfl rfl (by decide) (by decide) (fun r_9 u_r_9 H locs hw_r_9 hH hR_r_9 hk_r_9 => ?_)
            obtain rfl := hw_r_9
            have hH : zH G A s.heap (mW dA q M) H locs := hH
            have hgt_10 := gT_le (M 1) (jk (M 1) k9 1) (i + 2)
            refine lv_aload_n hx hb dX2_bestStroke_40 rfl (lv_at hl 0 rfl) ?_
            refine lv_aload_n hx hb dX2_bestStroke_41 rfl (lv_at hl 0 rfl) ?_
            refine lv_iload_n hx hb dX2_bestStroke_42 rfl (lv_at hl 1 rfl) ?_
            refine lv_iconst (v := nI 1) hx hb dX2_bestStroke_43 (by decide) ?_
            refine z_ci (wr := []) (va_runV (As := [.int (nI k9), .int (nI 1)]) (rest := [.ref (q 0), .int (nI (gT (M 1) (jk (M 1) k9 1) (i + 2)))]) ⟨hx, hb, hml, hown, hts⟩ (metX2_is l G dA dS B0 H.size q M k9 1 (by first | exact hk | assumption | omega) (by first | exact hj | assumption | omega)) (cwV 2 hts (lw_V q2103 q2105 qs31 q91 q2106) rfl rfl rfl (by decide +kernel) ⟨Nat.le_of_ble_eq_true rfl, Nat.le_of_ble_eq_true rfl⟩) (zPV hX hH hB hAB (z_recv hX kX2 (hH.at 0 rfl)) [0, 1, 2, 3, 4, 5, 6, 7, 8] rfl rfl trivial) rfl rfl hl.1 rfl (lv_room (Nat.le_of_ble_eq_true rfl)) dX2_bestStroke_44 ⟨(Nat.le_of_ble_eq_true rfl), (Nat.le_of_ble_eq_true rfl)⟩) hH hA [0, 1, 2, 3, 4, 5, 6, 7, 8] [] rfl rfl (by decide) (by decide) (fun r_11 u_r_11 H locs hw_r_11 hH hR_r_11 hk_r_11 => ?_)
            obtain rfl := hw_r_11
            have hH : zH G A s.heap (mW dA q M) H locs := hH
            have hbd_12 : jk (M 1) k9 1 < 2 ^ 31 := hbw _ (by omega) (by omega)
            refine lv_iload_n hx hb dX2_bestStroke_47 rfl (lv_at hl 2 rfl) ?_
            refine z_ci (wr := []) (va_runV (As := [.int (nI (jk (M 1) k9 1)), .int (nI (bB (gT (M 1) (jk (M 1) k9 1)) i))]) (rest := [.int (nI (gT (M 1) (jk (M 1) k9 1) (i + 2)))]) ⟨hx, hb, hml, hown, hts⟩ (metX2_groansTo l G dA dS B0 H.size q M (jk (M 1) k9 1) (bB (gT (M 1) (jk (M 1) k9 1)) i) (by first | exact hd | assumption | omega) (by first | exact hln | assumption | omega) (by first | exact hln2 | assumption | omega) B (by first | exact hrb | assumption | omega) (by first | exact hBb | assumption | omega)) (cwV 2 hts (lw_V q2314 q2316 qs61 q91 q2317) rfl rfl rfl (by decide +kernel) ⟨Nat.le_of_ble_eq_true rfl, Nat.le_of_ble_eq_true rfl⟩) (zPV hX hH hB hAB (z_recv hX kX2 (hH.at 0 rfl)) [0, 1, 2, 3, 4, 5, 6, 7, 8] rfl rfl trivial) rfl rfl hl.1 rfl (lv_room (Nat.le_of_ble_eq_true rfl)) dX2_bestStroke_48 ⟨(Nat.le_of_ble_eq_true rfl), (Nat.le_of_ble_eq_true rfl)⟩) hH hA [0, 1, 2, 3, 4, 5, 6, 7, 8] [] rfl rfl (by decide) (by decide) (fun r_13 u_r_13 H locs hw_r_13 hH hR_r_13 hk_r_13 => ?_)
            obtain rfl := hw_r_13
            have hH : zH G A s.heap (mW dA q M) H locs := hH
            have hgt_14 := gT_le (M 1) (jk (M 1) k9 1) (bB (gT (M 1) (jk (M 1) k9 1)) i)
            refine z_icmp_ge (tgt := 58) hx hb dX2_bestStroke_51 (by decide) (by omega) (by omega) (fun c_51_15 => ?_) (fun c_51_15 => ?_)
            · skip
              have dc_51_15 := Nat.not_lt.mp c_51_15
              refine lv_iload_n hx hb dX2_bestStroke_58 rfl (lv_at hl 2 rfl) ?_
              refine lv_istore_n (lv' := [(2, .int (nI (bB (gT (M 1) (jk (M 1) k9 1)) i))), (0, .ref (q 0)), (1, .int (nI k9)), (3, .int (nI (i + 2)))]) hx hb dX2_bestStroke_59 rfl hl (by decide) rfl (fun ls hl => ?_)
              refine lv_iinc (v := nI ((i + 2) + 1)) (lv' := [(3, .int (nI ((i + 2) + 1))), (2, .int (nI (bB (gT (M 1) (jk (M 1) k9 1)) i))), (0, .ref (q 0)), (1, .int (nI k9))]) hx hb dX2_bestStroke_60 hl (k := 3) rfl (nI_1 _) (by decide) rfl (fun ls hl => ?_)
              refine lv_goto (tgt := 23) hx hb dX2_bestStroke_63 (by decide) ?_
              have ev_16 : nI (bB (gT (M 1) (jk (M 1) k9 1)) i) = nI (bB (gT (M 1) (jk (M 1) k9 1)) (i + 1)) := by congr 1; simp only [bB]; first | (rw [if_pos (by assumption)]) | (rw [if_neg (by assumption)])
              have ev_17 : nI ((i + 2) + 1) = nI ((i + 1) + 2) := by first | rfl | (congr 1; done) | (congr 1; simp [cN, bN, ho_13, c_13_4, c_26_6, dc_26_6, c_51_15, dc_51_15]; done) | (congr 1; simp [cN, bN, ho_13, c_13_4, c_26_6, dc_26_6, c_51_15, dc_51_15]; omega)
              have hl : lv_has ls 4 [(0, .ref (q 0)), (1, .int (nI k9)), (2, .int (nI (bB (gT (M 1) (jk (M 1) k9 1)) (i + 1)))), (3, .int (nI ((i + 1) + 2)))] := z_lv (lv_sub hl [2, 3, 1, 0] rfl) (by rw [ev_16, ev_17] <;> rfl)
              exact ih23 (i + 1) (by omega) (by omega) _ _ hH ls (lv_sub hl [0, 1, 2, 3] rfl)
            · skip
              refine lv_iload_n hx hb dX2_bestStroke_54 rfl (lv_at hl 3 rfl) ?_
              refine lv_goto (tgt := 59) hx hb dX2_bestStroke_55 (by decide) ?_
              refine lv_istore_n (lv' := [(2, .int (nI (i + 2))), (0, .ref (q 0)), (1, .int (nI k9)), (3, .int (nI (i + 2)))]) hx hb dX2_bestStroke_59 rfl hl (by decide) rfl (fun ls hl => ?_)
              refine lv_iinc (v := nI ((i + 2) + 1)) (lv' := [(3, .int (nI ((i + 2) + 1))), (2, .int (nI (i + 2))), (0, .ref (q 0)), (1, .int (nI k9))]) hx hb dX2_bestStroke_60 hl (k := 3) rfl (nI_1 _) (by decide) rfl (fun ls hl => ?_)
              refine lv_goto (tgt := 23) hx hb dX2_bestStroke_63 (by decide) ?_
              have ev_18 : nI (i + 2) = nI (bB (gT (M 1) (jk (M 1) k9 1)) (i + 1)) := by congr 1; simp only [bB]; first | (rw [if_pos (by assumption)]) | (rw [if_neg (by assumption)])
              have ev_19 : nI ((i + 2) + 1) = nI ((i + 1) + 2) := by first | rfl | (congr 1; done) | (congr 1; simp [cN, bN, ho_13, c_13_4, c_26_6, dc_26_6, c_51_15]; done) | (congr 1; simp [cN, bN, ho_13, c_13_4, c_26_6, dc_26_6, c_51_15]; omega)
              have hl : lv_has ls 4 [(0, .ref (q 0)), (1, .int (nI k9)), (2, .int (nI (bB (gT (M 1) (jk (M 1) k9 1)) (i + 1)))), (3, .int (nI ((i + 1) + 2)))] := z_lv (lv_sub hl [2, 3, 1, 0] rfl) (by rw [ev_18, ev_19] <;> rfl)
              exact ih23 (i + 1) (by omega) (by omega) _ _ hH ls (lv_sub hl [0, 1, 2, 3] rfl)
      have ev_20 : oI (pla (M 1) (M 1 1) (nI 0)) = nI k9 := by rw [ho_13]; rfl
      have ev_21 : nI 1 = nI (bB (gT (M 1) (jk (M 1) k9 1)) 0) := by rfl
      have ev_22 : nI 2 = nI (0 + 2) := by first | rfl | (congr 1; done) | (congr 1; simp [cN, bN, ho_13, c_13_4]; done) | (congr 1; simp [cN, bN, ho_13, c_13_4]; omega)
      have hl : lv_has ls 4 [(0, .ref (q 0)), (1, .int (nI k9)), (2, .int (nI (bB (gT (M 1) (jk (M 1) k9 1)) 0))), (3, .int (nI (0 + 2)))] := z_lv (lv_sub hl [3, 2, 1, 0] rfl) (by rw [ev_20, ev_21, ev_22] <;> rfl)
      exact LP23_4 ((9 - 0) + 1) 0 (Nat.lt_succ_self _) (by omega) _ _ hH ls (lv_sub hl [0, 1, 2, 3] rfl)
    · skip
      exact c_13_4.elim

set_option maxHeartbeats 4000000 in
set_option maxRecDepth 100000 in
theorem metX2_isFunnier (l : Launch) (G : va_G) (dA : Nat → ClassId) (dS : Nat → Nat) (B0 sz : Nat) (q : Nat → Nat) (M : mS) (a : Nat) (b : Nat) (hja : a < M 1 0) (hjb : b < M 1 0) (B : Nat) (hrb : rB (M 1) B) (hBb : B + 20 < 2 ^ 30) : Met l yX2_isFunnier (ws_ yX2_isFunnier cX2_isFunnier 6 (some FieldType.boolean)) ({ frames := 2, cells := 0, slots := 0, locals := 45 }) (zP G dA dS B0 [.ref (q 0), .int (nI a), .int (nI b)] sz (mW dA q M) (fun H => True)) (zQi G (fun (r : Int32) (u : Unit) => r = nI (bN (fnr (M 1) a b))) (fun (u : Unit) => mW dA q M) (fun (u : Unit) (H : Heap) => True) (va_A (mW dA q M) sz)) 0 0 (va_A (mW dA q M) sz) := by
  refine zM (by decide) (Nat.le_of_ble_eq_true rfl) ?_
  intro p e s m below meth c ls A H locs hHe hx hb hr hlocks hml hown hname hts hX hsz hB hAe hA hAB hH hRo hl
  have hl : lv_has ls 6 [(0, .ref (q 0)), (1, .int (nI a)), (2, .int (nI b))] := hl
  have hbw := hrb.lt (by omega)
  have h12 := hrb.1
  have hw4 := hrb.2.2.2.2.2.2.2.1
  obtain ⟨hj0a, hj1a, hi1a, hj2a, hj3a, hi3a, hj4a⟩ := hrb.2.2.1 a hja
  obtain ⟨hj0b, hj1b, hi1b, hj2b, hj3b, hi3b, hj4b⟩ := hrb.2.2.1 b hjb
  refine lv_aload_n hx hb dX2_isFunnier_0 rfl (lv_at hl 0 rfl) ?_
  refine lv_iload_n hx hb dX2_isFunnier_1 rfl (lv_at hl 1 rfl) ?_
  refine lv_aload_n hx hb dX2_isFunnier_2 rfl (lv_at hl 0 rfl) ?_
  refine z_get (v := .ref (q 1)) hx hb hts hown hX kX2 6 (by decide) (hH.at 0 rfl) rfl q2016 (fun _ h9 => h9) dX2_isFunnier_3 ?_
  refine lv_iconst (v := nI 4) hx hb dX2_isFunnier_6 (by decide) ?_
  refine z_iald (x := nI (M 1 4)) hx hb hX (k := 4)  (hH.at 1 rfl) rfl (by omega) (by omega) rfl dX2_isFunnier_7 ?_
  have hbd_1 := hbw 4 (by omega) (by omega)
  refine z_cf (wr := []) (va_runV (As := [.int (nI a), .int (nI (M 1 4))]) (rest := []) ⟨hx, hb, hml, hown, hts⟩ (metX2_laughOf l G dA dS B0 H.size q M a (M 1 4) (by first | exact hk | assumption | omega) (by omega) (by omega) (by omega)) (cwV 2 hts (lw_V q2242 q2244 qs58 q91 q2245) rfl rfl rfl (by decide +kernel) ⟨Nat.le_of_ble_eq_true rfl, Nat.le_of_ble_eq_true rfl⟩) (zPV hX hH hB hAB (z_recv hX kX2 (hH.at 0 rfl)) [0, 1, 2, 3, 4, 5, 6, 7, 8] rfl rfl trivial) rfl rfl hl.1 rfl (lv_room (Nat.le_of_ble_eq_true rfl)) dX2_isFunnier_8 ⟨(Nat.le_of_ble_eq_true rfl), (Nat.le_of_ble_eq_true rfl)⟩) hH hA [0, 1, 2, 3, 4, 5, 6, 7, 8] [] rfl rfl (by decide) (by decide) (fun r_2 u_r_2 H locs hw_r_2 hH hR_r_2 hk_r_2 => ?_)
  obtain rfl := hw_r_2
  have hH : zH G A s.heap (mW dA q M) H locs := hH
  have hlt_3 := lau_t (jk (M 1) a 3) (by omega) (jk (M 1) a 4) (by omega) (M 1 4) (by omega)
  refine lv_fstore_n (lv' := [(3, .float (UInt32.ofNat (lauN (jk (M 1) a 3) (jk (M 1) a 4) (M 1 4)))), (0, .ref (q 0)), (1, .int (nI a)), (2, .int (nI b))]) hx hb dX2_isFunnier_11 rfl hl (by decide) rfl (fun ls hl => ?_)
  refine lv_aload_n hx hb dX2_isFunnier_12 rfl (lv_at hl 1 rfl) ?_
  refine lv_iload_n hx hb dX2_isFunnier_13 rfl (lv_at hl 3 rfl) ?_
  refine lv_aload_n hx hb dX2_isFunnier_14 rfl (lv_at hl 1 rfl) ?_
  refine z_get (v := .ref (q 1)) hx hb hts hown hX kX2 6 (by decide) (hH.at 0 rfl) rfl q2016 (fun _ h9 => h9) dX2_isFunnier_15 ?_
  refine lv_iconst (v := nI 4) hx hb dX2_isFunnier_18 (by decide) ?_
  refine z_iald (x := nI (M 1 4)) hx hb hX (k := 4)  (hH.at 1 rfl) rfl (by omega) (by omega) rfl dX2_isFunnier_19 ?_
  have hbd_4 := hbw 4 (by omega) (by omega)
  refine z_cf (wr := []) (va_runV (As := [.int (nI b), .int (nI (M 1 4))]) (rest := []) ⟨hx, hb, hml, hown, hts⟩ (metX2_laughOf l G dA dS B0 H.size q M b (M 1 4) (by first | exact hk | assumption | omega) (by omega) (by omega) (by omega)) (cwV 2 hts (lw_V q2242 q2244 qs58 q91 q2245) rfl rfl rfl (by decide +kernel) ⟨Nat.le_of_ble_eq_true rfl, Nat.le_of_ble_eq_true rfl⟩) (zPV hX hH hB hAB (z_recv hX kX2 (hH.at 0 rfl)) [0, 1, 2, 3, 4, 5, 6, 7, 8] rfl rfl trivial) rfl rfl hl.1 rfl (lv_room (Nat.le_of_ble_eq_true rfl)) dX2_isFunnier_20 ⟨(Nat.le_of_ble_eq_true rfl), (Nat.le_of_ble_eq_true rfl)⟩) hH hA [0, 1, 2, 3, 4, 5, 6, 7, 8] [] rfl rfl (by decide) (by decide) (fun r_5 u_r_5 H locs hw_r_5 hH hR_r_5 hk_r_5 => ?_)
  obtain rfl := hw_r_5
  have hH : zH G A s.heap (mW dA q M) H locs := hH
  have hlt_6 := lau_t (jk (M 1) b 3) (by omega) (jk (M 1) b 4) (by omega) (M 1 4) (by omega)
  refine lv_fstore (lv' := [(4, .float (UInt32.ofNat (lauN (jk (M 1) b 3) (jk (M 1) b 4) (M 1 4)))), (3, .float (UInt32.ofNat (lauN (jk (M 1) a 3) (jk (M 1) a 4) (M 1 4)))), (0, .ref (q 0)), (1, .int (nI a)), (2, .int (nI b))]) hx hb dX2_isFunnier_23 hl (by decide) rfl (fun ls hl => ?_)
  refine lv_fload_n hx hb dX2_isFunnier_25 rfl (lv_at hl 1 rfl) ?_
  refine lv_fload hx hb dX2_isFunnier_26 (lv_at hl 0 rfl) ?_
  refine lv_fcmp hx hb dX2_isFunnier_28 ?_
  refine lv_if_eq (tgt := 45) hx hb dX2_isFunnier_29 (by decide) (fun c_29_7 => ?_) (fun c_29_7 => ?_)
  · skip
    have e29 := (f_eq0 (by omega) (by omega)).mp c_29_7
    refine lv_aload_n hx hb dX2_isFunnier_45 rfl (lv_at hl 2 rfl) ?_
    refine lv_iload_n hx hb dX2_isFunnier_46 rfl (lv_at hl 4 rfl) ?_
    refine lv_iconst (v := nI 1) hx hb dX2_isFunnier_47 (by decide) ?_
    refine z_ci (wr := []) (va_runV (As := [.int (nI b), .int (nI 1)]) (rest := []) ⟨hx, hb, hml, hown, hts⟩ (metX2_is l G dA dS B0 H.size q M b 1 (by first | exact hk | assumption | omega) (by first | exact hj | assumption | omega)) (cwV 2 hts (lw_V q2103 q2105 qs31 q91 q2106) rfl rfl rfl (by decide +kernel) ⟨Nat.le_of_ble_eq_true rfl, Nat.le_of_ble_eq_true rfl⟩) (zPV hX hH hB hAB (z_recv hX kX2 (hH.at 0 rfl)) [0, 1, 2, 3, 4, 5, 6, 7, 8] rfl rfl trivial) rfl rfl hl.1 rfl (lv_room (Nat.le_of_ble_eq_true rfl)) dX2_isFunnier_48 ⟨(Nat.le_of_ble_eq_true rfl), (Nat.le_of_ble_eq_true rfl)⟩) hH hA [0, 1, 2, 3, 4, 5, 6, 7, 8] [] rfl rfl (by decide) (by decide) (fun r_8 u_r_8 H locs hw_r_8 hH hR_r_8 hk_r_8 => ?_)
    obtain rfl := hw_r_8
    have hH : zH G A s.heap (mW dA q M) H locs := hH
    have hbd_9 : jk (M 1) b 1 < 2 ^ 31 := hbw _ (by omega) (by omega)
    refine lv_aload_n hx hb dX2_isFunnier_51 rfl (lv_at hl 2 rfl) ?_
    refine lv_iload_n hx hb dX2_isFunnier_52 rfl (lv_at hl 3 rfl) ?_
    refine lv_iconst (v := nI 1) hx hb dX2_isFunnier_53 (by decide) ?_
    refine z_ci (wr := []) (va_runV (As := [.int (nI a), .int (nI 1)]) (rest := [.int (nI (jk (M 1) b 1))]) ⟨hx, hb, hml, hown, hts⟩ (metX2_is l G dA dS B0 H.size q M a 1 (by first | exact hk | assumption | omega) (by first | exact hj | assumption | omega)) (cwV 2 hts (lw_V q2103 q2105 qs31 q91 q2106) rfl rfl rfl (by decide +kernel) ⟨Nat.le_of_ble_eq_true rfl, Nat.le_of_ble_eq_true rfl⟩) (zPV hX hH hB hAB (z_recv hX kX2 (hH.at 0 rfl)) [0, 1, 2, 3, 4, 5, 6, 7, 8] rfl rfl trivial) rfl rfl hl.1 rfl (lv_room (Nat.le_of_ble_eq_true rfl)) dX2_isFunnier_54 ⟨(Nat.le_of_ble_eq_true rfl), (Nat.le_of_ble_eq_true rfl)⟩) hH hA [0, 1, 2, 3, 4, 5, 6, 7, 8] [] rfl rfl (by decide) (by decide) (fun r_10 u_r_10 H locs hw_r_10 hH hR_r_10 hk_r_10 => ?_)
    obtain rfl := hw_r_10
    have hH : zH G A s.heap (mW dA q M) H locs := hH
    have hbd_11 : jk (M 1) a 1 < 2 ^ 31 := hbw _ (by omega) (by omega)
    refine lv_isub hx hb dX2_isFunnier_57 ?_
    refine lv_istore (lv' := [(5, .int ((nI (jk (M 1) b 1)) - (nI (jk (M 1) a 1)))), (4, .float (UInt32.ofNat (lauN (jk (M 1) b 3) (jk (M 1) b 4) (M 1 4)))), (3, .float (UInt32.ofNat (lauN (jk (M 1) a 3) (jk (M 1) a 4) (M 1 4)))), (0, .ref (q 0)), (1, .int (nI a)), (2, .int (nI b))]) hx hb dX2_isFunnier_58 hl (by decide) rfl (fun ls hl => ?_)
    refine lv_iload hx hb dX2_isFunnier_60 (lv_at hl 0 rfl) ?_
    refine lv_if_eq (tgt := 78) hx hb dX2_isFunnier_62 (by decide) (fun c_62_12 => ?_) (fun c_62_12 => ?_)
    · skip
      have e62 := (sub_0 (by omega) (by omega)).mp c_62_12
      refine lv_iload_n hx hb dX2_isFunnier_78 rfl (lv_at hl 4 rfl) ?_
      refine lv_iload_n hx hb dX2_isFunnier_79 rfl (lv_at hl 5 rfl) ?_
      refine z_icmp_ge (tgt := 87) hx hb dX2_isFunnier_80 (by decide) (by omega) (by omega) (fun c_80_13 => ?_) (fun c_80_13 => ?_)
      · skip
        have dc_80_13 := Nat.not_lt.mp c_80_13
        refine lv_iconst (v := nI 0) hx hb dX2_isFunnier_87 (by decide) ?_
        exact z_zret hx hb hr hlocks hH (by first | rfl | exact z_narB _ | decide) (u := ()) (by rw [show fnr (M 1) a b = false from by rw [fnr, if_pos e29, if_pos e62]; exact decide_eq_false (by omega)]; rfl) ⟨hH.1, hH.2.1⟩ trivial (Nat.le_of_ble_eq_true rfl) (Nat.le_of_ble_eq_true rfl) dX2_isFunnier_88
      · skip
        refine lv_iconst (v := nI 1) hx hb dX2_isFunnier_83 (by decide) ?_
        refine lv_goto (tgt := 88) hx hb dX2_isFunnier_84 (by decide) ?_
        exact z_zret hx hb hr hlocks hH (by first | rfl | exact z_narB _ | decide) (u := ()) (by rw [show fnr (M 1) a b = true from by rw [fnr, if_pos e29, if_pos e62]; exact decide_eq_true (by omega)]; rfl) ⟨hH.1, hH.2.1⟩ trivial (Nat.le_of_ble_eq_true rfl) (Nat.le_of_ble_eq_true rfl) dX2_isFunnier_88
    · skip
      have e62 := (not_congr (sub_0 (by omega) (by omega))).mp c_62_12
      refine lv_iload hx hb dX2_isFunnier_65 (lv_at hl 0 rfl) ?_
      refine lv_if_le (tgt := 74) hx hb dX2_isFunnier_67 (by decide) (fun c_67_14 => ?_) (fun c_67_14 => ?_)
      · skip
        have e67 := (sub_p (by omega) (by omega)).mp c_67_14
        refine lv_iconst (v := nI 0) hx hb dX2_isFunnier_74 (by decide) ?_
        refine lv_goto (tgt := 88) hx hb dX2_isFunnier_75 (by decide) ?_
        exact z_zret hx hb hr hlocks hH (by first | rfl | exact z_narB _ | decide) (u := ()) (by rw [show fnr (M 1) a b = false from by rw [fnr, if_pos e29, if_neg e62]; exact decide_eq_false (by omega)]; rfl) ⟨hH.1, hH.2.1⟩ trivial (Nat.le_of_ble_eq_true rfl) (Nat.le_of_ble_eq_true rfl) dX2_isFunnier_88
      · skip
        have e67 := (not_congr (sub_p (by omega) (by omega))).mp c_67_14
        refine lv_iconst (v := nI 1) hx hb dX2_isFunnier_70 (by decide) ?_
        refine lv_goto (tgt := 88) hx hb dX2_isFunnier_71 (by decide) ?_
        exact z_zret hx hb hr hlocks hH (by first | rfl | exact z_narB _ | decide) (u := ()) (by rw [show fnr (M 1) a b = true from by rw [fnr, if_pos e29, if_neg e62]; exact decide_eq_true (by omega)]; rfl) ⟨hH.1, hH.2.1⟩ trivial (Nat.le_of_ble_eq_true rfl) (Nat.le_of_ble_eq_true rfl) dX2_isFunnier_88
  · skip
    have e29 := (not_congr (f_eq0 (by omega) (by omega))).mp c_29_7
    refine lv_fload_n hx hb dX2_isFunnier_32 rfl (lv_at hl 1 rfl) ?_
    refine lv_fload hx hb dX2_isFunnier_33 (lv_at hl 0 rfl) ?_
    refine lv_fcmp hx hb dX2_isFunnier_35 ?_
    refine lv_if_le (tgt := 43) hx hb dX2_isFunnier_36 (by decide) (fun c_36_15 => ?_) (fun c_36_15 => ?_)
    · skip
      have e36 := (f_le0 (by omega) (by omega)).mp c_36_15
      refine lv_iconst (v := nI 0) hx hb dX2_isFunnier_43 (by decide) ?_
      exact z_zret hx hb hr hlocks hH (by first | rfl | exact z_narB _ | decide) (u := ()) (by rw [show fnr (M 1) a b = false from by rw [fnr, if_neg e29]; exact decide_eq_false (by omega)]; rfl) ⟨hH.1, hH.2.1⟩ trivial (Nat.le_of_ble_eq_true rfl) (Nat.le_of_ble_eq_true rfl) dX2_isFunnier_44
    · skip
      have e36 := (not_congr (f_le0 (by omega) (by omega))).mp c_36_15
      refine lv_iconst (v := nI 1) hx hb dX2_isFunnier_39 (by decide) ?_
      refine lv_goto (tgt := 44) hx hb dX2_isFunnier_40 (by decide) ?_
      exact z_zret hx hb hr hlocks hH (by first | rfl | exact z_narB _ | decide) (u := ()) (by rw [show fnr (M 1) a b = true from by rw [fnr, if_neg e29]; exact decide_eq_true (by omega)]; rfl) ⟨hH.1, hH.2.1⟩ trivial (Nat.le_of_ble_eq_true rfl) (Nat.le_of_ble_eq_true rfl) dX2_isFunnier_44

set_option maxHeartbeats 4000000 in
set_option maxRecDepth 100000 in
theorem metX2_funniest (l : Launch) (G : va_G) (dA : Nat → ClassId) (dS : Nat → Nat) (B0 sz : Nat) (q : Nat → Nat) (M : mS) (a : Int32) (B : Nat) (hrb : rB (M 1) B) (hBb : B + 20 < 2 ^ 30) : Met l yX2_funniest (ws_ yX2_funniest cX2_funniest 5 (some FieldType.int)) ({ frames := 3, cells := 0, slots := 0, locals := 70 }) (zP G dA dS B0 [.ref (q 0), .int (a)] sz (mW dA q M) (fun H => True)) (zQi G (fun (r : Int32) (u : Unit) => r = oI (fO (fun x => decide (nI (cN (fun y => fnr (M 1) y x) (M 1 0)) = a)) (M 1 0))) (fun (u : Unit) => mW dA q M) (fun (u : Unit) (H : Heap) => True) (va_A (mW dA q M) sz)) 0 0 (va_A (mW dA q M) sz) := by
  refine zM (by decide) (Nat.le_of_ble_eq_true rfl) ?_
  intro p e s m below meth c ls A H locs hHe hx hb hr hlocks hml hown hname hts hX hsz hB hAe hA hAB hH hRo hl
  have hl : lv_has ls 5 [(0, .ref (q 0)), (1, .int (a))] := hl
  have hbw := hrb.lt (by omega)
  have h12 := hrb.1
  refine lv_iconst (v := nI 0) hx hb dX2_funniest_0 (by decide) ?_
  refine lv_istore_n (lv' := [(2, .int (nI 0)), (0, .ref (q 0)), (1, .int (a))]) hx hb dX2_funniest_1 rfl hl (by decide) rfl (fun ls hl => ?_)
  have LP2_0 : ∀ (fuel : Nat) (i : Nat) (hfu : (M 1 0 - i) < fuel) (hi : i ≤ M 1 0) (hf : fO (fun x => decide (nI (cN (fun y => fnr (M 1) y x) (M 1 0)) = a)) i = none) (H : Heap) (locs : List Loc), zH G A s.heap (mW dA q M) H locs → ∀ (ls : Array Slot), lv_has ls 5 [(0, .ref (q 0)), (1, .int (a)), (2, .int (nI i))] → W p l e (headSpec (ws_ yX2_funniest cX2_funniest 5 (some FieldType.int)) ({ frames := 3, cells := 0, slots := 0, locals := 70 })).room s m ([.ref (q 0), .int (a)] : List Value).toArray below meth c H locs 0 0 (MQ below (zQi G (fun (r : Int32) (u : Unit) => r = oI (fO (fun x => decide (nI (cN (fun y => fnr (M 1) y x) (M 1 0)) = a)) (M 1 0))) (fun (u : Unit) => mW dA q M) (fun (u : Unit) (H : Heap) => True) A) ([.ref (q 0), .int (a)] : List Value).toArray s 0 0 A) (F0 m 2 ls []) := by
    intro fuel
    induction fuel with
    | zero => intro i hfu; exact absurd hfu (Nat.not_lt_zero _)
    | succ fuel ih2 =>
      intro i hfu hi hf H locs hH ls hl
      refine lv_iload_n hx hb dX2_funniest_2 rfl (lv_at hl 2 rfl) ?_
      refine lv_aload_n hx hb dX2_funniest_3 rfl (lv_at hl 0 rfl) ?_
      refine z_get (v := .ref (q 1)) hx hb hts hown hX kX2 6 (by decide) (hH.at 0 rfl) rfl q2016 (fun _ h9 => h9) dX2_funniest_4 ?_
      refine lv_iconst (v := nI 0) hx hb dX2_funniest_7 (by decide) ?_
      refine z_iald (x := nI (M 1 0)) hx hb hX (k := 0)  (hH.at 1 rfl) rfl (by omega) (by omega) rfl dX2_funniest_8 ?_
      have hbd_2 := hbw 0 (by omega) (by omega)
      refine z_icmp_ge (tgt := 65) hx hb dX2_funniest_9 (by decide) (by omega) (by omega) (fun c_9_3 => ?_) (fun c_9_3 => ?_)
      · skip
        have dc_9_3 := Nat.not_lt.mp c_9_3
        refine lv_iconst (v := (-1)) hx hb dX2_funniest_65 (by decide) ?_
        exact z_iret hx hb hr hlocks hH (u := ()) (by have e : i = M 1 0 := (by omega); subst e; rw [hf]; rfl) ⟨hH.1, hH.2.1⟩ trivial (Nat.le_of_ble_eq_true rfl) (Nat.le_of_ble_eq_true rfl) dX2_funniest_66
      · skip
        refine lv_iconst (v := nI 0) hx hb dX2_funniest_12 (by decide) ?_
        refine lv_istore_n (lv' := [(3, .int (nI 0)), (0, .ref (q 0)), (1, .int (a)), (2, .int (nI i))]) hx hb dX2_funniest_13 rfl hl (by decide) rfl (fun ls hl => ?_)
        refine lv_iconst (v := nI 0) hx hb dX2_funniest_14 (by decide) ?_
        refine lv_istore (lv' := [(4, .int (nI 0)), (3, .int (nI 0)), (0, .ref (q 0)), (1, .int (a)), (2, .int (nI i))]) hx hb dX2_funniest_15 hl (by decide) rfl (fun ls hl => ?_)
        have LP17_3 : ∀ (fuel : Nat) (j : Nat) (hfu : (M 1 0 - j) < fuel) (hj : j ≤ M 1 0) (H : Heap) (locs : List Loc), zH G A s.heap (mW dA q M) H locs → ∀ (ls : Array Slot), lv_has ls 5 [(0, .ref (q 0)), (1, .int (a)), (2, .int (nI i)), (3, .int (nI (cN (fun y => fnr (M 1) y i) j))), (4, .int (nI j))] → W p l e (headSpec (ws_ yX2_funniest cX2_funniest 5 (some FieldType.int)) ({ frames := 3, cells := 0, slots := 0, locals := 70 })).room s m ([.ref (q 0), .int (a)] : List Value).toArray below meth c H locs 0 0 (MQ below (zQi G (fun (r : Int32) (u : Unit) => r = oI (fO (fun x => decide (nI (cN (fun y => fnr (M 1) y x) (M 1 0)) = a)) (M 1 0))) (fun (u : Unit) => mW dA q M) (fun (u : Unit) (H : Heap) => True) A) ([.ref (q 0), .int (a)] : List Value).toArray s 0 0 A) (F0 m 17 ls []) := by
          intro fuel
          induction fuel with
          | zero => intro j hfu; exact absurd hfu (Nat.not_lt_zero _)
          | succ fuel ih17 =>
            intro j hfu hj H locs hH ls hl
            have hcn := cN_le (fun y => fnr (M 1) y i) j
            refine lv_iload hx hb dX2_funniest_17 (lv_at hl 4 rfl) ?_
            refine lv_aload_n hx hb dX2_funniest_19 rfl (lv_at hl 0 rfl) ?_
            refine z_get (v := .ref (q 1)) hx hb hts hown hX kX2 6 (by decide) (hH.at 0 rfl) rfl q2016 (fun _ h9 => h9) dX2_funniest_20 ?_
            refine lv_iconst (v := nI 0) hx hb dX2_funniest_23 (by decide) ?_
            refine z_iald (x := nI (M 1 0)) hx hb hX (k := 0)  (hH.at 1 rfl) rfl (by omega) (by omega) rfl dX2_funniest_24 ?_
            have hbd_5 := hbw 0 (by omega) (by omega)
            refine z_icmp_ge (tgt := 52) hx hb dX2_funniest_25 (by decide) (by omega) (by omega) (fun c_25_6 => ?_) (fun c_25_6 => ?_)
            · skip
              have dc_25_6 := Nat.not_lt.mp c_25_6
              refine lv_iload_n hx hb dX2_funniest_52 rfl (lv_at hl 3 rfl) ?_
              refine lv_iload_n hx hb dX2_funniest_53 rfl (lv_at hl 1 rfl) ?_
              refine lv_icmp_ne (tgt := 59) hx hb dX2_funniest_54 (by decide) (fun c_54_7 => ?_) (fun c_54_7 => ?_)
              · skip
                refine lv_iinc (v := nI (i + 1)) (lv' := [(2, .int (nI (i + 1))), (0, .ref (q 0)), (1, .int (a)), (3, .int (nI (cN (fun y => fnr (M 1) y i) j))), (4, .int (nI j))]) hx hb dX2_funniest_59 hl (k := 2) rfl (nI_1 _) (by decide) rfl (fun ls hl => ?_)
                refine lv_goto (tgt := 2) hx hb dX2_funniest_62 (by decide) ?_
                exact ih2 (i + 1) (by omega) (by omega) (fO_n hf (by have e : j = M 1 0 := (by omega); subst e; simp [c_9_3, c_25_6, dc_25_6, c_54_7])) _ _ hH ls (lv_sub hl [1, 2, 0] rfl)
              · skip
                refine lv_iload_n hx hb dX2_funniest_57 rfl (lv_at hl 2 rfl) ?_
                exact z_iret hx hb hr hlocks hH (u := ()) (by have e : j = M 1 0 := (by omega); subst e; rw [fO_mono (fO_y hf (by simp [*])) _ (by omega)]; rfl) ⟨hH.1, hH.2.1⟩ trivial (Nat.le_of_ble_eq_true rfl) (Nat.le_of_ble_eq_true rfl) dX2_funniest_58
            · skip
              refine lv_iload_n hx hb dX2_funniest_28 rfl (lv_at hl 3 rfl) ?_
              refine lv_aload_n hx hb dX2_funniest_29 rfl (lv_at hl 0 rfl) ?_
              refine lv_iload hx hb dX2_funniest_30 (lv_at hl 4 rfl) ?_
              refine lv_iload_n hx hb dX2_funniest_32 rfl (lv_at hl 2 rfl) ?_
              refine z_ci (wr := []) (va_runV (As := [.int (nI j), .int (nI i)]) (rest := [.int (nI (cN (fun y => fnr (M 1) y i) j))]) ⟨hx, hb, hml, hown, hts⟩ (metX2_isFunnier l G dA dS B0 H.size q M j i (by first | exact hja | assumption | omega) (by first | exact hjb | assumption | omega) B (by first | exact hrb | assumption | omega) (by first | exact hBb | assumption | omega)) (cwV 2 hts (lw_V q2322 q2324 qs62 q91 q2325) rfl rfl rfl (by decide +kernel) ⟨Nat.le_of_ble_eq_true rfl, Nat.le_of_ble_eq_true rfl⟩) (zPV hX hH hB hAB (z_recv hX kX2 (hH.at 0 rfl)) [0, 1, 2, 3, 4, 5, 6, 7, 8] rfl rfl trivial) rfl rfl hl.1 rfl (lv_room (Nat.le_of_ble_eq_true rfl)) dX2_funniest_33 ⟨(Nat.le_of_ble_eq_true rfl), (Nat.le_of_ble_eq_true rfl)⟩) hH hA [0, 1, 2, 3, 4, 5, 6, 7, 8] [] rfl rfl (by decide) (by decide) (fun r_8 u_r_8 H locs hw_r_8 hH hR_r_8 hk_r_8 => ?_)
              obtain rfl := hw_r_8
              have hH : zH G A s.heap (mW dA q M) H locs := hH
              refine z_ifeqB (b := fnr (M 1) j i) (tgt := 43) hx hb dX2_funniest_36 (by decide) (fun c_36_9 => ?_) (fun c_36_9 => ?_)
              · skip
                refine lv_iconst (v := nI 0) hx hb dX2_funniest_43 (by decide) ?_
                refine lv_iadd hx hb dX2_funniest_44 ?_
                refine z_topi (y := nI (cN (fun y => fnr (M 1) y i) j)) (nI_add _ _) ?_
                refine lv_istore_n (lv' := [(3, .int (nI (cN (fun y => fnr (M 1) y i) j))), (0, .ref (q 0)), (1, .int (a)), (2, .int (nI i)), (4, .int (nI j))]) hx hb dX2_funniest_45 rfl hl (by decide) rfl (fun ls hl => ?_)
                refine lv_iinc (v := nI (j + 1)) (lv' := [(4, .int (nI (j + 1))), (3, .int (nI (cN (fun y => fnr (M 1) y i) j))), (0, .ref (q 0)), (1, .int (a)), (2, .int (nI i))]) hx hb dX2_funniest_46 hl (k := 4) rfl (nI_1 _) (by decide) rfl (fun ls hl => ?_)
                refine lv_goto (tgt := 17) hx hb dX2_funniest_49 (by decide) ?_
                have ev_10 : nI (cN (fun y => fnr (M 1) y i) j) = nI (cN (fun y => fnr (M 1) y i) (j + 1)) := by first | rfl | (congr 1; done) | (congr 1; simp [cN, bN, c_9_3, c_25_6, c_36_9]; done) | (congr 1; simp [cN, bN, c_9_3, c_25_6, c_36_9]; omega)
                have hl : lv_has ls 5 [(0, .ref (q 0)), (1, .int (a)), (2, .int (nI i)), (3, .int (nI (cN (fun y => fnr (M 1) y i) (j + 1)))), (4, .int (nI (j + 1)))] := z_lv (lv_sub hl [2, 3, 4, 1, 0] rfl) (by rw [ev_10] <;> rfl)
                exact ih17 (j + 1) (by omega) (by omega) _ _ hH ls (lv_sub hl [0, 1, 2, 3, 4] rfl)
              · skip
                refine lv_iconst (v := nI 1) hx hb dX2_funniest_39 (by decide) ?_
                refine lv_goto (tgt := 44) hx hb dX2_funniest_40 (by decide) ?_
                refine lv_iadd hx hb dX2_funniest_44 ?_
                refine z_topi (y := nI (cN (fun y => fnr (M 1) y i) j + 1)) (nI_add _ _) ?_
                refine lv_istore_n (lv' := [(3, .int (nI (cN (fun y => fnr (M 1) y i) j + 1))), (0, .ref (q 0)), (1, .int (a)), (2, .int (nI i)), (4, .int (nI j))]) hx hb dX2_funniest_45 rfl hl (by decide) rfl (fun ls hl => ?_)
                refine lv_iinc (v := nI (j + 1)) (lv' := [(4, .int (nI (j + 1))), (3, .int (nI (cN (fun y => fnr (M 1) y i) j + 1))), (0, .ref (q 0)), (1, .int (a)), (2, .int (nI i))]) hx hb dX2_funniest_46 hl (k := 4) rfl (nI_1 _) (by decide) rfl (fun ls hl => ?_)
                refine lv_goto (tgt := 17) hx hb dX2_funniest_49 (by decide) ?_
                have ev_11 : nI (cN (fun y => fnr (M 1) y i) j + 1) = nI (cN (fun y => fnr (M 1) y i) (j + 1)) := by first | rfl | (congr 1; done) | (congr 1; simp [cN, bN, c_9_3, c_25_6, c_36_9]; done) | (congr 1; simp [cN, bN, c_9_3, c_25_6, c_36_9]; omega)
                have hl : lv_has ls 5 [(0, .ref (q 0)), (1, .int (a)), (2, .int (nI i)), (3, .int (nI (cN (fun y => fnr (M 1) y i) (j + 1)))), (4, .int (nI (j + 1)))] := z_lv (lv_sub hl [2, 3, 4, 1, 0] rfl) (by rw [ev_11] <;> rfl)
                exact ih17 (j + 1) (by omega) (by omega) _ _ hH ls (lv_sub hl [0, 1, 2, 3, 4] rfl)
        have ev_12 : nI 0 = nI (cN (fun y => fnr (M 1) y i) 0) := by first | rfl | (congr 1; done) | (congr 1; simp [cN, bN, c_9_3]; done) | (congr 1; simp [cN, bN, c_9_3]; omega)
        have hl : lv_has ls 5 [(0, .ref (q 0)), (1, .int (a)), (2, .int (nI i)), (3, .int (nI (cN (fun y => fnr (M 1) y i) 0))), (4, .int (nI 0))] := z_lv (lv_sub hl [2, 3, 4, 1, 0] rfl) (by rw [ev_12] <;> rfl)
        exact LP17_3 ((M 1 0 - 0) + 1) 0 (Nat.lt_succ_self _) (by omega) _ _ hH ls (lv_sub hl [0, 1, 2, 3, 4] rfl)
  exact LP2_0 ((M 1 0 - 0) + 1) 0 (Nat.lt_succ_self _) (by omega) (rfl) _ _ hH ls (lv_sub hl [1, 2, 0] rfl)

set_option maxHeartbeats 4000000 in
set_option maxRecDepth 100000 in
theorem metX2_isFuller (l : Launch) (G : va_G) (dA : Nat → ClassId) (dS : Nat → Nat) (B0 sz : Nat) (q : Nat → Nat) (M : mS) (a : Nat) (b : Nat) (ha : a < 4) (hb4 : b < 4) (B : Nat) (hrb : rB (M 1) B) (hBb : B + 20 < 2 ^ 30) : Met l yX2_isFuller (ws_ yX2_isFuller cX2_isFuller 5 (some FieldType.boolean)) ({ frames := 2, cells := 0, slots := 0, locals := 45 }) (zP G dA dS B0 [.ref (q 0), .int (nI a), .int (nI b)] sz (mW dA q M) (fun H => True)) (zQi G (fun (r : Int32) (u : Unit) => r = nI (bN (flr (M 1) a b))) (fun (u : Unit) => mW dA q M) (fun (u : Unit) (H : Heap) => True) (va_A (mW dA q M) sz)) 0 0 (va_A (mW dA q M) sz) := by
  refine zM (by decide) (Nat.le_of_ble_eq_true rfl) ?_
  intro p e s m below meth c ls A H locs hHe hx hb hr hlocks hml hown hname hts hX hsz hB hAe hA hAB hH hRo hl
  have hl : lv_has ls 5 [(0, .ref (q 0)), (1, .int (nI a)), (2, .int (nI b))] := hl
  have hbw := hrb.lt (by omega)
  have h12 := hrb.1
  have hq1 := hrb.2.2.2.2.2.2.2.2.2.2.2.2.2.2.1 a ha
  have hq2 := hrb.2.2.2.2.2.2.2.2.2.2.2.2.2.2.1 b hb4
  refine lv_aload_n hx hb dX2_isFuller_0 rfl (lv_at hl 0 rfl) ?_
  refine lv_iload_n hx hb dX2_isFuller_1 rfl (lv_at hl 1 rfl) ?_
  refine z_ci (wr := []) (va_runV (As := [.int (nI a)]) (rest := []) ⟨hx, hb, hml, hown, hts⟩ (metX2_jokesIn l G dA dS B0 H.size q M a (by first | exact ha | assumption | omega) (by first | exact hbw | assumption | omega) (by first | exact h12 | assumption | omega)) (cwV 1 hts (lw_V q2111 q2113 qs33 q91 q2114) rfl rfl rfl (by decide +kernel) ⟨Nat.le_of_ble_eq_true rfl, Nat.le_of_ble_eq_true rfl⟩) (zPV hX hH hB hAB (z_recv hX kX2 (hH.at 0 rfl)) [0, 1, 2, 3, 4, 5, 6, 7, 8] rfl rfl trivial) rfl rfl hl.1 rfl (lv_room (Nat.le_of_ble_eq_true rfl)) dX2_isFuller_2 ⟨(Nat.le_of_ble_eq_true rfl), (Nat.le_of_ble_eq_true rfl)⟩) hH hA [0, 1, 2, 3, 4, 5, 6, 7, 8] [] rfl rfl (by decide) (by decide) (fun r_1 u_r_1 H locs hw_r_1 hH hR_r_1 hk_r_1 => ?_)
  obtain rfl := hw_r_1
  have hH : zH G A s.heap (mW dA q M) H locs := hH
  have hjl_2 := jin_le (M 1) a
  refine lv_aload_n hx hb dX2_isFuller_5 rfl (lv_at hl 0 rfl) ?_
  refine lv_iload_n hx hb dX2_isFuller_6 rfl (lv_at hl 2 rfl) ?_
  refine z_ci (wr := []) (va_runV (As := [.int (nI b)]) (rest := [.int (nI (jin (M 1) a))]) ⟨hx, hb, hml, hown, hts⟩ (metX2_jokesIn l G dA dS B0 H.size q M b (by first | exact ha | assumption | omega) (by first | exact hbw | assumption | omega) (by first | exact h12 | assumption | omega)) (cwV 1 hts (lw_V q2111 q2113 qs33 q91 q2114) rfl rfl rfl (by decide +kernel) ⟨Nat.le_of_ble_eq_true rfl, Nat.le_of_ble_eq_true rfl⟩) (zPV hX hH hB hAB (z_recv hX kX2 (hH.at 0 rfl)) [0, 1, 2, 3, 4, 5, 6, 7, 8] rfl rfl trivial) rfl rfl hl.1 rfl (lv_room (Nat.le_of_ble_eq_true rfl)) dX2_isFuller_7 ⟨(Nat.le_of_ble_eq_true rfl), (Nat.le_of_ble_eq_true rfl)⟩) hH hA [0, 1, 2, 3, 4, 5, 6, 7, 8] [] rfl rfl (by decide) (by decide) (fun r_3 u_r_3 H locs hw_r_3 hH hR_r_3 hk_r_3 => ?_)
  obtain rfl := hw_r_3
  have hH : zH G A s.heap (mW dA q M) H locs := hH
  have hjl_4 := jin_le (M 1) b
  refine lv_isub hx hb dX2_isFuller_10 ?_
  refine lv_istore_n (lv' := [(3, .int ((nI (jin (M 1) a)) - (nI (jin (M 1) b)))), (0, .ref (q 0)), (1, .int (nI a)), (2, .int (nI b))]) hx hb dX2_isFuller_11 rfl hl (by decide) rfl (fun ls hl => ?_)
  refine lv_aload_n hx hb dX2_isFuller_12 rfl (lv_at hl 1 rfl) ?_
  refine z_get (v := .ref (q 1)) hx hb hts hown hX kX2 6 (by decide) (hH.at 0 rfl) rfl q2016 (fun _ h9 => h9) dX2_isFuller_13 ?_
  refine lv_bipush (v := nI 14) hx hb dX2_isFuller_16 (by decide) ?_
  refine lv_iload_n hx hb dX2_isFuller_18 rfl (lv_at hl 2 rfl) ?_
  refine lv_iadd hx hb dX2_isFuller_19 ?_
  refine z_topi (y := nI (14 + a)) (nI_add _ _) ?_
  refine z_iald (x := nI (M 1 (14 + a))) hx hb hX (k := (14 + a))  (hH.at 1 rfl) rfl (by omega) (by omega) rfl dX2_isFuller_20 ?_
  have hbd_5 := hbw (14 + a) (by omega) (by omega)
  refine lv_aload_n hx hb dX2_isFuller_21 rfl (lv_at hl 1 rfl) ?_
  refine z_get (v := .ref (q 1)) hx hb hts hown hX kX2 6 (by decide) (hH.at 0 rfl) rfl q2016 (fun _ h9 => h9) dX2_isFuller_22 ?_
  refine lv_bipush (v := nI 14) hx hb dX2_isFuller_25 (by decide) ?_
  refine lv_iload_n hx hb dX2_isFuller_27 rfl (lv_at hl 3 rfl) ?_
  refine lv_iadd hx hb dX2_isFuller_28 ?_
  refine z_topi (y := nI (14 + b)) (nI_add _ _) ?_
  refine z_iald (x := nI (M 1 (14 + b))) hx hb hX (k := (14 + b))  (hH.at 1 rfl) rfl (by omega) (by omega) rfl dX2_isFuller_29 ?_
  have hbd_6 := hbw (14 + b) (by omega) (by omega)
  refine lv_isub hx hb dX2_isFuller_30 ?_
  refine lv_istore (lv' := [(4, .int ((nI (M 1 (14 + a))) - (nI (M 1 (14 + b))))), (3, .int ((nI (jin (M 1) a)) - (nI (jin (M 1) b)))), (0, .ref (q 0)), (1, .int (nI a)), (2, .int (nI b))]) hx hb dX2_isFuller_31 hl (by decide) rfl (fun ls hl => ?_)
  refine lv_iload_n hx hb dX2_isFuller_33 rfl (lv_at hl 1 rfl) ?_
  refine lv_if_eq (tgt := 47) hx hb dX2_isFuller_34 (by decide) (fun c_34_7 => ?_) (fun c_34_7 => ?_)
  · skip
    have e34 := (sub_0 (by omega) (by omega)).mp c_34_7
    refine lv_iload hx hb dX2_isFuller_47 (lv_at hl 0 rfl) ?_
    refine lv_if_eq (tgt := 65) hx hb dX2_isFuller_49 (by decide) (fun c_49_8 => ?_) (fun c_49_8 => ?_)
    · skip
      have e49 := (sub_0 (by omega) (by omega)).mp c_49_8
      refine lv_iload_n hx hb dX2_isFuller_65 rfl (lv_at hl 3 rfl) ?_
      refine lv_iload_n hx hb dX2_isFuller_66 rfl (lv_at hl 4 rfl) ?_
      refine z_icmp_ge (tgt := 74) hx hb dX2_isFuller_67 (by decide) (by omega) (by omega) (fun c_67_9 => ?_) (fun c_67_9 => ?_)
      · skip
        have dc_67_9 := Nat.not_lt.mp c_67_9
        refine lv_iconst (v := nI 0) hx hb dX2_isFuller_74 (by decide) ?_
        exact z_zret hx hb hr hlocks hH (by first | rfl | exact z_narB _ | decide) (u := ()) (by rw [show flr (M 1) a b = false from by rw [flr, if_pos e34, if_pos e49]; exact decide_eq_false (by omega)]; rfl) ⟨hH.1, hH.2.1⟩ trivial (Nat.le_of_ble_eq_true rfl) (Nat.le_of_ble_eq_true rfl) dX2_isFuller_75
      · skip
        refine lv_iconst (v := nI 1) hx hb dX2_isFuller_70 (by decide) ?_
        refine lv_goto (tgt := 75) hx hb dX2_isFuller_71 (by decide) ?_
        exact z_zret hx hb hr hlocks hH (by first | rfl | exact z_narB _ | decide) (u := ()) (by rw [show flr (M 1) a b = true from by rw [flr, if_pos e34, if_pos e49]; exact decide_eq_true (by omega)]; rfl) ⟨hH.1, hH.2.1⟩ trivial (Nat.le_of_ble_eq_true rfl) (Nat.le_of_ble_eq_true rfl) dX2_isFuller_75
    · skip
      have e49 := (not_congr (sub_0 (by omega) (by omega))).mp c_49_8
      refine lv_iload hx hb dX2_isFuller_52 (lv_at hl 0 rfl) ?_
      refine lv_if_le (tgt := 61) hx hb dX2_isFuller_54 (by decide) (fun c_54_10 => ?_) (fun c_54_10 => ?_)
      · skip
        have e54 := (sub_p (by omega) (by omega)).mp c_54_10
        refine lv_iconst (v := nI 0) hx hb dX2_isFuller_61 (by decide) ?_
        refine lv_goto (tgt := 75) hx hb dX2_isFuller_62 (by decide) ?_
        exact z_zret hx hb hr hlocks hH (by first | rfl | exact z_narB _ | decide) (u := ()) (by rw [show flr (M 1) a b = false from by rw [flr, if_pos e34, if_neg e49]; exact decide_eq_false (by omega)]; rfl) ⟨hH.1, hH.2.1⟩ trivial (Nat.le_of_ble_eq_true rfl) (Nat.le_of_ble_eq_true rfl) dX2_isFuller_75
      · skip
        have e54 := (not_congr (sub_p (by omega) (by omega))).mp c_54_10
        refine lv_iconst (v := nI 1) hx hb dX2_isFuller_57 (by decide) ?_
        refine lv_goto (tgt := 75) hx hb dX2_isFuller_58 (by decide) ?_
        exact z_zret hx hb hr hlocks hH (by first | rfl | exact z_narB _ | decide) (u := ()) (by rw [show flr (M 1) a b = true from by rw [flr, if_pos e34, if_neg e49]; exact decide_eq_true (by omega)]; rfl) ⟨hH.1, hH.2.1⟩ trivial (Nat.le_of_ble_eq_true rfl) (Nat.le_of_ble_eq_true rfl) dX2_isFuller_75
  · skip
    have e34 := (not_congr (sub_0 (by omega) (by omega))).mp c_34_7
    refine lv_iload_n hx hb dX2_isFuller_37 rfl (lv_at hl 1 rfl) ?_
    refine lv_if_le (tgt := 45) hx hb dX2_isFuller_38 (by decide) (fun c_38_11 => ?_) (fun c_38_11 => ?_)
    · skip
      have e38 := (sub_p (by omega) (by omega)).mp c_38_11
      refine lv_iconst (v := nI 0) hx hb dX2_isFuller_45 (by decide) ?_
      exact z_zret hx hb hr hlocks hH (by first | rfl | exact z_narB _ | decide) (u := ()) (by rw [show flr (M 1) a b = false from by rw [flr, if_neg e34]; exact decide_eq_false (by omega)]; rfl) ⟨hH.1, hH.2.1⟩ trivial (Nat.le_of_ble_eq_true rfl) (Nat.le_of_ble_eq_true rfl) dX2_isFuller_46
    · skip
      have e38 := (not_congr (sub_p (by omega) (by omega))).mp c_38_11
      refine lv_iconst (v := nI 1) hx hb dX2_isFuller_41 (by decide) ?_
      refine lv_goto (tgt := 46) hx hb dX2_isFuller_42 (by decide) ?_
      exact z_zret hx hb hr hlocks hH (by first | rfl | exact z_narB _ | decide) (u := ()) (by rw [show flr (M 1) a b = true from by rw [flr, if_neg e34]; exact decide_eq_true (by omega)]; rfl) ⟨hH.1, hH.2.1⟩ trivial (Nat.le_of_ble_eq_true rfl) (Nat.le_of_ble_eq_true rfl) dX2_isFuller_46

set_option maxHeartbeats 4000000 in
set_option maxRecDepth 100000 in
theorem metX2_fullest (l : Launch) (G : va_G) (dA : Nat → ClassId) (dS : Nat → Nat) (B0 sz : Nat) (q : Nat → Nat) (M : mS) (a : Int32) (B : Nat) (hrb : rB (M 1) B) (hBb : B + 20 < 2 ^ 30) : Met l yX2_fullest (ws_ yX2_fullest cX2_fullest 5 (some FieldType.int)) ({ frames := 3, cells := 0, slots := 0, locals := 69 }) (zP G dA dS B0 [.ref (q 0), .int (a)] sz (mW dA q M) (fun H => True)) (zQi G (fun (r : Int32) (u : Unit) => r = oI (fO (fun x => decide (nI (cN (fun y => flr (M 1) y x) 4) = a)) 4)) (fun (u : Unit) => mW dA q M) (fun (u : Unit) (H : Heap) => True) (va_A (mW dA q M) sz)) 0 0 (va_A (mW dA q M) sz) := by
  refine zM (by decide) (Nat.le_of_ble_eq_true rfl) ?_
  intro p e s m below meth c ls A H locs hHe hx hb hr hlocks hml hown hname hts hX hsz hB hAe hA hAB hH hRo hl
  have hl : lv_has ls 5 [(0, .ref (q 0)), (1, .int (a))] := hl
  have hbw := hrb.lt (by omega)
  have h12 := hrb.1
  refine lv_iconst (v := nI 0) hx hb dX2_fullest_0 (by decide) ?_
  refine lv_istore_n (lv' := [(2, .int (nI 0)), (0, .ref (q 0)), (1, .int (a))]) hx hb dX2_fullest_1 rfl hl (by decide) rfl (fun ls hl => ?_)
  have LP2_0 : ∀ (fuel : Nat) (i : Nat) (hfu : (4 - i) < fuel) (hi : i ≤ 4) (hf : fO (fun x => decide (nI (cN (fun y => flr (M 1) y x) 4) = a)) i = none) (H : Heap) (locs : List Loc), zH G A s.heap (mW dA q M) H locs → ∀ (ls : Array Slot), lv_has ls 5 [(0, .ref (q 0)), (1, .int (a)), (2, .int (nI i))] → W p l e (headSpec (ws_ yX2_fullest cX2_fullest 5 (some FieldType.int)) ({ frames := 3, cells := 0, slots := 0, locals := 69 })).room s m ([.ref (q 0), .int (a)] : List Value).toArray below meth c H locs 0 0 (MQ below (zQi G (fun (r : Int32) (u : Unit) => r = oI (fO (fun x => decide (nI (cN (fun y => flr (M 1) y x) 4) = a)) 4)) (fun (u : Unit) => mW dA q M) (fun (u : Unit) (H : Heap) => True) A) ([.ref (q 0), .int (a)] : List Value).toArray s 0 0 A) (F0 m 2 ls []) := by
    intro fuel
    induction fuel with
    | zero => intro i hfu; exact absurd hfu (Nat.not_lt_zero _)
    | succ fuel ih2 =>
      intro i hfu hi hf H locs hH ls hl
      refine lv_iload_n hx hb dX2_fullest_2 rfl (lv_at hl 2 rfl) ?_
      refine lv_iconst (v := nI 4) hx hb dX2_fullest_3 (by decide) ?_
      refine z_icmp_ge (tgt := 55) hx hb dX2_fullest_4 (by decide) (by omega) (by omega) (fun c_4_2 => ?_) (fun c_4_2 => ?_)
      · skip
        have dc_4_2 := Nat.not_lt.mp c_4_2
        refine lv_iconst (v := (-1)) hx hb dX2_fullest_55 (by decide) ?_
        exact z_iret hx hb hr hlocks hH (u := ()) (by have e : i = 4 := (by omega); subst e; rw [hf]; rfl) ⟨hH.1, hH.2.1⟩ trivial (Nat.le_of_ble_eq_true rfl) (Nat.le_of_ble_eq_true rfl) dX2_fullest_56
      · skip
        refine lv_iconst (v := nI 0) hx hb dX2_fullest_7 (by decide) ?_
        refine lv_istore_n (lv' := [(3, .int (nI 0)), (0, .ref (q 0)), (1, .int (a)), (2, .int (nI i))]) hx hb dX2_fullest_8 rfl hl (by decide) rfl (fun ls hl => ?_)
        refine lv_iconst (v := nI 0) hx hb dX2_fullest_9 (by decide) ?_
        refine lv_istore (lv' := [(4, .int (nI 0)), (3, .int (nI 0)), (0, .ref (q 0)), (1, .int (a)), (2, .int (nI i))]) hx hb dX2_fullest_10 hl (by decide) rfl (fun ls hl => ?_)
        have LP12_2 : ∀ (fuel : Nat) (j : Nat) (hfu : (4 - j) < fuel) (hj : j ≤ 4) (H : Heap) (locs : List Loc), zH G A s.heap (mW dA q M) H locs → ∀ (ls : Array Slot), lv_has ls 5 [(0, .ref (q 0)), (1, .int (a)), (2, .int (nI i)), (3, .int (nI (cN (fun y => flr (M 1) y i) j))), (4, .int (nI j))] → W p l e (headSpec (ws_ yX2_fullest cX2_fullest 5 (some FieldType.int)) ({ frames := 3, cells := 0, slots := 0, locals := 69 })).room s m ([.ref (q 0), .int (a)] : List Value).toArray below meth c H locs 0 0 (MQ below (zQi G (fun (r : Int32) (u : Unit) => r = oI (fO (fun x => decide (nI (cN (fun y => flr (M 1) y x) 4) = a)) 4)) (fun (u : Unit) => mW dA q M) (fun (u : Unit) (H : Heap) => True) A) ([.ref (q 0), .int (a)] : List Value).toArray s 0 0 A) (F0 m 12 ls []) := by
          intro fuel
          induction fuel with
          | zero => intro j hfu; exact absurd hfu (Nat.not_lt_zero _)
          | succ fuel ih12 =>
            intro j hfu hj H locs hH ls hl
            have hcn := cN_le (fun y => flr (M 1) y i) j
            refine lv_iload hx hb dX2_fullest_12 (lv_at hl 4 rfl) ?_
            refine lv_iconst (v := nI 4) hx hb dX2_fullest_14 (by decide) ?_
            refine z_icmp_ge (tgt := 42) hx hb dX2_fullest_15 (by decide) (by omega) (by omega) (fun c_15_4 => ?_) (fun c_15_4 => ?_)
            · skip
              have dc_15_4 := Nat.not_lt.mp c_15_4
              refine lv_iload_n hx hb dX2_fullest_42 rfl (lv_at hl 3 rfl) ?_
              refine lv_iload_n hx hb dX2_fullest_43 rfl (lv_at hl 1 rfl) ?_
              refine lv_icmp_ne (tgt := 49) hx hb dX2_fullest_44 (by decide) (fun c_44_5 => ?_) (fun c_44_5 => ?_)
              · skip
                refine lv_iinc (v := nI (i + 1)) (lv' := [(2, .int (nI (i + 1))), (0, .ref (q 0)), (1, .int (a)), (3, .int (nI (cN (fun y => flr (M 1) y i) j))), (4, .int (nI j))]) hx hb dX2_fullest_49 hl (k := 2) rfl (nI_1 _) (by decide) rfl (fun ls hl => ?_)
                refine lv_goto (tgt := 2) hx hb dX2_fullest_52 (by decide) ?_
                exact ih2 (i + 1) (by omega) (by omega) (fO_n hf (by have e : j = 4 := (by omega); subst e; simp [c_4_2, c_15_4, dc_15_4, c_44_5])) _ _ hH ls (lv_sub hl [1, 2, 0] rfl)
              · skip
                refine lv_iload_n hx hb dX2_fullest_47 rfl (lv_at hl 2 rfl) ?_
                exact z_iret hx hb hr hlocks hH (u := ()) (by have e : j = 4 := (by omega); subst e; rw [fO_mono (fO_y hf (by simp [*])) _ (by omega)]; rfl) ⟨hH.1, hH.2.1⟩ trivial (Nat.le_of_ble_eq_true rfl) (Nat.le_of_ble_eq_true rfl) dX2_fullest_48
            · skip
              refine lv_iload_n hx hb dX2_fullest_18 rfl (lv_at hl 3 rfl) ?_
              refine lv_aload_n hx hb dX2_fullest_19 rfl (lv_at hl 0 rfl) ?_
              refine lv_iload hx hb dX2_fullest_20 (lv_at hl 4 rfl) ?_
              refine lv_iload_n hx hb dX2_fullest_22 rfl (lv_at hl 2 rfl) ?_
              refine z_ci (wr := []) (va_runV (As := [.int (nI j), .int (nI i)]) (rest := [.int (nI (cN (fun y => flr (M 1) y i) j))]) ⟨hx, hb, hml, hown, hts⟩ (metX2_isFuller l G dA dS B0 H.size q M j i (by first | exact ha | assumption | omega) (by first | exact hb4 | assumption | omega) B (by first | exact hrb | assumption | omega) (by first | exact hBb | assumption | omega)) (cwV 2 hts (lw_V q2334 q2336 qs63 q91 q2337) rfl rfl rfl (by decide +kernel) ⟨Nat.le_of_ble_eq_true rfl, Nat.le_of_ble_eq_true rfl⟩) (zPV hX hH hB hAB (z_recv hX kX2 (hH.at 0 rfl)) [0, 1, 2, 3, 4, 5, 6, 7, 8] rfl rfl trivial) rfl rfl hl.1 rfl (lv_room (Nat.le_of_ble_eq_true rfl)) dX2_fullest_23 ⟨(Nat.le_of_ble_eq_true rfl), (Nat.le_of_ble_eq_true rfl)⟩) hH hA [0, 1, 2, 3, 4, 5, 6, 7, 8] [] rfl rfl (by decide) (by decide) (fun r_6 u_r_6 H locs hw_r_6 hH hR_r_6 hk_r_6 => ?_)
              obtain rfl := hw_r_6
              have hH : zH G A s.heap (mW dA q M) H locs := hH
              refine z_ifeqB (b := flr (M 1) j i) (tgt := 33) hx hb dX2_fullest_26 (by decide) (fun c_26_7 => ?_) (fun c_26_7 => ?_)
              · skip
                refine lv_iconst (v := nI 0) hx hb dX2_fullest_33 (by decide) ?_
                refine lv_iadd hx hb dX2_fullest_34 ?_
                refine z_topi (y := nI (cN (fun y => flr (M 1) y i) j)) (nI_add _ _) ?_
                refine lv_istore_n (lv' := [(3, .int (nI (cN (fun y => flr (M 1) y i) j))), (0, .ref (q 0)), (1, .int (a)), (2, .int (nI i)), (4, .int (nI j))]) hx hb dX2_fullest_35 rfl hl (by decide) rfl (fun ls hl => ?_)
                refine lv_iinc (v := nI (j + 1)) (lv' := [(4, .int (nI (j + 1))), (3, .int (nI (cN (fun y => flr (M 1) y i) j))), (0, .ref (q 0)), (1, .int (a)), (2, .int (nI i))]) hx hb dX2_fullest_36 hl (k := 4) rfl (nI_1 _) (by decide) rfl (fun ls hl => ?_)
                refine lv_goto (tgt := 12) hx hb dX2_fullest_39 (by decide) ?_
                have ev_8 : nI (cN (fun y => flr (M 1) y i) j) = nI (cN (fun y => flr (M 1) y i) (j + 1)) := by first | rfl | (congr 1; done) | (congr 1; simp [cN, bN, c_4_2, c_15_4, c_26_7]; done) | (congr 1; simp [cN, bN, c_4_2, c_15_4, c_26_7]; omega)
                have hl : lv_has ls 5 [(0, .ref (q 0)), (1, .int (a)), (2, .int (nI i)), (3, .int (nI (cN (fun y => flr (M 1) y i) (j + 1)))), (4, .int (nI (j + 1)))] := z_lv (lv_sub hl [2, 3, 4, 1, 0] rfl) (by rw [ev_8] <;> rfl)
                exact ih12 (j + 1) (by omega) (by omega) _ _ hH ls (lv_sub hl [0, 1, 2, 3, 4] rfl)
              · skip
                refine lv_iconst (v := nI 1) hx hb dX2_fullest_29 (by decide) ?_
                refine lv_goto (tgt := 34) hx hb dX2_fullest_30 (by decide) ?_
                refine lv_iadd hx hb dX2_fullest_34 ?_
                refine z_topi (y := nI (cN (fun y => flr (M 1) y i) j + 1)) (nI_add _ _) ?_
                refine lv_istore_n (lv' := [(3, .int (nI (cN (fun y => flr (M 1) y i) j + 1))), (0, .ref (q 0)), (1, .int (a)), (2, .int (nI i)), (4, .int (nI j))]) hx hb dX2_fullest_35 rfl hl (by decide) rfl (fun ls hl => ?_)
                refine lv_iinc (v := nI (j + 1)) (lv' := [(4, .int (nI (j + 1))), (3, .int (nI (cN (fun y => flr (M 1) y i) j + 1))), (0, .ref (q 0)), (1, .int (a)), (2, .int (nI i))]) hx hb dX2_fullest_36 hl (k := 4) rfl (nI_1 _) (by decide) rfl (fun ls hl => ?_)
                refine lv_goto (tgt := 12) hx hb dX2_fullest_39 (by decide) ?_
                have ev_9 : nI (cN (fun y => flr (M 1) y i) j + 1) = nI (cN (fun y => flr (M 1) y i) (j + 1)) := by first | rfl | (congr 1; done) | (congr 1; simp [cN, bN, c_4_2, c_15_4, c_26_7]; done) | (congr 1; simp [cN, bN, c_4_2, c_15_4, c_26_7]; omega)
                have hl : lv_has ls 5 [(0, .ref (q 0)), (1, .int (a)), (2, .int (nI i)), (3, .int (nI (cN (fun y => flr (M 1) y i) (j + 1)))), (4, .int (nI (j + 1)))] := z_lv (lv_sub hl [2, 3, 4, 1, 0] rfl) (by rw [ev_9] <;> rfl)
                exact ih12 (j + 1) (by omega) (by omega) _ _ hH ls (lv_sub hl [0, 1, 2, 3, 4] rfl)
        have ev_10 : nI 0 = nI (cN (fun y => flr (M 1) y i) 0) := by first | rfl | (congr 1; done) | (congr 1; simp [cN, bN, c_4_2]; done) | (congr 1; simp [cN, bN, c_4_2]; omega)
        have hl : lv_has ls 5 [(0, .ref (q 0)), (1, .int (a)), (2, .int (nI i)), (3, .int (nI (cN (fun y => flr (M 1) y i) 0))), (4, .int (nI 0))] := z_lv (lv_sub hl [2, 3, 4, 1, 0] rfl) (by rw [ev_10] <;> rfl)
        exact LP12_2 ((4 - 0) + 1) 0 (Nat.lt_succ_self _) (by omega) _ _ hH ls (lv_sub hl [0, 1, 2, 3, 4] rfl)
  exact LP2_0 ((4 - 0) + 1) 0 (Nat.lt_succ_self _) (by omega) (rfl) _ _ hH ls (lv_sub hl [1, 2, 0] rfl)

set_option maxHeartbeats 4000000 in
set_option maxRecDepth 100000 in
theorem metX2_isCounted (l : Launch) (G : va_G) (dA : Nat → ClassId) (dS : Nat → Nat) (B0 sz : Nat) (q : Nat → Nat) (M : mS) (B : Nat) (hrb : rB (M 1) B) (hBb : B + 20 < 2 ^ 30) : Met l yX2_isCounted (ws_ yX2_isCounted cX2_isCounted 2 (some FieldType.boolean)) ({ frames := 2, cells := 0, slots := 0, locals := 62 }) (zP G dA dS B0 [.ref (q 0)] sz (mW dA q M) (fun H => True)) (zQi G (fun (r : Int32) (u : Unit) => r = nI (bN (aCounted (M 1)))) (fun (u : Unit) => mW dA q M) (fun (u : Unit) (H : Heap) => True) (va_A (mW dA q M) sz)) 0 0 (va_A (mW dA q M) sz) := by
  refine zM (by decide) (Nat.le_of_ble_eq_true rfl) ?_
  intro p e s m below meth c ls A H locs hHe hx hb hr hlocks hml hown hname hts hX hsz hB hAe hA hAB hH hRo hl
  have hl : lv_has ls 2 [(0, .ref (q 0))] := hl
  have hbw := hrb.lt (by omega)
  have h12 := hrb.1
  have hw11 := hrb.2.2.2.2.2.2.2.2.2.2.2.2.2.1
  have hw6 := hrb.2.1
  have hw7 := hrb.2.2.2.2.2.2.2.2.2.1
  have hw8 := hrb.2.2.2.2.2.2.2.2.2.2.1
  refine lv_iconst (v := nI 0) hx hb dX2_isCounted_0 (by decide) ?_
  refine lv_istore_n (lv' := [(1, .int (nI 0)), (0, .ref (q 0))]) hx hb dX2_isCounted_1 rfl hl (by decide) rfl (fun ls hl => ?_)
  have LP2_0 : ∀ (fuel : Nat) (i : Nat) (hfu : (M 1 0 - i) < fuel) (hi : i ≤ M 1 0) (hf : fO (fun k => kn (M 1) (jk (M 1) k 2)) i = none) (H : Heap) (locs : List Loc), zH G A s.heap (mW dA q M) H locs → ∀ (ls : Array Slot), lv_has ls 2 [(0, .ref (q 0)), (1, .int (nI i))] → W p l e (headSpec (ws_ yX2_isCounted cX2_isCounted 2 (some FieldType.boolean)) ({ frames := 2, cells := 0, slots := 0, locals := 62 })).room s m ([.ref (q 0)] : List Value).toArray below meth c H locs 0 0 (MQ below (zQi G (fun (r : Int32) (u : Unit) => r = nI (bN (aCounted (M 1)))) (fun (u : Unit) => mW dA q M) (fun (u : Unit) (H : Heap) => True) A) ([.ref (q 0)] : List Value).toArray s 0 0 A) (F0 m 2 ls []) := by
    intro fuel
    induction fuel with
    | zero => intro i hfu; exact absurd hfu (Nat.not_lt_zero _)
    | succ fuel ih2 =>
      intro i hfu hi hf H locs hH ls hl
      refine lv_iload_n hx hb dX2_isCounted_2 rfl (lv_at hl 1 rfl) ?_
      refine lv_aload_n hx hb dX2_isCounted_3 rfl (lv_at hl 0 rfl) ?_
      refine z_get (v := .ref (q 1)) hx hb hts hown hX kX2 6 (by decide) (hH.at 0 rfl) rfl q2016 (fun _ h9 => h9) dX2_isCounted_4 ?_
      refine lv_iconst (v := nI 0) hx hb dX2_isCounted_7 (by decide) ?_
      refine z_iald (x := nI (M 1 0)) hx hb hX (k := 0)  (hH.at 1 rfl) rfl (by omega) (by omega) rfl dX2_isCounted_8 ?_
      have hbd_2 := hbw 0 (by omega) (by omega)
      refine z_icmp_ge (tgt := 33) hx hb dX2_isCounted_9 (by decide) (by omega) (by omega) (fun c_9_3 => ?_) (fun c_9_3 => ?_)
      · skip
        have dc_9_3 := Nat.not_lt.mp c_9_3
        refine lv_aload_n hx hb dX2_isCounted_33 rfl (lv_at hl 0 rfl) ?_
        refine z_get (v := .ref (q 1)) hx hb hts hown hX kX2 6 (by decide) (hH.at 0 rfl) rfl q2016 (fun _ h9 => h9) dX2_isCounted_34 ?_
        refine lv_bipush (v := nI 7) hx hb dX2_isCounted_37 (by decide) ?_
        refine z_iald (x := nI (M 1 7)) hx hb hX (k := 7)  (hH.at 1 rfl) rfl (by omega) (by omega) rfl dX2_isCounted_39 ?_
        have hbd_4 := hbw 7 (by omega) (by omega)
        refine lv_aload_n hx hb dX2_isCounted_40 rfl (lv_at hl 0 rfl) ?_
        refine z_get (v := .ref (q 1)) hx hb hts hown hX kX2 6 (by decide) (hH.at 0 rfl) rfl q2016 (fun _ h9 => h9) dX2_isCounted_41 ?_
        refine lv_iconst (v := nI 0) hx hb dX2_isCounted_44 (by decide) ?_
        refine z_iald (x := nI (M 1 0)) hx hb hX (k := 0)  (hH.at 1 rfl) rfl (by omega) (by omega) rfl dX2_isCounted_45 ?_
        have hbd_5 := hbw 0 (by omega) (by omega)
        refine lv_aload_n hx hb dX2_isCounted_46 rfl (lv_at hl 0 rfl) ?_
        refine z_get (v := .ref (q 1)) hx hb hts hown hX kX2 6 (by decide) (hH.at 0 rfl) rfl q2016 (fun _ h9 => h9) dX2_isCounted_47 ?_
        refine lv_bipush (v := nI 6) hx hb dX2_isCounted_50 (by decide) ?_
        refine z_iald (x := nI (M 1 6)) hx hb hX (k := 6)  (hH.at 1 rfl) rfl (by omega) (by omega) rfl dX2_isCounted_52 ?_
        have hbd_6 := hbw 6 (by omega) (by omega)
        refine lv_iadd hx hb dX2_isCounted_53 ?_
        refine z_topi (y := nI (M 1 0 + M 1 6)) (nI_add _ _) ?_
        refine lv_aload_n hx hb dX2_isCounted_54 rfl (lv_at hl 0 rfl) ?_
        refine z_get (v := .ref (q 1)) hx hb hts hown hX kX2 6 (by decide) (hH.at 0 rfl) rfl q2016 (fun _ h9 => h9) dX2_isCounted_55 ?_
        refine lv_bipush (v := nI 8) hx hb dX2_isCounted_58 (by decide) ?_
        refine z_iald (x := nI (M 1 8)) hx hb hX (k := 8)  (hH.at 1 rfl) rfl (by omega) (by omega) rfl dX2_isCounted_60 ?_
        have hbd_7 := hbw 8 (by omega) (by omega)
        refine lv_iadd hx hb dX2_isCounted_61 ?_
        refine z_topi (y := nI ((M 1 0 + M 1 6) + M 1 8)) (nI_add _ _) ?_
        refine z_icmp_ne (tgt := 86) hx hb dX2_isCounted_62 (by decide) (by omega) (by omega) (fun c_62_8 => ?_) (fun c_62_8 => ?_)
        · skip
          refine lv_iconst (v := nI 0) hx hb dX2_isCounted_86 (by decide) ?_
          exact z_zret hx hb hr hlocks hH (by first | rfl | exact z_narB _ | decide) (u := ()) (by have e : i = M 1 0 := (by omega); subst e; unfold aCounted; rw [hf]; simp only [Option.isSome_none, Bool.false_eq_true, if_false]; rw [decide_eq_false c_62_8]; rfl) ⟨hH.1, hH.2.1⟩ trivial (Nat.le_of_ble_eq_true rfl) (Nat.le_of_ble_eq_true rfl) dX2_isCounted_87
        · skip
          refine lv_aload_n hx hb dX2_isCounted_65 rfl (lv_at hl 0 rfl) ?_
          refine z_cf (wr := []) (va_runV (As := []) (rest := []) ⟨hx, hb, hml, hown, hts⟩ (metX2_laughs l G dA dS B0 H.size q M B (by first | exact hrb | assumption | omega) (by first | exact hBb | assumption | omega)) (cwV 0 hts (lw_V q2280 q2269 q2270 q91 q2271) rfl rfl rfl (by decide +kernel) ⟨Nat.le_of_ble_eq_true rfl, Nat.le_of_ble_eq_true rfl⟩) (zPV hX hH hB hAB (z_recv hX kX2 (hH.at 0 rfl)) [0, 1, 2, 3, 4, 5, 6, 7, 8] rfl rfl trivial) rfl rfl hl.1 rfl (lv_room (Nat.le_of_ble_eq_true rfl)) dX2_isCounted_66 ⟨(Nat.le_of_ble_eq_true rfl), (Nat.le_of_ble_eq_true rfl)⟩) hH hA [0, 1, 2, 3, 4, 5, 6, 7, 8] [] rfl rfl (by decide) (by decide) (fun r_9 u_r_9 H locs hw_r_9 hH hR_r_9 hk_r_9 => ?_)
          obtain rfl := hw_r_9
          have hH : zH G A s.heap (mW dA q M) H locs := hH
          refine z_ci (wr := mW dA q M) (va_runS (As := [.float (UInt32.ofNat (M 1 11))]) (rest := []) ⟨hx, hb, hml, hown, hts⟩ (metJ19_floatToIntBits l G dA dS B0 H.size (M 1 11) (by omega)) (va_cwS 1 hts (lw_S q2248 q1416 q126 q1417) rfl rfl rfl (by decide +kernel) ⟨Nat.le_of_ble_eq_true rfl, Nat.le_of_ble_eq_true rfl⟩) (zPS hX hH hB hAB [] rfl rfl trivial) rfl rfl hl.1 rfl (lv_room (Nat.le_of_ble_eq_true rfl)) dX2_isCounted_69 ⟨(Nat.le_of_ble_eq_true rfl), (Nat.le_of_ble_eq_true rfl)⟩) hH hA [] [0, 1, 2, 3, 4, 5, 6, 7, 8] rfl rfl (by decide) (by decide) (fun r_10 u_r_10 H locs hw_r_10 hH hR_r_10 hk_r_10 => ?_)
          obtain rfl := hw_r_10
          have hH : zH G A s.heap (mW dA q M) H locs := hH
          refine lv_aload_n hx hb dX2_isCounted_72 rfl (lv_at hl 0 rfl) ?_
          refine z_cf (wr := []) (va_runV (As := []) (rest := [.int (nI (M 1 11))]) ⟨hx, hb, hml, hown, hts⟩ (metX2_laughsAgain l G dA dS B0 H.size q M B (by first | exact hrb | assumption | omega) (by first | exact hBb | assumption | omega)) (cwV 0 hts (lw_V q2342 q2273 q2274 q91 q2275) rfl rfl rfl (by decide +kernel) ⟨Nat.le_of_ble_eq_true rfl, Nat.le_of_ble_eq_true rfl⟩) (zPV hX hH hB hAB (z_recv hX kX2 (hH.at 0 rfl)) [0, 1, 2, 3, 4, 5, 6, 7, 8] rfl rfl trivial) rfl rfl hl.1 rfl (lv_room (Nat.le_of_ble_eq_true rfl)) dX2_isCounted_73 ⟨(Nat.le_of_ble_eq_true rfl), (Nat.le_of_ble_eq_true rfl)⟩) hH hA [0, 1, 2, 3, 4, 5, 6, 7, 8] [] rfl rfl (by decide) (by decide) (fun r_11 u_r_11 H locs hw_r_11 hH hR_r_11 hk_r_11 => ?_)
          obtain rfl := hw_r_11
          have hH : zH G A s.heap (mW dA q M) H locs := hH
          have hls_12 := lsum_le hrb (M 1 6) (by omega)
          refine z_ci (wr := mW dA q M) (va_runS (As := [.float (UInt32.ofNat (lsum (M 1) (M 1 6)))]) (rest := [.int (nI (M 1 11))]) ⟨hx, hb, hml, hown, hts⟩ (metJ19_floatToIntBits l G dA dS B0 H.size (lsum (M 1) (M 1 6)) (by omega)) (va_cwS 1 hts (lw_S q2248 q1416 q126 q1417) rfl rfl rfl (by decide +kernel) ⟨Nat.le_of_ble_eq_true rfl, Nat.le_of_ble_eq_true rfl⟩) (zPS hX hH hB hAB [] rfl rfl trivial) rfl rfl hl.1 rfl (lv_room (Nat.le_of_ble_eq_true rfl)) dX2_isCounted_76 ⟨(Nat.le_of_ble_eq_true rfl), (Nat.le_of_ble_eq_true rfl)⟩) hH hA [] [0, 1, 2, 3, 4, 5, 6, 7, 8] rfl rfl (by decide) (by decide) (fun r_13 u_r_13 H locs hw_r_13 hH hR_r_13 hk_r_13 => ?_)
          obtain rfl := hw_r_13
          have hH : zH G A s.heap (mW dA q M) H locs := hH
          refine z_icmp_ne (tgt := 86) hx hb dX2_isCounted_79 (by decide) (by omega) (by omega) (fun c_79_14 => ?_) (fun c_79_14 => ?_)
          · skip
            refine lv_iconst (v := nI 0) hx hb dX2_isCounted_86 (by decide) ?_
            exact z_zret hx hb hr hlocks hH (by first | rfl | exact z_narB _ | decide) (u := ()) (by have e : i = M 1 0 := (by omega); subst e; unfold aCounted; rw [hf]; simp only [Option.isSome_none, Bool.false_eq_true, if_false]; rw [decide_eq_true c_62_8, decide_eq_false c_79_14]; rfl) ⟨hH.1, hH.2.1⟩ trivial (Nat.le_of_ble_eq_true rfl) (Nat.le_of_ble_eq_true rfl) dX2_isCounted_87
          · skip
            refine lv_iconst (v := nI 1) hx hb dX2_isCounted_82 (by decide) ?_
            refine lv_goto (tgt := 87) hx hb dX2_isCounted_83 (by decide) ?_
            exact z_zret hx hb hr hlocks hH (by first | rfl | exact z_narB _ | decide) (u := ()) (by have e : i = M 1 0 := (by omega); subst e; unfold aCounted; rw [hf]; simp only [Option.isSome_none, Bool.false_eq_true, if_false]; rw [decide_eq_true c_62_8, decide_eq_true c_79_14]; rfl) ⟨hH.1, hH.2.1⟩ trivial (Nat.le_of_ble_eq_true rfl) (Nat.le_of_ble_eq_true rfl) dX2_isCounted_87
      · skip
        refine lv_aload_n hx hb dX2_isCounted_12 rfl (lv_at hl 0 rfl) ?_
        refine lv_aload_n hx hb dX2_isCounted_13 rfl (lv_at hl 0 rfl) ?_
        refine lv_iload_n hx hb dX2_isCounted_14 rfl (lv_at hl 1 rfl) ?_
        refine lv_iconst (v := nI 2) hx hb dX2_isCounted_15 (by decide) ?_
        refine z_ci (wr := []) (va_runV (As := [.int (nI i), .int (nI 2)]) (rest := [.ref (q 0)]) ⟨hx, hb, hml, hown, hts⟩ (metX2_is l G dA dS B0 H.size q M i 2 (by first | exact hk | assumption | omega) (by first | exact hj | assumption | omega)) (cwV 2 hts (lw_V q2103 q2105 qs31 q91 q2106) rfl rfl rfl (by decide +kernel) ⟨Nat.le_of_ble_eq_true rfl, Nat.le_of_ble_eq_true rfl⟩) (zPV hX hH hB hAB (z_recv hX kX2 (hH.at 0 rfl)) [0, 1, 2, 3, 4, 5, 6, 7, 8] rfl rfl trivial) rfl rfl hl.1 rfl (lv_room (Nat.le_of_ble_eq_true rfl)) dX2_isCounted_16 ⟨(Nat.le_of_ble_eq_true rfl), (Nat.le_of_ble_eq_true rfl)⟩) hH hA [0, 1, 2, 3, 4, 5, 6, 7, 8] [] rfl rfl (by decide) (by decide) (fun r_15 u_r_15 H locs hw_r_15 hH hR_r_15 hk_r_15 => ?_)
        obtain rfl := hw_r_15
        have hH : zH G A s.heap (mW dA q M) H locs := hH
        have hbd_16 : jk (M 1) i 2 < 2 ^ 31 := hbw _ (by omega) (by omega)
        have hjk := hrb.2.2.1 i (by omega)
        refine z_ci (wr := []) (va_runV (As := [.int (nI (jk (M 1) i 2))]) (rest := []) ⟨hx, hb, hml, hown, hts⟩ (metX2_isKnownSign l G dA dS B0 H.size q M (jk (M 1) i 2) (by omega) (hrb.lt32 (by omega) _)) (cwV 1 hts (lw_V q2091 q2093 qs28 q91 q2094) rfl rfl rfl (by decide +kernel) ⟨Nat.le_of_ble_eq_true rfl, Nat.le_of_ble_eq_true rfl⟩) (zPV hX hH hB hAB (z_recv hX kX2 (hH.at 0 rfl)) [0, 1, 2, 3, 4, 5, 6, 7, 8] rfl rfl trivial) rfl rfl hl.1 rfl (lv_room (Nat.le_of_ble_eq_true rfl)) dX2_isCounted_19 ⟨(Nat.le_of_ble_eq_true rfl), (Nat.le_of_ble_eq_true rfl)⟩) hH hA [0, 1, 2, 3, 4, 5, 6, 7, 8] [] rfl rfl (by decide) (by decide) (fun r_17 u_r_17 H locs hw_r_17 hH hR_r_17 hk_r_17 => ?_)
        obtain rfl := hw_r_17
        have hH : zH G A s.heap (mW dA q M) H locs := hH
        refine z_ifeqB (b := kn (M 1) (jk (M 1) i 2)) (tgt := 27) hx hb dX2_isCounted_22 (by decide) (fun c_22_18 => ?_) (fun c_22_18 => ?_)
        · skip
          refine lv_iinc (v := nI (i + 1)) (lv' := [(1, .int (nI (i + 1))), (0, .ref (q 0))]) hx hb dX2_isCounted_27 hl (k := 1) rfl (nI_1 _) (by decide) rfl (fun ls hl => ?_)
          refine lv_goto (tgt := 2) hx hb dX2_isCounted_30 (by decide) ?_
          exact ih2 (i + 1) (by omega) (by omega) (fO_n hf (by simp [c_9_3, c_22_18])) _ _ hH ls (lv_sub hl [1, 0] rfl)
        · skip
          refine lv_iconst (v := nI 0) hx hb dX2_isCounted_25 (by decide) ?_
          exact z_zret hx hb hr hlocks hH (by first | rfl | exact z_narB _ | decide) (u := ()) (by unfold aCounted; rw [fO_mono (fO_y hf (by simp [*])) (M 1 0) (by omega)]; rfl) ⟨hH.1, hH.2.1⟩ trivial (Nat.le_of_ble_eq_true rfl) (Nat.le_of_ble_eq_true rfl) dX2_isCounted_26
  exact LP2_0 ((M 1 0 - 0) + 1) 0 (Nat.lt_succ_self _) (by omega) (rfl) _ _ hH ls (lv_sub hl [1, 0] rfl)

set_option maxHeartbeats 4000000 in
set_option maxRecDepth 100000 in
theorem metX2_meanDepth (l : Launch) (G : va_G) (dA : Nat → ClassId) (dS : Nat → Nat) (B0 sz : Nat) (q : Nat → Nat) (M : mS) (B : Nat) (hrb : rB (M 1) B) (hBb : B + 20 < 2 ^ 30) : Met l yX2_meanDepth (ws_ yX2_meanDepth cX2_meanDepth 3 (some FieldType.double)) ({ frames := 1, cells := 0, slots := 0, locals := 22 }) (zP G dA dS B0 [.ref (q 0)] sz (mW dA q M) (fun H => True)) (zQd G (fun (r : UInt64) (u : Unit) => r = aMean (M 1)) (fun (u : Unit) => mW dA q M) (fun (u : Unit) (H : Heap) => True) (va_A (mW dA q M) sz)) 0 0 (va_A (mW dA q M) sz) := by
  refine zM (by decide) (Nat.le_of_ble_eq_true rfl) ?_
  intro p e s m below meth c ls A H locs hHe hx hb hr hlocks hml hown hname hts hX hsz hB hAe hA hAB hH hRo hl
  have hl : lv_has ls 3 [(0, .ref (q 0))] := hl
  have hbw := hrb.lt (by omega)
  have h12 := hrb.1
  refine lv_iconst (v := nI 0) hx hb dX2_meanDepth_0 (by decide) ?_
  refine lv_istore_n (lv' := [(1, .int (nI 0)), (0, .ref (q 0))]) hx hb dX2_meanDepth_1 rfl hl (by decide) rfl (fun ls hl => ?_)
  refine lv_iconst (v := nI 0) hx hb dX2_meanDepth_2 (by decide) ?_
  refine lv_istore_n (lv' := [(2, .int (nI 0)), (1, .int (nI 0)), (0, .ref (q 0))]) hx hb dX2_meanDepth_3 rfl hl (by decide) rfl (fun ls hl => ?_)
  have LP4_0 : ∀ (fuel : Nat) (i : Nat) (hfu : (M 1 0 - i) < fuel) (hi : i ≤ M 1 0) (H : Heap) (locs : List Loc), zH G A s.heap (mW dA q M) H locs → ∀ (ls : Array Slot), lv_has ls 3 [(0, .ref (q 0)), (1, .int (nI (dsum (M 1) i))), (2, .int (nI i))] → W p l e (headSpec (ws_ yX2_meanDepth cX2_meanDepth 3 (some FieldType.double)) ({ frames := 1, cells := 0, slots := 0, locals := 22 })).room s m ([.ref (q 0)] : List Value).toArray below meth c H locs 0 0 (MQ below (zQd G (fun (r : UInt64) (u : Unit) => r = aMean (M 1)) (fun (u : Unit) => mW dA q M) (fun (u : Unit) (H : Heap) => True) A) ([.ref (q 0)] : List Value).toArray s 0 0 A) (F0 m 4 ls []) := by
    intro fuel
    induction fuel with
    | zero => intro i hfu; exact absurd hfu (Nat.not_lt_zero _)
    | succ fuel ih4 =>
      intro i hfu hi H locs hH ls hl
      have hds := dsum_le hrb i (by omega)
      refine lv_iload_n hx hb dX2_meanDepth_4 rfl (lv_at hl 2 rfl) ?_
      refine lv_aload_n hx hb dX2_meanDepth_5 rfl (lv_at hl 0 rfl) ?_
      refine z_get (v := .ref (q 1)) hx hb hts hown hX kX2 6 (by decide) (hH.at 0 rfl) rfl q2016 (fun _ h9 => h9) dX2_meanDepth_6 ?_
      refine lv_iconst (v := nI 0) hx hb dX2_meanDepth_9 (by decide) ?_
      refine z_iald (x := nI (M 1 0)) hx hb hX (k := 0)  (hH.at 1 rfl) rfl (by omega) (by omega) rfl dX2_meanDepth_10 ?_
      have hbd_2 := hbw 0 (by omega) (by omega)
      refine z_icmp_ge (tgt := 29) hx hb dX2_meanDepth_11 (by decide) (by omega) (by omega) (fun c_11_3 => ?_) (fun c_11_3 => ?_)
      · skip
        have dc_11_3 := Nat.not_lt.mp c_11_3
        have ei : i = M 1 0 := (by omega)
        subst ei
        refine lv_aload_n hx hb dX2_meanDepth_29 rfl (lv_at hl 0 rfl) ?_
        refine z_get (v := .ref (q 1)) hx hb hts hown hX kX2 6 (by decide) (hH.at 0 rfl) rfl q2016 (fun _ h9 => h9) dX2_meanDepth_30 ?_
        refine lv_iconst (v := nI 0) hx hb dX2_meanDepth_33 (by decide) ?_
        refine z_iald (x := nI (M 1 0)) hx hb hX (k := 0)  (hH.at 1 rfl) rfl (by omega) (by omega) rfl dX2_meanDepth_34 ?_
        have hbd_4 := hbw 0 (by omega) (by omega)
        refine z_ifneN (tgt := 42) hx hb dX2_meanDepth_35 (by decide) (by omega) (fun c_35_5 => ?_) (fun c_35_5 => ?_)
        · skip
          refine lv_iload_n hx hb dX2_meanDepth_42 rfl (lv_at hl 1 rfl) ?_
          refine lv_i2d hx hb dX2_meanDepth_43 ?_
          refine lv_aload_n hx hb dX2_meanDepth_44 rfl (lv_at hl 0 rfl) ?_
          refine z_get (v := .ref (q 1)) hx hb hts hown hX kX2 6 (by decide) (hH.at 0 rfl) rfl q2016 (fun _ h9 => h9) dX2_meanDepth_45 ?_
          refine lv_iconst (v := nI 0) hx hb dX2_meanDepth_48 (by decide) ?_
          refine z_iald (x := nI (M 1 0)) hx hb hX (k := 0)  (hH.at 1 rfl) rfl (by omega) (by omega) rfl dX2_meanDepth_49 ?_
          have hbd_6 := hbw 0 (by omega) (by omega)
          refine lv_i2d hx hb dX2_meanDepth_50 ?_
          refine lv_ddiv hx hb dX2_meanDepth_51 (dd_t _ (by have := dsum_le hrb (M 1 0) (by omega); omega) _ (by omega) (by assumption)) ?_
          exact z_dret hx hb hr hlocks hH (u := ()) (by simp [aMean, c_11_3, dc_11_3, c_35_5]) ⟨hH.1, hH.2.1⟩ trivial (Nat.le_of_ble_eq_true rfl) (Nat.le_of_ble_eq_true rfl) dX2_meanDepth_52
        · skip
          refine lv_dconst0 hx hb dX2_meanDepth_38 ?_
          refine lv_goto (tgt := 52) hx hb dX2_meanDepth_39 (by decide) ?_
          exact z_dret hx hb hr hlocks hH (u := ()) (by simp [aMean, c_11_3, dc_11_3, c_35_5]) ⟨hH.1, hH.2.1⟩ trivial (Nat.le_of_ble_eq_true rfl) (Nat.le_of_ble_eq_true rfl) dX2_meanDepth_52
      · skip
        refine lv_iload_n hx hb dX2_meanDepth_14 rfl (lv_at hl 1 rfl) ?_
        refine lv_aload_n hx hb dX2_meanDepth_15 rfl (lv_at hl 0 rfl) ?_
        refine lv_iload_n hx hb dX2_meanDepth_16 rfl (lv_at hl 2 rfl) ?_
        refine lv_iconst (v := nI 1) hx hb dX2_meanDepth_17 (by decide) ?_
        refine z_ci (wr := []) (va_runV (As := [.int (nI i), .int (nI 1)]) (rest := [.int (nI (dsum (M 1) i))]) ⟨hx, hb, hml, hown, hts⟩ (metX2_is l G dA dS B0 H.size q M i 1 (by first | exact hk | assumption | omega) (by first | exact hj | assumption | omega)) (cwV 2 hts (lw_V q2103 q2105 qs31 q91 q2106) rfl rfl rfl (by decide +kernel) ⟨Nat.le_of_ble_eq_true rfl, Nat.le_of_ble_eq_true rfl⟩) (zPV hX hH hB hAB (z_recv hX kX2 (hH.at 0 rfl)) [0, 1, 2, 3, 4, 5, 6, 7, 8] rfl rfl trivial) rfl rfl hl.1 rfl (lv_room (Nat.le_of_ble_eq_true rfl)) dX2_meanDepth_18 ⟨(Nat.le_of_ble_eq_true rfl), (Nat.le_of_ble_eq_true rfl)⟩) hH hA [0, 1, 2, 3, 4, 5, 6, 7, 8] [] rfl rfl (by decide) (by decide) (fun r_7 u_r_7 H locs hw_r_7 hH hR_r_7 hk_r_7 => ?_)
        obtain rfl := hw_r_7
        have hH : zH G A s.heap (mW dA q M) H locs := hH
        have hbd_8 : jk (M 1) i 1 < 2 ^ 31 := hbw _ (by omega) (by omega)
        refine lv_iadd hx hb dX2_meanDepth_21 ?_
        refine z_topi (y := nI (dsum (M 1) i + jk (M 1) i 1)) (nI_add _ _) ?_
        refine lv_istore_n (lv' := [(1, .int (nI (dsum (M 1) i + jk (M 1) i 1))), (0, .ref (q 0)), (2, .int (nI i))]) hx hb dX2_meanDepth_22 rfl hl (by decide) rfl (fun ls hl => ?_)
        refine lv_iinc (v := nI (i + 1)) (lv' := [(2, .int (nI (i + 1))), (1, .int (nI (dsum (M 1) i + jk (M 1) i 1))), (0, .ref (q 0))]) hx hb dX2_meanDepth_23 hl (k := 2) rfl (nI_1 _) (by decide) rfl (fun ls hl => ?_)
        refine lv_goto (tgt := 4) hx hb dX2_meanDepth_26 (by decide) ?_
        have ev_9 : nI (dsum (M 1) i + jk (M 1) i 1) = nI (dsum (M 1) (i + 1)) := by rfl
        have hl : lv_has ls 3 [(0, .ref (q 0)), (1, .int (nI (dsum (M 1) (i + 1)))), (2, .int (nI (i + 1)))] := z_lv (lv_sub hl [2, 1, 0] rfl) (by rw [ev_9] <;> rfl)
        exact ih4 (i + 1) (by omega) (by omega) _ _ hH ls (lv_sub hl [0, 1, 2] rfl)
  have ev_10 : nI 0 = nI (dsum (M 1) 0) := by rfl
  have hl : lv_has ls 3 [(0, .ref (q 0)), (1, .int (nI (dsum (M 1) 0))), (2, .int (nI 0))] := z_lv (lv_sub hl [2, 1, 0] rfl) (by rw [ev_10] <;> rfl)
  exact LP4_0 ((M 1 0 - 0) + 1) 0 (Nat.lt_succ_self _) (by omega) _ _ hH ls (lv_sub hl [0, 1, 2] rfl)

set_option maxHeartbeats 4000000 in
set_option maxRecDepth 100000 in
theorem metX2_knownShare (l : Launch) (G : va_G) (dA : Nat → ClassId) (dS : Nat → Nat) (B0 sz : Nat) (q : Nat → Nat) (M : mS) (B : Nat) (hrb : rB (M 1) B) (hBb : B + 20 < 2 ^ 30) : Met l yX2_knownShare (ws_ yX2_knownShare cX2_knownShare 3 (some FieldType.float)) ({ frames := 1, cells := 0, slots := 0, locals := 21 }) (zP G dA dS B0 [.ref (q 0)] sz (mW dA q M) (fun H => True)) (zQf G (fun (r : UInt32) (u : Unit) => r = aShare (M 1)) (fun (u : Unit) => mW dA q M) (fun (u : Unit) (H : Heap) => True) (va_A (mW dA q M) sz)) 0 0 (va_A (mW dA q M) sz) := by
  refine zM (by decide) (Nat.le_of_ble_eq_true rfl) ?_
  intro p e s m below meth c ls A H locs hHe hx hb hr hlocks hml hown hname hts hX hsz hB hAe hA hAB hH hRo hl
  have hl : lv_has ls 3 [(0, .ref (q 0))] := hl
  have hbw := hrb.lt (by omega)
  have h12 := hrb.1
  refine lv_iconst (v := nI 0) hx hb dX2_knownShare_0 (by decide) ?_
  refine lv_istore_n (lv' := [(1, .int (nI 0)), (0, .ref (q 0))]) hx hb dX2_knownShare_1 rfl hl (by decide) rfl (fun ls hl => ?_)
  refine lv_iconst (v := nI 0) hx hb dX2_knownShare_2 (by decide) ?_
  refine lv_istore_n (lv' := [(2, .int (nI 0)), (1, .int (nI 0)), (0, .ref (q 0))]) hx hb dX2_knownShare_3 rfl hl (by decide) rfl (fun ls hl => ?_)
  have LP4_0 : ∀ (fuel : Nat) (i : Nat) (hfu : (64 - i) < fuel) (hi : i ≤ 64) (H : Heap) (locs : List Loc), zH G A s.heap (mW dA q M) H locs → ∀ (ls : Array Slot), lv_has ls 3 [(0, .ref (q 0)), (1, .int (nI (cN (kn (M 1)) i))), (2, .int (nI i))] → W p l e (headSpec (ws_ yX2_knownShare cX2_knownShare 3 (some FieldType.float)) ({ frames := 1, cells := 0, slots := 0, locals := 21 })).room s m ([.ref (q 0)] : List Value).toArray below meth c H locs 0 0 (MQ below (zQf G (fun (r : UInt32) (u : Unit) => r = aShare (M 1)) (fun (u : Unit) => mW dA q M) (fun (u : Unit) (H : Heap) => True) A) ([.ref (q 0)] : List Value).toArray s 0 0 A) (F0 m 4 ls []) := by
    intro fuel
    induction fuel with
    | zero => intro i hfu; exact absurd hfu (Nat.not_lt_zero _)
    | succ fuel ih4 =>
      intro i hfu hi H locs hH ls hl
      have hcn := cN_le (kn (M 1)) i
      refine lv_iload_n hx hb dX2_knownShare_4 rfl (lv_at hl 2 rfl) ?_
      refine lv_bipush (v := nI 64) hx hb dX2_knownShare_5 (by decide) ?_
      refine z_icmp_ge (tgt := 32) hx hb dX2_knownShare_7 (by decide) (by omega) (by omega) (fun c_7_2 => ?_) (fun c_7_2 => ?_)
      · skip
        have dc_7_2 := Nat.not_lt.mp c_7_2
        refine lv_iload_n hx hb dX2_knownShare_32 rfl (lv_at hl 1 rfl) ?_
        refine lv_i2f hx hb dX2_knownShare_33 ?_
        refine lv_ldcf hx hb hown (hts _ q2351) dX2_knownShare_34 ?_
        refine lv_fdiv hx hb dX2_knownShare_36 (ks_t _ (by omega)) ?_
        exact z_fret hx hb hr hlocks hH (u := ()) (by have e : i = 64 := (by omega); subst e; rfl) ⟨hH.1, hH.2.1⟩ trivial (Nat.le_of_ble_eq_true rfl) (Nat.le_of_ble_eq_true rfl) dX2_knownShare_37
      · skip
        refine lv_iload_n hx hb dX2_knownShare_10 rfl (lv_at hl 1 rfl) ?_
        refine lv_aload_n hx hb dX2_knownShare_11 rfl (lv_at hl 0 rfl) ?_
        refine lv_iload_n hx hb dX2_knownShare_12 rfl (lv_at hl 2 rfl) ?_
        refine z_ci (wr := []) (va_runV (As := [.int (nI i)]) (rest := [.int (nI (cN (kn (M 1)) i))]) ⟨hx, hb, hml, hown, hts⟩ (metX2_isKnownSign l G dA dS B0 H.size q M i (by first | exact hsg | assumption | omega) (hrb.lt32 (by omega) _)) (cwV 1 hts (lw_V q2091 q2093 qs28 q91 q2094) rfl rfl rfl (by decide +kernel) ⟨Nat.le_of_ble_eq_true rfl, Nat.le_of_ble_eq_true rfl⟩) (zPV hX hH hB hAB (z_recv hX kX2 (hH.at 0 rfl)) [0, 1, 2, 3, 4, 5, 6, 7, 8] rfl rfl trivial) rfl rfl hl.1 rfl (lv_room (Nat.le_of_ble_eq_true rfl)) dX2_knownShare_13 ⟨(Nat.le_of_ble_eq_true rfl), (Nat.le_of_ble_eq_true rfl)⟩) hH hA [0, 1, 2, 3, 4, 5, 6, 7, 8] [] rfl rfl (by decide) (by decide) (fun r_3 u_r_3 H locs hw_r_3 hH hR_r_3 hk_r_3 => ?_)
        obtain rfl := hw_r_3
        have hH : zH G A s.heap (mW dA q M) H locs := hH
        refine z_ifeqB (b := kn (M 1) i) (tgt := 23) hx hb dX2_knownShare_16 (by decide) (fun c_16_4 => ?_) (fun c_16_4 => ?_)
        · skip
          refine lv_iconst (v := nI 0) hx hb dX2_knownShare_23 (by decide) ?_
          refine lv_iadd hx hb dX2_knownShare_24 ?_
          refine z_topi (y := nI (cN (kn (M 1)) i)) (nI_add _ _) ?_
          refine lv_istore_n (lv' := [(1, .int (nI (cN (kn (M 1)) i))), (0, .ref (q 0)), (2, .int (nI i))]) hx hb dX2_knownShare_25 rfl hl (by decide) rfl (fun ls hl => ?_)
          refine lv_iinc (v := nI (i + 1)) (lv' := [(2, .int (nI (i + 1))), (1, .int (nI (cN (kn (M 1)) i))), (0, .ref (q 0))]) hx hb dX2_knownShare_26 hl (k := 2) rfl (nI_1 _) (by decide) rfl (fun ls hl => ?_)
          refine lv_goto (tgt := 4) hx hb dX2_knownShare_29 (by decide) ?_
          have ev_5 : nI (cN (kn (M 1)) i) = nI (cN (kn (M 1)) (i + 1)) := by first | rfl | (congr 1; done) | (congr 1; simp [cN, bN, c_7_2, c_16_4]; done) | (congr 1; simp [cN, bN, c_7_2, c_16_4]; omega)
          have hl : lv_has ls 3 [(0, .ref (q 0)), (1, .int (nI (cN (kn (M 1)) (i + 1)))), (2, .int (nI (i + 1)))] := z_lv (lv_sub hl [2, 1, 0] rfl) (by rw [ev_5] <;> rfl)
          exact ih4 (i + 1) (by omega) (by omega) _ _ hH ls (lv_sub hl [0, 1, 2] rfl)
        · skip
          refine lv_iconst (v := nI 1) hx hb dX2_knownShare_19 (by decide) ?_
          refine lv_goto (tgt := 24) hx hb dX2_knownShare_20 (by decide) ?_
          refine lv_iadd hx hb dX2_knownShare_24 ?_
          refine z_topi (y := nI (cN (kn (M 1)) i + 1)) (nI_add _ _) ?_
          refine lv_istore_n (lv' := [(1, .int (nI (cN (kn (M 1)) i + 1))), (0, .ref (q 0)), (2, .int (nI i))]) hx hb dX2_knownShare_25 rfl hl (by decide) rfl (fun ls hl => ?_)
          refine lv_iinc (v := nI (i + 1)) (lv' := [(2, .int (nI (i + 1))), (1, .int (nI (cN (kn (M 1)) i + 1))), (0, .ref (q 0))]) hx hb dX2_knownShare_26 hl (k := 2) rfl (nI_1 _) (by decide) rfl (fun ls hl => ?_)
          refine lv_goto (tgt := 4) hx hb dX2_knownShare_29 (by decide) ?_
          have ev_6 : nI (cN (kn (M 1)) i + 1) = nI (cN (kn (M 1)) (i + 1)) := by first | rfl | (congr 1; done) | (congr 1; simp [cN, bN, c_7_2, c_16_4]; done) | (congr 1; simp [cN, bN, c_7_2, c_16_4]; omega)
          have hl : lv_has ls 3 [(0, .ref (q 0)), (1, .int (nI (cN (kn (M 1)) (i + 1)))), (2, .int (nI (i + 1)))] := z_lv (lv_sub hl [2, 1, 0] rfl) (by rw [ev_6] <;> rfl)
          exact ih4 (i + 1) (by omega) (by omega) _ _ hH ls (lv_sub hl [0, 1, 2] rfl)
  have ev_7 : nI 0 = nI (cN (kn (M 1)) 0) := by first | rfl | (congr 1; done) | (congr 1; simp [cN, bN]; done) | (congr 1; simp [cN, bN]; omega)
  have hl : lv_has ls 3 [(0, .ref (q 0)), (1, .int (nI (cN (kn (M 1)) 0))), (2, .int (nI 0))] := z_lv (lv_sub hl [2, 1, 0] rfl) (by rw [ev_7] <;> rfl)
  exact LP4_0 ((64 - 0) + 1) 0 (Nat.lt_succ_self _) (by omega) _ _ hH ls (lv_sub hl [0, 1, 2] rfl)

set_option maxHeartbeats 4000000 in
set_option maxRecDepth 100000 in
theorem metX2_primed (l : Launch) (G : va_G) (dA : Nat → ClassId) (dS : Nat → Nat) (B0 sz : Nat) (q : Nat → Nat) (M : mS) (B : Nat) (hrb : rB (M 1) B) (hBb : B + 20 < 2 ^ 30) : Met l yX2_primed (ws_ yX2_primed cX2_primed 3 (some FieldType.int)) ({ frames := 1, cells := 0, slots := 0, locals := 22 }) (zP G dA dS B0 [.ref (q 0)] sz (mW dA q M) (fun H => True)) (zQi G (fun (r : Int32) (u : Unit) => r = nI (psum (M 1) (M 1 0))) (fun (u : Unit) => mW dA q M) (fun (u : Unit) (H : Heap) => True) (va_A (mW dA q M) sz)) 0 0 (va_A (mW dA q M) sz) := by
  refine zM (by decide) (Nat.le_of_ble_eq_true rfl) ?_
  intro p e s m below meth c ls A H locs hHe hx hb hr hlocks hml hown hname hts hX hsz hB hAe hA hAB hH hRo hl
  have hl : lv_has ls 3 [(0, .ref (q 0))] := hl
  have hbw := hrb.lt (by omega)
  have h12 := hrb.1
  refine lv_iconst (v := nI 0) hx hb dX2_primed_0 (by decide) ?_
  refine lv_istore_n (lv' := [(1, .int (nI 0)), (0, .ref (q 0))]) hx hb dX2_primed_1 rfl hl (by decide) rfl (fun ls hl => ?_)
  refine lv_iconst (v := nI 0) hx hb dX2_primed_2 (by decide) ?_
  refine lv_istore_n (lv' := [(2, .int (nI 0)), (1, .int (nI 0)), (0, .ref (q 0))]) hx hb dX2_primed_3 rfl hl (by decide) rfl (fun ls hl => ?_)
  have LP4_0 : ∀ (fuel : Nat) (i : Nat) (hfu : (M 1 0 - i) < fuel) (hi : i ≤ M 1 0) (H : Heap) (locs : List Loc), zH G A s.heap (mW dA q M) H locs → ∀ (ls : Array Slot), lv_has ls 3 [(0, .ref (q 0)), (1, .int (nI (psum (M 1) i))), (2, .int (nI i))] → W p l e (headSpec (ws_ yX2_primed cX2_primed 3 (some FieldType.int)) ({ frames := 1, cells := 0, slots := 0, locals := 22 })).room s m ([.ref (q 0)] : List Value).toArray below meth c H locs 0 0 (MQ below (zQi G (fun (r : Int32) (u : Unit) => r = nI (psum (M 1) (M 1 0))) (fun (u : Unit) => mW dA q M) (fun (u : Unit) (H : Heap) => True) A) ([.ref (q 0)] : List Value).toArray s 0 0 A) (F0 m 4 ls []) := by
    intro fuel
    induction fuel with
    | zero => intro i hfu; exact absurd hfu (Nat.not_lt_zero _)
    | succ fuel ih4 =>
      intro i hfu hi H locs hH ls hl
      have hds := psum_le hrb i (by omega)
      refine lv_iload_n hx hb dX2_primed_4 rfl (lv_at hl 2 rfl) ?_
      refine lv_aload_n hx hb dX2_primed_5 rfl (lv_at hl 0 rfl) ?_
      refine z_get (v := .ref (q 1)) hx hb hts hown hX kX2 6 (by decide) (hH.at 0 rfl) rfl q2016 (fun _ h9 => h9) dX2_primed_6 ?_
      refine lv_iconst (v := nI 0) hx hb dX2_primed_9 (by decide) ?_
      refine z_iald (x := nI (M 1 0)) hx hb hX (k := 0)  (hH.at 1 rfl) rfl (by omega) (by omega) rfl dX2_primed_10 ?_
      have hbd_2 := hbw 0 (by omega) (by omega)
      refine z_icmp_ge (tgt := 29) hx hb dX2_primed_11 (by decide) (by omega) (by omega) (fun c_11_3 => ?_) (fun c_11_3 => ?_)
      · skip
        have dc_11_3 := Nat.not_lt.mp c_11_3
        refine lv_iload_n hx hb dX2_primed_29 rfl (lv_at hl 1 rfl) ?_
        exact z_iret hx hb hr hlocks hH (u := ()) (by have e : i = M 1 0 := (by omega); subst e; rfl) ⟨hH.1, hH.2.1⟩ trivial (Nat.le_of_ble_eq_true rfl) (Nat.le_of_ble_eq_true rfl) dX2_primed_30
      · skip
        refine lv_iload_n hx hb dX2_primed_14 rfl (lv_at hl 1 rfl) ?_
        refine lv_aload_n hx hb dX2_primed_15 rfl (lv_at hl 0 rfl) ?_
        refine lv_iload_n hx hb dX2_primed_16 rfl (lv_at hl 2 rfl) ?_
        refine lv_iconst (v := nI 4) hx hb dX2_primed_17 (by decide) ?_
        refine z_ci (wr := []) (va_runV (As := [.int (nI i), .int (nI 4)]) (rest := [.int (nI (psum (M 1) i))]) ⟨hx, hb, hml, hown, hts⟩ (metX2_is l G dA dS B0 H.size q M i 4 (by first | exact hk | assumption | omega) (by first | exact hj | assumption | omega)) (cwV 2 hts (lw_V q2103 q2105 qs31 q91 q2106) rfl rfl rfl (by decide +kernel) ⟨Nat.le_of_ble_eq_true rfl, Nat.le_of_ble_eq_true rfl⟩) (zPV hX hH hB hAB (z_recv hX kX2 (hH.at 0 rfl)) [0, 1, 2, 3, 4, 5, 6, 7, 8] rfl rfl trivial) rfl rfl hl.1 rfl (lv_room (Nat.le_of_ble_eq_true rfl)) dX2_primed_18 ⟨(Nat.le_of_ble_eq_true rfl), (Nat.le_of_ble_eq_true rfl)⟩) hH hA [0, 1, 2, 3, 4, 5, 6, 7, 8] [] rfl rfl (by decide) (by decide) (fun r_4 u_r_4 H locs hw_r_4 hH hR_r_4 hk_r_4 => ?_)
        obtain rfl := hw_r_4
        have hH : zH G A s.heap (mW dA q M) H locs := hH
        have hbd_5 : jk (M 1) i 4 < 2 ^ 31 := hbw _ (by omega) (by omega)
        refine lv_iadd hx hb dX2_primed_21 ?_
        refine z_topi (y := nI (psum (M 1) i + jk (M 1) i 4)) (nI_add _ _) ?_
        refine lv_istore_n (lv' := [(1, .int (nI (psum (M 1) i + jk (M 1) i 4))), (0, .ref (q 0)), (2, .int (nI i))]) hx hb dX2_primed_22 rfl hl (by decide) rfl (fun ls hl => ?_)
        refine lv_iinc (v := nI (i + 1)) (lv' := [(2, .int (nI (i + 1))), (1, .int (nI (psum (M 1) i + jk (M 1) i 4))), (0, .ref (q 0))]) hx hb dX2_primed_23 hl (k := 2) rfl (nI_1 _) (by decide) rfl (fun ls hl => ?_)
        refine lv_goto (tgt := 4) hx hb dX2_primed_26 (by decide) ?_
        have ev_6 : nI (psum (M 1) i + jk (M 1) i 4) = nI (psum (M 1) (i + 1)) := by rfl
        have hl : lv_has ls 3 [(0, .ref (q 0)), (1, .int (nI (psum (M 1) (i + 1)))), (2, .int (nI (i + 1)))] := z_lv (lv_sub hl [2, 1, 0] rfl) (by rw [ev_6] <;> rfl)
        exact ih4 (i + 1) (by omega) (by omega) _ _ hH ls (lv_sub hl [0, 1, 2] rfl)
  have ev_7 : nI 0 = nI (psum (M 1) 0) := by rfl
  have hl : lv_has ls 3 [(0, .ref (q 0)), (1, .int (nI (psum (M 1) 0))), (2, .int (nI 0))] := z_lv (lv_sub hl [2, 1, 0] rfl) (by rw [ev_7] <;> rfl)
  exact LP4_0 ((M 1 0 - 0) + 1) 0 (Nat.lt_succ_self _) (by omega) _ _ hH ls (lv_sub hl [0, 1, 2] rfl)

set_option maxHeartbeats 4000000 in
set_option maxRecDepth 100000 in
theorem metX2_account (l : Launch) (G : va_G) (dA : Nat → ClassId) (dS : Nat → Nat) (B0 sz : Nat) (q : Nat → Nat) (M : mS) (a : Int32) (B : Nat) (hrb : rB (M 1) B) (hBb : B + 20 < 2 ^ 30) : Met l yX2_account (ws_ yX2_account cX2_account 2 (some FieldType.int)) ({ frames := 2, cells := 0, slots := 0, locals := 44 }) (zP G dA dS B0 [.ref (q 0), .int (a)] sz (mW dA q M) (fun H => True)) (zQi G (fun (r : Int32) (u : Unit) => r = aAccount M a) (fun (u : Unit) => mW dA q M) (fun (u : Unit) (H : Heap) => True) (va_A (mW dA q M) sz)) 0 0 (va_A (mW dA q M) sz) := by
  refine zM (by decide) (Nat.le_of_ble_eq_true rfl) ?_
  intro p e s m below meth c ls A H locs hHe hx hb hr hlocks hml hown hname hts hX hsz hB hAe hA hAB hH hRo hl
  have hl : lv_has ls 2 [(0, .ref (q 0)), (1, .int (a))] := hl
  have hbw := hrb.lt (by omega)
  have h12 := hrb.1
  refine lv_iload_n hx hb dX2_account_0 rfl (lv_at hl 1 rfl) ?_
  by_cases s_1_0 : a = nI 0
  · skip
    refine lv_tableIn (off := 71) (tgt := 72) hx hb dX2_account_1 (by rw [s_1_0]; decide) (by rw [s_1_0]; decide) (by rw [s_1_0]; rfl) (by decide) ?_
    refine lv_aload_n hx hb dX2_account_72 rfl (lv_at hl 0 rfl) ?_
    refine z_get (v := .ref (q 1)) hx hb hts hown hX kX2 6 (by decide) (hH.at 0 rfl) rfl q2016 (fun _ h9 => h9) dX2_account_73 ?_
    refine lv_iconst (v := nI 0) hx hb dX2_account_76 (by decide) ?_
    refine z_iald (x := nI (M 1 0)) hx hb hX (k := 0)  (hH.at 1 rfl) rfl (by omega) (by omega) rfl dX2_account_77 ?_
    exact z_iret hx hb hr hlocks hH (u := ()) (by simp only [aAccount, cl, if_pos s_1_0]; first | done | rfl) ⟨hH.1, hH.2.1⟩ trivial (Nat.le_of_ble_eq_true rfl) (Nat.le_of_ble_eq_true rfl) dX2_account_78
  by_cases s_1_1 : a = nI 1
  · skip
    refine lv_tableIn (off := 78) (tgt := 79) hx hb dX2_account_1 (by rw [s_1_1]; decide) (by rw [s_1_1]; decide) (by rw [s_1_1]; rfl) (by decide) ?_
    refine lv_aload_n hx hb dX2_account_79 rfl (lv_at hl 0 rfl) ?_
    refine z_get (v := .ref (q 1)) hx hb hts hown hX kX2 6 (by decide) (hH.at 0 rfl) rfl q2016 (fun _ h9 => h9) dX2_account_80 ?_
    refine lv_iconst (v := nI 1) hx hb dX2_account_83 (by decide) ?_
    refine z_iald (x := nI (M 1 1)) hx hb hX (k := 1)  (hH.at 1 rfl) rfl (by omega) (by omega) rfl dX2_account_84 ?_
    exact z_iret hx hb hr hlocks hH (u := ()) (by simp only [aAccount, cl, if_neg s_1_0, if_pos s_1_1]; first | done | rfl) ⟨hH.1, hH.2.1⟩ trivial (Nat.le_of_ble_eq_true rfl) (Nat.le_of_ble_eq_true rfl) dX2_account_85
  by_cases s_1_2 : a = nI 2
  · skip
    refine lv_tableIn (off := 85) (tgt := 86) hx hb dX2_account_1 (by rw [s_1_2]; decide) (by rw [s_1_2]; decide) (by rw [s_1_2]; rfl) (by decide) ?_
    refine lv_aload_n hx hb dX2_account_86 rfl (lv_at hl 0 rfl) ?_
    refine z_get (v := .ref (q 1)) hx hb hts hown hX kX2 6 (by decide) (hH.at 0 rfl) rfl q2016 (fun _ h9 => h9) dX2_account_87 ?_
    refine lv_iconst (v := nI 2) hx hb dX2_account_90 (by decide) ?_
    refine z_iald (x := nI (M 1 2)) hx hb hX (k := 2)  (hH.at 1 rfl) rfl (by omega) (by omega) rfl dX2_account_91 ?_
    exact z_iret hx hb hr hlocks hH (u := ()) (by simp only [aAccount, cl, if_neg s_1_0, if_neg s_1_1, if_pos s_1_2]; first | done | rfl) ⟨hH.1, hH.2.1⟩ trivial (Nat.le_of_ble_eq_true rfl) (Nat.le_of_ble_eq_true rfl) dX2_account_92
  by_cases s_1_3 : a = nI 3
  · skip
    refine lv_tableIn (off := 92) (tgt := 93) hx hb dX2_account_1 (by rw [s_1_3]; decide) (by rw [s_1_3]; decide) (by rw [s_1_3]; rfl) (by decide) ?_
    refine lv_aload_n hx hb dX2_account_93 rfl (lv_at hl 0 rfl) ?_
    refine z_get (v := .ref (q 1)) hx hb hts hown hX kX2 6 (by decide) (hH.at 0 rfl) rfl q2016 (fun _ h9 => h9) dX2_account_94 ?_
    refine lv_iconst (v := nI 3) hx hb dX2_account_97 (by decide) ?_
    refine z_iald (x := nI (M 1 3)) hx hb hX (k := 3)  (hH.at 1 rfl) rfl (by omega) (by omega) rfl dX2_account_98 ?_
    exact z_iret hx hb hr hlocks hH (u := ()) (by simp only [aAccount, cl, if_neg s_1_0, if_neg s_1_1, if_neg s_1_2, if_pos s_1_3]; first | done | rfl) ⟨hH.1, hH.2.1⟩ trivial (Nat.le_of_ble_eq_true rfl) (Nat.le_of_ble_eq_true rfl) dX2_account_99
  by_cases s_1_4 : a = nI 4
  · skip
    refine lv_tableIn (off := 99) (tgt := 100) hx hb dX2_account_1 (by rw [s_1_4]; decide) (by rw [s_1_4]; decide) (by rw [s_1_4]; rfl) (by decide) ?_
    refine lv_aload_n hx hb dX2_account_100 rfl (lv_at hl 0 rfl) ?_
    refine z_get (v := .ref (q 1)) hx hb hts hown hX kX2 6 (by decide) (hH.at 0 rfl) rfl q2016 (fun _ h9 => h9) dX2_account_101 ?_
    refine lv_iconst (v := nI 4) hx hb dX2_account_104 (by decide) ?_
    refine z_iald (x := nI (M 1 4)) hx hb hX (k := 4)  (hH.at 1 rfl) rfl (by omega) (by omega) rfl dX2_account_105 ?_
    exact z_iret hx hb hr hlocks hH (u := ()) (by simp only [aAccount, cl, if_neg s_1_0, if_neg s_1_1, if_neg s_1_2, if_neg s_1_3, if_pos s_1_4]; first | done | rfl) ⟨hH.1, hH.2.1⟩ trivial (Nat.le_of_ble_eq_true rfl) (Nat.le_of_ble_eq_true rfl) dX2_account_106
  by_cases s_1_5 : a = nI 5
  · skip
    refine lv_tableIn (off := 106) (tgt := 107) hx hb dX2_account_1 (by rw [s_1_5]; decide) (by rw [s_1_5]; decide) (by rw [s_1_5]; rfl) (by decide) ?_
    refine lv_aload_n hx hb dX2_account_107 rfl (lv_at hl 0 rfl) ?_
    refine z_get (v := .ref (q 1)) hx hb hts hown hX kX2 6 (by decide) (hH.at 0 rfl) rfl q2016 (fun _ h9 => h9) dX2_account_108 ?_
    refine lv_iconst (v := nI 5) hx hb dX2_account_111 (by decide) ?_
    refine z_iald (x := nI (M 1 5)) hx hb hX (k := 5)  (hH.at 1 rfl) rfl (by omega) (by omega) rfl dX2_account_112 ?_
    exact z_iret hx hb hr hlocks hH (u := ()) (by simp only [aAccount, cl, if_neg s_1_0, if_neg s_1_1, if_neg s_1_2, if_neg s_1_3, if_neg s_1_4, if_pos s_1_5]; first | done | rfl) ⟨hH.1, hH.2.1⟩ trivial (Nat.le_of_ble_eq_true rfl) (Nat.le_of_ble_eq_true rfl) dX2_account_113
  by_cases s_1_6 : a = nI 6
  · skip
    refine lv_tableIn (off := 113) (tgt := 114) hx hb dX2_account_1 (by rw [s_1_6]; decide) (by rw [s_1_6]; decide) (by rw [s_1_6]; rfl) (by decide) ?_
    refine lv_aload_n hx hb dX2_account_114 rfl (lv_at hl 0 rfl) ?_
    refine z_get (v := .ref (q 1)) hx hb hts hown hX kX2 6 (by decide) (hH.at 0 rfl) rfl q2016 (fun _ h9 => h9) dX2_account_115 ?_
    refine lv_bipush (v := nI 6) hx hb dX2_account_118 (by decide) ?_
    refine z_iald (x := nI (M 1 6)) hx hb hX (k := 6)  (hH.at 1 rfl) rfl (by omega) (by omega) rfl dX2_account_120 ?_
    exact z_iret hx hb hr hlocks hH (u := ()) (by simp only [aAccount, cl, if_neg s_1_0, if_neg s_1_1, if_neg s_1_2, if_neg s_1_3, if_neg s_1_4, if_neg s_1_5, if_pos s_1_6]; first | done | rfl) ⟨hH.1, hH.2.1⟩ trivial (Nat.le_of_ble_eq_true rfl) (Nat.le_of_ble_eq_true rfl) dX2_account_121
  by_cases s_1_7 : a = nI 7
  · skip
    refine lv_tableIn (off := 121) (tgt := 122) hx hb dX2_account_1 (by rw [s_1_7]; decide) (by rw [s_1_7]; decide) (by rw [s_1_7]; rfl) (by decide) ?_
    refine lv_aload_n hx hb dX2_account_122 rfl (lv_at hl 0 rfl) ?_
    refine z_get (v := .ref (q 1)) hx hb hts hown hX kX2 6 (by decide) (hH.at 0 rfl) rfl q2016 (fun _ h9 => h9) dX2_account_123 ?_
    refine lv_bipush (v := nI 7) hx hb dX2_account_126 (by decide) ?_
    refine z_iald (x := nI (M 1 7)) hx hb hX (k := 7)  (hH.at 1 rfl) rfl (by omega) (by omega) rfl dX2_account_128 ?_
    exact z_iret hx hb hr hlocks hH (u := ()) (by simp only [aAccount, cl, if_neg s_1_0, if_neg s_1_1, if_neg s_1_2, if_neg s_1_3, if_neg s_1_4, if_neg s_1_5, if_neg s_1_6, if_pos s_1_7]; first | done | rfl) ⟨hH.1, hH.2.1⟩ trivial (Nat.le_of_ble_eq_true rfl) (Nat.le_of_ble_eq_true rfl) dX2_account_129
  by_cases s_1_8 : a = nI 8
  · skip
    refine lv_tableIn (off := 129) (tgt := 130) hx hb dX2_account_1 (by rw [s_1_8]; decide) (by rw [s_1_8]; decide) (by rw [s_1_8]; rfl) (by decide) ?_
    refine lv_aload_n hx hb dX2_account_130 rfl (lv_at hl 0 rfl) ?_
    refine z_get (v := .ref (q 1)) hx hb hts hown hX kX2 6 (by decide) (hH.at 0 rfl) rfl q2016 (fun _ h9 => h9) dX2_account_131 ?_
    refine lv_bipush (v := nI 8) hx hb dX2_account_134 (by decide) ?_
    refine z_iald (x := nI (M 1 8)) hx hb hX (k := 8)  (hH.at 1 rfl) rfl (by omega) (by omega) rfl dX2_account_136 ?_
    exact z_iret hx hb hr hlocks hH (u := ()) (by simp only [aAccount, cl, if_neg s_1_0, if_neg s_1_1, if_neg s_1_2, if_neg s_1_3, if_neg s_1_4, if_neg s_1_5, if_neg s_1_6, if_neg s_1_7, if_pos s_1_8]; first | done | rfl) ⟨hH.1, hH.2.1⟩ trivial (Nat.le_of_ble_eq_true rfl) (Nat.le_of_ble_eq_true rfl) dX2_account_137
  by_cases s_1_9 : a = nI 9
  · skip
    refine lv_tableIn (off := 137) (tgt := 138) hx hb dX2_account_1 (by rw [s_1_9]; decide) (by rw [s_1_9]; decide) (by rw [s_1_9]; rfl) (by decide) ?_
    refine lv_aload_n hx hb dX2_account_138 rfl (lv_at hl 0 rfl) ?_
    refine z_get (v := .ref (q 1)) hx hb hts hown hX kX2 6 (by decide) (hH.at 0 rfl) rfl q2016 (fun _ h9 => h9) dX2_account_139 ?_
    refine lv_bipush (v := nI 9) hx hb dX2_account_142 (by decide) ?_
    refine z_iald (x := nI (M 1 9)) hx hb hX (k := 9)  (hH.at 1 rfl) rfl (by omega) (by omega) rfl dX2_account_144 ?_
    exact z_iret hx hb hr hlocks hH (u := ()) (by simp only [aAccount, cl, if_neg s_1_0, if_neg s_1_1, if_neg s_1_2, if_neg s_1_3, if_neg s_1_4, if_neg s_1_5, if_neg s_1_6, if_neg s_1_7, if_neg s_1_8, if_pos s_1_9]; first | done | rfl) ⟨hH.1, hH.2.1⟩ trivial (Nat.le_of_ble_eq_true rfl) (Nat.le_of_ble_eq_true rfl) dX2_account_145
  by_cases s_1_10 : a = nI 10
  · skip
    refine lv_tableIn (off := 145) (tgt := 146) hx hb dX2_account_1 (by rw [s_1_10]; decide) (by rw [s_1_10]; decide) (by rw [s_1_10]; rfl) (by decide) ?_
    refine lv_aload_n hx hb dX2_account_146 rfl (lv_at hl 0 rfl) ?_
    refine z_get (v := .ref (q 1)) hx hb hts hown hX kX2 6 (by decide) (hH.at 0 rfl) rfl q2016 (fun _ h9 => h9) dX2_account_147 ?_
    refine lv_bipush (v := nI 10) hx hb dX2_account_150 (by decide) ?_
    refine z_iald (x := nI (M 1 10)) hx hb hX (k := 10)  (hH.at 1 rfl) rfl (by omega) (by omega) rfl dX2_account_152 ?_
    exact z_iret hx hb hr hlocks hH (u := ()) (by simp only [aAccount, cl, if_neg s_1_0, if_neg s_1_1, if_neg s_1_2, if_neg s_1_3, if_neg s_1_4, if_neg s_1_5, if_neg s_1_6, if_neg s_1_7, if_neg s_1_8, if_neg s_1_9, if_pos s_1_10]; first | done | rfl) ⟨hH.1, hH.2.1⟩ trivial (Nat.le_of_ble_eq_true rfl) (Nat.le_of_ble_eq_true rfl) dX2_account_153
  by_cases s_1_11 : a = nI 11
  · skip
    refine lv_tableIn (off := 153) (tgt := 154) hx hb dX2_account_1 (by rw [s_1_11]; decide) (by rw [s_1_11]; decide) (by rw [s_1_11]; rfl) (by decide) ?_
    refine lv_aload_n hx hb dX2_account_154 rfl (lv_at hl 0 rfl) ?_
    refine z_ci (wr := []) (va_runV (As := []) (rest := []) ⟨hx, hb, hml, hown, hts⟩ (metX2_primed l G dA dS B0 H.size q M B (by first | exact hrb | assumption | omega) (by first | exact hBb | assumption | omega)) (cwV 0 hts (lw_V q2356 q2358 qs64 q91 q2359) rfl rfl rfl (by decide +kernel) ⟨Nat.le_of_ble_eq_true rfl, Nat.le_of_ble_eq_true rfl⟩) (zPV hX hH hB hAB (z_recv hX kX2 (hH.at 0 rfl)) [0, 1, 2, 3, 4, 5, 6, 7, 8] rfl rfl trivial) rfl rfl hl.1 rfl (lv_room (Nat.le_of_ble_eq_true rfl)) dX2_account_155 ⟨(Nat.le_of_ble_eq_true rfl), (Nat.le_of_ble_eq_true rfl)⟩) hH hA [0, 1, 2, 3, 4, 5, 6, 7, 8] [] rfl rfl (by decide) (by decide) (fun r_1 u_r_1 H locs hw_r_1 hH hR_r_1 hk_r_1 => ?_)
    obtain rfl := hw_r_1
    have hH : zH G A s.heap (mW dA q M) H locs := hH
    exact z_iret hx hb hr hlocks hH (u := ()) (by simp only [aAccount, cl, if_neg s_1_0, if_neg s_1_1, if_neg s_1_2, if_neg s_1_3, if_neg s_1_4, if_neg s_1_5, if_neg s_1_6, if_neg s_1_7, if_neg s_1_8, if_neg s_1_9, if_neg s_1_10, if_pos s_1_11]; first | done | rfl) ⟨hH.1, hH.2.1⟩ trivial (Nat.le_of_ble_eq_true rfl) (Nat.le_of_ble_eq_true rfl) dX2_account_158
  by_cases s_1_12 : a = nI 12
  · skip
    refine lv_tableIn (off := 158) (tgt := 159) hx hb dX2_account_1 (by rw [s_1_12]; decide) (by rw [s_1_12]; decide) (by rw [s_1_12]; rfl) (by decide) ?_
    refine lv_aload_n hx hb dX2_account_159 rfl (lv_at hl 0 rfl) ?_
    refine z_get (v := .int (nI (M 0 17))) hx hb hts hown hX kX2 17 (by decide) (hH.at 0 rfl) rfl q2027 (fun _ h9 => h9) dX2_account_160 ?_
    exact z_iret hx hb hr hlocks hH (u := ()) (by simp only [aAccount, cl, if_neg s_1_0, if_neg s_1_1, if_neg s_1_2, if_neg s_1_3, if_neg s_1_4, if_neg s_1_5, if_neg s_1_6, if_neg s_1_7, if_neg s_1_8, if_neg s_1_9, if_neg s_1_10, if_neg s_1_11, if_pos s_1_12]; first | done | rfl) ⟨hH.1, hH.2.1⟩ trivial (Nat.le_of_ble_eq_true rfl) (Nat.le_of_ble_eq_true rfl) dX2_account_163
  by_cases s_1_13 : a = nI 13
  · skip
    refine lv_tableIn (off := 163) (tgt := 164) hx hb dX2_account_1 (by rw [s_1_13]; decide) (by rw [s_1_13]; decide) (by rw [s_1_13]; rfl) (by decide) ?_
    refine lv_aload_n hx hb dX2_account_164 rfl (lv_at hl 0 rfl) ?_
    refine z_get (v := .int (nI (M 0 11))) hx hb hts hown hX kX2 11 (by decide) (hH.at 0 rfl) rfl q2021 (fun _ h9 => h9) dX2_account_165 ?_
    exact z_iret hx hb hr hlocks hH (u := ()) (by simp only [aAccount, cl, if_neg s_1_0, if_neg s_1_1, if_neg s_1_2, if_neg s_1_3, if_neg s_1_4, if_neg s_1_5, if_neg s_1_6, if_neg s_1_7, if_neg s_1_8, if_neg s_1_9, if_neg s_1_10, if_neg s_1_11, if_neg s_1_12, if_pos s_1_13]; first | done | rfl) ⟨hH.1, hH.2.1⟩ trivial (Nat.le_of_ble_eq_true rfl) (Nat.le_of_ble_eq_true rfl) dX2_account_168
  refine lv_tableOut (tgt := 169) hx hb dX2_account_1 (z_sw (lo := 0) (n := 14) (z_all14 s_1_0 s_1_1 s_1_2 s_1_3 s_1_4 s_1_5 s_1_6 s_1_7 s_1_8 s_1_9 s_1_10 s_1_11 s_1_12 s_1_13) (by decide) (by decide)) (by decide) ?_
  refine lv_bipush (v := (-2)) hx hb dX2_account_169 (by decide) ?_
  exact z_iret hx hb hr hlocks hH (u := ()) (by simp only [aAccount, cl, if_neg s_1_0, if_neg s_1_1, if_neg s_1_2, if_neg s_1_3, if_neg s_1_4, if_neg s_1_5, if_neg s_1_6, if_neg s_1_7, if_neg s_1_8, if_neg s_1_9, if_neg s_1_10, if_neg s_1_11, if_neg s_1_12, if_neg s_1_13]; first | done | rfl) ⟨hH.1, hH.2.1⟩ trivial (Nat.le_of_ble_eq_true rfl) (Nat.le_of_ble_eq_true rfl) dX2_account_171

set_option maxHeartbeats 4000000 in
set_option maxRecDepth 100000 in
theorem metX2_inWell (l : Launch) (G : va_G) (dA : Nat → ClassId) (dS : Nat → Nat) (B0 sz : Nat) (q : Nat → Nat) (M : mS) (a : Int32) (b : Int32) (B : Nat) (hrb : rB (M 1) B) (hBb : B + 20 < 2 ^ 30) : Met l yX2_inWell (ws_ yX2_inWell cX2_inWell 3 (some FieldType.int)) ({ frames := 3, cells := 0, slots := 0, locals := 68 }) (zP G dA dS B0 [.ref (q 0), .int (a), .int (b)] sz (mW dA q M) (fun H => True)) (zQi G (fun (r : Int32) (u : Unit) => r = aInWell (M 1) a b) (fun (u : Unit) => mW dA q M) (fun (u : Unit) (H : Heap) => True) (va_A (mW dA q M) sz)) 0 0 (va_A (mW dA q M) sz) := by
  refine zM (by decide) (Nat.le_of_ble_eq_true rfl) ?_
  intro p e s m below meth c ls A H locs hHe hx hb hr hlocks hml hown hname hts hX hsz hB hAe hA hAB hH hRo hl
  have hl : lv_has ls 3 [(0, .ref (q 0)), (1, .int (a)), (2, .int (b))] := hl
  have hbw := hrb.lt (by omega)
  have h12 := hrb.1
  refine lv_iload_n hx hb dX2_inWell_0 rfl (lv_at hl 1 rfl) ?_
  refine z_ci (wr := mW dA q M) (va_runS (As := [.int (a)]) (rest := []) ⟨hx, hb, hml, hown, hts⟩ (metX2_isWell l G dA dS B0 H.size a) (va_cwS 1 hts (lw_S q2088 q2089 q91 q2090) rfl rfl rfl (by decide +kernel) ⟨Nat.le_of_ble_eq_true rfl, Nat.le_of_ble_eq_true rfl⟩) (zPS hX hH hB hAB [] rfl rfl trivial) rfl rfl hl.1 rfl (lv_room (Nat.le_of_ble_eq_true rfl)) dX2_inWell_1 ⟨(Nat.le_of_ble_eq_true rfl), (Nat.le_of_ble_eq_true rfl)⟩) hH hA [] [0, 1, 2, 3, 4, 5, 6, 7, 8] rfl rfl (by decide) (by decide) (fun r_1 u_r_1 H locs hw_r_1 hH hR_r_1 hk_r_1 => ?_)
  obtain rfl := hw_r_1
  have hH : zH G A s.heap (mW dA q M) H locs := hH
  refine z_ifeqB (b := inR a (nI 0) (nI 3)) (tgt := 16) hx hb dX2_inWell_4 (by decide) (fun c_4_2 => ?_) (fun c_4_2 => ?_)
  · skip
    refine lv_iconst (v := (-1)) hx hb dX2_inWell_16 (by decide) ?_
    exact z_iret hx hb hr hlocks hH (u := ()) (by simp only [aInWell, cl, if_pos c_4_2, if_neg (t_nt c_4_2)]; first | done | rfl) ⟨hH.1, hH.2.1⟩ trivial (Nat.le_of_ble_eq_true rfl) (Nat.le_of_ble_eq_true rfl) dX2_inWell_17
  · skip
    obtain ⟨a1, rfl, hlo_3, hup_4⟩ := inR_n (a := 0) (b := 3) (by decide) (by decide) c_4_2
    refine lv_aload_n hx hb dX2_inWell_7 rfl (lv_at hl 0 rfl) ?_
    refine lv_iload_n hx hb dX2_inWell_8 rfl (lv_at hl 1 rfl) ?_
    refine lv_iload_n hx hb dX2_inWell_9 rfl (lv_at hl 2 rfl) ?_
    refine z_ci (wr := []) (va_runV (As := [.int (nI a1), .int (b)]) (rest := []) ⟨hx, hb, hml, hown, hts⟩ (metX2_atPlace l G dA dS B0 H.size q M a1 b (by first | exact ha | assumption | omega) (by first | exact hbw | assumption | omega) (by first | exact h12 | assumption | omega)) (cwV 2 hts (lw_V q2230 q2232 qs55 q91 q2233) rfl rfl rfl (by decide +kernel) ⟨Nat.le_of_ble_eq_true rfl, Nat.le_of_ble_eq_true rfl⟩) (zPV hX hH hB hAB (z_recv hX kX2 (hH.at 0 rfl)) [0, 1, 2, 3, 4, 5, 6, 7, 8] rfl rfl trivial) rfl rfl hl.1 rfl (lv_room (Nat.le_of_ble_eq_true rfl)) dX2_inWell_10 ⟨(Nat.le_of_ble_eq_true rfl), (Nat.le_of_ble_eq_true rfl)⟩) hH hA [0, 1, 2, 3, 4, 5, 6, 7, 8] [] rfl rfl (by decide) (by decide) (fun r_5 u_r_5 H locs hw_r_5 hH hR_r_5 hk_r_5 => ?_)
    obtain rfl := hw_r_5
    have hH : zH G A s.heap (mW dA q M) H locs := hH
    refine lv_goto (tgt := 17) hx hb dX2_inWell_13 (by decide) ?_
    exact z_iret hx hb hr hlocks hH (u := ()) (by simp only [aInWell, cl, nI_clamp (show a1 < 2 ^ 31 by omega), if_pos c_4_2, if_neg (t_nf c_4_2)]; first | done | rfl) ⟨hH.1, hH.2.1⟩ trivial (Nat.le_of_ble_eq_true rfl) (Nat.le_of_ble_eq_true rfl) dX2_inWell_17

set_option maxHeartbeats 4000000 in
set_option maxRecDepth 100000 in
theorem metX2_would (l : Launch) (G : va_G) (dA : Nat → ClassId) (dS : Nat → Nat) (B0 sz : Nat) (q : Nat → Nat) (M : mS) (a : Int32) (B : Nat) (hrb : rB (M 1) B) (hBb : B + 20 < 2 ^ 30) : Met l yX2_would (ws_ yX2_would cX2_would 3 (some FieldType.int)) ({ frames := 5, cells := 0, slots := 0, locals := 130 }) (zP G dA dS B0 [.ref (q 0), .int (a)] sz (mW dA q M) (fun H => True)) (zQi G (fun (r : Int32) (u : Unit) => r = (mWould M a).1) (fun (u : Unit) => mW dA q ((mWould M a).2)) (fun (u : Unit) (H : Heap) => True) (va_A (mW dA q M) sz)) 0 0 (va_A (mW dA q M) sz) := by
  refine zM (by decide) (Nat.le_of_ble_eq_true rfl) ?_
  intro p e s m below meth c ls A H locs hHe hx hb hr hlocks hml hown hname hts hX hsz hB hAe hA hAB hH hRo hl
  have hl : lv_has ls 3 [(0, .ref (q 0)), (1, .int (a))] := hl
  have hbw := hrb.lt (by omega)
  have h12 := hrb.1
  refine lv_iload_n hx hb dX2_would_0 rfl (lv_at hl 1 rfl) ?_
  refine lv_iconst (v := nI 0) hx hb dX2_would_1 (by decide) ?_
  refine lv_bipush (v := nI 20) hx hb dX2_would_2 (by decide) ?_
  refine z_ci (wr := mW dA q M) (va_runS (As := [.int (a), .int (nI 0), .int (nI 20)]) (rest := []) ⟨hx, hb, hml, hown, hts⟩ (metX2_isBetween l G dA dS B0 H.size a (nI 0) (nI 20)) (va_cwS 3 hts (lw_S q2001 q2002 q91 q2003) rfl rfl rfl (by decide +kernel) ⟨Nat.le_of_ble_eq_true rfl, Nat.le_of_ble_eq_true rfl⟩) (zPS hX hH hB hAB [] rfl rfl trivial) rfl rfl hl.1 rfl (lv_room (Nat.le_of_ble_eq_true rfl)) dX2_would_4 ⟨(Nat.le_of_ble_eq_true rfl), (Nat.le_of_ble_eq_true rfl)⟩) hH hA [] [0, 1, 2, 3, 4, 5, 6, 7, 8] rfl rfl (by decide) (by decide) (fun r_1 u_r_1 H locs hw_r_1 hH hR_r_1 hk_r_1 => ?_)
  obtain rfl := hw_r_1
  have hH : zH G A s.heap (mW dA q M) H locs := hH
  refine z_ifneB (b := inR a (nI 0) (nI 20)) (tgt := 13) hx hb dX2_would_7 (by decide) (fun c_7_2 => ?_) (fun c_7_2 => ?_)
  · skip
    obtain ⟨a1, rfl, hl1, hu1⟩ := inR_n (a := 0) (b := 20) (by decide) (by decide) c_7_2
    refine lv_aload_n hx hb dX2_would_13 rfl (lv_at hl 0 rfl) ?_
    refine z_cv (wr := []) (va_runV (As := []) (rest := []) ⟨hx, hb, hml, hown, hts⟩ (metX2_looksAhead l G dA dS B0 H.size q M) (cwV 0 hts (lw_V q2298 q2300 qs59 q91 q2301) rfl rfl rfl (by decide +kernel) ⟨Nat.le_of_ble_eq_true rfl, Nat.le_of_ble_eq_true rfl⟩) (zPV hX hH hB hAB (z_recv hX kX2 (hH.at 0 rfl)) [0, 1, 2, 3, 4, 5, 6, 7, 8] rfl rfl trivial) rfl rfl hl.1 rfl (lv_room (Nat.le_of_ble_eq_true rfl)) dX2_would_14 ⟨(Nat.le_of_ble_eq_true rfl), (Nat.le_of_ble_eq_true rfl)⟩) hH hA [0, 1, 2, 3, 4, 5, 6, 7, 8] [] rfl rfl (by decide) (by decide) (fun u_r_3 H locs hw_r_3 hH hR_r_3 hk_r_3 => ?_)
    have hH : zH G A s.heap (mW dA q (mCp M 5 1)) H locs := hH
    refine lv_aload_n hx hb dX2_would_17 rfl (lv_at hl 0 rfl) ?_
    refine lv_iload_n hx hb dX2_would_18 rfl (lv_at hl 1 rfl) ?_
    refine z_ci (wr := []) (va_runV (As := [.int (nI a1)]) (rest := []) ⟨hx, hb, hml, hown, hts⟩ (metX2_pumps l G dA dS B0 H.size q (mCp M 5 1) a1 (by first | exact hk | assumption | omega) B (by first | exact hrb | assumption | omega) (by first | exact hBb | assumption | omega)) (cwV 1 hts (lw_V q2219 q2221 qs53 q91 q2222) rfl rfl rfl (by decide +kernel) ⟨Nat.le_of_ble_eq_true rfl, Nat.le_of_ble_eq_true rfl⟩) (zPV hX hH hB hAB (z_recv hX kX2 (hH.at 0 rfl)) [0, 1, 2, 3, 4, 5, 6, 7, 8] rfl rfl trivial) rfl rfl hl.1 rfl (lv_room (Nat.le_of_ble_eq_true rfl)) dX2_would_19 ⟨(Nat.le_of_ble_eq_true rfl), (Nat.le_of_ble_eq_true rfl)⟩) hH hA [0, 1, 2, 3, 4, 5, 6, 7, 8] [] rfl rfl (by decide) (by decide) (fun r_4 u_r_4 H locs hw_r_4 hH hR_r_4 hk_r_4 => ?_)
    obtain rfl := hw_r_4
    have hH : zH G A s.heap (mW dA q (ms (mCp M 5 1) 1 (pmp ((mCp M 5 1) 1) a1).2)) H locs := hH
    refine lv_istore_n (lv' := [(2, .int (nI ((pmp ((mCp M 5 1) 1) a1).1))), (0, .ref (q 0)), (1, .int (nI a1))]) hx hb dX2_would_22 rfl hl (by decide) rfl (fun ls hl => ?_)
    refine lv_aload_n hx hb dX2_would_23 rfl (lv_at hl 1 rfl) ?_
    refine z_cv (wr := []) (va_runV (As := []) (rest := []) ⟨hx, hb, hml, hown, hts⟩ (metX2_comesBack l G dA dS B0 H.size q (ms (mCp M 5 1) 1 (pmp ((mCp M 5 1) 1) a1).2)) (cwV 0 hts (lw_V q2302 q2304 qs60 q91 q2305) rfl rfl rfl (by decide +kernel) ⟨Nat.le_of_ble_eq_true rfl, Nat.le_of_ble_eq_true rfl⟩) (zPV hX hH hB hAB (z_recv hX kX2 (hH.at 0 rfl)) [0, 1, 2, 3, 4, 5, 6, 7, 8] rfl rfl trivial) rfl rfl hl.1 rfl (lv_room (Nat.le_of_ble_eq_true rfl)) dX2_would_24 ⟨(Nat.le_of_ble_eq_true rfl), (Nat.le_of_ble_eq_true rfl)⟩) hH hA [0, 1, 2, 3, 4, 5, 6, 7, 8] [] rfl rfl (by decide) (by decide) (fun u_r_5 H locs hw_r_5 hH hR_r_5 hk_r_5 => ?_)
    have hH : zH G A s.heap (mW dA q (mCp (ms (mCp M 5 1) 1 (pmp ((mCp M 5 1) 1) a1).2) 1 5)) H locs := hH
    refine lv_iload_n hx hb dX2_would_27 rfl (lv_at hl 0 rfl) ?_
    have eM : mCp (ms (mCp M 5 1) 1 (pmp ((mCp M 5 1) 1) a1).2) 1 5 = (mWould M (nI a1)).2 := by simp only [mWould, mTry, cl, nI_clamp (show a1 < 2 ^ 31 by omega), if_pos c_7_2, if_neg (t_nf c_7_2)]; first | done | rfl
    rw [eM] at hH
    exact z_iret hx hb hr hlocks hH (u := ()) (by simp only [mWould, cl, nI_clamp (show a1 < 2 ^ 31 by omega), if_pos c_7_2, if_neg (t_nf c_7_2)]; first | done | rfl) ⟨hH.1, hH.2.1⟩ trivial (Nat.le_of_ble_eq_true rfl) (Nat.le_of_ble_eq_true rfl) dX2_would_28
  · skip
    refine lv_bipush (v := (-2)) hx hb dX2_would_10 (by decide) ?_
    have eM : M = (mWould M a).2 := by simp only [mWould, mTry, cl, if_pos c_7_2, if_neg (t_nt c_7_2)]; first | done | rfl
    rw [eM] at hH
    exact z_iret hx hb hr hlocks hH (u := ()) (by simp only [mWould, cl, if_pos c_7_2, if_neg (t_nt c_7_2)]; first | done | rfl) ⟨hH.1, hH.2.1⟩ trivial (Nat.le_of_ble_eq_true rfl) (Nat.le_of_ble_eq_true rfl) dX2_would_12

set_option maxHeartbeats 4000000 in
set_option maxRecDepth 100000 in
theorem metX2_groansIn (l : Launch) (G : va_G) (dA : Nat → ClassId) (dS : Nat → Nat) (B0 sz : Nat) (q : Nat → Nat) (M : mS) (a : Int32) (B : Nat) (hrb : rB (M 1) B) (hBb : B + 20 < 2 ^ 30) : Met l yX2_groansIn (ws_ yX2_groansIn cX2_groansIn 3 (some FieldType.int)) ({ frames := 5, cells := 0, slots := 0, locals := 130 }) (zP G dA dS B0 [.ref (q 0), .int (a)] sz (mW dA q M) (fun H => True)) (zQi G (fun (r : Int32) (u : Unit) => r = (mGroansIn M a).1) (fun (u : Unit) => mW dA q ((mGroansIn M a).2)) (fun (u : Unit) (H : Heap) => True) (va_A (mW dA q M) sz)) 0 0 (va_A (mW dA q M) sz) := by
  refine zM (by decide) (Nat.le_of_ble_eq_true rfl) ?_
  intro p e s m below meth c ls A H locs hHe hx hb hr hlocks hml hown hname hts hX hsz hB hAe hA hAB hH hRo hl
  have hl : lv_has ls 3 [(0, .ref (q 0)), (1, .int (a))] := hl
  have hbw := hrb.lt (by omega)
  have h12 := hrb.1
  refine lv_iload_n hx hb dX2_groansIn_0 rfl (lv_at hl 1 rfl) ?_
  refine lv_iconst (v := nI 0) hx hb dX2_groansIn_1 (by decide) ?_
  refine lv_bipush (v := nI 20) hx hb dX2_groansIn_2 (by decide) ?_
  refine z_ci (wr := mW dA q M) (va_runS (As := [.int (a), .int (nI 0), .int (nI 20)]) (rest := []) ⟨hx, hb, hml, hown, hts⟩ (metX2_isBetween l G dA dS B0 H.size a (nI 0) (nI 20)) (va_cwS 3 hts (lw_S q2001 q2002 q91 q2003) rfl rfl rfl (by decide +kernel) ⟨Nat.le_of_ble_eq_true rfl, Nat.le_of_ble_eq_true rfl⟩) (zPS hX hH hB hAB [] rfl rfl trivial) rfl rfl hl.1 rfl (lv_room (Nat.le_of_ble_eq_true rfl)) dX2_groansIn_4 ⟨(Nat.le_of_ble_eq_true rfl), (Nat.le_of_ble_eq_true rfl)⟩) hH hA [] [0, 1, 2, 3, 4, 5, 6, 7, 8] rfl rfl (by decide) (by decide) (fun r_1 u_r_1 H locs hw_r_1 hH hR_r_1 hk_r_1 => ?_)
  obtain rfl := hw_r_1
  have hH : zH G A s.heap (mW dA q M) H locs := hH
  refine z_ifneB (b := inR a (nI 0) (nI 20)) (tgt := 13) hx hb dX2_groansIn_7 (by decide) (fun c_7_2 => ?_) (fun c_7_2 => ?_)
  · skip
    obtain ⟨a1, rfl, hl1, hu1⟩ := inR_n (a := 0) (b := 20) (by decide) (by decide) c_7_2
    refine lv_aload_n hx hb dX2_groansIn_13 rfl (lv_at hl 0 rfl) ?_
    refine z_cv (wr := []) (va_runV (As := []) (rest := []) ⟨hx, hb, hml, hown, hts⟩ (metX2_looksAhead l G dA dS B0 H.size q M) (cwV 0 hts (lw_V q2298 q2300 qs59 q91 q2301) rfl rfl rfl (by decide +kernel) ⟨Nat.le_of_ble_eq_true rfl, Nat.le_of_ble_eq_true rfl⟩) (zPV hX hH hB hAB (z_recv hX kX2 (hH.at 0 rfl)) [0, 1, 2, 3, 4, 5, 6, 7, 8] rfl rfl trivial) rfl rfl hl.1 rfl (lv_room (Nat.le_of_ble_eq_true rfl)) dX2_groansIn_14 ⟨(Nat.le_of_ble_eq_true rfl), (Nat.le_of_ble_eq_true rfl)⟩) hH hA [0, 1, 2, 3, 4, 5, 6, 7, 8] [] rfl rfl (by decide) (by decide) (fun u_r_3 H locs hw_r_3 hH hR_r_3 hk_r_3 => ?_)
    have hH : zH G A s.heap (mW dA q (mCp M 5 1)) H locs := hH
    refine lv_aload_n hx hb dX2_groansIn_17 rfl (lv_at hl 0 rfl) ?_
    refine lv_iload_n hx hb dX2_groansIn_18 rfl (lv_at hl 1 rfl) ?_
    refine z_ci (wr := []) (va_runV (As := [.int (nI a1)]) (rest := []) ⟨hx, hb, hml, hown, hts⟩ (metX2_pumps l G dA dS B0 H.size q (mCp M 5 1) a1 (by first | exact hk | assumption | omega) B (by first | exact hrb | assumption | omega) (by first | exact hBb | assumption | omega)) (cwV 1 hts (lw_V q2219 q2221 qs53 q91 q2222) rfl rfl rfl (by decide +kernel) ⟨Nat.le_of_ble_eq_true rfl, Nat.le_of_ble_eq_true rfl⟩) (zPV hX hH hB hAB (z_recv hX kX2 (hH.at 0 rfl)) [0, 1, 2, 3, 4, 5, 6, 7, 8] rfl rfl trivial) rfl rfl hl.1 rfl (lv_room (Nat.le_of_ble_eq_true rfl)) dX2_groansIn_19 ⟨(Nat.le_of_ble_eq_true rfl), (Nat.le_of_ble_eq_true rfl)⟩) hH hA [0, 1, 2, 3, 4, 5, 6, 7, 8] [] rfl rfl (by decide) (by decide) (fun r_4 u_r_4 H locs hw_r_4 hH hR_r_4 hk_r_4 => ?_)
    obtain rfl := hw_r_4
    have hH : zH G A s.heap (mW dA q (ms (mCp M 5 1) 1 (pmp ((mCp M 5 1) 1) a1).2)) H locs := hH
    refine lv_pop hx hb dX2_groansIn_22 rfl ?_
    refine lv_aload_n hx hb dX2_groansIn_23 rfl (lv_at hl 0 rfl) ?_
    refine z_get (v := .ref (q 1)) hx hb hts hown hX kX2 6 (by decide) (hH.at 0 rfl) rfl q2016 (fun _ h9 => h9) dX2_groansIn_24 ?_
    refine lv_iconst (v := nI 4) hx hb dX2_groansIn_27 (by decide) ?_
    refine z_iald (x := nI ((pmp ((mCp M 5 1) 1) a1).2 4)) hx hb hX (k := 4)  (hH.at 1 rfl) rfl (by omega) (by omega) rfl dX2_groansIn_28 ?_
    refine lv_istore_n (lv' := [(2, .int (nI ((pmp ((mCp M 5 1) 1) a1).2 4))), (0, .ref (q 0)), (1, .int (nI a1))]) hx hb dX2_groansIn_29 rfl hl (by decide) rfl (fun ls hl => ?_)
    refine lv_aload_n hx hb dX2_groansIn_30 rfl (lv_at hl 1 rfl) ?_
    refine z_cv (wr := []) (va_runV (As := []) (rest := []) ⟨hx, hb, hml, hown, hts⟩ (metX2_comesBack l G dA dS B0 H.size q (ms (mCp M 5 1) 1 (pmp ((mCp M 5 1) 1) a1).2)) (cwV 0 hts (lw_V q2302 q2304 qs60 q91 q2305) rfl rfl rfl (by decide +kernel) ⟨Nat.le_of_ble_eq_true rfl, Nat.le_of_ble_eq_true rfl⟩) (zPV hX hH hB hAB (z_recv hX kX2 (hH.at 0 rfl)) [0, 1, 2, 3, 4, 5, 6, 7, 8] rfl rfl trivial) rfl rfl hl.1 rfl (lv_room (Nat.le_of_ble_eq_true rfl)) dX2_groansIn_31 ⟨(Nat.le_of_ble_eq_true rfl), (Nat.le_of_ble_eq_true rfl)⟩) hH hA [0, 1, 2, 3, 4, 5, 6, 7, 8] [] rfl rfl (by decide) (by decide) (fun u_r_5 H locs hw_r_5 hH hR_r_5 hk_r_5 => ?_)
    have hH : zH G A s.heap (mW dA q (mCp (ms (mCp M 5 1) 1 (pmp ((mCp M 5 1) 1) a1).2) 1 5)) H locs := hH
    refine lv_iload_n hx hb dX2_groansIn_34 rfl (lv_at hl 0 rfl) ?_
    have eM : mCp (ms (mCp M 5 1) 1 (pmp ((mCp M 5 1) 1) a1).2) 1 5 = (mGroansIn M (nI a1)).2 := by simp only [mGroansIn, mTry, cl, nI_clamp (show a1 < 2 ^ 31 by omega), if_pos c_7_2, if_neg (t_nf c_7_2)]; first | done | rfl
    rw [eM] at hH
    exact z_iret hx hb hr hlocks hH (u := ()) (by simp only [mGroansIn, cl, nI_clamp (show a1 < 2 ^ 31 by omega), if_pos c_7_2, if_neg (t_nf c_7_2)]; first | done | rfl) ⟨hH.1, hH.2.1⟩ trivial (Nat.le_of_ble_eq_true rfl) (Nat.le_of_ble_eq_true rfl) dX2_groansIn_35
  · skip
    refine lv_bipush (v := (-2)) hx hb dX2_groansIn_10 (by decide) ?_
    have eM : M = (mGroansIn M a).2 := by simp only [mGroansIn, mTry, cl, if_pos c_7_2, if_neg (t_nt c_7_2)]; first | done | rfl
    rw [eM] at hH
    exact z_iret hx hb hr hlocks hH (u := ()) (by simp only [mGroansIn, cl, if_pos c_7_2, if_neg (t_nt c_7_2)]; first | done | rfl) ⟨hH.1, hH.2.1⟩ trivial (Nat.le_of_ble_eq_true rfl) (Nat.le_of_ble_eq_true rfl) dX2_groansIn_12

