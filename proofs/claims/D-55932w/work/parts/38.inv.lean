/-! the row's deeper laws, kept by every deed -/
def rI (w : Nat → Nat) : Prop :=
  (∀ i, i < w 0 → ∀ j, j < w 0 → jk w i 2 = jk w j 2 → i = j) ∧ (∀ i, i < w 0 → kn w (jk w i 2) = false) ∧ cN (kn w) 64 = w 6 ∧
  rD w ∧ (∀ a, a ≤ 3 → jin w a ≤ 6) ∧ w 11 = lsum w (w 6) ∧ w 7 = w 0 + w 6 + w 8
theorem lsum_congr {v w : Nat → Nat} : ∀ {k : Nat}, (∀ i, i < k → v (82 + 3 * i + 2) = w (82 + 3 * i + 2)) → lsum v k = lsum w k
  | 0, _ => rfl
  | k + 1, h => by
    show faN (lsum v k) (v (82 + 3 * k + 2)) = faN (lsum w k) (w (82 + 3 * k + 2))
    rw [lsum_congr (fun i hi => h i (by omega)), h k (by omega)]
theorem kn_congr {v w : Nat → Nat} (h12 : v 12 = w 12) (h13 : v 13 = w 13) {s : Nat} (hs : s < 64) : kn v s = kn w s := by
  unfold kn
  rcases (show s / 32 = 0 ∨ s / 32 = 1 by omega) with e | e <;> rw [e]
  · rw [show 12 + 0 = 12 from rfl, h12]
  · rw [show 12 + 1 = 13 from rfl, h13]
/-- what the laws read -/
def sameI (v w : Nat → Nat) : Prop := v 0 = w 0 ∧ v 6 = w 6 ∧ v 7 = w 7 ∧ v 8 = w 8 ∧ v 11 = w 11 ∧ v 12 = w 12 ∧ v 13 = w 13 ∧ (∀ k, k < w 0 → ∀ e, e < 3 → jk v k e = jk w k e) ∧ (∀ k, k < w 6 → v (82 + 3 * k + 2) = w (82 + 3 * k + 2))
theorem rI_congr {v w : Nat → Nat} (hs : ∀ k, k < w 0 → jk w k 2 < 64) (h : sameI v w) (hi : rI w) : rI v := by
  obtain ⟨e0, e6, e7, e8, e11, e12, e13, ej, el⟩ := h
  obtain ⟨a1, a2, a3, a4, a5, a6, a7⟩ := hi
  refine ⟨fun i h1 j h2 h3 => ?_, fun i h1 => ?_, ?_, fun i h1 j h2 h3 h4 => ?_, fun a ha => ?_, ?_, by omega⟩
  · rw [e0] at h1 h2
    rw [ej i h1 2 (by decide), ej j h2 2 (by decide)] at h3
    exact a1 i h1 j h2 h3
  · rw [e0] at h1
    rw [ej i h1 2 (by decide), kn_congr e12 e13 (hs i h1)]
    exact a2 i h1
  · rw [e6, ← a3]
    exact cN_congr (fun i hi => kn_congr e12 e13 hi)
  · rw [e0] at h1 h2
    rw [ej i h1 0 (by decide), ej j h2 0 (by decide)] at h3
    rw [ej i h1 1 (by decide), ej j h2 1 (by decide)] at h4
    exact a4 i h1 j h2 h3 h4
  · have : jin v a = jin w a := by
      unfold jin
      rw [e0]
      exact cN_congr (fun i hi => by rw [ej i hi 0 (by decide)])
    rw [this]; exact a5 a ha
  · rw [e11, e6, a6, lsum_congr el]
theorem cN_eq1 {c : Nat} : ∀ n, cN (fun s => decide (c = s)) n = if c < n then 1 else 0
  | 0 => rfl
  | n + 1 => by
    show cN (fun s => decide (c = s)) n + bN (decide (c = n)) = _
    rw [cN_eq1 n]
    by_cases h : c < n
    · rw [if_pos h, if_pos (by omega), decide_eq_false (by omega)]; rfl
    · rw [if_neg h]
      by_cases h2 : c = n
      · rw [decide_eq_true h2, if_pos (by omega)]; rfl
      · rw [decide_eq_false h2, if_neg (by omega)]; rfl
theorem fO_isS (p : Nat → Bool) (n : Nat) : (fO p (n + 1)).isSome = ((fO p n).isSome || p n) := by
  cases h : fO p n with
  | some i => rw [fO_mono h (n + 1) (by omega)]; rfl
  | none =>
    cases h2 : p n with
    | true => rw [fO_y h h2]; rfl
    | false => rw [fO_n h h2]; rfl
theorem fO_hit {p : Nat → Bool} {n k : Nat} (hk : k < n) (h : p k = true) : (fO p n).isSome = true := by
  cases hf : fO p n with
  | some i => rfl
  | none => rw [fO_none hf k hk] at h; cases h
/-- so many values of an injective list -/
theorem cN_inj {g : Nat → Nat} : ∀ {n : Nat}, (∀ i, i < n → g i < 64) → (∀ i, i < n → ∀ j, j < n → g i = g j → i = j) → cN (fun s => (fO (fun k => decide (g k = s)) n).isSome) 64 = n
  | 0, _, _ => by
    exact (show ∀ n, cN (fun s => (fO (fun k => decide (g k = s)) 0).isSome) n = 0 from fun n => by
      induction n with
      | zero => rfl
      | succ n ih => show cN _ n + 0 = 0; rw [ih]) 64
  | n + 1, hb, hi => by
    have ih := cN_inj (g := g) (n := n) (fun i h => hb i (by omega)) (fun i h1 j h2 => hi i (by omega) j (by omega))
    have h1 : cN (fun s => (fO (fun k => decide (g k = s)) (n + 1)).isSome) 64 = cN (fun s => (fO (fun k => decide (g k = s)) n).isSome) 64 + cN (fun s => decide (g n = s)) 64 := by
      apply cN_step1
      intro s
      rw [fO_isS]
      cases h2 : fO (fun k => decide (g k = s)) n with
      | none => simp [bN]
      | some i =>
        have h3 := fO_spec h2
        have h4 : g i = s := by simpa using h3.2.1
        have h5 : ¬ g n = s := fun h => by have := hi i (by omega) n (by omega) (by omega); omega
        simp [bN, h5]
    rw [h1, ih, cN_eq1, if_pos (hb n (by omega))]
theorem rI_sum {w : Nat → Nat} (hi : rI w) (hs : ∀ k, k < w 0 → jk w k 2 < 64) : w 6 + w 0 ≤ 64 := by
  obtain ⟨a1, a2, a3, _⟩ := hi
  have h1 := cN_inj (g := fun k => jk w k 2) (n := w 0) hs a1
  have h2 : cN (fun s => kn w s || (fO (fun k => decide (jk w k 2 = s)) (w 0)).isSome) 64 = cN (kn w) 64 + cN (fun s => (fO (fun k => decide (jk w k 2 = s)) (w 0)).isSome) 64 := by
    apply cN_step1
    intro s
    cases h2 : fO (fun k => decide (jk w k 2 = s)) (w 0) with
    | none => simp [bN]
    | some i =>
      have h3 := fO_spec h2
      have h4 : jk w i 2 = s := by simpa using h3.2.1
      have h5 := a2 i (by omega)
      rw [h4] at h5
      simp [bN, h5]
  have h3 := cN_le (fun s => kn w s || (fO (fun k => decide (jk w k 2 = s)) (w 0)).isSome) 64
  omega
theorem rB_uP {w : Nat → Nat} {B k x : Nat} (h : rB w B) (hk : k = 1 ∧ x ≤ 3 ∨ k = 2 ∧ 1 ≤ x ∧ x ≤ 10 ∨ k = 3 ∧ x ≤ 30 ∨ k = 4 ∧ x ≤ 44 ∨ k = 5 ∧ x ≤ 9 ∨ (7 ≤ k ∧ k ≤ 10 ∧ x ≤ B) ∨ (14 ≤ k ∧ k ≤ 17 ∧ 1 ≤ x ∧ x ≤ 5)) : rB (uP w k x) B := by
  obtain ⟨a0, a1, a2, a3, a4, a5, a6, a7, a8, a9, a10, a11, a12, a13, a14, a15, a16, a17, a18, a19, a20⟩ := h
  have e : ∀ i, uP w k x i = if i = k then x else w i := fun _ => rfl
  have ej : ∀ i, i ≥ 18 → uP w k x i = w i := fun i hi => by rw [e, if_neg (by omega)]
  refine ⟨?_, ?_, fun i hi => ?_, ?_, ?_, ?_, ?_, ?_, ?_, ?_, ?_, ?_, ?_, ?_, fun i hi => ?_, fun i hi => ?_, fun i hi => ?_, fun i h1 h2 => ?_, ?_, ?_, fun i hi => ?_⟩
  · rw [e, if_neg (by omega)]; exact a0
  · rw [e, e, if_neg (by omega), if_neg (by omega)]; exact a1
  · rw [e, if_neg (by omega)] at hi
    simp only [jk]
    rw [ej _ (by omega), ej _ (by omega), ej _ (by omega), ej _ (by omega), ej _ (by omega)]
    exact a2 i hi
  · rw [e]; split <;> omega
  · rw [e]; split <;> omega
  · rw [e]; split <;> omega
  · rw [e]; split <;> omega
  · rw [e]; split <;> omega
  · rw [e]; split <;> omega
  · rw [e]; split <;> omega
  · rw [e]; split <;> omega
  · rw [e]; split <;> omega
  · rw [e]; split <;> omega
  · rw [e, if_neg (by omega)]; exact a13
  · have := a14 i hi
    rw [e]; split <;> omega
  · rw [ej _ (by omega), e, if_neg (by omega)]; exact a15 i hi
  · rw [ej _ (by omega), ej _ (by omega), ej _ (by omega)]; exact a16 i hi
  · rw [ej _ (by omega)]; exact a17 i h1 h2
  · rw [e, if_neg (by omega)]; exact a18
  · rw [e, if_neg (by omega)]; exact a19
  · rw [ej _ (by omega)]; exact a20 i hi
/-- an update of a field that the laws don't read -/
theorem rI_uP {w : Nat → Nat} {B k x : Nat} (h : rB w B) (hi : rI w) (hk : k = 1 ∨ k = 2 ∨ k = 3 ∨ k = 4 ∨ k = 5 ∨ k = 9 ∨ k = 10 ∨ (14 ≤ k ∧ k ≤ 17)) : rI (uP w k x) := by
  have e : ∀ i, i ≠ k → uP w k x i = w i := fun i hi => by unfold uP; rw [if_neg hi]
  refine rI_congr (fun k hk => (h.2.2.1 k hk).2.2.2.1) ⟨e _ (by omega), e _ (by omega), e _ (by omega), e _ (by omega), e _ (by omega), e _ (by omega), e _ (by omega), fun i hi j hj => ?_, fun i hi => e _ (by omega)⟩ hi
  simp only [jk]
  exact e _ (by omega)
/-- a joke is primed -/
theorem rB_jk4 {w : Nat → Nat} {B j : Nat} (h : rB w B) (hj : j < 12) : rB (uP w (22 + 5 * j + 4) 1) B := by
  obtain ⟨a0, a1, a2, a3, a4, a5, a6, a7, a8, a9, a10, a11, a12, a13, a14, a15, a16, a17, a18, a19, a20⟩ := h
  have e : ∀ i, uP w (22 + 5 * j + 4) 1 i = if i = 22 + 5 * j + 4 then 1 else w i := fun _ => rfl
  have el : ∀ i, i < 22 → uP w (22 + 5 * j + 4) 1 i = w i := fun i hi => by rw [e, if_neg (by omega)]
  have eh : ∀ i, i ≥ 82 → uP w (22 + 5 * j + 4) 1 i = w i := fun i hi => by rw [e, if_neg (by omega)]
  refine ⟨?_, ?_, fun i hi => ?_, ?_, ?_, ?_, ?_, ?_, ?_, ?_, ?_, ?_, ?_, ?_, fun i hi => ?_, fun i hi => ?_, fun i hi => ?_, fun i h1 h2 => ?_, ?_, ?_, fun i hi => ?_⟩
  · rw [el _ (by omega)]; exact a0
  · rw [el _ (by omega), el _ (by omega)]; exact a1
  · rw [el _ (by omega)] at hi
    have := a2 i hi
    simp only [jk] at this ⊢
    rw [e (22 + 5 * i + 0), if_neg (by omega), e (22 + 5 * i + 1), if_neg (by omega), e (22 + 5 * i + 2), if_neg (by omega), e (22 + 5 * i + 3), if_neg (by omega), e]
    split <;> omega
  · rw [el _ (by omega)]; exact a3
  · rw [el _ (by omega)]; exact a4
  · rw [el _ (by omega)]; exact a5
  · rw [el _ (by omega)]; exact a6
  · rw [el _ (by omega)]; exact a7
  · rw [el _ (by omega)]; exact a8
  · rw [el _ (by omega)]; exact a9
  · rw [el _ (by omega)]; exact a10
  · rw [el _ (by omega)]; exact a11
  · rw [el _ (by omega)]; exact a12
  · rw [el _ (by omega)]; exact a13
  · rw [el _ (by omega)]; exact a14 i hi
  · rw [el _ (by omega), el _ (by omega)]; exact a15 i hi
  · rw [eh _ (by omega), eh _ (by omega), eh _ (by omega)]; exact a16 i hi
  · have := a17 i h1 h2
    rw [e]; split <;> omega
  · rw [el _ (by omega)]; exact a18
  · rw [el _ (by omega)]; exact a19
  · rw [eh _ (by omega)]; exact a20 i hi
theorem rI_jk4 {w : Nat → Nat} {B j x : Nat} (h : rB w B) (hi : rI w) (hj : j < 12) : rI (uP w (22 + 5 * j + 4) x) := by
  have e : ∀ i, i ≠ 22 + 5 * j + 4 → uP w (22 + 5 * j + 4) x i = w i := fun i hi => by unfold uP; rw [if_neg hi]
  refine rI_congr (fun k hk => (h.2.2.1 k hk).2.2.2.1) ⟨e _ (by omega), e _ (by omega), e _ (by omega), e _ (by omega), e _ (by omega), e _ (by omega), e _ (by omega), fun i hi j hj => ?_, fun i hi => e _ (by omega)⟩ hi
  simp only [jk]
  exact e _ (by omega)
/-- one joke goes: what is counted over the others -/
theorem cN_gone {p : Nat → Bool} {j : Nat} : ∀ n, cN (fun k => p (if k < j then k else k + 1)) n + (if j ≤ n then bN (p j) else 0) = cN p (if j ≤ n then n + 1 else n)
  | 0 => by
    by_cases h : j ≤ 0
    · have : j = 0 := by omega
      subst this
      rw [if_pos h, if_pos h]; rfl
    · rw [if_neg h, if_neg h]; rfl
  | n + 1 => by
    have ih := cN_gone (p := p) (j := j) n
    show (cN (fun k => p (if k < j then k else k + 1)) n + bN (p (if n < j then n else n + 1))) + _ = _
    by_cases h : j ≤ n
    · rw [if_pos h, if_pos h] at ih
      rw [if_neg (show ¬ n < j by omega), if_pos (show j ≤ n + 1 by omega), if_pos (show j ≤ n + 1 by omega)]
      show _ = cN p (n + 1) + bN (p (n + 1))
      omega
    · rw [if_neg h, if_neg h] at ih
      by_cases h2 : j = n + 1
      · rw [if_pos (show n < j by omega), if_pos (show j ≤ n + 1 by omega), if_pos (show j ≤ n + 1 by omega), h2]
        rw [h2] at ih
        show _ = (cN p n + bN (p n)) + bN (p (n + 1))
        omega
      · rw [if_pos (show n < j by omega), if_neg (show ¬ j ≤ n + 1 by omega), if_neg (show ¬ j ≤ n + 1 by omega)]
        show _ = cN p n + bN (p n)
        omega
theorem rI_gone {w : Nat → Nat} {B j : Nat} (h : rB w B) (hj : j < w 0) (hi : rI w) : rI (uP (gone w j) 8 (gone w j 8 + 1)) := by
  obtain ⟨a1, a2, a3, a4, a5, a6, a7⟩ := hi
  have hs := fun k hk => (h.2.2.1 k hk).2.2.2.1
  have h12 := h.1
  have g0 := gone_0 w j
  have gl : ∀ i, i < 22 → i ≠ 0 → i ≠ 8 → uP (gone w j) 8 (gone w j 8 + 1) i = w i := fun i h1 h2 h3 => by unfold uP; rw [if_neg h3, gone_lo h1 h2]
  have gj : ∀ k e, k < w 0 - 1 → e < 5 → jk (uP (gone w j) 8 (gone w j 8 + 1)) k e = jk w (if k < j then k else k + 1) e := fun k e hk he => by
    rw [← gone_jk (j := j) hk he]
    simp only [jk, uP]
    rw [if_neg (by omega)]
  have u0 : uP (gone w j) 8 (gone w j 8 + 1) 0 = w 0 - 1 := by rw [← g0]; rfl
  have u8 : uP (gone w j) 8 (gone w j 8 + 1) 8 = w 8 + 1 := by rw [uP_s, gone_lo (by decide) (by decide)]
  have gh : ∀ i, 82 ≤ i → uP (gone w j) 8 (gone w j 8 + 1) i = w i := fun i h1 => by unfold uP; rw [if_neg (by omega), gone_hi h1 h12 hj]
  generalize uP (gone w j) 8 (gone w j 8 + 1) = v at *
  have hl : ∀ k, k < w 0 - 1 → (if k < j then k else k + 1) < w 0 := fun k hk => by split <;> omega
  refine ⟨fun i h1 k h2 h3 => ?_, fun i h1 => ?_, ?_, fun i h1 k h2 h3 h4 => ?_, fun a ha => ?_, ?_, ?_⟩
  · rw [u0] at h1 h2
    rw [gj i 2 h1 (by decide), gj k 2 h2 (by decide)] at h3
    have := a1 _ (hl i h1) _ (hl k h2) h3
    split at this <;> split at this <;> omega
  · rw [u0] at h1
    rw [gj i 2 h1 (by decide), kn_congr (gl 12 (by decide) (by decide) (by decide)) (gl 13 (by decide) (by decide) (by decide)) (hs _ (hl i h1))]
    exact a2 _ (hl i h1)
  · rw [gl 6 (by decide) (by decide) (by decide), ← a3]
    exact cN_congr (fun i hi => kn_congr (gl 12 (by decide) (by decide) (by decide)) (gl 13 (by decide) (by decide) (by decide)) hi)
  · rw [u0] at h1 h2
    rw [gj i 0 h1 (by decide), gj k 0 h2 (by decide)] at h3
    rw [gj i 1 h1 (by decide), gj k 1 h2 (by decide)] at h4
    have := a4 _ (hl i h1) _ (hl k h2) h3 h4
    split at this <;> split at this <;> omega
  · refine Nat.le_trans ?_ (a5 a ha)
    unfold jin
    rw [u0]
    have h3 := cN_gone (p := fun k => decide (jk w k 0 = a)) (j := j) (w 0 - 1)
    rw [if_pos (by omega), if_pos (by omega), show w 0 - 1 + 1 = w 0 by omega] at h3
    have h4 : cN (fun k => decide (jk v k 0 = a)) (w 0 - 1) = cN (fun k => (fun k => decide (jk w k 0 = a)) (if k < j then k else k + 1)) (w 0 - 1) := cN_congr (fun k hk => by simp only; rw [gj k 0 hk (by decide)])
    rw [h4]
    exact Nat.le.intro h3
  · rw [gl 6 (by decide) (by decide) (by decide), gl 11 (by decide) (by decide) (by decide), a6, lsum_congr (fun k _ => (gh _ (by omega)).symm)]
  · rw [u0, u8, gl 7 (by decide) (by decide) (by decide), gl 6 (by decide) (by decide) (by decide)]; omega
theorem rB_gone {w : Nat → Nat} {B j : Nat} (h : rB w B) (hj : j < w 0) : rB (uP (gone w j) 8 (gone w j 8 + 1)) (B + 1) := by
  obtain ⟨a0, a1, a2, a3, a4, a5, a6, a7, a8, a9, a10, a11, a12, a13, a14, a15, a16, a17, a18, a19, a20⟩ := h
  have g0 := gone_0 w j
  have gl : ∀ i, i < 22 → i ≠ 0 → i ≠ 8 → uP (gone w j) 8 (gone w j 8 + 1) i = w i := fun i h1 h2 h3 => by unfold uP; rw [if_neg h3, gone_lo h1 h2]
  have gj : ∀ k e, k < w 0 - 1 → e < 5 → jk (uP (gone w j) 8 (gone w j 8 + 1)) k e = jk w (if k < j then k else k + 1) e := fun k e hk he => by
    rw [← gone_jk (j := j) hk he]
    simp only [jk, uP]
    rw [if_neg (by omega)]
  have u0 : uP (gone w j) 8 (gone w j 8 + 1) 0 = w 0 - 1 := by rw [← g0]; rfl
  have u8 : uP (gone w j) 8 (gone w j 8 + 1) 8 = w 8 + 1 := by rw [uP_s, gone_lo (by decide) (by decide)]
  have gh : ∀ i, 82 ≤ i → uP (gone w j) 8 (gone w j 8 + 1) i = w i := fun i h1 => by unfold uP; rw [if_neg (by omega), gone_hi h1 a0 hj]
  have gm : ∀ i, 22 ≤ i → i < 82 → uP (gone w j) 8 (gone w j 8 + 1) i < 64 := fun i h1 h2 => by
    unfold uP; rw [if_neg (by omega)]
    exact gone_b (P := fun x => x < 64) a17 (by decide) a0 i h1 h2
  generalize uP (gone w j) 8 (gone w j 8 + 1) = v at *
  refine ⟨?_, ?_, fun i hi => ?_, ?_, ?_, ?_, ?_, ?_, ?_, ?_, ?_, ?_, ?_, ?_, fun i hi => ?_, fun i hi => ?_, fun i hi => ?_, fun i h1 h2 => ?_, ?_, ?_, fun i hi => ?_⟩
  · omega
  · rw [gl 6 (by decide) (by decide) (by decide)]; omega
  · rw [u0] at hi
    rw [gj i 0 hi (by decide), gj i 1 hi (by decide), gj i 2 hi (by decide), gj i 3 hi (by decide), gj i 4 hi (by decide)]
    exact a2 _ (by split <;> omega)
  · rw [gl _ (by decide) (by decide) (by decide)]; exact a3
  · rw [gl _ (by decide) (by decide) (by decide)]; exact a4
  · rw [gl _ (by decide) (by decide) (by decide)]; exact a5
  · rw [gl _ (by decide) (by decide) (by decide)]; exact a6
  · rw [gl _ (by decide) (by decide) (by decide)]; exact a7
  · rw [gl _ (by decide) (by decide) (by decide)]; exact a8
  · rw [gl _ (by decide) (by decide) (by decide)]; omega
  · rw [u8]; omega
  · rw [gl _ (by decide) (by decide) (by decide)]; omega
  · rw [gl _ (by decide) (by decide) (by decide)]; omega
  · rw [gl _ (by decide) (by decide) (by decide)]; exact a13
  · rw [gl _ (by omega) (by omega) (by omega)]; exact a14 i hi
  · rw [gl _ (by omega) (by omega) (by omega), gl 6 (by decide) (by decide) (by decide)]; exact a15 i hi
  · rw [gh _ (by omega), gh _ (by omega), gh _ (by omega)]; exact a16 i hi
  · exact gm i h1 h2
  · rw [gl _ (by decide) (by decide) (by decide)]; exact a18
  · rw [gl _ (by decide) (by decide) (by decide)]; exact a19
  · rw [gh _ (by omega)]; exact a20 i hi
/-- a joke comes -/
def comeW (w : Nat → Nat) (a b c d : Nat) : Nat → Nat := uP (uP (uP (uP (uP (uP (uP w (22 + 5 * w 0) a) (22 + 5 * w 0 + 1) b) (22 + 5 * w 0 + 2) c) (22 + 5 * w 0 + 3) d) (22 + 5 * w 0 + 4) 0) 7 (w 7 + 1)) 0 (w 0 + 1)
theorem mComes_1 (M : mS) (a b c d : Nat) : mComes M a b c d = ms M 1 (comeW (M 1) a b c d) := by
  unfold mComes comeW
  simp only [mu_as_ms, ms_ms, ms_s]
section COME
variable {w : Nat → Nat} {a b c d : Nat}
theorem come_0 : comeW w a b c d 0 = w 0 + 1 := uP_s _ _ _
theorem come_7 : comeW w a b c d 7 = w 7 + 1 := by unfold comeW; rw [uP_n _ _ (by decide), uP_s]
theorem come_o {i : Nat} (h0 : i ≠ 0) (h7 : i ≠ 7) (h : i < 22 + 5 * w 0 ∨ 22 + 5 * w 0 + 5 ≤ i) : comeW w a b c d i = w i := by
  unfold comeW
  rw [uP_n _ _ h0, uP_n _ _ h7, uP_n _ _ (by omega), uP_n _ _ (by omega), uP_n _ _ (by omega), uP_n _ _ (by omega), uP_n _ _ (by omega)]
theorem come_j {k e : Nat} (hk : k < w 0) (he : e < 5) : jk (comeW w a b c d) k e = jk w k e := come_o (by omega) (by omega) (by omega)
theorem come_n0 : jk (comeW w a b c d) (w 0) 0 = a := by
  simp only [jk, comeW]
  rw [uP_n _ _ (by omega), uP_n _ _ (by omega), uP_n _ _ (by omega), uP_n _ _ (by omega), uP_n _ _ (by omega), uP_n _ _ (by omega)]
  exact uP_s _ _ _
theorem come_n1 : jk (comeW w a b c d) (w 0) 1 = b := by
  simp only [jk, comeW]
  rw [uP_n _ _ (by omega), uP_n _ _ (by omega), uP_n _ _ (by omega), uP_n _ _ (by omega), uP_n _ _ (by omega), uP_s]
theorem come_n2 : jk (comeW w a b c d) (w 0) 2 = c := by
  simp only [jk, comeW]
  rw [uP_n _ _ (by omega), uP_n _ _ (by omega), uP_n _ _ (by omega), uP_n _ _ (by omega), uP_s]
theorem come_n3 : jk (comeW w a b c d) (w 0) 3 = d := by
  simp only [jk, comeW]
  rw [uP_n _ _ (by omega), uP_n _ _ (by omega), uP_n _ _ (by omega), uP_s]
theorem come_n4 : jk (comeW w a b c d) (w 0) 4 = 0 := by
  simp only [jk, comeW]
  rw [uP_n _ _ (by omega), uP_n _ _ (by omega), uP_s]
end COME
theorem fO_no {p : Nat → Bool} {n : Nat} (h : fO p n = none) {k : Nat} (hk : k < n) : p k = false := fO_none h k hk
theorem rI_come {w : Nat → Nat} {B a b c d : Nat} (h : rB w B) (hi : rI w) (h11 : w 0 ≤ 11) (ha : a ≤ 3) (hc : c ≤ 63) (hk : kn w c = false) (hw : jwith w c = none) (ht : jat w a b = none) (hn : jin w a ≠ 6) : rI (comeW w a b c d) := by
  obtain ⟨a1, a2, a3, a4, a5, a6, a7⟩ := hi
  have hs := fun k hk => (h.2.2.1 k hk).2.2.2.1
  have o : ∀ i, i ≠ 0 → i ≠ 7 → i < 22 → comeW w a b c d i = w i := fun i h1 h2 h3 => come_o h1 h2 (by omega)
  have oh : ∀ i, 82 ≤ i → comeW w a b c d i = w i := fun i h1 => come_o (by omega) (by omega) (by omega)
  have j0 : ∀ k e, k < w 0 → e < 5 → jk (comeW w a b c d) k e = jk w k e := fun k e h1 h2 => come_j h1 h2
  have n0 := come_n0 (w := w) (a := a) (b := b) (c := c) (d := d)
  have n1 := come_n1 (w := w) (a := a) (b := b) (c := c) (d := d)
  have n2 := come_n2 (w := w) (a := a) (b := b) (c := c) (d := d)
  have z0 := come_0 (w := w) (a := a) (b := b) (c := c) (d := d)
  have z7 := come_7 (w := w) (a := a) (b := b) (c := c) (d := d)
  have fw : ∀ k, k < w 0 → ¬ jk w k 2 = c := fun k h1 => by have := fO_no hw h1; simpa using this
  have ft : ∀ k, k < w 0 → jk w k 0 = a → ¬ jk w k 1 = b := fun k h1 h2 => by have := fO_no ht h1; simp [h2] at this; exact this
  generalize comeW w a b c d = v at *
  refine ⟨fun i h1 k h2 h3 => ?_, fun i h1 => ?_, ?_, fun i h1 k h2 h3 h4 => ?_, fun x hx => ?_, ?_, ?_⟩
  · rw [z0] at h1 h2
    by_cases e1 : i = w 0 <;> by_cases e2 : k = w 0
    · omega
    · rw [e1, n2, j0 k 2 (by omega) (by decide)] at h3
      exact absurd h3.symm (fw k (by omega))
    · rw [e2, n2, j0 i 2 (by omega) (by decide)] at h3
      exact absurd h3 (fw i (by omega))
    · rw [j0 i 2 (by omega) (by decide), j0 k 2 (by omega) (by decide)] at h3
      exact a1 i (by omega) k (by omega) h3
  · rw [z0] at h1
    by_cases e1 : i = w 0
    · rw [e1, n2, kn_congr (o 12 (by decide) (by decide) (by decide)) (o 13 (by decide) (by decide) (by decide)) (by omega)]; exact hk
    · rw [j0 i 2 (by omega) (by decide), kn_congr (o 12 (by decide) (by decide) (by decide)) (o 13 (by decide) (by decide) (by decide)) (hs i (by omega))]
      exact a2 i (by omega)
  · rw [o 6 (by decide) (by decide) (by decide), ← a3]
    exact cN_congr (fun i hi => kn_congr (o 12 (by decide) (by decide) (by decide)) (o 13 (by decide) (by decide) (by decide)) hi)
  · rw [z0] at h1 h2
    by_cases e1 : i = w 0 <;> by_cases e2 : k = w 0
    · omega
    · rw [e1, n0, j0 k 0 (by omega) (by decide)] at h3
      rw [e1, n1, j0 k 1 (by omega) (by decide)] at h4
      exact absurd h4.symm (ft k (by omega) h3.symm)
    · rw [e2, n0, j0 i 0 (by omega) (by decide)] at h3
      rw [e2, n1, j0 i 1 (by omega) (by decide)] at h4
      exact absurd h4 (ft i (by omega) h3)
    · rw [j0 i 0 (by omega) (by decide), j0 k 0 (by omega) (by decide)] at h3
      rw [j0 i 1 (by omega) (by decide), j0 k 1 (by omega) (by decide)] at h4
      exact a4 i (by omega) k (by omega) h3 h4
  · have h9 := a5 x hx
    have h8 : jin v x = jin w x + bN (decide (a = x)) := by
      unfold jin
      rw [z0]
      show cN _ (w 0) + bN (decide (jk v (w 0) 0 = x)) = _
      rw [n0]
      congr 1
      exact cN_congr (fun k hk => by rw [j0 k 0 hk (by decide)])
    rw [h8]
    by_cases e : a = x
    · subst e
      rw [decide_eq_true rfl]
      show jin w a + 1 ≤ 6
      omega
    · rw [decide_eq_false e]
      show jin w x + 0 ≤ 6
      omega
  · rw [o 6 (by decide) (by decide) (by decide), o 11 (by decide) (by decide) (by decide), a6, lsum_congr (fun k _ => (oh _ (by omega)).symm)]
  · rw [z0, z7, o 6 (by decide) (by decide) (by decide), o 8 (by decide) (by decide) (by decide)]; omega
theorem rB_come {w : Nat → Nat} {B a b c d : Nat} (h : rB w B) (hi : rI w) (h11 : w 0 ≤ 11) (ha : a ≤ 3) (hb1 : 1 ≤ b) (hb : b ≤ 30) (hc : c ≤ 63) (hd1 : 1 ≤ d) (hd : d ≤ 9) (hk : kn w c = false) (hw : jwith w c = none) (ht : jat w a b = none) (hn : jin w a ≠ 6) : rB (comeW w a b c d) (B + 1) := by
  have hI := rI_come (d := d) h hi h11 ha hc hk hw ht hn
  obtain ⟨a0, a1, a2, a3, a4, a5, a6, a7, a8, a9, a10, a11, a12, a13, a14, a15, a16, a17, a18, a19, a20⟩ := h
  have o : ∀ i, i ≠ 0 → i ≠ 7 → i < 22 → comeW w a b c d i = w i := fun i h1 h2 h3 => come_o h1 h2 (by omega)
  have oh : ∀ i, 82 ≤ i → comeW w a b c d i = w i := fun i h1 => come_o (by omega) (by omega) (by omega)
  have j0 : ∀ k e, k < w 0 → e < 5 → jk (comeW w a b c d) k e = jk w k e := fun k e h1 h2 => come_j h1 h2
  have n0 := come_n0 (w := w) (a := a) (b := b) (c := c) (d := d)
  have n1 := come_n1 (w := w) (a := a) (b := b) (c := c) (d := d)
  have n2 := come_n2 (w := w) (a := a) (b := b) (c := c) (d := d)
  have n3 := come_n3 (w := w) (a := a) (b := b) (c := c) (d := d)
  have n4 := come_n4 (w := w) (a := a) (b := b) (c := c) (d := d)
  have z0 := come_0 (w := w) (a := a) (b := b) (c := c) (d := d)
  have z7 := come_7 (w := w) (a := a) (b := b) (c := c) (d := d)
  have gm : ∀ i, 22 ≤ i → i < 82 → comeW w a b c d i < 64 := fun i h1 h2 => by
    by_cases e : i < 22 + 5 * w 0 ∨ 22 + 5 * w 0 + 5 ≤ i
    · rw [come_o (by omega) (by omega) e]; exact a17 i h1 h2
    · rcases (show i = 22 + 5 * w 0 + 0 ∨ i = 22 + 5 * w 0 + 1 ∨ i = 22 + 5 * w 0 + 2 ∨ i = 22 + 5 * w 0 + 3 ∨ i = 22 + 5 * w 0 + 4 by omega) with e | e | e | e | e <;> subst e
      · show jk (comeW w a b c d) (w 0) 0 < 64; omega
      · show jk (comeW w a b c d) (w 0) 1 < 64; omega
      · show jk (comeW w a b c d) (w 0) 2 < 64; omega
      · show jk (comeW w a b c d) (w 0) 3 < 64; omega
      · show jk (comeW w a b c d) (w 0) 4 < 64; omega
  generalize comeW w a b c d = v at *
  have hj : ∀ i, i < v 0 → jk v i 0 ≤ 3 ∧ 1 ≤ jk v i 1 ∧ jk v i 1 ≤ 30 ∧ jk v i 2 < 64 ∧ 1 ≤ jk v i 3 ∧ jk v i 3 ≤ 9 ∧ jk v i 4 ≤ 1 := fun i hi => by
    by_cases e : i = w 0
    · rw [e, n0, n1, n2, n3, n4]; omega
    · rw [j0 i 0 (by omega) (by decide), j0 i 1 (by omega) (by decide), j0 i 2 (by omega) (by decide), j0 i 3 (by omega) (by decide), j0 i 4 (by omega) (by decide)]
      exact a2 i (by omega)
  have hsum := rI_sum hI (fun k hk => (hj k hk).2.2.2.1)
  refine ⟨?_, hsum, hj, ?_, ?_, ?_, ?_, ?_, ?_, ?_, ?_, ?_, ?_, ?_, fun i hi => ?_, fun i hi => ?_, fun i hi => ?_, gm, ?_, ?_, fun i hi => ?_⟩
  · omega
  · rw [o _ (by decide) (by decide) (by decide)]; exact a3
  · rw [o _ (by decide) (by decide) (by decide)]; exact a4
  · rw [o _ (by decide) (by decide) (by decide)]; exact a5
  · rw [o _ (by decide) (by decide) (by decide)]; exact a6
  · rw [o _ (by decide) (by decide) (by decide)]; exact a7
  · rw [o _ (by decide) (by decide) (by decide)]; exact a8
  · rw [z7]; omega
  · rw [o _ (by decide) (by decide) (by decide)]; omega
  · rw [o _ (by decide) (by decide) (by decide)]; omega
  · rw [o _ (by decide) (by decide) (by decide)]; omega
  · rw [o _ (by decide) (by decide) (by decide)]; exact a13
  · rw [o _ (by omega) (by omega) (by omega)]; exact a14 i hi
  · rw [o _ (by omega) (by omega) (by omega), o 6 (by decide) (by decide) (by decide)]; exact a15 i hi
  · rw [oh _ (by omega), oh _ (by omega), oh _ (by omega)]; exact a16 i hi
  · rw [o _ (by decide) (by decide) (by decide)]; exact a18
  · rw [o _ (by decide) (by decide) (by decide)]; exact a19
  · rw [oh _ (by omega)]; exact a20 i hi
theorem kn_lf0 {w : Nat → Nat} {j s : Nat} (ha : jk w j 0 ≤ 3) (hs : jk w j 2 < 64) (h : s < 64) : kn (lf0 w j) s = (kn w s || decide (jk w j 2 = s)) := by
  unfold kn
  rw [lf0_12 ha hs (by omega)]
  by_cases e : s / 32 = jk w j 2 / 32
  · rw [if_pos e, Nat.testBit_or, Nat.testBit_two_pow]
    congr 1
    exact decide_eq_decide.mpr ⟨fun h1 => by omega, fun h1 => by omega⟩
  · rw [if_neg e, decide_eq_false (fun h1 => e (by omega)), Bool.or_false]
theorem rI_lft {w : Nat → Nat} {B j : Nat} (h : rB w B) (hj : j < w 0) (hi : rI w) : rI (lft w j) := by
  obtain ⟨a1, a2, a3, a4, a5, a6, a7⟩ := hi
  have h12 := h.1
  have hjj := h.2.2.1 j hj
  have hs := fun k hk => (h.2.2.1 k hk).2.2.2.1
  have z0 := lf0_0 (w := w) hjj.1 hjj.2.2.2.1
  have z6 := lf0_6 (w := w) hjj.2.2.2.1
  have z11 := lf0_11 (w := w) (j := j)
  have zk := fun s hs => kn_lf0 (w := w) (s := s) hjj.1 hjj.2.2.2.1 hs
  have zo := fun i (q1 : i = 7 ∨ i = 8) => lf0_o (w := w) (j := j) (i := i) hjj.1 hjj.2.2.2.1 (by omega) (by omega) (by omega) (by omega) (by omega) (by omega)
  have zj := fun k e hk he => lf0_jk (w := w) (j := j) (k := k) (e := e) hjj.1 hjj.2.2.2.1 hk he
  have zl := fun i hi => lf0_82 (w := w) (j := j) (i := i) hjj.1 hjj.2.2.2.1 hi
  unfold lft
  generalize lf0 w j = u at *
  have g0 := gone_0 u j
  have gl : ∀ i, i < 22 → i ≠ 0 → gone u j i = u i := fun i h1 h2 => gone_lo h1 h2
  have gh : ∀ i, 82 ≤ i → gone u j i = u i := fun i h1 => gone_hi h1 (by omega) (by omega)
  have gj : ∀ k e, k < w 0 - 1 → e < 5 → jk (gone u j) k e = jk w (if k < j then k else k + 1) e := fun k e hk he => by
    rw [gone_jk (by omega) he]
    exact zj _ _ (by split <;> omega) he
  generalize gone u j = v at *
  have hl : ∀ k, k < w 0 - 1 → (if k < j then k else k + 1) < w 0 := fun k hk => by split <;> omega
  have hk : ∀ s, s < 64 → kn v s = (kn w s || decide (jk w j 2 = s)) := fun s hs => by rw [kn_congr (gl 12 (by decide) (by decide)) (gl 13 (by decide) (by decide)) hs]; exact zk s hs
  have hv0 : v 0 = w 0 - 1 := by rw [g0, z0]
  refine ⟨fun i h1 k h2 h3 => ?_, fun i h1 => ?_, ?_, fun i h1 k h2 h3 h4 => ?_, fun a ha => ?_, ?_, ?_⟩
  · rw [hv0] at h1 h2
    rw [gj i 2 h1 (by decide), gj k 2 h2 (by decide)] at h3
    have := a1 _ (hl i h1) _ (hl k h2) h3
    split at this <;> split at this <;> omega
  · rw [hv0] at h1
    rw [gj i 2 h1 (by decide), hk _ (hs _ (hl i h1)), a2 _ (hl i h1), Bool.false_or]
    refine decide_eq_false (fun h9 => ?_)
    have := a1 _ hj _ (hl i h1) h9
    split at this <;> omega
  · rw [gl 6 (by decide) (by decide), z6, ← a3, cN_congr (q := fun s => kn w s || decide (jk w j 2 = s)) hk, cN_step1 (p := kn w) (r := fun s => decide (jk w j 2 = s)) (fun i => ?_), cN_eq1, if_pos hjj.2.2.2.1]
    by_cases e : jk w j 2 = i
    · have := a2 j hj
      rw [e] at this
      simp [this, e, bN]
    · simp [e, bN]
  · rw [hv0] at h1 h2
    rw [gj i 0 h1 (by decide), gj k 0 h2 (by decide)] at h3
    rw [gj i 1 h1 (by decide), gj k 1 h2 (by decide)] at h4
    have := a4 _ (hl i h1) _ (hl k h2) h3 h4
    split at this <;> split at this <;> omega
  · refine Nat.le_trans ?_ (a5 a ha)
    unfold jin
    rw [hv0]
    have h3 := cN_gone (p := fun k => decide (jk w k 0 = a)) (j := j) (w 0 - 1)
    rw [if_pos (by omega), if_pos (by omega), show w 0 - 1 + 1 = w 0 by omega] at h3
    have h4 : cN (fun k => decide (jk v k 0 = a)) (w 0 - 1) = cN (fun k => (fun k => decide (jk w k 0 = a)) (if k < j then k else k + 1)) (w 0 - 1) := cN_congr (fun k hk => by simp only; rw [gj k 0 hk (by decide)])
    rw [h4]
    exact Nat.le.intro h3
  · rw [gl 6 (by decide) (by decide), gl 11 (by decide) (by decide), z6, z11, a6]
    show _ = faN (lsum v (w 6)) (v (82 + 3 * w 6 + 2))
    rw [gh _ (by omega), zl _ (by omega), if_pos rfl, lsum_congr (v := v) (w := w) (fun k hk => ?_)]
    rw [gh _ (by omega), zl _ (by omega), if_neg (by omega), if_neg (by omega), if_neg (by omega)]
  · rw [hv0, gl 6 (by decide) (by decide), gl 7 (by decide) (by decide), gl 8 (by decide) (by decide), z6, zo 7 (Or.inl rfl), zo 8 (Or.inr rfl)]; omega
theorem rI_str1 {w : Nat → Nat} {B : Nat} (h : rB w B) (hi : rI w) : rI (str1 w) :=
  rI_congr (fun k hk => (h.2.2.1 k hk).2.2.2.1) ⟨str1_o (by decide) (by decide) (by decide), str1_o (by decide) (by decide) (by decide), str1_o (by decide) (by decide) (by decide), str1_o (by decide) (by decide) (by decide), str1_o (by decide) (by decide) (by decide), str1_o (by decide) (by decide) (by decide), str1_o (by decide) (by decide) (by decide), fun k _ e _ => str1_o (by omega) (by omega) (by omega), fun k _ => str1_o (by omega) (by omega) (by omega)⟩ hi
theorem rI_stk {a : Nat} : ∀ (f : Nat) (w : Nat → Nat) (B : Nat), rB w B → rI w → rI (stk w a f).2
  | 0, w, B, h, hi => hi
  | f + 1, w, B, h, hi => by
    simp only [stk]
    cases hp : pla w a (nI 0) with
    | none => exact hi
    | some k =>
      simp only
      split
      · exact rI_stk f (lft w k) B (rB_lft h (fO_spec hp).1) (rI_lft h (fO_spec hp).1 hi)
      · exact hi
theorem rI_strO {w : Nat → Nat} {B : Nat} (h : rB w B) (hg : w 4 ≤ 40) (hi : rI w) : rI (strO w).2 := rI_stk _ _ (B + 1) (rB_str1 h hg) (rI_str1 h hi)
theorem rI_pmp : ∀ (k : Nat) (w : Nat → Nat) (B : Nat), rB w B → rI w → rI (pmp w k).2
  | 0, w, B, h, hi => hi
  | k + 1, w, B, h, hi => by
    simp only [pmp]
    split
    · exact hi
    · exact rI_pmp k (strO w).2 (B + 1) (strO_B h (by omega)).1 (rI_strO h (by omega) hi)
/-! a deed (0 bucket, 1 drain, 2 joke, 3 drop, 4 pump, 5 prime, 6 stroke, 7 go): when it may be done; the new row -/
def okJ (w : Nat → Nat) (a b c d : Nat) : Prop := a ≤ 3 ∧ 1 ≤ b ∧ b ≤ 30 ∧ c ≤ 63 ∧ 1 ≤ d ∧ d ≤ 9 ∧ w 0 ≤ 11 ∧ kn w c = false ∧ jwith w c = none ∧ jat w a b = none ∧ jin w a ≠ 6
def okD (w : Nat → Nat) (c : Nat) (n : Nat → Nat) : Prop := match c with
  | 0 => n 0 ≤ 3 ∧ 1 ≤ n 1 ∧ n 1 ≤ 5
  | 1 => 1 ≤ n 0 ∧ n 0 ≤ 50 ∧ n 0 ≤ w 4
  | 2 => okJ w (n 0) (n 1) (n 2) (n 3)
  | 3 => n 0 < w 0
  | 4 => 1 ≤ n 0 ∧ n 0 ≤ 9 ∧ w 4 ≤ 40
  | 5 => n 0 < w 0 ∧ 1 ≤ w 5
  | 6 => 1 ≤ n 0 ∧ n 0 ≤ 10
  | _ => n 0 ≤ 3
def drW (w : Nat → Nat) (g : Nat) : Nat := if 9 < w 5 + g / 10 then 9 else w 5 + g / 10
def draW (w : Nat → Nat) (g : Nat) : Nat → Nat := uP (uP (uP w 4 (w 4 - g)) 10 (w 10 + g)) 5 (drW w g)
theorem uP_uP (f : Nat → Nat) (k x y : Nat) : uP (uP f k x) k y = uP f k y := by
  funext i; unfold uP; split <;> rfl
theorem mDrains_1 (M : mS) (g : Nat) : mDrains M g = ms M 1 (draW (M 1) g) := by
  unfold mDrains draW drW
  split
  · simp only [mu_as_ms, ms_ms, ms_s, uP_uP]
  · simp only [mu_as_ms, ms_ms, ms_s]
theorem mDrops_1 (M : mS) (j : Nat) : mDrops M j = ms M 1 (uP (gone (M 1) j) 8 (gone (M 1) j 8 + 1)) := by
  unfold mDrops
  rw [mu_ms]
def dW (w : Nat → Nat) (c : Nat) (n : Nat → Nat) : Nat → Nat := match c with
  | 0 => uP w (14 + n 0) (n 1)
  | 1 => draW w (n 0)
  | 2 => comeW w (n 0) (n 1) (n 2) (n 3)
  | 3 => uP (gone w (n 0)) 8 (gone w (n 0) 8 + 1)
  | 4 => (pmp w (n 0)).2
  | 5 => uP (uP w (22 + 5 * n 0 + 4) 1) 5 (w 5 - 1)
  | 6 => uP w 2 (n 0)
  | _ => uP (uP w 3 0) 1 (n 0)
theorem dW_ok {w n : Nat → Nat} {B c : Nat} (h : rB w B) (hi : rI w) (hk : okD w c n) : rB (dW w c n) (B + 50) ∧ rI (dW w c n) := by
  have hM : rB w (B + 50) := h.mono (by omega)
  rcases (show c = 0 ∨ c = 1 ∨ c = 2 ∨ c = 3 ∨ c = 4 ∨ c = 5 ∨ c = 6 ∨ 7 ≤ c by omega) with e | e | e | e | e | e | e | e
  · subst e
    have hk : n 0 ≤ 3 ∧ 1 ≤ n 1 ∧ n 1 ≤ 5 := hk
    exact ⟨rB_uP hM (by omega), rI_uP h hi (by omega)⟩
  · subst e
    have hk : 1 ≤ n 0 ∧ n 0 ≤ 50 ∧ n 0 ≤ w 4 := hk
    have h4 := h.2.2.2.2.2.2.2.1
    have h10 := h.2.2.2.2.2.2.2.2.2.2.2.2.1
    have q1 : rB (uP w 4 (w 4 - n 0)) (B + 50) := rB_uP hM (by omega)
    have q2 : rB (uP (uP w 4 (w 4 - n 0)) 10 (w 10 + n 0)) (B + 50) := rB_uP q1 (by omega)
    have h9 : drW w (n 0) ≤ 9 := by unfold drW; split <;> omega
    exact ⟨rB_uP q2 (by omega), rI_uP q2 (rI_uP q1 (rI_uP hM hi (by omega)) (by omega)) (by omega)⟩
  · subst e
    obtain ⟨k1, k2, k3, k4, k5, k6, k7, k8, k9, k10, k11⟩ : okJ w (n 0) (n 1) (n 2) (n 3) := hk
    exact ⟨(rB_come h hi k7 k1 k2 k3 k4 k5 k6 k8 k9 k10 k11).mono (by omega), rI_come h hi k7 k1 k4 k8 k9 k10 k11⟩
  · subst e
    have hk : n 0 < w 0 := hk
    exact ⟨(rB_gone h hk).mono (by omega), rI_gone h hk hi⟩
  · subst e
    have hk : 1 ≤ n 0 ∧ n 0 ≤ 9 ∧ w 4 ≤ 40 := hk
    exact ⟨(pmp_B (n 0) w B h).1.mono (by omega), rI_pmp (n 0) w B h hi⟩
  · subst e
    have hk : n 0 < w 0 ∧ 1 ≤ w 5 := hk
    have h12 := h.1
    have h5 := h.2.2.2.2.2.2.2.2.1
    have q1 := rB_jk4 (j := n 0) hM (by omega)
    exact ⟨rB_uP q1 (by omega), rI_uP q1 (rI_jk4 hM hi (by omega)) (by omega)⟩
  · subst e
    have hk : 1 ≤ n 0 ∧ n 0 ≤ 10 := hk
    exact ⟨rB_uP hM (by omega), rI_uP h hi (by omega)⟩
  · obtain ⟨m, rfl⟩ : ∃ m, c = m + 7 := ⟨c - 7, by omega⟩
    have hk : n 0 ≤ 3 := hk
    have q1 : rB (uP w 3 0) (B + 50) := rB_uP hM (by omega)
    exact ⟨rB_uP q1 (by omega), rI_uP q1 (rI_uP h hi (by omega)) (by omega)⟩
theorem notJ_0 {M : mS} {a d s : Nat} (h : (notJ M a d s).1 = 0) : kn (M 1) s = false ∧ jwith (M 1) s = none ∧ jat (M 1) a d = none ∧ M 1 0 ≠ 12 ∧ jin (M 1) a ≠ 6 := by
  unfold notJ at h
  split at h
  · exact absurd h z_m5
  · rename_i h1
    split at h
    · exact absurd h z_m5
    · rename_i h2
      split at h
      · exact absurd h z_m5
      · rename_i h3
        split at h
        · exact absurd h z_m5
        · rename_i h4
          split at h
          · exact absurd h z_m5
          · rename_i h5
            exact ⟨by simpa using h1, h2, h3, h4, h5⟩
theorem nI_inj {a b : Nat} (ha : a < 2 ^ 31) (hb : b < 2 ^ 31) (h : nI a = nI b) : a = b := by
  have h1 := nI_clamp ha
  rw [h, nI_clamp hb] at h1
  exact h1.symm
theorem notJoke_1 {M : mS} {a b c d : Nat} (ha : a < 2 ^ 31) (hb : b < 2 ^ 31) (hc : c < 2 ^ 31) (hd : d < 2 ^ 31) (h12 : M 1 0 ≤ 12) (h : (mNotJoke M (nI a) (nI b) (nI c) (nI d)).1 = 0) : okJ (M 1) a b c d ∧ (mNotJoke M (nI a) (nI b) (nI c) (nI d)).2 = M := by
  obtain ⟨⟨a1, ea, ha1⟩, ⟨b1, eb, hb0, hb1⟩, ⟨c1, ec, hc1⟩, ⟨d1, ed, hd0, hd1⟩, hM, h11⟩ := notJoke_0 h12 h
  have ea := nI_inj ha (by omega) ea
  have eb := nI_inj hb (by omega) eb
  have ec := nI_inj hc (by omega) ec
  have ed := nI_inj hd (by omega) ed
  subst ea eb ec ed
  refine ⟨?_, hM⟩
  unfold mNotJoke at h
  split at h
  · exact absurd h (show ¬ ((-1 : Int32) = 0) by decide)
  · split at h
    · exact absurd h (show ¬ ((-2 : Int32) = 0) by decide)
    · split at h
      · exact absurd h (show ¬ ((-2 : Int32) = 0) by decide)
      · split at h
        · exact absurd h (show ¬ ((-2 : Int32) = 0) by decide)
        · simp only [cl, nI_clamp ha, nI_clamp hb, nI_clamp hc] at h
          obtain ⟨k1, k2, k3, k4, k5⟩ := notJ_0 h
          exact ⟨ha1, hb0, hb1, hc1, hd0, hd1, h11, k1, k2, k3, k5⟩
def cmd (so : Int32) : Nat := if so = nI 98 then 0 else if so = nI 100 then 1 else if so = nI 106 then 2 else if so = nI 111 then 3 else if so = nI 112 then 4 else if so = nI 114 then 5 else if so = nI 115 then 6 else 7
def nND (M : mS) (c : Nat) (n : Nat → Nat) : Int32 × mS := match c with
  | 0 => mNotBucket M (nI (n 0)) (nI (n 1))
  | 1 => mNotDrain M (nI (n 0))
  | 2 => mNotJoke M (nI (n 0)) (nI (n 1)) (nI (n 2)) (nI (n 3))
  | 3 => (mNotDrop M (nI (n 0)), M)
  | 4 => mNotPump M (nI (n 0))
  | 5 => mNotPrime M (nI (n 0))
  | 6 => mNotStroke M (nI (n 0))
  | _ => mNotGo M (nI (n 0))
theorem nND_0 {M : mS} {c : Nat} {n : Nat → Nat} (hn : ∀ k, n k < 2 ^ 31) (h12 : M 1 0 ≤ 12) (h : (nND M c n).1 = 0) : okD (M 1) c n ∧ (nND M c n).2 = M := by
  rcases (show c = 0 ∨ c = 1 ∨ c = 2 ∨ c = 3 ∨ c = 4 ∨ c = 5 ∨ c = 6 ∨ 7 ≤ c by omega) with e | e | e | e | e | e | e | e
  · subst e
    obtain ⟨a1, b1, ea, eb, ha1, hb0, hb1, ha2, hM⟩ := notBucket_0 h
    have ea := nI_inj (hn 0) (by omega) ea
    have eb := nI_inj (hn 1) (by omega) eb
    exact ⟨show n 0 ≤ 3 ∧ 1 ≤ n 1 ∧ n 1 ≤ 5 by omega, hM⟩
  · subst e
    obtain ⟨a1, ea, ha0, ha1, hg, hM⟩ := notDrain_0 h
    have ea := nI_inj (hn 0) (by omega) ea
    exact ⟨show 1 ≤ n 0 ∧ n 0 ≤ 50 ∧ n 0 ≤ M 1 4 by omega, hM⟩
  · subst e
    exact notJoke_1 (hn 0) (hn 1) (hn 2) (hn 3) h12 h
  · subst e
    obtain ⟨a1, ea, hj⟩ := notDrop_0 h12 h
    have ea := nI_inj (hn 0) (by omega) ea
    exact ⟨show n 0 < M 1 0 by omega, rfl⟩
  · subst e
    obtain ⟨a1, ea, ha0, ha1, ha2, hM⟩ := notPump_0 h
    have ea := nI_inj (hn 0) (by omega) ea
    exact ⟨show 1 ≤ n 0 ∧ n 0 ≤ 9 ∧ M 1 4 ≤ 40 by omega, hM⟩
  · subst e
    obtain ⟨a1, ea, ha1, ha4, hd1, hM⟩ := notPrime_0 h12 h
    have ea := nI_inj (hn 0) (by omega) ea
    exact ⟨show n 0 < M 1 0 ∧ 1 ≤ M 1 5 by omega, hM⟩
  · subst e
    obtain ⟨a1, ea, ha0, ha1, ha2, hM⟩ := notStroke_0 h
    have ea := nI_inj (hn 0) (by omega) ea
    exact ⟨show 1 ≤ n 0 ∧ n 0 ≤ 10 by omega, hM⟩
  · obtain ⟨m, rfl⟩ : ∃ m, c = m + 7 := ⟨c - 7, by omega⟩
    obtain ⟨a1, ea, ha1, ha2, hM⟩ := notGo_0 h
    have ea := nI_inj (hn 0) (by omega) ea
    exact ⟨show n 0 ≤ 3 by omega, hM⟩
