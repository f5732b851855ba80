/-! THE MODEL's STATE, in numbers: M 0 k its int fields, M 1 the row w, M 2 undos, M 3 savedRow, M 4 mind, M 5 ahead, M 6 line, M 7 input, M 8 numbers; an int of the machine is nI of it -/
abbrev mS : Type := Nat → Nat → Nat
def uP (f : Nat → Nat) (k x : Nat) : Nat → Nat := fun j => if j = k then x else f j
def nA (f : Nat → Nat) : Nat → Int32 := fun j => nI (f j)
def mu (M : mS) (a k x : Nat) : mS := fun b => bif b == a then uP (M a) k x else M b
abbrev mW (dA : Nat → ClassId) (q : Nat → Nat) (M : mS) : va_W :=
  [(q 0, .inr (2, [.int (nI (M 0 0)), .int (nI (M 0 1)), .int (nI (M 0 2)), .int (nI (M 0 3)), .int (nI (M 0 4)), .int (nI (M 0 5)), .ref (q 1), .ref (q 2), .ref (q 3), .ref (q 4), .ref (q 5), .int (nI (M 0 11)), .int (nI (M 0 12)), .int (nI (M 0 13)), .ref (q 6), .int (nI (M 0 15)), .ref (q 7), .int (nI (M 0 17)), .int (nI (M 0 18)), .int (nI (M 0 19)), .ref (q 8), .int (nI (M 0 21)), .int (nI (M 0 22))])),
   (q 1, .inl (dA 0, 274, .inl (nA (M 1)))), (q 2, .inl (dA 0, 2192, .inl (nA (M 2)))), (q 3, .inl (dA 0, 274, .inl (nA (M 3)))), (q 4, .inl (dA 0, 274, .inl (nA (M 4)))), (q 5, .inl (dA 0, 274, .inl (nA (M 5)))),
   (q 6, .inl (dA 2, 60, .inl (nA (M 6)))), (q 7, .inl (dA 2, 60, .inl (nA (M 7)))), (q 8, .inl (dA 0, 4, .inl (nA (M 8))))]
theorem uP_s (f : Nat → Nat) (k x : Nat) : uP f k x k = x := by simp [uP]
theorem uP_n (f : Nat → Nat) {k j : Nat} (x : Nat) (h : j ≠ k) : uP f k x j = f j := by simp [uP, h]
theorem nA_u (f : Nat → Nat) (k x : Nat) : upd (nA f) k (nI x) = nA (uP f k x) := by
  funext j
  by_cases h : j = k <;> simp [upd, nA, uP, h]
theorem mu_s (M : mS) (a k x : Nat) : mu M a k x a = uP (M a) k x := by simp [mu]
theorem mu_n (M : mS) {a b : Nat} (k x : Nat) (h : b ≠ a) : mu M a k x b = M b := by
  have e : (b == a) = false := by simpa using h
  simp [mu, e]
theorem mu_ss (M : mS) (a k x : Nat) : mu M a k x a k = x := by simp [mu, uP]
section ZR3
variable {p : Program} {l : Launch} {e : Env} {R : Room} {s : State} {m : MethodId} {args : Array Value} {below : List Frame} {meth : Method} {c : Code} {H : Heap} {locs : List Loc} {cells slots : Nat} {Q : State → Prop}
variable {cc : ByteArray} {pc : Nat} {ls : Array Slot} {rest : List Value} {G : va_G} {dA : Nat → ClassId} {dS : Nat → Nat} {B0 : Nat} {A : Nat → Prop} {a : Nat} {ws : va_W} {H0 : Heap}
theorem z_iastN (hx : p.tables.exec = Jvm.exec) (hb : c.code = cc) (hX : zX G dA dS B0 s) {n k x : Nat} {f : Nat → Nat} (hH : zH G A H0 ws H locs) (q0 : Nat) (he : ws[q0]? = some (a, .inl (dA 0, n, .inl (nA f)))) {i : Int32} (hi : i = nI k) (hk : k < n) (hn : n < 2 ^ 31) (hdg : decode cc pc = .ok (.iastore, 1)) (kk : ∀ (H1 : Heap) (locs1 : List Loc), zH G A H0 (ws.set q0 (a, .inl (dA 0, n, .inl (nA (uP f k x))))) H1 locs1 → W p l e R s m args below meth c H1 locs1 cells slots Q (F0 m (pc + 1) ls rest)) : W p l e R s m args below meth c H locs cells slots Q (F0 m pc ls (.int (nI x) :: .int i :: .ref a :: rest)) :=
  z_iast hx hb hX hH q0 he hi hk hn hdg (fun H1 locs1 h => kk H1 locs1 (by rw [← nA_u]; exact h))
theorem z_castN (hx : p.tables.exec = Jvm.exec) (hb : c.code = cc) (hX : zX G dA dS B0 s) {n k x : Nat} {f : Nat → Nat} (hH : zH G A H0 ws H locs) (q0 : Nat) (he : ws[q0]? = some (a, .inl (dA 2, n, .inl (nA f)))) {i : Int32} (hi : i = nI k) (hk : k < n) (hn : n < 2 ^ 31) (hxl : x < 65536) (hdg : decode cc pc = .ok (.castore, 1)) (kk : ∀ (H1 : Heap) (locs1 : List Loc), zH G A H0 (ws.set q0 (a, .inl (dA 2, n, .inl (nA (uP f k x))))) H1 locs1 → W p l e R s m args below meth c H1 locs1 cells slots Q (F0 m (pc + 1) ls rest)) : W p l e R s m args below meth c H locs cells slots Q (F0 m pc ls (.int (nI x) :: .int i :: .ref a :: rest)) :=
  z_cast hx hb hX hH q0 he hi hk hn (z := nI x) (by unfold vp_nar; rw [(pk_charN hxl).1]) hdg (fun H1 locs1 h => kk H1 locs1 (by rw [← nA_u]; exact h))
end ZR3
/-- v between lo and hi -/
def inR (v lo hi : Int32) : Bool := decide (lo ≤ v) && decide (v ≤ hi)
theorem inR_lo {v lo hi : Int32} (h : v < lo) : inR v lo hi = false := by simp [inR, Int32.not_le.mpr h]
theorem inR_hi {v lo hi : Int32} (h : hi < v) : inR v lo hi = false := by simp [inR, Int32.not_le.mpr h]
theorem inR_t {v lo hi : Int32} (h1 : ¬ v < lo) (h2 : ¬ hi < v) : inR v lo hi = true := by simp [inR, Int32.not_lt.mp h1, Int32.not_lt.mp h2]
theorem inR_iff {v lo hi : Int32} : inR v lo hi = true ↔ lo ≤ v ∧ v ≤ hi := by simp [inR]
theorem inR_n {v : Int32} {a b : Nat} (ha : a < 2 ^ 31) (hb : b < 2 ^ 31) (h : inR v (nI a) (nI b) = true) : ∃ n : Nat, v = nI n ∧ a ≤ n ∧ n ≤ b := by
  rw [inR_iff] at h
  have h0 : ¬ v < 0 := by
    intro z
    have := Int32.lt_iff_toInt_lt.mp z
    have h1 := Int32.le_iff_toInt_le.mp h.1
    rw [nI_toInt ha] at h1
    rw [Int32.toInt_zero] at this
    omega
  obtain ⟨n, hn, rfl⟩ := nI_of h0
  exact ⟨n, rfl, (nI_leI ha hn).mp h.1, (nI_leI hn hb).mp h.2⟩
theorem inR_N {n a b : Nat} (hn : n < 2 ^ 31) (ha : a < 2 ^ 31) (hb : b < 2 ^ 31) : inR (nI n) (nI a) (nI b) = (decide (a ≤ n) && decide (n ≤ b)) := by
  simp only [inR, nI_leI ha hn, nI_leI hn hb]
/-- how many of the first k have the property -/
def cN (p : Nat → Bool) : Nat → Nat
  | 0 => 0
  | k + 1 => cN p k + bN (p k)
theorem cN_le (p : Nat → Bool) : ∀ k, cN p k ≤ k
  | 0 => Nat.le_refl _
  | k + 1 => by have h1 := cN_le p k; have h2 := bN_le (p k); show cN p k + bN (p k) ≤ k + 1; omega
/-- entry j of joke k in the row -/
abbrev jk (w : Nat → Nat) (k j : Nat) : Nat := w (22 + 5 * k + j)
/-- the first of the first k with the property -/
def fO (p : Nat → Bool) : Nat → Option Nat
  | 0 => none
  | k + 1 => match fO p k with
    | some j => some j
    | none => bif p k then some k else none
theorem fO_0 (p : Nat → Bool) : fO p 0 = none := rfl
theorem fO_n {p : Nat → Bool} {k : Nat} (h : fO p k = none) (hp : p k = false) : fO p (k + 1) = none := by simp [fO, h, hp]
theorem fO_y {p : Nat → Bool} {k : Nat} (h : fO p k = none) (hp : p k = true) : fO p (k + 1) = some k := by simp [fO, h, hp]
theorem fO_mono {p : Nat → Bool} {k j : Nat} (h : fO p k = some j) : ∀ m, k ≤ m → fO p m = some j := by
  intro m hm
  induction m with
  | zero => have : k = 0 := by omega
            subst this; exact h
  | succ m ih =>
    by_cases hk : k = m + 1
    · subst hk; exact h
    · have := ih (by omega)
      simp [fO, this]
theorem fO_spec {p : Nat → Bool} : ∀ {k j : Nat}, fO p k = some j → j < k ∧ p j = true ∧ ∀ i, i < j → p i = false := by
  have key : ∀ k, (∀ j, fO p k = some j → j < k ∧ p j = true ∧ ∀ i, i < j → p i = false) ∧ (fO p k = none → ∀ i, i < k → p i = false) := by
    intro k
    induction k with
    | zero => exact ⟨fun j h => by simp [fO] at h, fun _ i hi => absurd hi (Nat.not_lt_zero _)⟩
    | succ k ih =>
      cases hk : fO p k with
      | some j0 =>
        refine ⟨fun j h => ?_, fun h => ?_⟩
        · have h1 : fO p (k + 1) = some j0 := by simp [fO, hk]
          rw [h1] at h; cases h
          obtain ⟨a, b⟩ := ih.1 j0 hk
          exact ⟨by omega, b⟩
        · have h1 : fO p (k + 1) = some j0 := by simp [fO, hk]
          rw [h1] at h; cases h
      | none =>
        have hn := ih.2 hk
        cases hp : p k with
        | true =>
          have h1 : fO p (k + 1) = some k := fO_y hk hp
          refine ⟨fun j h => ?_, fun h => ?_⟩
          · rw [h1] at h; cases h; exact ⟨by omega, hp, hn⟩
          · rw [h1] at h; cases h
        | false =>
          have h1 : fO p (k + 1) = none := fO_n hk hp
          refine ⟨fun j h => ?_, fun _ i hi => ?_⟩
          · rw [h1] at h; cases h
          · by_cases hik : i = k
            · subst hik; exact hp
            · exact hn i (by omega)
  intro k j h
  exact (key k).1 j h
/-- a place, or -1 -/
def oI (o : Option Nat) : Int32 := match o with
  | none => -1
  | some k => nI k
