/-! reading commands: T = (place, numbers); so = sort -/
def pS (M : mS) (T : Nat × (Nat → Nat)) (so : Nat) : mS := mu (mu (ms M 8 T.2) 0 18 T.1) 0 21 so
def nx (M : mS) (k : Nat) : Nat := if k < M 0 17 then M 7 k else 4294967295
def pC (M : mS) (c : Nat) (T : Nat × (Nat → Nat)) : Bool × (Nat × (Nat → Nat)) := if nI (nx M T.1) = nI c then (true, (T.1 + 1, T.2)) else (false, T)
def pD (M : mS) (k : Nat) (T : Nat × (Nat → Nat)) : Bool × (Nat × (Nat → Nat)) := if inR (nI (nx M T.1)) (nI 48) (nI 57) = true then (true, (T.1 + 1, uP T.2 k (nx M T.1 - 48))) else (false, T)
def pN (M : mS) (k : Nat) (T : Nat × (Nat → Nat)) : Bool × (Nat × (Nat → Nat)) := if (pD M k T).1 = true then (if inR (nI (nx M (pD M k T).2.1)) (nI 48) (nI 57) = true then (true, ((pD M k T).2.1 + 1, uP (pD M k T).2.2 k (10 * (pD M k T).2.2 k + nx M (pD M k T).2.1 - 48))) else (true, (pD M k T).2)) else (false, (pD M k T).2)
/-- (0, c) a sign, (1, k) a digit, (2, k) a number -/
def pA (M : mS) (a : Nat × Nat) (T : Nat × (Nat → Nat)) : Bool × (Nat × (Nat → Nat)) := if a.1 = 0 then pC M a.2 T else if a.1 = 1 then pD M a.2 T else pN M a.2 T
def pL (M : mS) : List (Nat × Nat) → Nat × (Nat → Nat) → Bool × (Nat × (Nat → Nat))
  | [], T => (true, T)
  | a :: l, T => if (pA M a T).1 = true then pL M l (pA M a T).2 else (false, (pA M a T).2)
theorem pA_0 (M : mS) (c : Nat) (T : Nat × (Nat → Nat)) : pA M (0, c) T = pC M c T := rfl
theorem pA_1 (M : mS) (c : Nat) (T : Nat × (Nat → Nat)) : pA M (1, c) T = pD M c T := rfl
theorem pA_2 (M : mS) (c : Nat) (T : Nat × (Nat → Nat)) : pA M (2, c) T = pN M c T := rfl
def LJ : List (Nat × Nat) := [(0, 111), (0, 107), (0, 101), (0, 32), (1, 0), (0, 32), (2, 1), (0, 32), (2, 2), (0, 32), (1, 3)]
def LPu : List (Nat × Nat) := [(0, 109), (0, 112), (0, 32), (1, 0)]
def LPr : List (Nat × Nat) := [(0, 114), (0, 105), (0, 109), (0, 101), (0, 32), (2, 0)]
def LDa : List (Nat × Nat) := [(0, 105), (0, 110), (0, 32), (2, 0)]
def LDo : List (Nat × Nat) := [(0, 111), (0, 112), (0, 32), (2, 0)]
def LSt : List (Nat × Nat) := [(0, 116), (0, 114), (0, 111), (0, 107), (0, 101), (0, 32), (2, 0)]
def LBu : List (Nat × Nat) := [(0, 117), (0, 99), (0, 107), (0, 101), (0, 116), (0, 32), (1, 0), (0, 32), (1, 1)]
def LGo : List (Nat × Nat) := [(0, 103), (0, 111), (0, 32), (1, 0)]
abbrev pT : Type := Nat × (Nat → Nat)
def pP (M : mS) (T : pT) (s : Nat) : Bool × pT × Nat := if (pC M 117 T).1 = true then ((pL M LPu (pC M 117 T).2).1, (pL M LPu (pC M 117 T).2).2, s) else ((pL M LPr (pC M 117 T).2).1, (pL M LPr (pC M 117 T).2).2, 114)
def pDr (M : mS) (T : pT) (s : Nat) : Bool × pT × Nat := if (pC M 114 T).1 = true then (if (pC M 97 (pC M 114 T).2).1 = true then ((pL M LDa (pC M 97 (pC M 114 T).2).2).1, (pL M LDa (pC M 97 (pC M 114 T).2).2).2, s) else ((pL M LDo (pC M 97 (pC M 114 T).2).2).1, (pL M LDo (pC M 97 (pC M 114 T).2).2).2, 111)) else (false, (pC M 114 T).2, s)
def pCmd (M : mS) (T : pT) : Bool × pT × Nat :=
  if (pC M 106 T).1 = true then ((pL M LJ (pC M 106 T).2).1, (pL M LJ (pC M 106 T).2).2, nx M T.1)
  else if (pC M 112 (pC M 106 T).2).1 = true then pP M (pC M 112 (pC M 106 T).2).2 (nx M T.1)
  else if (pC M 100 (pC M 112 (pC M 106 T).2).2).1 = true then pDr M (pC M 100 (pC M 112 (pC M 106 T).2).2).2 (nx M T.1)
  else if (pC M 115 (pC M 100 (pC M 112 (pC M 106 T).2).2).2).1 = true then ((pL M LSt (pC M 115 (pC M 100 (pC M 112 (pC M 106 T).2).2).2).2).1, (pL M LSt (pC M 115 (pC M 100 (pC M 112 (pC M 106 T).2).2).2).2).2, nx M T.1)
  else if (pC M 98 (pC M 115 (pC M 100 (pC M 112 (pC M 106 T).2).2).2).2).1 = true then ((pL M LBu (pC M 98 (pC M 115 (pC M 100 (pC M 112 (pC M 106 T).2).2).2).2).2).1, (pL M LBu (pC M 98 (pC M 115 (pC M 100 (pC M 112 (pC M 106 T).2).2).2).2).2).2, nx M T.1)
  else ((pL M LGo (pC M 98 (pC M 115 (pC M 100 (pC M 112 (pC M 106 T).2).2).2).2).2).1, (pL M LGo (pC M 98 (pC M 115 (pC M 100 (pC M 112 (pC M 106 T).2).2).2).2).2).2, nx M T.1)
/-- what stays within bounds: the place, the numbers -/
def pB (M : mS) (T : pT) : Prop := T.1 ≤ M 0 17 ∧ ∀ k, T.2 k ≤ 99
/-- the input: at most 60 signs, none beyond 126 -/
def iB (M : mS) : Prop := M 0 17 ≤ 60 ∧ ∀ k, M 7 k ≤ 126
theorem nx_lt {M : mS} (h : iB M) (k : Nat) : nx M k < 2 ^ 32 := by
  unfold nx
  have := h.2 k
  split <;> omega
theorem inR_nat {x a b : Nat} (hx : x < 2 ^ 32) (ha : a < 2 ^ 31) (hb : b < 2 ^ 31) (h : inR (nI x) (nI a) (nI b) = true) : a ≤ x ∧ x ≤ b := by
  obtain ⟨n, h1, h2, h3⟩ := inR_n ha hb h
  have h4 := pk_tn hx
  rw [h1, pk_tn (by omega)] at h4
  omega
theorem nI_neM {c : Nat} (hc : c < 2 ^ 31) : ¬ nI 4294967295 = nI c := by
  intro h
  have h4 := pk_tn (n := 4294967295) (by decide)
  rw [h, pk_tn (by omega)] at h4
  omega
theorem pC_B {M : mS} {c : Nat} {T : pT} (hc : c < 2 ^ 31) (h : pB M T) : pB M (pC M c T).2 ∧ T.1 ≤ (pC M c T).2.1 ∧ ((pC M c T).1 = true → T.1 < (pC M c T).2.1) := by
  unfold pC
  split
  · rename_i he
    have hlt : T.1 < M 0 17 := by
      unfold nx at he
      split at he
      · assumption
      · exact absurd he (nI_neM hc)
    exact ⟨⟨hlt, h.2⟩, Nat.le_succ _, fun _ => Nat.lt_succ_self _⟩
  · exact ⟨h, Nat.le_refl _, fun z => by cases z⟩
theorem nx_lo {M : mS} {k a b : Nat} (hi : iB M) (h : inR (nI (nx M k)) (nI a) (nI b) = true) (ha : a < 2 ^ 31) (hb : b < 2 ^ 31) : k < M 0 17 ∧ a ≤ nx M k ∧ nx M k ≤ b := by
  have h1 := inR_nat (nx_lt hi k) ha hb h
  refine ⟨?_, h1⟩
  unfold nx at h1
  split at h1
  · assumption
  · omega
theorem pD_B {M : mS} {k : Nat} {T : pT} (hi : iB M) (h : pB M T) : pB M (pD M k T).2 ∧ T.1 ≤ (pD M k T).2.1 ∧ ((pD M k T).1 = true → T.1 < (pD M k T).2.1 ∧ (pD M k T).2.2 k ≤ 9) := by
  unfold pD
  split
  · rename_i he
    obtain ⟨h1, h2, h3⟩ := nx_lo hi he (by decide) (by decide)
    refine ⟨⟨h1, fun j => ?_⟩, Nat.le_succ _, fun _ => ⟨Nat.lt_succ_self _, ?_⟩⟩
    · show uP T.2 k _ j ≤ 99
      unfold uP
      split
      · omega
      · exact h.2 j
    · show uP T.2 k _ k ≤ 9
      rw [uP_s]; omega
  · exact ⟨h, Nat.le_refl _, fun z => by cases z⟩
theorem pN_B {M : mS} {k : Nat} {T : pT} (hi : iB M) (h : pB M T) : pB M (pN M k T).2 ∧ T.1 ≤ (pN M k T).2.1 ∧ ((pN M k T).1 = true → T.1 < (pN M k T).2.1) := by
  have hd := pD_B (k := k) hi h
  unfold pN
  split
  · rename_i h1
    split
    · rename_i he
      obtain ⟨h2, h3, h4⟩ := nx_lo hi he (by decide) (by decide)
      have h5 := hd.2.2 h1
      refine ⟨⟨h2, fun j => ?_⟩, by have := hd.2.1; simp only; omega, fun _ => by simp only; omega⟩
      show uP _ k _ j ≤ 99
      unfold uP
      split
      · omega
      · exact hd.1.2 j
    · exact ⟨hd.1, hd.2.1, fun _ => (hd.2.2 h1).1⟩
  · exact ⟨hd.1, hd.2.1, fun z => by cases z⟩
def pLok (l : List (Nat × Nat)) : Bool := l.all (fun a => decide (a.2 < 2 ^ 31))
theorem pA_B {M : mS} {a : Nat × Nat} {T : pT} (hi : iB M) (h : pB M T) (ha : a.2 < 2 ^ 31) : pB M (pA M a T).2 ∧ T.1 ≤ (pA M a T).2.1 ∧ ((pA M a T).1 = true → T.1 < (pA M a T).2.1) := by
  unfold pA
  split
  · exact pC_B ha h
  · split
    · have := pD_B (k := a.2) hi h
      exact ⟨this.1, this.2.1, fun z => (this.2.2 z).1⟩
    · exact pN_B hi h
theorem pL_B {M : mS} (hi : iB M) : ∀ (l : List (Nat × Nat)) (T : pT), pLok l = true → pB M T → pB M (pL M l T).2 ∧ T.1 ≤ (pL M l T).2.1
  | [], T, _, h => ⟨h, Nat.le_refl _⟩
  | a :: l, T, hl, h => by
    simp only [pLok, List.all_cons, Bool.and_eq_true, decide_eq_true_eq] at hl
    have h1 := pA_B hi h hl.1
    unfold pL
    split
    · have h2 := pL_B hi l (pA M a T).2 hl.2 h1.1
      exact ⟨h2.1, Nat.le_trans h1.2.1 h2.2⟩
    · exact ⟨h1.1, h1.2.1⟩
theorem pL_B1 {M : mS} (hi : iB M) (a : Nat × Nat) (l : List (Nat × Nat)) (T : pT) (hl : pLok (a :: l) = true) (h : pB M T) (ht : (pL M (a :: l) T).1 = true) : T.1 < (pL M (a :: l) T).2.1 := by
  simp only [pLok, List.all_cons, Bool.and_eq_true, decide_eq_true_eq] at hl
  have h1 := pA_B hi h hl.1
  unfold pL at ht ⊢
  split
  · rename_i h2
    have h3 := pL_B hi l (pA M a T).2 hl.2 h1.1
    exact Nat.lt_of_lt_of_le (h1.2.2 h2) h3.2
  · rename_i h2
    rw [if_neg h2] at ht
    cases ht
theorem pCmd_B {M : mS} {T : pT} (hi : iB M) (h : pB M T) : pB M (pCmd M T).2.1 ∧ T.1 ≤ (pCmd M T).2.1.1 ∧ ((pCmd M T).1 = true → T.1 < (pCmd M T).2.1.1) := by
  have q1 := pC_B (c := 106) (by decide) h
  have q2 := pC_B (c := 112) (by decide) q1.1
  have q3 := pC_B (c := 100) (by decide) q2.1
  have q4 := pC_B (c := 115) (by decide) q3.1
  have q5 := pC_B (c := 98) (by decide) q4.1
  unfold pCmd
  split
  · rename_i c
    have k := pL_B hi LJ _ (by decide) q1.1
    have := q1.2.2 c
    exact ⟨k.1, by have := k.2; simp only; omega, fun _ => by have := k.2; simp only; omega⟩
  · split
    · rename_i c
      have r1 := pC_B (c := 117) (by decide) q2.1
      have := q2.2.2 c
      unfold pP
      split
      · have k := pL_B hi LPu _ (by decide) r1.1
        exact ⟨k.1, by have := k.2; simp only; omega, fun _ => by have := k.2; simp only; omega⟩
      · have k := pL_B hi LPr _ (by decide) r1.1
        exact ⟨k.1, by have := k.2; simp only; omega, fun _ => by have := k.2; simp only; omega⟩
    · split
      · rename_i c
        have r1 := pC_B (c := 114) (by decide) q3.1
        have r2 := pC_B (c := 97) (by decide) r1.1
        have := q3.2.2 c
        unfold pDr
        split
        · split
          · have k := pL_B hi LDa _ (by decide) r2.1
            exact ⟨k.1, by have := k.2; simp only; omega, fun _ => by have := k.2; simp only; omega⟩
          · have k := pL_B hi LDo _ (by decide) r2.1
            exact ⟨k.1, by have := k.2; simp only; omega, fun _ => by have := k.2; simp only; omega⟩
        · exact ⟨r1.1, by simp only; omega, fun z => by cases z⟩
      · split
        · rename_i c
          have k := pL_B hi LSt _ (by decide) q4.1
          have := q4.2.2 c
          exact ⟨k.1, by have := k.2; simp only; omega, fun _ => by have := k.2; simp only; omega⟩
        · split
          · rename_i c
            have k := pL_B hi LBu _ (by decide) q5.1
            have := q5.2.2 c
            exact ⟨k.1, by have := k.2; simp only; omega, fun _ => by have := k.2; simp only; omega⟩
          · have k := pL_B hi LGo _ (by decide) q5.1
            exact ⟨k.1, by have := k.2; simp only; omega, fun z => by have := pL_B1 hi (0, 103) _ _ (by decide) q5.1 z; simp only; exact Nat.lt_of_le_of_lt (by omega) this⟩
/-- all commands to the end -/
def pAll (M : mS) : Nat → pT → Nat → Bool × pT × Nat
  | 0, T, s => (false, T, s)
  | f + 1, T, s => if (pCmd M T).1 = true then (if (pC M 59 (pCmd M T).2.1).1 = true then pAll M f (pC M 59 (pCmd M T).2.1).2 (pCmd M T).2.2 else (decide ((pC M 59 (pCmd M T).2.1).2.1 = M 0 17), (pC M 59 (pCmd M T).2.1).2, (pCmd M T).2.2)) else (false, (pCmd M T).2.1, (pCmd M T).2.2)
theorem pS_eta (M : mS) : pS M (M 0 18, M 8) (M 0 21) = M := by
  unfold pS
  funext a
  by_cases h0 : a = 0
  · subst h0
    rw [mu_s, mu_s]
    rw [ms_n _ _ (by decide)]
    funext k
    unfold uP
    split
    · rename_i h; rw [h]
    · split
      · rename_i h; rw [h]
      · rfl
  · rw [mu_n _ _ _ h0, mu_n _ _ _ h0]
    by_cases h8 : a = 8
    · subst h8; rw [ms_s]
    · rw [ms_n _ _ h8]

theorem pL_n (M : mS) (T : pT) : pL M [] T = (true, T) := rfl
theorem pL_0 (M : mS) (c : Nat) (l : List (Nat × Nat)) (T : pT) : pL M ((0, c) :: l) T = if (pC M c T).1 = true then pL M l (pC M c T).2 else (false, (pC M c T).2) := rfl
theorem pL_1 (M : mS) (c : Nat) (l : List (Nat × Nat)) (T : pT) : pL M ((1, c) :: l) T = if (pD M c T).1 = true then pL M l (pD M c T).2 else (false, (pD M c T).2) := rfl
theorem pL_2 (M : mS) (c : Nat) (l : List (Nat × Nat)) (T : pT) : pL M ((2, c) :: l) T = if (pN M c T).1 = true then pL M l (pN M c T).2 else (false, (pN M c T).2) := rfl
theorem pS_st (M : mS) : mu M 0 18 0 = pS M (0, M 8) (M 0 21) := by
  funext a
  unfold pS
  by_cases h0 : a = 0
  · subst h0
    rw [mu_s, mu_s, mu_s, ms_n _ _ (by decide)]
    funext k
    unfold uP
    split
    · rename_i h
      rw [if_neg (by omega)]
    · split
      · rename_i h; rw [h]
      · rfl
  · rw [mu_n _ _ _ h0, mu_n _ _ _ h0, mu_n _ _ _ h0]
    by_cases h8 : a = 8
    · subst h8; rw [ms_s]
    · rw [ms_n _ _ h8]
theorem pAll_s (M : mS) (f : Nat) (T : pT) (s : Nat) : pAll M (f + 1) T s = if (pCmd M T).1 = true then (if (pC M 59 (pCmd M T).2.1).1 = true then pAll M f (pC M 59 (pCmd M T).2.1).2 (pCmd M T).2.2 else (decide ((pC M 59 (pCmd M T).2.1).2.1 = M 0 17), (pC M 59 (pCmd M T).2.1).2, (pCmd M T).2.2)) else (false, (pCmd M T).2.1, (pCmd M T).2.2) := rfl
set_option maxHeartbeats 4000000 in
set_option maxRecDepth 100000 in
theorem metX2_nextSign (l : Launch) (G : va_G) (dA : Nat → ClassId) (dS : Nat → Nat) (B0 sz : Nat) (q : Nat → Nat) (M : mS) (T : pT) (so : Nat) (hi : iB M) (hT : pB M T) : Met l yX2_nextSign (ws_ yX2_nextSign cX2_nextSign 1 (some FieldType.int)) ({ frames := 0, cells := 0, slots := 0, locals := 0 }) (zP G dA dS B0 [.ref (q 0)] sz (mW dA q (pS M T so)) (fun H => True)) (zQi G (fun (r : Int32) (u : Unit) => r = nI (nx M T.1)) (fun (u : Unit) => mW dA q (pS M T so)) (fun (u : Unit) (H : Heap) => True) (va_A (mW dA q (pS M T so)) sz)) 0 0 (va_A (mW dA q (pS M T so)) sz) := by
  refine zM (by decide) (Nat.le_of_ble_eq_true rfl) ?_
  intro p e s m below meth c ls A H locs hHe hx hb hr hlocks hml hown hname hts hX hsz hB hAe hA hAB hH hRo hl
  have hl : lv_has ls 1 [(0, .ref (q 0))] := hl
  have hi7 := hi.2
  have hi1 := hi.1
  have hT1 := hT.1
  refine lv_aload_n hx hb dX2_nextSign_0 rfl (lv_at hl 0 rfl) ?_
  refine z_get (v := .int (nI T.1)) hx hb hts hown hX kX2 18 (by decide) (hH.at 0 rfl) rfl q2028 (fun _ h9 => h9) dX2_nextSign_1 ?_
  refine lv_aload_n hx hb dX2_nextSign_4 rfl (lv_at hl 0 rfl) ?_
  refine z_get (v := .int (nI (M 0 17))) hx hb hts hown hX kX2 17 (by decide) (hH.at 0 rfl) rfl q2027 (fun _ h9 => h9) dX2_nextSign_5 ?_
  have hb7 := hi7 T.1
  refine z_icmp_ge (tgt := 23) hx hb dX2_nextSign_8 (by decide) (by omega) (by omega) (fun c_8_1 => ?_) (fun c_8_1 => ?_)
  · skip
    have dc_8_1 := Nat.not_lt.mp c_8_1
    refine lv_iconst (v := (-1)) hx hb dX2_nextSign_23 (by decide) ?_
    exact z_iret hx hb hr hlocks hH (u := ()) (by simp only [nx, if_neg c_8_1]; first | done | decide) ⟨hH.1, hH.2.1⟩ trivial (Nat.le_of_ble_eq_true rfl) (Nat.le_of_ble_eq_true rfl) dX2_nextSign_24
  · skip
    refine lv_aload_n hx hb dX2_nextSign_11 rfl (lv_at hl 0 rfl) ?_
    refine z_get (v := .ref (q 7)) hx hb hts hown hX kX2 16 (by decide) (hH.at 0 rfl) rfl q2026 (fun _ h9 => h9) dX2_nextSign_12 ?_
    refine lv_aload_n hx hb dX2_nextSign_15 rfl (lv_at hl 0 rfl) ?_
    refine z_get (v := .int (nI T.1)) hx hb hts hown hX kX2 18 (by decide) (hH.at 0 rfl) rfl q2028 (fun _ h9 => h9) dX2_nextSign_16 ?_
    refine z_cald (x := nI (M 7 T.1)) hx hb hX (k := T.1)  (hH.at 7 rfl) rfl (by omega) (by omega) rfl dX2_nextSign_19 ?_
    refine lv_goto (tgt := 24) hx hb dX2_nextSign_20 (by decide) ?_
    exact z_iret hx hb hr hlocks hH (u := ()) (by simp only [nx, if_pos c_8_1]; first | done | decide) ⟨hH.1, hH.2.1⟩ trivial (Nat.le_of_ble_eq_true rfl) (Nat.le_of_ble_eq_true rfl) dX2_nextSign_24

set_option maxHeartbeats 4000000 in
set_option maxRecDepth 100000 in
theorem metX2_reads (l : Launch) (G : va_G) (dA : Nat → ClassId) (dS : Nat → Nat) (B0 sz : Nat) (q : Nat → Nat) (M : mS) (T : pT) (so : Nat) (hi : iB M) (hT : pB M T) (c9 : Nat) : Met l yX2_reads (ws_ yX2_reads cX2_reads 2 (some FieldType.boolean)) ({ frames := 1, cells := 0, slots := 0, locals := 20 }) (zP G dA dS B0 [.ref (q 0), .int (nI c9)] sz (mW dA q (pS M T so)) (fun H => True)) (zQi G (fun (r : Int32) (u : Unit) => r = nI (bN ((pC M c9 T).1))) (fun (u : Unit) => mW dA q (pS M (pC M c9 T).2 so)) (fun (u : Unit) (H : Heap) => True) (va_A (mW dA q (pS M T so)) sz)) 0 0 (va_A (mW dA q (pS M T so)) sz) := by
  refine zM (by decide) (Nat.le_of_ble_eq_true rfl) ?_
  intro p e s m below meth c ls A H locs hHe hx hb hr hlocks hml hown hname hts hX hsz hB hAe hA hAB hH hRo hl
  have hl : lv_has ls 2 [(0, .ref (q 0)), (1, .int (nI c9))] := hl
  have hi7 := hi.2
  have hi1 := hi.1
  have hT1 := hT.1
  refine lv_aload_n hx hb dX2_reads_0 rfl (lv_at hl 0 rfl) ?_
  refine z_ci (wr := []) (va_runV (As := []) (rest := []) ⟨hx, hb, hml, hown, hts⟩ (metX2_nextSign l G dA dS B0 H.size q M T so (by first | exact hi | assumption | omega) (by first | exact hT | assumption | omega)) (cwV 0 hts (lw_V q2404 q2406 qs70 q91 q2407) rfl rfl rfl (by decide +kernel) ⟨Nat.le_of_ble_eq_true rfl, Nat.le_of_ble_eq_true rfl⟩) (zPV hX hH hB hAB (z_recv hX kX2 (hH.at 0 rfl)) [0, 1, 2, 3, 4, 5, 6, 7, 8] rfl rfl trivial) rfl rfl hl.1 rfl (lv_room (Nat.le_of_ble_eq_true rfl)) dX2_reads_1 ⟨(Nat.le_of_ble_eq_true rfl), (Nat.le_of_ble_eq_true rfl)⟩) hH hA [0, 1, 2, 3, 4, 5, 6, 7, 8] [] rfl rfl (by decide) (by decide) (fun r_1 u_r_1 H locs hw_r_1 hH hR_r_1 hk_r_1 => ?_)
  obtain rfl := hw_r_1
  have hH : zH G A s.heap (mW dA q (pS M T so)) H locs := hH
  refine lv_iload_n hx hb dX2_reads_4 rfl (lv_at hl 1 rfl) ?_
  refine lv_icmp_eq (tgt := 10) hx hb dX2_reads_5 (by decide) (fun c_5_2 => ?_) (fun c_5_2 => ?_)
  · skip
    refine lv_aload_n hx hb dX2_reads_10 rfl (lv_at hl 0 rfl) ?_
    refine lv_dup hx hb dX2_reads_11 rfl ?_
    refine z_get (v := .int (nI T.1)) hx hb hts hown hX kX2 18 (by decide) (hH.at 0 rfl) rfl q2028 (fun _ h9 => h9) dX2_reads_12 ?_
    refine lv_iconst (v := nI 1) hx hb dX2_reads_15 (by decide) ?_
    refine lv_iadd hx hb dX2_reads_16 ?_
    refine z_topi (y := nI (T.1 + 1)) (nI_add _ _) ?_
    refine z_put hx hb hts hown hX kX2 18 (by decide) hH 0 rfl q2028 (fun _ h9 => h9) rfl rfl rfl (Nat.le_of_ble_eq_true rfl) dX2_reads_17 (fun H locs hH => ?_)
    have hH : zH G A s.heap (mW dA q (pS M ((T.1 + 1), T.2) so)) H locs := hH
    refine lv_iconst (v := nI 1) hx hb dX2_reads_20 (by decide) ?_
    have eM : pS M ((T.1 + 1), T.2) so = pS M (pC M c9 T).2 so := by simp only [pC, if_pos c_5_2]; first | done | rfl
    rw [eM] at hH
    exact z_zret hx hb hr hlocks hH (by first | rfl | exact z_narB _ | decide) (u := ()) (by simp only [pC, if_pos c_5_2]; first | done | rfl) ⟨hH.1, hH.2.1⟩ trivial (Nat.le_of_ble_eq_true rfl) (Nat.le_of_ble_eq_true rfl) dX2_reads_21
  · skip
    refine lv_iconst (v := nI 0) hx hb dX2_reads_8 (by decide) ?_
    have eM : pS M T so = pS M (pC M c9 T).2 so := by simp only [pC, if_neg c_5_2]; first | done | rfl
    rw [eM] at hH
    exact z_zret hx hb hr hlocks hH (by first | rfl | exact z_narB _ | decide) (u := ()) (by simp only [pC, if_neg c_5_2]; first | done | rfl) ⟨hH.1, hH.2.1⟩ trivial (Nat.le_of_ble_eq_true rfl) (Nat.le_of_ble_eq_true rfl) dX2_reads_9

set_option maxHeartbeats 4000000 in
set_option maxRecDepth 100000 in
theorem metX2_readsDigit (l : Launch) (G : va_G) (dA : Nat → ClassId) (dS : Nat → Nat) (B0 sz : Nat) (q : Nat → Nat) (M : mS) (T : pT) (so : Nat) (hi : iB M) (hT : pB M T) (k : Nat) (hk : k < 4) : Met l yX2_readsDigit (ws_ yX2_readsDigit cX2_readsDigit 2 (some FieldType.boolean)) ({ frames := 1, cells := 0, slots := 0, locals := 22 }) (zP G dA dS B0 [.ref (q 0), .int (nI k)] sz (mW dA q (pS M T so)) (fun H => True)) (zQi G (fun (r : Int32) (u : Unit) => r = nI (bN ((pD M k T).1))) (fun (u : Unit) => mW dA q (pS M (pD M k T).2 so)) (fun (u : Unit) (H : Heap) => True) (va_A (mW dA q (pS M T so)) sz)) 0 0 (va_A (mW dA q (pS M T so)) sz) := by
  refine zM (by decide) (Nat.le_of_ble_eq_true rfl) ?_
  intro p e s m below meth c ls A H locs hHe hx hb hr hlocks hml hown hname hts hX hsz hB hAe hA hAB hH hRo hl
  have hl : lv_has ls 2 [(0, .ref (q 0)), (1, .int (nI k))] := hl
  have hi7 := hi.2
  have hi1 := hi.1
  have hT1 := hT.1
  refine lv_aload_n hx hb dX2_readsDigit_0 rfl (lv_at hl 0 rfl) ?_
  refine z_ci (wr := []) (va_runV (As := []) (rest := []) ⟨hx, hb, hml, hown, hts⟩ (metX2_nextSign l G dA dS B0 H.size q M T so (by first | exact hi | assumption | omega) (by first | exact hT | assumption | omega)) (cwV 0 hts (lw_V q2404 q2406 qs70 q91 q2407) rfl rfl rfl (by decide +kernel) ⟨Nat.le_of_ble_eq_true rfl, Nat.le_of_ble_eq_true rfl⟩) (zPV hX hH hB hAB (z_recv hX kX2 (hH.at 0 rfl)) [0, 1, 2, 3, 4, 5, 6, 7, 8] rfl rfl trivial) rfl rfl hl.1 rfl (lv_room (Nat.le_of_ble_eq_true rfl)) dX2_readsDigit_1 ⟨(Nat.le_of_ble_eq_true rfl), (Nat.le_of_ble_eq_true rfl)⟩) hH hA [0, 1, 2, 3, 4, 5, 6, 7, 8] [] rfl rfl (by decide) (by decide) (fun r_1 u_r_1 H locs hw_r_1 hH hR_r_1 hk_r_1 => ?_)
  obtain rfl := hw_r_1
  have hH : zH G A s.heap (mW dA q (pS M T so)) H locs := hH
  refine lv_bipush (v := nI 48) hx hb dX2_readsDigit_4 (by decide) ?_
  refine lv_bipush (v := nI 57) hx hb dX2_readsDigit_6 (by decide) ?_
  refine z_ci (wr := mW dA q (pS M T so)) (va_runS (As := [.int (nI (nx M T.1)), .int (nI 48), .int (nI 57)]) (rest := []) ⟨hx, hb, hml, hown, hts⟩ (metX2_isBetween l G dA dS B0 H.size (nI (nx M T.1)) (nI 48) (nI 57)) (va_cwS 3 hts (lw_S q2001 q2002 q91 q2003) rfl rfl rfl (by decide +kernel) ⟨Nat.le_of_ble_eq_true rfl, Nat.le_of_ble_eq_true rfl⟩) (zPS hX hH hB hAB [] rfl rfl trivial) rfl rfl hl.1 rfl (lv_room (Nat.le_of_ble_eq_true rfl)) dX2_readsDigit_8 ⟨(Nat.le_of_ble_eq_true rfl), (Nat.le_of_ble_eq_true rfl)⟩) hH hA [] [0, 1, 2, 3, 4, 5, 6, 7, 8] rfl rfl (by decide) (by decide) (fun r_2 u_r_2 H locs hw_r_2 hH hR_r_2 hk_r_2 => ?_)
  obtain rfl := hw_r_2
  have hH : zH G A s.heap (mW dA q (pS M T so)) H locs := hH
  refine z_ifneB (b := inR (nI (nx M T.1)) (nI 48) (nI 57)) (tgt := 16) hx hb dX2_readsDigit_11 (by decide) (fun c_11_3 => ?_) (fun c_11_3 => ?_)
  · skip
    obtain ⟨hn1, hn2, hn3⟩ := nx_lo hi c_11_3 (by decide) (by decide)
    have hn4 := nx_lt hi T.1
    refine lv_aload_n hx hb dX2_readsDigit_16 rfl (lv_at hl 0 rfl) ?_
    refine z_get (v := .ref (q 8)) hx hb hts hown hX kX2 20 (by decide) (hH.at 0 rfl) rfl q2030 (fun _ h9 => h9) dX2_readsDigit_17 ?_
    refine lv_iload_n hx hb dX2_readsDigit_20 rfl (lv_at hl 1 rfl) ?_
    refine lv_aload_n hx hb dX2_readsDigit_21 rfl (lv_at hl 0 rfl) ?_
    refine z_ci (wr := []) (va_runV (As := []) (rest := [.int (nI k), .ref (q 8)]) ⟨hx, hb, hml, hown, hts⟩ (metX2_nextSign l G dA dS B0 H.size q M T so (by first | exact hi | assumption | omega) (by first | exact hT | assumption | omega)) (cwV 0 hts (lw_V q2404 q2406 qs70 q91 q2407) rfl rfl rfl (by decide +kernel) ⟨Nat.le_of_ble_eq_true rfl, Nat.le_of_ble_eq_true rfl⟩) (zPV hX hH hB hAB (z_recv hX kX2 (hH.at 0 rfl)) [0, 1, 2, 3, 4, 5, 6, 7, 8] rfl rfl trivial) rfl rfl hl.1 rfl (lv_room (Nat.le_of_ble_eq_true rfl)) dX2_readsDigit_22 ⟨(Nat.le_of_ble_eq_true rfl), (Nat.le_of_ble_eq_true rfl)⟩) hH hA [0, 1, 2, 3, 4, 5, 6, 7, 8] [] rfl rfl (by decide) (by decide) (fun r_4 u_r_4 H locs hw_r_4 hH hR_r_4 hk_r_4 => ?_)
    obtain rfl := hw_r_4
    have hH : zH G A s.heap (mW dA q (pS M T so)) H locs := hH
    refine lv_bipush (v := nI 48) hx hb dX2_readsDigit_25 (by decide) ?_
    refine lv_isub hx hb dX2_readsDigit_27 ?_
    refine z_topi (y := nI ((nx M T.1) - 48)) (pk_sub (by omega)) ?_
    refine z_iastN hx hb hX (k := k) hH 8 rfl rfl (by omega) (by omega) dX2_readsDigit_28 (fun H locs hH => ?_)
    have hH : zH G A s.heap (mW dA q (pS M (T.1, uP T.2 k ((nx M T.1) - 48)) so)) H locs := hH
    refine lv_aload_n hx hb dX2_readsDigit_29 rfl (lv_at hl 0 rfl) ?_
    refine lv_dup hx hb dX2_readsDigit_30 rfl ?_
    refine z_get (v := .int (nI ((T.1, uP T.2 k ((nx M T.1) - 48)).1))) hx hb hts hown hX kX2 18 (by decide) (hH.at 0 rfl) rfl q2028 (fun _ h9 => h9) dX2_readsDigit_31 ?_
    refine lv_iconst (v := nI 1) hx hb dX2_readsDigit_34 (by decide) ?_
    refine lv_iadd hx hb dX2_readsDigit_35 ?_
    refine z_topi (y := nI ((T.1, uP T.2 k ((nx M T.1) - 48)).1 + 1)) (nI_add _ _) ?_
    refine z_put hx hb hts hown hX kX2 18 (by decide) hH 0 rfl q2028 (fun _ h9 => h9) rfl rfl rfl (Nat.le_of_ble_eq_true rfl) dX2_readsDigit_36 (fun H locs hH => ?_)
    have hH : zH G A s.heap (mW dA q (pS M (((T.1, uP T.2 k ((nx M T.1) - 48)).1 + 1), (T.1, uP T.2 k ((nx M T.1) - 48)).2) so)) H locs := hH
    refine lv_iconst (v := nI 1) hx hb dX2_readsDigit_39 (by decide) ?_
    have eM : pS M (((T.1, uP T.2 k ((nx M T.1) - 48)).1 + 1), (T.1, uP T.2 k ((nx M T.1) - 48)).2) so = pS M (pD M k T).2 so := by simp only [pD, if_pos c_11_3, if_neg (t_nf c_11_3)]; first | done | rfl
    rw [eM] at hH
    exact z_zret hx hb hr hlocks hH (by first | rfl | exact z_narB _ | decide) (u := ()) (by simp only [pD, if_pos c_11_3, if_neg (t_nf c_11_3)]; first | done | rfl) ⟨hH.1, hH.2.1⟩ trivial (Nat.le_of_ble_eq_true rfl) (Nat.le_of_ble_eq_true rfl) dX2_readsDigit_40
  · skip
    refine lv_iconst (v := nI 0) hx hb dX2_readsDigit_14 (by decide) ?_
    have eM : pS M T so = pS M (pD M k T).2 so := by simp only [pD, if_pos c_11_3, if_neg (t_nt c_11_3)]; first | done | rfl
    rw [eM] at hH
    exact z_zret hx hb hr hlocks hH (by first | rfl | exact z_narB _ | decide) (u := ()) (by simp only [pD, if_pos c_11_3, if_neg (t_nt c_11_3)]; first | done | rfl) ⟨hH.1, hH.2.1⟩ trivial (Nat.le_of_ble_eq_true rfl) (Nat.le_of_ble_eq_true rfl) dX2_readsDigit_15

set_option maxHeartbeats 4000000 in
set_option maxRecDepth 100000 in
theorem metX2_readsNumber (l : Launch) (G : va_G) (dA : Nat → ClassId) (dS : Nat → Nat) (B0 sz : Nat) (q : Nat → Nat) (M : mS) (T : pT) (so : Nat) (hi : iB M) (hT : pB M T) (k : Nat) (hk : k < 4) : Met l yX2_readsNumber (ws_ yX2_readsNumber cX2_readsNumber 2 (some FieldType.boolean)) ({ frames := 2, cells := 0, slots := 0, locals := 43 }) (zP G dA dS B0 [.ref (q 0), .int (nI k)] sz (mW dA q (pS M T so)) (fun H => True)) (zQi G (fun (r : Int32) (u : Unit) => r = nI (bN ((pN M k T).1))) (fun (u : Unit) => mW dA q (pS M (pN M k T).2 so)) (fun (u : Unit) (H : Heap) => True) (va_A (mW dA q (pS M T so)) sz)) 0 0 (va_A (mW dA q (pS M T so)) sz) := by
  refine zM (by decide) (Nat.le_of_ble_eq_true rfl) ?_
  intro p e s m below meth c ls A H locs hHe hx hb hr hlocks hml hown hname hts hX hsz hB hAe hA hAB hH hRo hl
  have hl : lv_has ls 2 [(0, .ref (q 0)), (1, .int (nI k))] := hl
  have hi7 := hi.2
  have hi1 := hi.1
  have hT1 := hT.1
  have hd9 := pD_B (k := k) hi hT
  have hd91 := hd9.1.1
  have hd92 := hd9.1.2 k
  refine lv_aload_n hx hb dX2_readsNumber_0 rfl (lv_at hl 0 rfl) ?_
  refine lv_iload_n hx hb dX2_readsNumber_1 rfl (lv_at hl 1 rfl) ?_
  refine z_ci (wr := []) (va_runV (As := [.int (nI k)]) (rest := []) ⟨hx, hb, hml, hown, hts⟩ (metX2_readsDigit l G dA dS B0 H.size q M T so (by first | exact hi | assumption | omega) (by first | exact hT | assumption | omega) k (by first | exact hk | assumption | omega)) (cwV 1 hts (lw_V q2416 q2418 qs73 q91 q2419) rfl rfl rfl (by decide +kernel) ⟨Nat.le_of_ble_eq_true rfl, Nat.le_of_ble_eq_true rfl⟩) (zPV hX hH hB hAB (z_recv hX kX2 (hH.at 0 rfl)) [0, 1, 2, 3, 4, 5, 6, 7, 8] rfl rfl trivial) rfl rfl hl.1 rfl (lv_room (Nat.le_of_ble_eq_true rfl)) dX2_readsNumber_2 ⟨(Nat.le_of_ble_eq_true rfl), (Nat.le_of_ble_eq_true rfl)⟩) hH hA [0, 1, 2, 3, 4, 5, 6, 7, 8] [] rfl rfl (by decide) (by decide) (fun r_1 u_r_1 H locs hw_r_1 hH hR_r_1 hk_r_1 => ?_)
  obtain rfl := hw_r_1
  have hH : zH G A s.heap (mW dA q (pS M (pD M k T).2 so)) H locs := hH
  have hB_r_1 := (pD_B (M := M) (T := T) (k := k) hi (by first | exact hT | assumption)).1
  refine z_ifneB (b := (pD M k T).1) (tgt := 10) hx hb dX2_readsNumber_5 (by decide) (fun c_5_2 => ?_) (fun c_5_2 => ?_)
  · skip
    refine lv_aload_n hx hb dX2_readsNumber_10 rfl (lv_at hl 0 rfl) ?_
    refine z_ci (wr := []) (va_runV (As := []) (rest := []) ⟨hx, hb, hml, hown, hts⟩ (metX2_nextSign l G dA dS B0 H.size q M ((pD M k T).2) so (by first | exact hi | assumption | omega) hd9.1) (cwV 0 hts (lw_V q2404 q2406 qs70 q91 q2407) rfl rfl rfl (by decide +kernel) ⟨Nat.le_of_ble_eq_true rfl, Nat.le_of_ble_eq_true rfl⟩) (zPV hX hH hB hAB (z_recv hX kX2 (hH.at 0 rfl)) [0, 1, 2, 3, 4, 5, 6, 7, 8] rfl rfl trivial) rfl rfl hl.1 rfl (lv_room (Nat.le_of_ble_eq_true rfl)) dX2_readsNumber_11 ⟨(Nat.le_of_ble_eq_true rfl), (Nat.le_of_ble_eq_true rfl)⟩) hH hA [0, 1, 2, 3, 4, 5, 6, 7, 8] [] rfl rfl (by decide) (by decide) (fun r_3 u_r_3 H locs hw_r_3 hH hR_r_3 hk_r_3 => ?_)
    obtain rfl := hw_r_3
    have hH : zH G A s.heap (mW dA q (pS M ((pD M k T).2) so)) H locs := hH
    refine lv_bipush (v := nI 48) hx hb dX2_readsNumber_14 (by decide) ?_
    refine lv_bipush (v := nI 57) hx hb dX2_readsNumber_16 (by decide) ?_
    refine z_ci (wr := mW dA q (pS M ((pD M k T).2) so)) (va_runS (As := [.int (nI (nx M ((pD M k T).2).1)), .int (nI 48), .int (nI 57)]) (rest := []) ⟨hx, hb, hml, hown, hts⟩ (metX2_isBetween l G dA dS B0 H.size (nI (nx M ((pD M k T).2).1)) (nI 48) (nI 57)) (va_cwS 3 hts (lw_S q2001 q2002 q91 q2003) rfl rfl rfl (by decide +kernel) ⟨Nat.le_of_ble_eq_true rfl, Nat.le_of_ble_eq_true rfl⟩) (zPS hX hH hB hAB [] rfl rfl trivial) rfl rfl hl.1 rfl (lv_room (Nat.le_of_ble_eq_true rfl)) dX2_readsNumber_18 ⟨(Nat.le_of_ble_eq_true rfl), (Nat.le_of_ble_eq_true rfl)⟩) hH hA [] [0, 1, 2, 3, 4, 5, 6, 7, 8] rfl rfl (by decide) (by decide) (fun r_4 u_r_4 H locs hw_r_4 hH hR_r_4 hk_r_4 => ?_)
    obtain rfl := hw_r_4
    have hH : zH G A s.heap (mW dA q (pS M ((pD M k T).2) so)) H locs := hH
    refine z_ifneB (b := inR (nI (nx M ((pD M k T).2).1)) (nI 48) (nI 57)) (tgt := 26) hx hb dX2_readsNumber_21 (by decide) (fun c_21_5 => ?_) (fun c_21_5 => ?_)
    · skip
      obtain ⟨hn1, hn2, hn3⟩ := nx_lo hi c_21_5 (by decide) (by decide)
      have hn4 := nx_lt hi (pD M k T).2.1
      refine lv_aload_n hx hb dX2_readsNumber_26 rfl (lv_at hl 0 rfl) ?_
      refine z_get (v := .ref (q 8)) hx hb hts hown hX kX2 20 (by decide) (hH.at 0 rfl) rfl q2030 (fun _ h9 => h9) dX2_readsNumber_27 ?_
      refine lv_iload_n hx hb dX2_readsNumber_30 rfl (lv_at hl 1 rfl) ?_
      refine lv_bipush (v := nI 10) hx hb dX2_readsNumber_31 (by decide) ?_
      refine lv_aload_n hx hb dX2_readsNumber_33 rfl (lv_at hl 0 rfl) ?_
      refine z_get (v := .ref (q 8)) hx hb hts hown hX kX2 20 (by decide) (hH.at 0 rfl) rfl q2030 (fun _ h9 => h9) dX2_readsNumber_34 ?_
      refine lv_iload_n hx hb dX2_readsNumber_37 rfl (lv_at hl 1 rfl) ?_
      refine z_iald (x := nI (((pD M k T).2).2 k)) hx hb hX (k := k)  (hH.at 8 rfl) rfl (by omega) (by omega) rfl dX2_readsNumber_38 ?_
      refine lv_imul hx hb dX2_readsNumber_39 ?_
      refine z_topi (y := nI (10 * (((pD M k T).2).2 k))) (pk_mul _ _) ?_
      refine lv_aload_n hx hb dX2_readsNumber_40 rfl (lv_at hl 0 rfl) ?_
      refine z_ci (wr := []) (va_runV (As := []) (rest := [.int (nI (10 * (((pD M k T).2).2 k))), .int (nI k), .ref (q 8)]) ⟨hx, hb, hml, hown, hts⟩ (metX2_nextSign l G dA dS B0 H.size q M ((pD M k T).2) so (by first | exact hi | assumption | omega) hd9.1) (cwV 0 hts (lw_V q2404 q2406 qs70 q91 q2407) rfl rfl rfl (by decide +kernel) ⟨Nat.le_of_ble_eq_true rfl, Nat.le_of_ble_eq_true rfl⟩) (zPV hX hH hB hAB (z_recv hX kX2 (hH.at 0 rfl)) [0, 1, 2, 3, 4, 5, 6, 7, 8] rfl rfl trivial) rfl rfl hl.1 rfl (lv_room (Nat.le_of_ble_eq_true rfl)) dX2_readsNumber_41 ⟨(Nat.le_of_ble_eq_true rfl), (Nat.le_of_ble_eq_true rfl)⟩) hH hA [0, 1, 2, 3, 4, 5, 6, 7, 8] [] rfl rfl (by decide) (by decide) (fun r_6 u_r_6 H locs hw_r_6 hH hR_r_6 hk_r_6 => ?_)
      obtain rfl := hw_r_6
      have hH : zH G A s.heap (mW dA q (pS M ((pD M k T).2) so)) H locs := hH
      refine lv_iadd hx hb dX2_readsNumber_44 ?_
      refine z_topi (y := nI ((10 * (((pD M k T).2).2 k)) + nx M ((pD M k T).2).1)) (nI_add _ _) ?_
      refine lv_bipush (v := nI 48) hx hb dX2_readsNumber_45 (by decide) ?_
      refine lv_isub hx hb dX2_readsNumber_47 ?_
      refine z_topi (y := nI (((10 * (((pD M k T).2).2 k)) + nx M ((pD M k T).2).1) - 48)) (pk_sub (by omega)) ?_
      refine z_iastN hx hb hX (k := k) hH 8 rfl rfl (by omega) (by omega) dX2_readsNumber_48 (fun H locs hH => ?_)
      have hH : zH G A s.heap (mW dA q (pS M (((pD M k T).2).1, uP ((pD M k T).2).2 k (((10 * (((pD M k T).2).2 k)) + nx M ((pD M k T).2).1) - 48)) so)) H locs := hH
      refine lv_aload_n hx hb dX2_readsNumber_49 rfl (lv_at hl 0 rfl) ?_
      refine lv_dup hx hb dX2_readsNumber_50 rfl ?_
      refine z_get (v := .int (nI ((((pD M k T).2).1, uP ((pD M k T).2).2 k (((10 * (((pD M k T).2).2 k)) + nx M ((pD M k T).2).1) - 48)).1))) hx hb hts hown hX kX2 18 (by decide) (hH.at 0 rfl) rfl q2028 (fun _ h9 => h9) dX2_readsNumber_51 ?_
      refine lv_iconst (v := nI 1) hx hb dX2_readsNumber_54 (by decide) ?_
      refine lv_iadd hx hb dX2_readsNumber_55 ?_
      refine z_topi (y := nI ((((pD M k T).2).1, uP ((pD M k T).2).2 k (((10 * (((pD M k T).2).2 k)) + nx M ((pD M k T).2).1) - 48)).1 + 1)) (nI_add _ _) ?_
      refine z_put hx hb hts hown hX kX2 18 (by decide) hH 0 rfl q2028 (fun _ h9 => h9) rfl rfl rfl (Nat.le_of_ble_eq_true rfl) dX2_readsNumber_56 (fun H locs hH => ?_)
      have hH : zH G A s.heap (mW dA q (pS M (((((pD M k T).2).1, uP ((pD M k T).2).2 k (((10 * (((pD M k T).2).2 k)) + nx M ((pD M k T).2).1) - 48)).1 + 1), (((pD M k T).2).1, uP ((pD M k T).2).2 k (((10 * (((pD M k T).2).2 k)) + nx M ((pD M k T).2).1) - 48)).2) so)) H locs := hH
      refine lv_iconst (v := nI 1) hx hb dX2_readsNumber_59 (by decide) ?_
      have eM : pS M (((((pD M k T).2).1, uP ((pD M k T).2).2 k (((10 * (((pD M k T).2).2 k)) + nx M ((pD M k T).2).1) - 48)).1 + 1), (((pD M k T).2).1, uP ((pD M k T).2).2 k (((10 * (((pD M k T).2).2 k)) + nx M ((pD M k T).2).1) - 48)).2) so = pS M (pN M k T).2 so := by simp only [pN, if_pos c_5_2, if_neg (t_nf c_5_2), if_pos c_21_5, if_neg (t_nf c_21_5)]; first | done | rfl
      rw [eM] at hH
      exact z_zret hx hb hr hlocks hH (by first | rfl | exact z_narB _ | decide) (u := ()) (by simp only [pN, if_pos c_5_2, if_neg (t_nf c_5_2), if_pos c_21_5, if_neg (t_nf c_21_5)]; first | done | rfl) ⟨hH.1, hH.2.1⟩ trivial (Nat.le_of_ble_eq_true rfl) (Nat.le_of_ble_eq_true rfl) dX2_readsNumber_60
    · skip
      refine lv_iconst (v := nI 1) hx hb dX2_readsNumber_24 (by decide) ?_
      have eM : pS M ((pD M k T).2) so = pS M (pN M k T).2 so := by simp only [pN, if_pos c_5_2, if_neg (t_nf c_5_2), if_pos c_21_5, if_neg (t_nt c_21_5)]; first | done | rfl
      rw [eM] at hH
      exact z_zret hx hb hr hlocks hH (by first | rfl | exact z_narB _ | decide) (u := ()) (by simp only [pN, if_pos c_5_2, if_neg (t_nf c_5_2), if_pos c_21_5, if_neg (t_nt c_21_5)]; first | done | rfl) ⟨hH.1, hH.2.1⟩ trivial (Nat.le_of_ble_eq_true rfl) (Nat.le_of_ble_eq_true rfl) dX2_readsNumber_25
  · skip
    refine lv_iconst (v := nI 0) hx hb dX2_readsNumber_8 (by decide) ?_
    have eM : pS M (pD M k T).2 so = pS M (pN M k T).2 so := by simp only [pN, if_pos c_5_2, if_neg (t_nt c_5_2)]; first | done | rfl
    rw [eM] at hH
    exact z_zret hx hb hr hlocks hH (by first | rfl | exact z_narB _ | decide) (u := ()) (by simp only [pN, if_pos c_5_2, if_neg (t_nt c_5_2)]; first | done | rfl) ⟨hH.1, hH.2.1⟩ trivial (Nat.le_of_ble_eq_true rfl) (Nat.le_of_ble_eq_true rfl) dX2_readsNumber_9

set_option maxHeartbeats 4000000 in
set_option maxRecDepth 100000 in
theorem metX2_readsJoke (l : Launch) (G : va_G) (dA : Nat → ClassId) (dS : Nat → Nat) (B0 sz : Nat) (q : Nat → Nat) (M : mS) (T : pT) (so : Nat) (hi : iB M) (hT : pB M T) : Met l yX2_readsJoke (ws_ yX2_readsJoke cX2_readsJoke 1 (some FieldType.boolean)) ({ frames := 3, cells := 0, slots := 0, locals := 64 }) (zP G dA dS B0 [.ref (q 0)] sz (mW dA q (pS M T so)) (fun H => True)) (zQi G (fun (r : Int32) (u : Unit) => r = nI (bN ((pL M LJ T).1))) (fun (u : Unit) => mW dA q (pS M (pL M LJ T).2 so)) (fun (u : Unit) (H : Heap) => True) (va_A (mW dA q (pS M T so)) sz)) 0 0 (va_A (mW dA q (pS M T so)) sz) := by
  refine zM (by decide) (Nat.le_of_ble_eq_true rfl) ?_
  intro p e s m below meth c ls A H locs hHe hx hb hr hlocks hml hown hname hts hX hsz hB hAe hA hAB hH hRo hl
  have hl : lv_has ls 1 [(0, .ref (q 0))] := hl
  refine lv_aload_n hx hb dX2_readsJoke_0 rfl (lv_at hl 0 rfl) ?_
  refine lv_bipush (v := nI 111) hx hb dX2_readsJoke_1 (by decide) ?_
  refine z_ci (wr := []) (va_runV (As := [.int (nI 111)]) (rest := []) ⟨hx, hb, hml, hown, hts⟩ (metX2_reads l G dA dS B0 H.size q M T so (by first | exact hi | assumption | omega) (by first | exact hT | assumption | omega) 111) (cwV 1 hts (lw_V q2408 q2410 qs71 q91 q2411) rfl rfl rfl (by decide +kernel) ⟨Nat.le_of_ble_eq_true rfl, Nat.le_of_ble_eq_true rfl⟩) (zPV hX hH hB hAB (z_recv hX kX2 (hH.at 0 rfl)) [0, 1, 2, 3, 4, 5, 6, 7, 8] rfl rfl trivial) rfl rfl hl.1 rfl (lv_room (Nat.le_of_ble_eq_true rfl)) dX2_readsJoke_3 ⟨(Nat.le_of_ble_eq_true rfl), (Nat.le_of_ble_eq_true rfl)⟩) hH hA [0, 1, 2, 3, 4, 5, 6, 7, 8] [] rfl rfl (by decide) (by decide) (fun r_1 u_r_1 H locs hw_r_1 hH hR_r_1 hk_r_1 => ?_)
  obtain rfl := hw_r_1
  have hH : zH G A s.heap (mW dA q (pS M (pC M 111 T).2 so)) H locs := hH
  have hB_r_1 := (pC_B (M := M) (T := T) (c := 111) (by decide) (by first | exact hT | assumption)).1
  refine z_ifeqB (b := (pC M 111 T).1) (tgt := 53) hx hb dX2_readsJoke_6 (by decide) (fun c_6_2 => ?_) (fun c_6_2 => ?_)
  · skip
    refine lv_iconst (v := nI 0) hx hb dX2_readsJoke_53 (by decide) ?_
    have eM : pS M (pC M 111 T).2 so = pS M (pL M LJ T).2 so := by simp only [LJ, pL_0, pL_1, pL_2, pL_n, if_pos c_6_2, if_neg (t_nt c_6_2)]; first | done | rfl
    rw [eM] at hH
    exact z_zret hx hb hr hlocks hH (by first | rfl | exact z_narB _ | decide) (u := ()) (by simp only [LJ, pL_0, pL_1, pL_2, pL_n, if_pos c_6_2, if_neg (t_nt c_6_2)]; first | done | rfl) ⟨hH.1, hH.2.1⟩ trivial (Nat.le_of_ble_eq_true rfl) (Nat.le_of_ble_eq_true rfl) dX2_readsJoke_54
  · skip
    refine lv_aload_n hx hb dX2_readsJoke_9 rfl (lv_at hl 0 rfl) ?_
    refine lv_bipush (v := nI 107) hx hb dX2_readsJoke_10 (by decide) ?_
    refine z_ci (wr := []) (va_runV (As := [.int (nI 107)]) (rest := []) ⟨hx, hb, hml, hown, hts⟩ (metX2_reads l G dA dS B0 H.size q M ((pC M 111 T).2) so (by first | exact hi | assumption | omega) (by first | exact hT | assumption | omega) 107) (cwV 1 hts (lw_V q2408 q2410 qs71 q91 q2411) rfl rfl rfl (by decide +kernel) ⟨Nat.le_of_ble_eq_true rfl, Nat.le_of_ble_eq_true rfl⟩) (zPV hX hH hB hAB (z_recv hX kX2 (hH.at 0 rfl)) [0, 1, 2, 3, 4, 5, 6, 7, 8] rfl rfl trivial) rfl rfl hl.1 rfl (lv_room (Nat.le_of_ble_eq_true rfl)) dX2_readsJoke_12 ⟨(Nat.le_of_ble_eq_true rfl), (Nat.le_of_ble_eq_true rfl)⟩) hH hA [0, 1, 2, 3, 4, 5, 6, 7, 8] [] rfl rfl (by decide) (by decide) (fun r_3 u_r_3 H locs hw_r_3 hH hR_r_3 hk_r_3 => ?_)
    obtain rfl := hw_r_3
    have hH : zH G A s.heap (mW dA q (pS M (pC M 107 ((pC M 111 T).2)).2 so)) H locs := hH
    have hB_r_3 := (pC_B (M := M) (T := ((pC M 111 T).2)) (c := 107) (by decide) (by first | exact hT | assumption)).1
    refine z_ifeqB (b := (pC M 107 ((pC M 111 T).2)).1) (tgt := 53) hx hb dX2_readsJoke_15 (by decide) (fun c_15_4 => ?_) (fun c_15_4 => ?_)
    · skip
      refine lv_iconst (v := nI 0) hx hb dX2_readsJoke_53 (by decide) ?_
      have eM : pS M (pC M 107 ((pC M 111 T).2)).2 so = pS M (pL M LJ T).2 so := by simp only [LJ, pL_0, pL_1, pL_2, pL_n, if_pos c_6_2, if_neg (t_nf c_6_2), if_pos c_15_4, if_neg (t_nt c_15_4)]; first | done | rfl
      rw [eM] at hH
      exact z_zret hx hb hr hlocks hH (by first | rfl | exact z_narB _ | decide) (u := ()) (by simp only [LJ, pL_0, pL_1, pL_2, pL_n, if_pos c_6_2, if_neg (t_nf c_6_2), if_pos c_15_4, if_neg (t_nt c_15_4)]; first | done | rfl) ⟨hH.1, hH.2.1⟩ trivial (Nat.le_of_ble_eq_true rfl) (Nat.le_of_ble_eq_true rfl) dX2_readsJoke_54
    · skip
      refine lv_aload_n hx hb dX2_readsJoke_18 rfl (lv_at hl 0 rfl) ?_
      refine lv_bipush (v := nI 101) hx hb dX2_readsJoke_19 (by decide) ?_
      refine z_ci (wr := []) (va_runV (As := [.int (nI 101)]) (rest := []) ⟨hx, hb, hml, hown, hts⟩ (metX2_reads l G dA dS B0 H.size q M ((pC M 107 ((pC M 111 T).2)).2) so (by first | exact hi | assumption | omega) (by first | exact hT | assumption | omega) 101) (cwV 1 hts (lw_V q2408 q2410 qs71 q91 q2411) rfl rfl rfl (by decide +kernel) ⟨Nat.le_of_ble_eq_true rfl, Nat.le_of_ble_eq_true rfl⟩) (zPV hX hH hB hAB (z_recv hX kX2 (hH.at 0 rfl)) [0, 1, 2, 3, 4, 5, 6, 7, 8] rfl rfl trivial) rfl rfl hl.1 rfl (lv_room (Nat.le_of_ble_eq_true rfl)) dX2_readsJoke_21 ⟨(Nat.le_of_ble_eq_true rfl), (Nat.le_of_ble_eq_true rfl)⟩) hH hA [0, 1, 2, 3, 4, 5, 6, 7, 8] [] rfl rfl (by decide) (by decide) (fun r_5 u_r_5 H locs hw_r_5 hH hR_r_5 hk_r_5 => ?_)
      obtain rfl := hw_r_5
      have hH : zH G A s.heap (mW dA q (pS M (pC M 101 ((pC M 107 ((pC M 111 T).2)).2)).2 so)) H locs := hH
      have hB_r_5 := (pC_B (M := M) (T := ((pC M 107 ((pC M 111 T).2)).2)) (c := 101) (by decide) (by first | exact hT | assumption)).1
      refine z_ifeqB (b := (pC M 101 ((pC M 107 ((pC M 111 T).2)).2)).1) (tgt := 53) hx hb dX2_readsJoke_24 (by decide) (fun c_24_6 => ?_) (fun c_24_6 => ?_)
      · skip
        refine lv_iconst (v := nI 0) hx hb dX2_readsJoke_53 (by decide) ?_
        have eM : pS M (pC M 101 ((pC M 107 ((pC M 111 T).2)).2)).2 so = pS M (pL M LJ T).2 so := by simp only [LJ, pL_0, pL_1, pL_2, pL_n, if_pos c_6_2, if_neg (t_nf c_6_2), if_pos c_15_4, if_neg (t_nf c_15_4), if_pos c_24_6, if_neg (t_nt c_24_6)]; first | done | rfl
        rw [eM] at hH
        exact z_zret hx hb hr hlocks hH (by first | rfl | exact z_narB _ | decide) (u := ()) (by simp only [LJ, pL_0, pL_1, pL_2, pL_n, if_pos c_6_2, if_neg (t_nf c_6_2), if_pos c_15_4, if_neg (t_nf c_15_4), if_pos c_24_6, if_neg (t_nt c_24_6)]; first | done | rfl) ⟨hH.1, hH.2.1⟩ trivial (Nat.le_of_ble_eq_true rfl) (Nat.le_of_ble_eq_true rfl) dX2_readsJoke_54
      · skip
        refine lv_aload_n hx hb dX2_readsJoke_27 rfl (lv_at hl 0 rfl) ?_
        refine lv_bipush (v := nI 32) hx hb dX2_readsJoke_28 (by decide) ?_
        refine z_ci (wr := []) (va_runV (As := [.int (nI 32)]) (rest := []) ⟨hx, hb, hml, hown, hts⟩ (metX2_reads l G dA dS B0 H.size q M ((pC M 101 ((pC M 107 ((pC M 111 T).2)).2)).2) so (by first | exact hi | assumption | omega) (by first | exact hT | assumption | omega) 32) (cwV 1 hts (lw_V q2408 q2410 qs71 q91 q2411) rfl rfl rfl (by decide +kernel) ⟨Nat.le_of_ble_eq_true rfl, Nat.le_of_ble_eq_true rfl⟩) (zPV hX hH hB hAB (z_recv hX kX2 (hH.at 0 rfl)) [0, 1, 2, 3, 4, 5, 6, 7, 8] rfl rfl trivial) rfl rfl hl.1 rfl (lv_room (Nat.le_of_ble_eq_true rfl)) dX2_readsJoke_30 ⟨(Nat.le_of_ble_eq_true rfl), (Nat.le_of_ble_eq_true rfl)⟩) hH hA [0, 1, 2, 3, 4, 5, 6, 7, 8] [] rfl rfl (by decide) (by decide) (fun r_7 u_r_7 H locs hw_r_7 hH hR_r_7 hk_r_7 => ?_)
        obtain rfl := hw_r_7
        have hH : zH G A s.heap (mW dA q (pS M (pC M 32 ((pC M 101 ((pC M 107 ((pC M 111 T).2)).2)).2)).2 so)) H locs := hH
        have hB_r_7 := (pC_B (M := M) (T := ((pC M 101 ((pC M 107 ((pC M 111 T).2)).2)).2)) (c := 32) (by decide) (by first | exact hT | assumption)).1
        refine z_ifeqB (b := (pC M 32 ((pC M 101 ((pC M 107 ((pC M 111 T).2)).2)).2)).1) (tgt := 53) hx hb dX2_readsJoke_33 (by decide) (fun c_33_8 => ?_) (fun c_33_8 => ?_)
        · skip
          refine lv_iconst (v := nI 0) hx hb dX2_readsJoke_53 (by decide) ?_
          have eM : pS M (pC M 32 ((pC M 101 ((pC M 107 ((pC M 111 T).2)).2)).2)).2 so = pS M (pL M LJ T).2 so := by simp only [LJ, pL_0, pL_1, pL_2, pL_n, if_pos c_6_2, if_neg (t_nf c_6_2), if_pos c_15_4, if_neg (t_nf c_15_4), if_pos c_24_6, if_neg (t_nf c_24_6), if_pos c_33_8, if_neg (t_nt c_33_8)]; first | done | rfl
          rw [eM] at hH
          exact z_zret hx hb hr hlocks hH (by first | rfl | exact z_narB _ | decide) (u := ()) (by simp only [LJ, pL_0, pL_1, pL_2, pL_n, if_pos c_6_2, if_neg (t_nf c_6_2), if_pos c_15_4, if_neg (t_nf c_15_4), if_pos c_24_6, if_neg (t_nf c_24_6), if_pos c_33_8, if_neg (t_nt c_33_8)]; first | done | rfl) ⟨hH.1, hH.2.1⟩ trivial (Nat.le_of_ble_eq_true rfl) (Nat.le_of_ble_eq_true rfl) dX2_readsJoke_54
        · skip
          refine lv_aload_n hx hb dX2_readsJoke_36 rfl (lv_at hl 0 rfl) ?_
          refine lv_iconst (v := nI 0) hx hb dX2_readsJoke_37 (by decide) ?_
          refine z_ci (wr := []) (va_runV (As := [.int (nI 0)]) (rest := []) ⟨hx, hb, hml, hown, hts⟩ (metX2_readsDigit l G dA dS B0 H.size q M ((pC M 32 ((pC M 101 ((pC M 107 ((pC M 111 T).2)).2)).2)).2) so (by first | exact hi | assumption | omega) (by first | exact hT | assumption | omega) 0 (by first | exact hk | assumption | omega)) (cwV 1 hts (lw_V q2416 q2418 qs73 q91 q2419) rfl rfl rfl (by decide +kernel) ⟨Nat.le_of_ble_eq_true rfl, Nat.le_of_ble_eq_true rfl⟩) (zPV hX hH hB hAB (z_recv hX kX2 (hH.at 0 rfl)) [0, 1, 2, 3, 4, 5, 6, 7, 8] rfl rfl trivial) rfl rfl hl.1 rfl (lv_room (Nat.le_of_ble_eq_true rfl)) dX2_readsJoke_38 ⟨(Nat.le_of_ble_eq_true rfl), (Nat.le_of_ble_eq_true rfl)⟩) hH hA [0, 1, 2, 3, 4, 5, 6, 7, 8] [] rfl rfl (by decide) (by decide) (fun r_9 u_r_9 H locs hw_r_9 hH hR_r_9 hk_r_9 => ?_)
          obtain rfl := hw_r_9
          have hH : zH G A s.heap (mW dA q (pS M (pD M 0 ((pC M 32 ((pC M 101 ((pC M 107 ((pC M 111 T).2)).2)).2)).2)).2 so)) H locs := hH
          have hB_r_9 := (pD_B (M := M) (T := ((pC M 32 ((pC M 101 ((pC M 107 ((pC M 111 T).2)).2)).2)).2)) (k := 0) hi (by first | exact hT | assumption)).1
          refine z_ifeqB (b := (pD M 0 ((pC M 32 ((pC M 101 ((pC M 107 ((pC M 111 T).2)).2)).2)).2)).1) (tgt := 53) hx hb dX2_readsJoke_41 (by decide) (fun c_41_10 => ?_) (fun c_41_10 => ?_)
          · skip
            refine lv_iconst (v := nI 0) hx hb dX2_readsJoke_53 (by decide) ?_
            have eM : pS M (pD M 0 ((pC M 32 ((pC M 101 ((pC M 107 ((pC M 111 T).2)).2)).2)).2)).2 so = pS M (pL M LJ T).2 so := by simp only [LJ, pL_0, pL_1, pL_2, pL_n, if_pos c_6_2, if_neg (t_nf c_6_2), if_pos c_15_4, if_neg (t_nf c_15_4), if_pos c_24_6, if_neg (t_nf c_24_6), if_pos c_33_8, if_neg (t_nf c_33_8), if_pos c_41_10, if_neg (t_nt c_41_10)]; first | done | rfl
            rw [eM] at hH
            exact z_zret hx hb hr hlocks hH (by first | rfl | exact z_narB _ | decide) (u := ()) (by simp only [LJ, pL_0, pL_1, pL_2, pL_n, if_pos c_6_2, if_neg (t_nf c_6_2), if_pos c_15_4, if_neg (t_nf c_15_4), if_pos c_24_6, if_neg (t_nf c_24_6), if_pos c_33_8, if_neg (t_nf c_33_8), if_pos c_41_10, if_neg (t_nt c_41_10)]; first | done | rfl) ⟨hH.1, hH.2.1⟩ trivial (Nat.le_of_ble_eq_true rfl) (Nat.le_of_ble_eq_true rfl) dX2_readsJoke_54
          · skip
            refine lv_aload_n hx hb dX2_readsJoke_44 rfl (lv_at hl 0 rfl) ?_
            refine lv_bipush (v := nI 32) hx hb dX2_readsJoke_45 (by decide) ?_
            refine z_ci (wr := []) (va_runV (As := [.int (nI 32)]) (rest := []) ⟨hx, hb, hml, hown, hts⟩ (metX2_reads l G dA dS B0 H.size q M ((pD M 0 ((pC M 32 ((pC M 101 ((pC M 107 ((pC M 111 T).2)).2)).2)).2)).2) so (by first | exact hi | assumption | omega) (by first | exact hT | assumption | omega) 32) (cwV 1 hts (lw_V q2408 q2410 qs71 q91 q2411) rfl rfl rfl (by decide +kernel) ⟨Nat.le_of_ble_eq_true rfl, Nat.le_of_ble_eq_true rfl⟩) (zPV hX hH hB hAB (z_recv hX kX2 (hH.at 0 rfl)) [0, 1, 2, 3, 4, 5, 6, 7, 8] rfl rfl trivial) rfl rfl hl.1 rfl (lv_room (Nat.le_of_ble_eq_true rfl)) dX2_readsJoke_47 ⟨(Nat.le_of_ble_eq_true rfl), (Nat.le_of_ble_eq_true rfl)⟩) hH hA [0, 1, 2, 3, 4, 5, 6, 7, 8] [] rfl rfl (by decide) (by decide) (fun r_11 u_r_11 H locs hw_r_11 hH hR_r_11 hk_r_11 => ?_)
            obtain rfl := hw_r_11
            have hH : zH G A s.heap (mW dA q (pS M (pC M 32 ((pD M 0 ((pC M 32 ((pC M 101 ((pC M 107 ((pC M 111 T).2)).2)).2)).2)).2)).2 so)) H locs := hH
            have hB_r_11 := (pC_B (M := M) (T := ((pD M 0 ((pC M 32 ((pC M 101 ((pC M 107 ((pC M 111 T).2)).2)).2)).2)).2)) (c := 32) (by decide) (by first | exact hT | assumption)).1
            refine z_ifneB (b := (pC M 32 ((pD M 0 ((pC M 32 ((pC M 101 ((pC M 107 ((pC M 111 T).2)).2)).2)).2)).2)).1) (tgt := 55) hx hb dX2_readsJoke_50 (by decide) (fun c_50_12 => ?_) (fun c_50_12 => ?_)
            · skip
              refine lv_aload_n hx hb dX2_readsJoke_55 rfl (lv_at hl 0 rfl) ?_
              refine lv_iconst (v := nI 1) hx hb dX2_readsJoke_56 (by decide) ?_
              refine z_ci (wr := []) (va_runV (As := [.int (nI 1)]) (rest := []) ⟨hx, hb, hml, hown, hts⟩ (metX2_readsNumber l G dA dS B0 H.size q M ((pC M 32 ((pD M 0 ((pC M 32 ((pC M 101 ((pC M 107 ((pC M 111 T).2)).2)).2)).2)).2)).2) so (by first | exact hi | assumption | omega) (by first | exact hT | assumption | omega) 1 (by first | exact hk | assumption | omega)) (cwV 1 hts (lw_V q2420 q2422 qs74 q91 q2423) rfl rfl rfl (by decide +kernel) ⟨Nat.le_of_ble_eq_true rfl, Nat.le_of_ble_eq_true rfl⟩) (zPV hX hH hB hAB (z_recv hX kX2 (hH.at 0 rfl)) [0, 1, 2, 3, 4, 5, 6, 7, 8] rfl rfl trivial) rfl rfl hl.1 rfl (lv_room (Nat.le_of_ble_eq_true rfl)) dX2_readsJoke_57 ⟨(Nat.le_of_ble_eq_true rfl), (Nat.le_of_ble_eq_true rfl)⟩) hH hA [0, 1, 2, 3, 4, 5, 6, 7, 8] [] rfl rfl (by decide) (by decide) (fun r_13 u_r_13 H locs hw_r_13 hH hR_r_13 hk_r_13 => ?_)
              obtain rfl := hw_r_13
              have hH : zH G A s.heap (mW dA q (pS M (pN M 1 ((pC M 32 ((pD M 0 ((pC M 32 ((pC M 101 ((pC M 107 ((pC M 111 T).2)).2)).2)).2)).2)).2)).2 so)) H locs := hH
              have hB_r_13 := (pN_B (M := M) (T := ((pC M 32 ((pD M 0 ((pC M 32 ((pC M 101 ((pC M 107 ((pC M 111 T).2)).2)).2)).2)).2)).2)) (k := 1) hi (by first | exact hT | assumption)).1
              refine z_ifeqB (b := (pN M 1 ((pC M 32 ((pD M 0 ((pC M 32 ((pC M 101 ((pC M 107 ((pC M 111 T).2)).2)).2)).2)).2)).2)).1) (tgt := 101) hx hb dX2_readsJoke_60 (by decide) (fun c_60_14 => ?_) (fun c_60_14 => ?_)
              · skip
                refine lv_iconst (v := nI 0) hx hb dX2_readsJoke_101 (by decide) ?_
                have eM : pS M (pN M 1 ((pC M 32 ((pD M 0 ((pC M 32 ((pC M 101 ((pC M 107 ((pC M 111 T).2)).2)).2)).2)).2)).2)).2 so = pS M (pL M LJ T).2 so := by simp only [LJ, pL_0, pL_1, pL_2, pL_n, if_pos c_6_2, if_neg (t_nf c_6_2), if_pos c_15_4, if_neg (t_nf c_15_4), if_pos c_24_6, if_neg (t_nf c_24_6), if_pos c_33_8, if_neg (t_nf c_33_8), if_pos c_41_10, if_neg (t_nf c_41_10), if_pos c_50_12, if_neg (t_nf c_50_12), if_pos c_60_14, if_neg (t_nt c_60_14)]; first | done | rfl
                rw [eM] at hH
                exact z_zret hx hb hr hlocks hH (by first | rfl | exact z_narB _ | decide) (u := ()) (by simp only [LJ, pL_0, pL_1, pL_2, pL_n, if_pos c_6_2, if_neg (t_nf c_6_2), if_pos c_15_4, if_neg (t_nf c_15_4), if_pos c_24_6, if_neg (t_nf c_24_6), if_pos c_33_8, if_neg (t_nf c_33_8), if_pos c_41_10, if_neg (t_nf c_41_10), if_pos c_50_12, if_neg (t_nf c_50_12), if_pos c_60_14, if_neg (t_nt c_60_14)]; first | done | rfl) ⟨hH.1, hH.2.1⟩ trivial (Nat.le_of_ble_eq_true rfl) (Nat.le_of_ble_eq_true rfl) dX2_readsJoke_102
              · skip
                refine lv_aload_n hx hb dX2_readsJoke_63 rfl (lv_at hl 0 rfl) ?_
                refine lv_bipush (v := nI 32) hx hb dX2_readsJoke_64 (by decide) ?_
                refine z_ci (wr := []) (va_runV (As := [.int (nI 32)]) (rest := []) ⟨hx, hb, hml, hown, hts⟩ (metX2_reads l G dA dS B0 H.size q M ((pN M 1 ((pC M 32 ((pD M 0 ((pC M 32 ((pC M 101 ((pC M 107 ((pC M 111 T).2)).2)).2)).2)).2)).2)).2) so (by first | exact hi | assumption | omega) (by first | exact hT | assumption | omega) 32) (cwV 1 hts (lw_V q2408 q2410 qs71 q91 q2411) rfl rfl rfl (by decide +kernel) ⟨Nat.le_of_ble_eq_true rfl, Nat.le_of_ble_eq_true rfl⟩) (zPV hX hH hB hAB (z_recv hX kX2 (hH.at 0 rfl)) [0, 1, 2, 3, 4, 5, 6, 7, 8] rfl rfl trivial) rfl rfl hl.1 rfl (lv_room (Nat.le_of_ble_eq_true rfl)) dX2_readsJoke_66 ⟨(Nat.le_of_ble_eq_true rfl), (Nat.le_of_ble_eq_true rfl)⟩) hH hA [0, 1, 2, 3, 4, 5, 6, 7, 8] [] rfl rfl (by decide) (by decide) (fun r_15 u_r_15 H locs hw_r_15 hH hR_r_15 hk_r_15 => ?_)
                obtain rfl := hw_r_15
                have hH : zH G A s.heap (mW dA q (pS M (pC M 32 ((pN M 1 ((pC M 32 ((pD M 0 ((pC M 32 ((pC M 101 ((pC M 107 ((pC M 111 T).2)).2)).2)).2)).2)).2)).2)).2 so)) H locs := hH
                have hB_r_15 := (pC_B (M := M) (T := ((pN M 1 ((pC M 32 ((pD M 0 ((pC M 32 ((pC M 101 ((pC M 107 ((pC M 111 T).2)).2)).2)).2)).2)).2)).2)) (c := 32) (by decide) (by first | exact hT | assumption)).1
                refine z_ifeqB (b := (pC M 32 ((pN M 1 ((pC M 32 ((pD M 0 ((pC M 32 ((pC M 101 ((pC M 107 ((pC M 111 T).2)).2)).2)).2)).2)).2)).2)).1) (tgt := 101) hx hb dX2_readsJoke_69 (by decide) (fun c_69_16 => ?_) (fun c_69_16 => ?_)
                · skip
                  refine lv_iconst (v := nI 0) hx hb dX2_readsJoke_101 (by decide) ?_
                  have eM : pS M (pC M 32 ((pN M 1 ((pC M 32 ((pD M 0 ((pC M 32 ((pC M 101 ((pC M 107 ((pC M 111 T).2)).2)).2)).2)).2)).2)).2)).2 so = pS M (pL M LJ T).2 so := by simp only [LJ, pL_0, pL_1, pL_2, pL_n, if_pos c_6_2, if_neg (t_nf c_6_2), if_pos c_15_4, if_neg (t_nf c_15_4), if_pos c_24_6, if_neg (t_nf c_24_6), if_pos c_33_8, if_neg (t_nf c_33_8), if_pos c_41_10, if_neg (t_nf c_41_10), if_pos c_50_12, if_neg (t_nf c_50_12), if_pos c_60_14, if_neg (t_nf c_60_14), if_pos c_69_16, if_neg (t_nt c_69_16)]; first | done | rfl
                  rw [eM] at hH
                  exact z_zret hx hb hr hlocks hH (by first | rfl | exact z_narB _ | decide) (u := ()) (by simp only [LJ, pL_0, pL_1, pL_2, pL_n, if_pos c_6_2, if_neg (t_nf c_6_2), if_pos c_15_4, if_neg (t_nf c_15_4), if_pos c_24_6, if_neg (t_nf c_24_6), if_pos c_33_8, if_neg (t_nf c_33_8), if_pos c_41_10, if_neg (t_nf c_41_10), if_pos c_50_12, if_neg (t_nf c_50_12), if_pos c_60_14, if_neg (t_nf c_60_14), if_pos c_69_16, if_neg (t_nt c_69_16)]; first | done | rfl) ⟨hH.1, hH.2.1⟩ trivial (Nat.le_of_ble_eq_true rfl) (Nat.le_of_ble_eq_true rfl) dX2_readsJoke_102
                · skip
                  refine lv_aload_n hx hb dX2_readsJoke_72 rfl (lv_at hl 0 rfl) ?_
                  refine lv_iconst (v := nI 2) hx hb dX2_readsJoke_73 (by decide) ?_
                  refine z_ci (wr := []) (va_runV (As := [.int (nI 2)]) (rest := []) ⟨hx, hb, hml, hown, hts⟩ (metX2_readsNumber l G dA dS B0 H.size q M ((pC M 32 ((pN M 1 ((pC M 32 ((pD M 0 ((pC M 32 ((pC M 101 ((pC M 107 ((pC M 111 T).2)).2)).2)).2)).2)).2)).2)).2) so (by first | exact hi | assumption | omega) (by first | exact hT | assumption | omega) 2 (by first | exact hk | assumption | omega)) (cwV 1 hts (lw_V q2420 q2422 qs74 q91 q2423) rfl rfl rfl (by decide +kernel) ⟨Nat.le_of_ble_eq_true rfl, Nat.le_of_ble_eq_true rfl⟩) (zPV hX hH hB hAB (z_recv hX kX2 (hH.at 0 rfl)) [0, 1, 2, 3, 4, 5, 6, 7, 8] rfl rfl trivial) rfl rfl hl.1 rfl (lv_room (Nat.le_of_ble_eq_true rfl)) dX2_readsJoke_74 ⟨(Nat.le_of_ble_eq_true rfl), (Nat.le_of_ble_eq_true rfl)⟩) hH hA [0, 1, 2, 3, 4, 5, 6, 7, 8] [] rfl rfl (by decide) (by decide) (fun r_17 u_r_17 H locs hw_r_17 hH hR_r_17 hk_r_17 => ?_)
                  obtain rfl := hw_r_17
                  have hH : zH G A s.heap (mW dA q (pS M (pN M 2 ((pC M 32 ((pN M 1 ((pC M 32 ((pD M 0 ((pC M 32 ((pC M 101 ((pC M 107 ((pC M 111 T).2)).2)).2)).2)).2)).2)).2)).2)).2 so)) H locs := hH
                  have hB_r_17 := (pN_B (M := M) (T := ((pC M 32 ((pN M 1 ((pC M 32 ((pD M 0 ((pC M 32 ((pC M 101 ((pC M 107 ((pC M 111 T).2)).2)).2)).2)).2)).2)).2)).2)) (k := 2) hi (by first | exact hT | assumption)).1
                  refine z_ifeqB (b := (pN M 2 ((pC M 32 ((pN M 1 ((pC M 32 ((pD M 0 ((pC M 32 ((pC M 101 ((pC M 107 ((pC M 111 T).2)).2)).2)).2)).2)).2)).2)).2)).1) (tgt := 101) hx hb dX2_readsJoke_77 (by decide) (fun c_77_18 => ?_) (fun c_77_18 => ?_)
                  · skip
                    refine lv_iconst (v := nI 0) hx hb dX2_readsJoke_101 (by decide) ?_
                    have eM : pS M (pN M 2 ((pC M 32 ((pN M 1 ((pC M 32 ((pD M 0 ((pC M 32 ((pC M 101 ((pC M 107 ((pC M 111 T).2)).2)).2)).2)).2)).2)).2)).2)).2 so = pS M (pL M LJ T).2 so := by simp only [LJ, pL_0, pL_1, pL_2, pL_n, if_pos c_6_2, if_neg (t_nf c_6_2), if_pos c_15_4, if_neg (t_nf c_15_4), if_pos c_24_6, if_neg (t_nf c_24_6), if_pos c_33_8, if_neg (t_nf c_33_8), if_pos c_41_10, if_neg (t_nf c_41_10), if_pos c_50_12, if_neg (t_nf c_50_12), if_pos c_60_14, if_neg (t_nf c_60_14), if_pos c_69_16, if_neg (t_nf c_69_16), if_pos c_77_18, if_neg (t_nt c_77_18)]; first | done | rfl
                    rw [eM] at hH
                    exact z_zret hx hb hr hlocks hH (by first | rfl | exact z_narB _ | decide) (u := ()) (by simp only [LJ, pL_0, pL_1, pL_2, pL_n, if_pos c_6_2, if_neg (t_nf c_6_2), if_pos c_15_4, if_neg (t_nf c_15_4), if_pos c_24_6, if_neg (t_nf c_24_6), if_pos c_33_8, if_neg (t_nf c_33_8), if_pos c_41_10, if_neg (t_nf c_41_10), if_pos c_50_12, if_neg (t_nf c_50_12), if_pos c_60_14, if_neg (t_nf c_60_14), if_pos c_69_16, if_neg (t_nf c_69_16), if_pos c_77_18, if_neg (t_nt c_77_18)]; first | done | rfl) ⟨hH.1, hH.2.1⟩ trivial (Nat.le_of_ble_eq_true rfl) (Nat.le_of_ble_eq_true rfl) dX2_readsJoke_102
                  · skip
                    refine lv_aload_n hx hb dX2_readsJoke_80 rfl (lv_at hl 0 rfl) ?_
                    refine lv_bipush (v := nI 32) hx hb dX2_readsJoke_81 (by decide) ?_
                    refine z_ci (wr := []) (va_runV (As := [.int (nI 32)]) (rest := []) ⟨hx, hb, hml, hown, hts⟩ (metX2_reads l G dA dS B0 H.size q M ((pN M 2 ((pC M 32 ((pN M 1 ((pC M 32 ((pD M 0 ((pC M 32 ((pC M 101 ((pC M 107 ((pC M 111 T).2)).2)).2)).2)).2)).2)).2)).2)).2) so (by first | exact hi | assumption | omega) (by first | exact hT | assumption | omega) 32) (cwV 1 hts (lw_V q2408 q2410 qs71 q91 q2411) rfl rfl rfl (by decide +kernel) ⟨Nat.le_of_ble_eq_true rfl, Nat.le_of_ble_eq_true rfl⟩) (zPV hX hH hB hAB (z_recv hX kX2 (hH.at 0 rfl)) [0, 1, 2, 3, 4, 5, 6, 7, 8] rfl rfl trivial) rfl rfl hl.1 rfl (lv_room (Nat.le_of_ble_eq_true rfl)) dX2_readsJoke_83 ⟨(Nat.le_of_ble_eq_true rfl), (Nat.le_of_ble_eq_true rfl)⟩) hH hA [0, 1, 2, 3, 4, 5, 6, 7, 8] [] rfl rfl (by decide) (by decide) (fun r_19 u_r_19 H locs hw_r_19 hH hR_r_19 hk_r_19 => ?_)
                    obtain rfl := hw_r_19
                    have hH : zH G A s.heap (mW dA q (pS M (pC M 32 ((pN M 2 ((pC M 32 ((pN M 1 ((pC M 32 ((pD M 0 ((pC M 32 ((pC M 101 ((pC M 107 ((pC M 111 T).2)).2)).2)).2)).2)).2)).2)).2)).2)).2 so)) H locs := hH
                    have hB_r_19 := (pC_B (M := M) (T := ((pN M 2 ((pC M 32 ((pN M 1 ((pC M 32 ((pD M 0 ((pC M 32 ((pC M 101 ((pC M 107 ((pC M 111 T).2)).2)).2)).2)).2)).2)).2)).2)).2)) (c := 32) (by decide) (by first | exact hT | assumption)).1
                    refine z_ifeqB (b := (pC M 32 ((pN M 2 ((pC M 32 ((pN M 1 ((pC M 32 ((pD M 0 ((pC M 32 ((pC M 101 ((pC M 107 ((pC M 111 T).2)).2)).2)).2)).2)).2)).2)).2)).2)).1) (tgt := 101) hx hb dX2_readsJoke_86 (by decide) (fun c_86_20 => ?_) (fun c_86_20 => ?_)
                    · skip
                      refine lv_iconst (v := nI 0) hx hb dX2_readsJoke_101 (by decide) ?_
                      have eM : pS M (pC M 32 ((pN M 2 ((pC M 32 ((pN M 1 ((pC M 32 ((pD M 0 ((pC M 32 ((pC M 101 ((pC M 107 ((pC M 111 T).2)).2)).2)).2)).2)).2)).2)).2)).2)).2 so = pS M (pL M LJ T).2 so := by simp only [LJ, pL_0, pL_1, pL_2, pL_n, if_pos c_6_2, if_neg (t_nf c_6_2), if_pos c_15_4, if_neg (t_nf c_15_4), if_pos c_24_6, if_neg (t_nf c_24_6), if_pos c_33_8, if_neg (t_nf c_33_8), if_pos c_41_10, if_neg (t_nf c_41_10), if_pos c_50_12, if_neg (t_nf c_50_12), if_pos c_60_14, if_neg (t_nf c_60_14), if_pos c_69_16, if_neg (t_nf c_69_16), if_pos c_77_18, if_neg (t_nf c_77_18), if_pos c_86_20, if_neg (t_nt c_86_20)]; first | done | rfl
                      rw [eM] at hH
                      exact z_zret hx hb hr hlocks hH (by first | rfl | exact z_narB _ | decide) (u := ()) (by simp only [LJ, pL_0, pL_1, pL_2, pL_n, if_pos c_6_2, if_neg (t_nf c_6_2), if_pos c_15_4, if_neg (t_nf c_15_4), if_pos c_24_6, if_neg (t_nf c_24_6), if_pos c_33_8, if_neg (t_nf c_33_8), if_pos c_41_10, if_neg (t_nf c_41_10), if_pos c_50_12, if_neg (t_nf c_50_12), if_pos c_60_14, if_neg (t_nf c_60_14), if_pos c_69_16, if_neg (t_nf c_69_16), if_pos c_77_18, if_neg (t_nf c_77_18), if_pos c_86_20, if_neg (t_nt c_86_20)]; first | done | rfl) ⟨hH.1, hH.2.1⟩ trivial (Nat.le_of_ble_eq_true rfl) (Nat.le_of_ble_eq_true rfl) dX2_readsJoke_102
                    · skip
                      refine lv_aload_n hx hb dX2_readsJoke_89 rfl (lv_at hl 0 rfl) ?_
                      refine lv_iconst (v := nI 3) hx hb dX2_readsJoke_90 (by decide) ?_
                      refine z_ci (wr := []) (va_runV (As := [.int (nI 3)]) (rest := []) ⟨hx, hb, hml, hown, hts⟩ (metX2_readsDigit l G dA dS B0 H.size q M ((pC M 32 ((pN M 2 ((pC M 32 ((pN M 1 ((pC M 32 ((pD M 0 ((pC M 32 ((pC M 101 ((pC M 107 ((pC M 111 T).2)).2)).2)).2)).2)).2)).2)).2)).2)).2) so (by first | exact hi | assumption | omega) (by first | exact hT | assumption | omega) 3 (by first | exact hk | assumption | omega)) (cwV 1 hts (lw_V q2416 q2418 qs73 q91 q2419) rfl rfl rfl (by decide +kernel) ⟨Nat.le_of_ble_eq_true rfl, Nat.le_of_ble_eq_true rfl⟩) (zPV hX hH hB hAB (z_recv hX kX2 (hH.at 0 rfl)) [0, 1, 2, 3, 4, 5, 6, 7, 8] rfl rfl trivial) rfl rfl hl.1 rfl (lv_room (Nat.le_of_ble_eq_true rfl)) dX2_readsJoke_91 ⟨(Nat.le_of_ble_eq_true rfl), (Nat.le_of_ble_eq_true rfl)⟩) hH hA [0, 1, 2, 3, 4, 5, 6, 7, 8] [] rfl rfl (by decide) (by decide) (fun r_21 u_r_21 H locs hw_r_21 hH hR_r_21 hk_r_21 => ?_)
                      obtain rfl := hw_r_21
                      have hH : zH G A s.heap (mW dA q (pS M (pD M 3 ((pC M 32 ((pN M 2 ((pC M 32 ((pN M 1 ((pC M 32 ((pD M 0 ((pC M 32 ((pC M 101 ((pC M 107 ((pC M 111 T).2)).2)).2)).2)).2)).2)).2)).2)).2)).2)).2 so)) H locs := hH
                      have hB_r_21 := (pD_B (M := M) (T := ((pC M 32 ((pN M 2 ((pC M 32 ((pN M 1 ((pC M 32 ((pD M 0 ((pC M 32 ((pC M 101 ((pC M 107 ((pC M 111 T).2)).2)).2)).2)).2)).2)).2)).2)).2)).2)) (k := 3) hi (by first | exact hT | assumption)).1
                      refine z_ifeqB (b := (pD M 3 ((pC M 32 ((pN M 2 ((pC M 32 ((pN M 1 ((pC M 32 ((pD M 0 ((pC M 32 ((pC M 101 ((pC M 107 ((pC M 111 T).2)).2)).2)).2)).2)).2)).2)).2)).2)).2)).1) (tgt := 101) hx hb dX2_readsJoke_94 (by decide) (fun c_94_22 => ?_) (fun c_94_22 => ?_)
                      · skip
                        refine lv_iconst (v := nI 0) hx hb dX2_readsJoke_101 (by decide) ?_
                        have eM : pS M (pD M 3 ((pC M 32 ((pN M 2 ((pC M 32 ((pN M 1 ((pC M 32 ((pD M 0 ((pC M 32 ((pC M 101 ((pC M 107 ((pC M 111 T).2)).2)).2)).2)).2)).2)).2)).2)).2)).2)).2 so = pS M (pL M LJ T).2 so := by simp only [LJ, pL_0, pL_1, pL_2, pL_n, if_pos c_6_2, if_neg (t_nf c_6_2), if_pos c_15_4, if_neg (t_nf c_15_4), if_pos c_24_6, if_neg (t_nf c_24_6), if_pos c_33_8, if_neg (t_nf c_33_8), if_pos c_41_10, if_neg (t_nf c_41_10), if_pos c_50_12, if_neg (t_nf c_50_12), if_pos c_60_14, if_neg (t_nf c_60_14), if_pos c_69_16, if_neg (t_nf c_69_16), if_pos c_77_18, if_neg (t_nf c_77_18), if_pos c_86_20, if_neg (t_nf c_86_20), if_pos c_94_22, if_neg (t_nt c_94_22)]; first | done | rfl
                        rw [eM] at hH
                        exact z_zret hx hb hr hlocks hH (by first | rfl | exact z_narB _ | decide) (u := ()) (by simp only [LJ, pL_0, pL_1, pL_2, pL_n, if_pos c_6_2, if_neg (t_nf c_6_2), if_pos c_15_4, if_neg (t_nf c_15_4), if_pos c_24_6, if_neg (t_nf c_24_6), if_pos c_33_8, if_neg (t_nf c_33_8), if_pos c_41_10, if_neg (t_nf c_41_10), if_pos c_50_12, if_neg (t_nf c_50_12), if_pos c_60_14, if_neg (t_nf c_60_14), if_pos c_69_16, if_neg (t_nf c_69_16), if_pos c_77_18, if_neg (t_nf c_77_18), if_pos c_86_20, if_neg (t_nf c_86_20), if_pos c_94_22, if_neg (t_nt c_94_22)]; first | done | rfl) ⟨hH.1, hH.2.1⟩ trivial (Nat.le_of_ble_eq_true rfl) (Nat.le_of_ble_eq_true rfl) dX2_readsJoke_102
                      · skip
                        refine lv_iconst (v := nI 1) hx hb dX2_readsJoke_97 (by decide) ?_
                        refine lv_goto (tgt := 102) hx hb dX2_readsJoke_98 (by decide) ?_
                        have eM : pS M (pD M 3 ((pC M 32 ((pN M 2 ((pC M 32 ((pN M 1 ((pC M 32 ((pD M 0 ((pC M 32 ((pC M 101 ((pC M 107 ((pC M 111 T).2)).2)).2)).2)).2)).2)).2)).2)).2)).2)).2 so = pS M (pL M LJ T).2 so := by simp only [LJ, pL_0, pL_1, pL_2, pL_n, if_pos c_6_2, if_neg (t_nf c_6_2), if_pos c_15_4, if_neg (t_nf c_15_4), if_pos c_24_6, if_neg (t_nf c_24_6), if_pos c_33_8, if_neg (t_nf c_33_8), if_pos c_41_10, if_neg (t_nf c_41_10), if_pos c_50_12, if_neg (t_nf c_50_12), if_pos c_60_14, if_neg (t_nf c_60_14), if_pos c_69_16, if_neg (t_nf c_69_16), if_pos c_77_18, if_neg (t_nf c_77_18), if_pos c_86_20, if_neg (t_nf c_86_20), if_pos c_94_22, if_neg (t_nf c_94_22)]; first | done | rfl
                        rw [eM] at hH
                        exact z_zret hx hb hr hlocks hH (by first | rfl | exact z_narB _ | decide) (u := ()) (by simp only [LJ, pL_0, pL_1, pL_2, pL_n, if_pos c_6_2, if_neg (t_nf c_6_2), if_pos c_15_4, if_neg (t_nf c_15_4), if_pos c_24_6, if_neg (t_nf c_24_6), if_pos c_33_8, if_neg (t_nf c_33_8), if_pos c_41_10, if_neg (t_nf c_41_10), if_pos c_50_12, if_neg (t_nf c_50_12), if_pos c_60_14, if_neg (t_nf c_60_14), if_pos c_69_16, if_neg (t_nf c_69_16), if_pos c_77_18, if_neg (t_nf c_77_18), if_pos c_86_20, if_neg (t_nf c_86_20), if_pos c_94_22, if_neg (t_nf c_94_22)]; first | done | rfl) ⟨hH.1, hH.2.1⟩ trivial (Nat.le_of_ble_eq_true rfl) (Nat.le_of_ble_eq_true rfl) dX2_readsJoke_102
            · skip
              refine lv_iconst (v := nI 0) hx hb dX2_readsJoke_53 (by decide) ?_
              have eM : pS M (pC M 32 ((pD M 0 ((pC M 32 ((pC M 101 ((pC M 107 ((pC M 111 T).2)).2)).2)).2)).2)).2 so = pS M (pL M LJ T).2 so := by simp only [LJ, pL_0, pL_1, pL_2, pL_n, if_pos c_6_2, if_neg (t_nf c_6_2), if_pos c_15_4, if_neg (t_nf c_15_4), if_pos c_24_6, if_neg (t_nf c_24_6), if_pos c_33_8, if_neg (t_nf c_33_8), if_pos c_41_10, if_neg (t_nf c_41_10), if_pos c_50_12, if_neg (t_nt c_50_12)]; first | done | rfl
              rw [eM] at hH
              exact z_zret hx hb hr hlocks hH (by first | rfl | exact z_narB _ | decide) (u := ()) (by simp only [LJ, pL_0, pL_1, pL_2, pL_n, if_pos c_6_2, if_neg (t_nf c_6_2), if_pos c_15_4, if_neg (t_nf c_15_4), if_pos c_24_6, if_neg (t_nf c_24_6), if_pos c_33_8, if_neg (t_nf c_33_8), if_pos c_41_10, if_neg (t_nf c_41_10), if_pos c_50_12, if_neg (t_nt c_50_12)]; first | done | rfl) ⟨hH.1, hH.2.1⟩ trivial (Nat.le_of_ble_eq_true rfl) (Nat.le_of_ble_eq_true rfl) dX2_readsJoke_54

set_option maxHeartbeats 4000000 in
set_option maxRecDepth 100000 in
theorem metX2_readsStroke (l : Launch) (G : va_G) (dA : Nat → ClassId) (dS : Nat → Nat) (B0 sz : Nat) (q : Nat → Nat) (M : mS) (T : pT) (so : Nat) (hi : iB M) (hT : pB M T) : Met l yX2_readsStroke (ws_ yX2_readsStroke cX2_readsStroke 1 (some FieldType.boolean)) ({ frames := 3, cells := 0, slots := 0, locals := 64 }) (zP G dA dS B0 [.ref (q 0)] sz (mW dA q (pS M T so)) (fun H => True)) (zQi G (fun (r : Int32) (u : Unit) => r = nI (bN ((pL M LSt T).1))) (fun (u : Unit) => mW dA q (pS M (pL M LSt T).2 so)) (fun (u : Unit) (H : Heap) => True) (va_A (mW dA q (pS M T so)) sz)) 0 0 (va_A (mW dA q (pS M T so)) sz) := by
  refine zM (by decide) (Nat.le_of_ble_eq_true rfl) ?_
  intro p e s m below meth c ls A H locs hHe hx hb hr hlocks hml hown hname hts hX hsz hB hAe hA hAB hH hRo hl
  have hl : lv_has ls 1 [(0, .ref (q 0))] := hl
  refine lv_aload_n hx hb dX2_readsStroke_0 rfl (lv_at hl 0 rfl) ?_
  refine lv_bipush (v := nI 116) hx hb dX2_readsStroke_1 (by decide) ?_
  refine z_ci (wr := []) (va_runV (As := [.int (nI 116)]) (rest := []) ⟨hx, hb, hml, hown, hts⟩ (metX2_reads l G dA dS B0 H.size q M T so (by first | exact hi | assumption | omega) (by first | exact hT | assumption | omega) 116) (cwV 1 hts (lw_V q2408 q2410 qs71 q91 q2411) rfl rfl rfl (by decide +kernel) ⟨Nat.le_of_ble_eq_true rfl, Nat.le_of_ble_eq_true rfl⟩) (zPV hX hH hB hAB (z_recv hX kX2 (hH.at 0 rfl)) [0, 1, 2, 3, 4, 5, 6, 7, 8] rfl rfl trivial) rfl rfl hl.1 rfl (lv_room (Nat.le_of_ble_eq_true rfl)) dX2_readsStroke_3 ⟨(Nat.le_of_ble_eq_true rfl), (Nat.le_of_ble_eq_true rfl)⟩) hH hA [0, 1, 2, 3, 4, 5, 6, 7, 8] [] rfl rfl (by decide) (by decide) (fun r_1 u_r_1 H locs hw_r_1 hH hR_r_1 hk_r_1 => ?_)
  obtain rfl := hw_r_1
  have hH : zH G A s.heap (mW dA q (pS M (pC M 116 T).2 so)) H locs := hH
  have hB_r_1 := (pC_B (M := M) (T := T) (c := 116) (by decide) (by first | exact hT | assumption)).1
  refine z_ifeqB (b := (pC M 116 T).1) (tgt := 66) hx hb dX2_readsStroke_6 (by decide) (fun c_6_2 => ?_) (fun c_6_2 => ?_)
  · skip
    refine lv_iconst (v := nI 0) hx hb dX2_readsStroke_66 (by decide) ?_
    have eM : pS M (pC M 116 T).2 so = pS M (pL M LSt T).2 so := by simp only [LSt, pL_0, pL_1, pL_2, pL_n, if_pos c_6_2, if_neg (t_nt c_6_2)]; first | done | rfl
    rw [eM] at hH
    exact z_zret hx hb hr hlocks hH (by first | rfl | exact z_narB _ | decide) (u := ()) (by simp only [LSt, pL_0, pL_1, pL_2, pL_n, if_pos c_6_2, if_neg (t_nt c_6_2)]; first | done | rfl) ⟨hH.1, hH.2.1⟩ trivial (Nat.le_of_ble_eq_true rfl) (Nat.le_of_ble_eq_true rfl) dX2_readsStroke_67
  · skip
    refine lv_aload_n hx hb dX2_readsStroke_9 rfl (lv_at hl 0 rfl) ?_
    refine lv_bipush (v := nI 114) hx hb dX2_readsStroke_10 (by decide) ?_
    refine z_ci (wr := []) (va_runV (As := [.int (nI 114)]) (rest := []) ⟨hx, hb, hml, hown, hts⟩ (metX2_reads l G dA dS B0 H.size q M ((pC M 116 T).2) so (by first | exact hi | assumption | omega) (by first | exact hT | assumption | omega) 114) (cwV 1 hts (lw_V q2408 q2410 qs71 q91 q2411) rfl rfl rfl (by decide +kernel) ⟨Nat.le_of_ble_eq_true rfl, Nat.le_of_ble_eq_true rfl⟩) (zPV hX hH hB hAB (z_recv hX kX2 (hH.at 0 rfl)) [0, 1, 2, 3, 4, 5, 6, 7, 8] rfl rfl trivial) rfl rfl hl.1 rfl (lv_room (Nat.le_of_ble_eq_true rfl)) dX2_readsStroke_12 ⟨(Nat.le_of_ble_eq_true rfl), (Nat.le_of_ble_eq_true rfl)⟩) hH hA [0, 1, 2, 3, 4, 5, 6, 7, 8] [] rfl rfl (by decide) (by decide) (fun r_3 u_r_3 H locs hw_r_3 hH hR_r_3 hk_r_3 => ?_)
    obtain rfl := hw_r_3
    have hH : zH G A s.heap (mW dA q (pS M (pC M 114 ((pC M 116 T).2)).2 so)) H locs := hH
    have hB_r_3 := (pC_B (M := M) (T := ((pC M 116 T).2)) (c := 114) (by decide) (by first | exact hT | assumption)).1
    refine z_ifeqB (b := (pC M 114 ((pC M 116 T).2)).1) (tgt := 66) hx hb dX2_readsStroke_15 (by decide) (fun c_15_4 => ?_) (fun c_15_4 => ?_)
    · skip
      refine lv_iconst (v := nI 0) hx hb dX2_readsStroke_66 (by decide) ?_
      have eM : pS M (pC M 114 ((pC M 116 T).2)).2 so = pS M (pL M LSt T).2 so := by simp only [LSt, pL_0, pL_1, pL_2, pL_n, if_pos c_6_2, if_neg (t_nf c_6_2), if_pos c_15_4, if_neg (t_nt c_15_4)]; first | done | rfl
      rw [eM] at hH
      exact z_zret hx hb hr hlocks hH (by first | rfl | exact z_narB _ | decide) (u := ()) (by simp only [LSt, pL_0, pL_1, pL_2, pL_n, if_pos c_6_2, if_neg (t_nf c_6_2), if_pos c_15_4, if_neg (t_nt c_15_4)]; first | done | rfl) ⟨hH.1, hH.2.1⟩ trivial (Nat.le_of_ble_eq_true rfl) (Nat.le_of_ble_eq_true rfl) dX2_readsStroke_67
    · skip
      refine lv_aload_n hx hb dX2_readsStroke_18 rfl (lv_at hl 0 rfl) ?_
      refine lv_bipush (v := nI 111) hx hb dX2_readsStroke_19 (by decide) ?_
      refine z_ci (wr := []) (va_runV (As := [.int (nI 111)]) (rest := []) ⟨hx, hb, hml, hown, hts⟩ (metX2_reads l G dA dS B0 H.size q M ((pC M 114 ((pC M 116 T).2)).2) so (by first | exact hi | assumption | omega) (by first | exact hT | assumption | omega) 111) (cwV 1 hts (lw_V q2408 q2410 qs71 q91 q2411) rfl rfl rfl (by decide +kernel) ⟨Nat.le_of_ble_eq_true rfl, Nat.le_of_ble_eq_true rfl⟩) (zPV hX hH hB hAB (z_recv hX kX2 (hH.at 0 rfl)) [0, 1, 2, 3, 4, 5, 6, 7, 8] rfl rfl trivial) rfl rfl hl.1 rfl (lv_room (Nat.le_of_ble_eq_true rfl)) dX2_readsStroke_21 ⟨(Nat.le_of_ble_eq_true rfl), (Nat.le_of_ble_eq_true rfl)⟩) hH hA [0, 1, 2, 3, 4, 5, 6, 7, 8] [] rfl rfl (by decide) (by decide) (fun r_5 u_r_5 H locs hw_r_5 hH hR_r_5 hk_r_5 => ?_)
      obtain rfl := hw_r_5
      have hH : zH G A s.heap (mW dA q (pS M (pC M 111 ((pC M 114 ((pC M 116 T).2)).2)).2 so)) H locs := hH
      have hB_r_5 := (pC_B (M := M) (T := ((pC M 114 ((pC M 116 T).2)).2)) (c := 111) (by decide) (by first | exact hT | assumption)).1
      refine z_ifeqB (b := (pC M 111 ((pC M 114 ((pC M 116 T).2)).2)).1) (tgt := 66) hx hb dX2_readsStroke_24 (by decide) (fun c_24_6 => ?_) (fun c_24_6 => ?_)
      · skip
        refine lv_iconst (v := nI 0) hx hb dX2_readsStroke_66 (by decide) ?_
        have eM : pS M (pC M 111 ((pC M 114 ((pC M 116 T).2)).2)).2 so = pS M (pL M LSt T).2 so := by simp only [LSt, pL_0, pL_1, pL_2, pL_n, if_pos c_6_2, if_neg (t_nf c_6_2), if_pos c_15_4, if_neg (t_nf c_15_4), if_pos c_24_6, if_neg (t_nt c_24_6)]; first | done | rfl
        rw [eM] at hH
        exact z_zret hx hb hr hlocks hH (by first | rfl | exact z_narB _ | decide) (u := ()) (by simp only [LSt, pL_0, pL_1, pL_2, pL_n, if_pos c_6_2, if_neg (t_nf c_6_2), if_pos c_15_4, if_neg (t_nf c_15_4), if_pos c_24_6, if_neg (t_nt c_24_6)]; first | done | rfl) ⟨hH.1, hH.2.1⟩ trivial (Nat.le_of_ble_eq_true rfl) (Nat.le_of_ble_eq_true rfl) dX2_readsStroke_67
      · skip
        refine lv_aload_n hx hb dX2_readsStroke_27 rfl (lv_at hl 0 rfl) ?_
        refine lv_bipush (v := nI 107) hx hb dX2_readsStroke_28 (by decide) ?_
        refine z_ci (wr := []) (va_runV (As := [.int (nI 107)]) (rest := []) ⟨hx, hb, hml, hown, hts⟩ (metX2_reads l G dA dS B0 H.size q M ((pC M 111 ((pC M 114 ((pC M 116 T).2)).2)).2) so (by first | exact hi | assumption | omega) (by first | exact hT | assumption | omega) 107) (cwV 1 hts (lw_V q2408 q2410 qs71 q91 q2411) rfl rfl rfl (by decide +kernel) ⟨Nat.le_of_ble_eq_true rfl, Nat.le_of_ble_eq_true rfl⟩) (zPV hX hH hB hAB (z_recv hX kX2 (hH.at 0 rfl)) [0, 1, 2, 3, 4, 5, 6, 7, 8] rfl rfl trivial) rfl rfl hl.1 rfl (lv_room (Nat.le_of_ble_eq_true rfl)) dX2_readsStroke_30 ⟨(Nat.le_of_ble_eq_true rfl), (Nat.le_of_ble_eq_true rfl)⟩) hH hA [0, 1, 2, 3, 4, 5, 6, 7, 8] [] rfl rfl (by decide) (by decide) (fun r_7 u_r_7 H locs hw_r_7 hH hR_r_7 hk_r_7 => ?_)
        obtain rfl := hw_r_7
        have hH : zH G A s.heap (mW dA q (pS M (pC M 107 ((pC M 111 ((pC M 114 ((pC M 116 T).2)).2)).2)).2 so)) H locs := hH
        have hB_r_7 := (pC_B (M := M) (T := ((pC M 111 ((pC M 114 ((pC M 116 T).2)).2)).2)) (c := 107) (by decide) (by first | exact hT | assumption)).1
        refine z_ifeqB (b := (pC M 107 ((pC M 111 ((pC M 114 ((pC M 116 T).2)).2)).2)).1) (tgt := 66) hx hb dX2_readsStroke_33 (by decide) (fun c_33_8 => ?_) (fun c_33_8 => ?_)
        · skip
          refine lv_iconst (v := nI 0) hx hb dX2_readsStroke_66 (by decide) ?_
          have eM : pS M (pC M 107 ((pC M 111 ((pC M 114 ((pC M 116 T).2)).2)).2)).2 so = pS M (pL M LSt T).2 so := by simp only [LSt, pL_0, pL_1, pL_2, pL_n, if_pos c_6_2, if_neg (t_nf c_6_2), if_pos c_15_4, if_neg (t_nf c_15_4), if_pos c_24_6, if_neg (t_nf c_24_6), if_pos c_33_8, if_neg (t_nt c_33_8)]; first | done | rfl
          rw [eM] at hH
          exact z_zret hx hb hr hlocks hH (by first | rfl | exact z_narB _ | decide) (u := ()) (by simp only [LSt, pL_0, pL_1, pL_2, pL_n, if_pos c_6_2, if_neg (t_nf c_6_2), if_pos c_15_4, if_neg (t_nf c_15_4), if_pos c_24_6, if_neg (t_nf c_24_6), if_pos c_33_8, if_neg (t_nt c_33_8)]; first | done | rfl) ⟨hH.1, hH.2.1⟩ trivial (Nat.le_of_ble_eq_true rfl) (Nat.le_of_ble_eq_true rfl) dX2_readsStroke_67
        · skip
          refine lv_aload_n hx hb dX2_readsStroke_36 rfl (lv_at hl 0 rfl) ?_
          refine lv_bipush (v := nI 101) hx hb dX2_readsStroke_37 (by decide) ?_
          refine z_ci (wr := []) (va_runV (As := [.int (nI 101)]) (rest := []) ⟨hx, hb, hml, hown, hts⟩ (metX2_reads l G dA dS B0 H.size q M ((pC M 107 ((pC M 111 ((pC M 114 ((pC M 116 T).2)).2)).2)).2) so (by first | exact hi | assumption | omega) (by first | exact hT | assumption | omega) 101) (cwV 1 hts (lw_V q2408 q2410 qs71 q91 q2411) rfl rfl rfl (by decide +kernel) ⟨Nat.le_of_ble_eq_true rfl, Nat.le_of_ble_eq_true rfl⟩) (zPV hX hH hB hAB (z_recv hX kX2 (hH.at 0 rfl)) [0, 1, 2, 3, 4, 5, 6, 7, 8] rfl rfl trivial) rfl rfl hl.1 rfl (lv_room (Nat.le_of_ble_eq_true rfl)) dX2_readsStroke_39 ⟨(Nat.le_of_ble_eq_true rfl), (Nat.le_of_ble_eq_true rfl)⟩) hH hA [0, 1, 2, 3, 4, 5, 6, 7, 8] [] rfl rfl (by decide) (by decide) (fun r_9 u_r_9 H locs hw_r_9 hH hR_r_9 hk_r_9 => ?_)
          obtain rfl := hw_r_9
          have hH : zH G A s.heap (mW dA q (pS M (pC M 101 ((pC M 107 ((pC M 111 ((pC M 114 ((pC M 116 T).2)).2)).2)).2)).2 so)) H locs := hH
          have hB_r_9 := (pC_B (M := M) (T := ((pC M 107 ((pC M 111 ((pC M 114 ((pC M 116 T).2)).2)).2)).2)) (c := 101) (by decide) (by first | exact hT | assumption)).1
          refine z_ifeqB (b := (pC M 101 ((pC M 107 ((pC M 111 ((pC M 114 ((pC M 116 T).2)).2)).2)).2)).1) (tgt := 66) hx hb dX2_readsStroke_42 (by decide) (fun c_42_10 => ?_) (fun c_42_10 => ?_)
          · skip
            refine lv_iconst (v := nI 0) hx hb dX2_readsStroke_66 (by decide) ?_
            have eM : pS M (pC M 101 ((pC M 107 ((pC M 111 ((pC M 114 ((pC M 116 T).2)).2)).2)).2)).2 so = pS M (pL M LSt T).2 so := by simp only [LSt, pL_0, pL_1, pL_2, pL_n, if_pos c_6_2, if_neg (t_nf c_6_2), if_pos c_15_4, if_neg (t_nf c_15_4), if_pos c_24_6, if_neg (t_nf c_24_6), if_pos c_33_8, if_neg (t_nf c_33_8), if_pos c_42_10, if_neg (t_nt c_42_10)]; first | done | rfl
            rw [eM] at hH
            exact z_zret hx hb hr hlocks hH (by first | rfl | exact z_narB _ | decide) (u := ()) (by simp only [LSt, pL_0, pL_1, pL_2, pL_n, if_pos c_6_2, if_neg (t_nf c_6_2), if_pos c_15_4, if_neg (t_nf c_15_4), if_pos c_24_6, if_neg (t_nf c_24_6), if_pos c_33_8, if_neg (t_nf c_33_8), if_pos c_42_10, if_neg (t_nt c_42_10)]; first | done | rfl) ⟨hH.1, hH.2.1⟩ trivial (Nat.le_of_ble_eq_true rfl) (Nat.le_of_ble_eq_true rfl) dX2_readsStroke_67
          · skip
            refine lv_aload_n hx hb dX2_readsStroke_45 rfl (lv_at hl 0 rfl) ?_
            refine lv_bipush (v := nI 32) hx hb dX2_readsStroke_46 (by decide) ?_
            refine z_ci (wr := []) (va_runV (As := [.int (nI 32)]) (rest := []) ⟨hx, hb, hml, hown, hts⟩ (metX2_reads l G dA dS B0 H.size q M ((pC M 101 ((pC M 107 ((pC M 111 ((pC M 114 ((pC M 116 T).2)).2)).2)).2)).2) so (by first | exact hi | assumption | omega) (by first | exact hT | assumption | omega) 32) (cwV 1 hts (lw_V q2408 q2410 qs71 q91 q2411) rfl rfl rfl (by decide +kernel) ⟨Nat.le_of_ble_eq_true rfl, Nat.le_of_ble_eq_true rfl⟩) (zPV hX hH hB hAB (z_recv hX kX2 (hH.at 0 rfl)) [0, 1, 2, 3, 4, 5, 6, 7, 8] rfl rfl trivial) rfl rfl hl.1 rfl (lv_room (Nat.le_of_ble_eq_true rfl)) dX2_readsStroke_48 ⟨(Nat.le_of_ble_eq_true rfl), (Nat.le_of_ble_eq_true rfl)⟩) hH hA [0, 1, 2, 3, 4, 5, 6, 7, 8] [] rfl rfl (by decide) (by decide) (fun r_11 u_r_11 H locs hw_r_11 hH hR_r_11 hk_r_11 => ?_)
            obtain rfl := hw_r_11
            have hH : zH G A s.heap (mW dA q (pS M (pC M 32 ((pC M 101 ((pC M 107 ((pC M 111 ((pC M 114 ((pC M 116 T).2)).2)).2)).2)).2)).2 so)) H locs := hH
            have hB_r_11 := (pC_B (M := M) (T := ((pC M 101 ((pC M 107 ((pC M 111 ((pC M 114 ((pC M 116 T).2)).2)).2)).2)).2)) (c := 32) (by decide) (by first | exact hT | assumption)).1
            refine z_ifeqB (b := (pC M 32 ((pC M 101 ((pC M 107 ((pC M 111 ((pC M 114 ((pC M 116 T).2)).2)).2)).2)).2)).1) (tgt := 66) hx hb dX2_readsStroke_51 (by decide) (fun c_51_12 => ?_) (fun c_51_12 => ?_)
            · skip
              refine lv_iconst (v := nI 0) hx hb dX2_readsStroke_66 (by decide) ?_
              have eM : pS M (pC M 32 ((pC M 101 ((pC M 107 ((pC M 111 ((pC M 114 ((pC M 116 T).2)).2)).2)).2)).2)).2 so = pS M (pL M LSt T).2 so := by simp only [LSt, pL_0, pL_1, pL_2, pL_n, if_pos c_6_2, if_neg (t_nf c_6_2), if_pos c_15_4, if_neg (t_nf c_15_4), if_pos c_24_6, if_neg (t_nf c_24_6), if_pos c_33_8, if_neg (t_nf c_33_8), if_pos c_42_10, if_neg (t_nf c_42_10), if_pos c_51_12, if_neg (t_nt c_51_12)]; first | done | rfl
              rw [eM] at hH
              exact z_zret hx hb hr hlocks hH (by first | rfl | exact z_narB _ | decide) (u := ()) (by simp only [LSt, pL_0, pL_1, pL_2, pL_n, if_pos c_6_2, if_neg (t_nf c_6_2), if_pos c_15_4, if_neg (t_nf c_15_4), if_pos c_24_6, if_neg (t_nf c_24_6), if_pos c_33_8, if_neg (t_nf c_33_8), if_pos c_42_10, if_neg (t_nf c_42_10), if_pos c_51_12, if_neg (t_nt c_51_12)]; first | done | rfl) ⟨hH.1, hH.2.1⟩ trivial (Nat.le_of_ble_eq_true rfl) (Nat.le_of_ble_eq_true rfl) dX2_readsStroke_67
            · skip
              refine lv_aload_n hx hb dX2_readsStroke_54 rfl (lv_at hl 0 rfl) ?_
              refine lv_iconst (v := nI 0) hx hb dX2_readsStroke_55 (by decide) ?_
              refine z_ci (wr := []) (va_runV (As := [.int (nI 0)]) (rest := []) ⟨hx, hb, hml, hown, hts⟩ (metX2_readsNumber l G dA dS B0 H.size q M ((pC M 32 ((pC M 101 ((pC M 107 ((pC M 111 ((pC M 114 ((pC M 116 T).2)).2)).2)).2)).2)).2) so (by first | exact hi | assumption | omega) (by first | exact hT | assumption | omega) 0 (by first | exact hk | assumption | omega)) (cwV 1 hts (lw_V q2420 q2422 qs74 q91 q2423) rfl rfl rfl (by decide +kernel) ⟨Nat.le_of_ble_eq_true rfl, Nat.le_of_ble_eq_true rfl⟩) (zPV hX hH hB hAB (z_recv hX kX2 (hH.at 0 rfl)) [0, 1, 2, 3, 4, 5, 6, 7, 8] rfl rfl trivial) rfl rfl hl.1 rfl (lv_room (Nat.le_of_ble_eq_true rfl)) dX2_readsStroke_56 ⟨(Nat.le_of_ble_eq_true rfl), (Nat.le_of_ble_eq_true rfl)⟩) hH hA [0, 1, 2, 3, 4, 5, 6, 7, 8] [] rfl rfl (by decide) (by decide) (fun r_13 u_r_13 H locs hw_r_13 hH hR_r_13 hk_r_13 => ?_)
              obtain rfl := hw_r_13
              have hH : zH G A s.heap (mW dA q (pS M (pN M 0 ((pC M 32 ((pC M 101 ((pC M 107 ((pC M 111 ((pC M 114 ((pC M 116 T).2)).2)).2)).2)).2)).2)).2 so)) H locs := hH
              have hB_r_13 := (pN_B (M := M) (T := ((pC M 32 ((pC M 101 ((pC M 107 ((pC M 111 ((pC M 114 ((pC M 116 T).2)).2)).2)).2)).2)).2)) (k := 0) hi (by first | exact hT | assumption)).1
              refine z_ifeqB (b := (pN M 0 ((pC M 32 ((pC M 101 ((pC M 107 ((pC M 111 ((pC M 114 ((pC M 116 T).2)).2)).2)).2)).2)).2)).1) (tgt := 66) hx hb dX2_readsStroke_59 (by decide) (fun c_59_14 => ?_) (fun c_59_14 => ?_)
              · skip
                refine lv_iconst (v := nI 0) hx hb dX2_readsStroke_66 (by decide) ?_
                have eM : pS M (pN M 0 ((pC M 32 ((pC M 101 ((pC M 107 ((pC M 111 ((pC M 114 ((pC M 116 T).2)).2)).2)).2)).2)).2)).2 so = pS M (pL M LSt T).2 so := by simp only [LSt, pL_0, pL_1, pL_2, pL_n, if_pos c_6_2, if_neg (t_nf c_6_2), if_pos c_15_4, if_neg (t_nf c_15_4), if_pos c_24_6, if_neg (t_nf c_24_6), if_pos c_33_8, if_neg (t_nf c_33_8), if_pos c_42_10, if_neg (t_nf c_42_10), if_pos c_51_12, if_neg (t_nf c_51_12), if_pos c_59_14, if_neg (t_nt c_59_14)]; first | done | rfl
                rw [eM] at hH
                exact z_zret hx hb hr hlocks hH (by first | rfl | exact z_narB _ | decide) (u := ()) (by simp only [LSt, pL_0, pL_1, pL_2, pL_n, if_pos c_6_2, if_neg (t_nf c_6_2), if_pos c_15_4, if_neg (t_nf c_15_4), if_pos c_24_6, if_neg (t_nf c_24_6), if_pos c_33_8, if_neg (t_nf c_33_8), if_pos c_42_10, if_neg (t_nf c_42_10), if_pos c_51_12, if_neg (t_nf c_51_12), if_pos c_59_14, if_neg (t_nt c_59_14)]; first | done | rfl) ⟨hH.1, hH.2.1⟩ trivial (Nat.le_of_ble_eq_true rfl) (Nat.le_of_ble_eq_true rfl) dX2_readsStroke_67
              · skip
                refine lv_iconst (v := nI 1) hx hb dX2_readsStroke_62 (by decide) ?_
                refine lv_goto (tgt := 67) hx hb dX2_readsStroke_63 (by decide) ?_
                have eM : pS M (pN M 0 ((pC M 32 ((pC M 101 ((pC M 107 ((pC M 111 ((pC M 114 ((pC M 116 T).2)).2)).2)).2)).2)).2)).2 so = pS M (pL M LSt T).2 so := by simp only [LSt, pL_0, pL_1, pL_2, pL_n, if_pos c_6_2, if_neg (t_nf c_6_2), if_pos c_15_4, if_neg (t_nf c_15_4), if_pos c_24_6, if_neg (t_nf c_24_6), if_pos c_33_8, if_neg (t_nf c_33_8), if_pos c_42_10, if_neg (t_nf c_42_10), if_pos c_51_12, if_neg (t_nf c_51_12), if_pos c_59_14, if_neg (t_nf c_59_14)]; first | done | rfl
                rw [eM] at hH
                exact z_zret hx hb hr hlocks hH (by first | rfl | exact z_narB _ | decide) (u := ()) (by simp only [LSt, pL_0, pL_1, pL_2, pL_n, if_pos c_6_2, if_neg (t_nf c_6_2), if_pos c_15_4, if_neg (t_nf c_15_4), if_pos c_24_6, if_neg (t_nf c_24_6), if_pos c_33_8, if_neg (t_nf c_33_8), if_pos c_42_10, if_neg (t_nf c_42_10), if_pos c_51_12, if_neg (t_nf c_51_12), if_pos c_59_14, if_neg (t_nf c_59_14)]; first | done | rfl) ⟨hH.1, hH.2.1⟩ trivial (Nat.le_of_ble_eq_true rfl) (Nat.le_of_ble_eq_true rfl) dX2_readsStroke_67

set_option maxHeartbeats 4000000 in
set_option maxRecDepth 100000 in
theorem metX2_readsBucket (l : Launch) (G : va_G) (dA : Nat → ClassId) (dS : Nat → Nat) (B0 sz : Nat) (q : Nat → Nat) (M : mS) (T : pT) (so : Nat) (hi : iB M) (hT : pB M T) : Met l yX2_readsBucket (ws_ yX2_readsBucket cX2_readsBucket 1 (some FieldType.boolean)) ({ frames := 2, cells := 0, slots := 0, locals := 43 }) (zP G dA dS B0 [.ref (q 0)] sz (mW dA q (pS M T so)) (fun H => True)) (zQi G (fun (r : Int32) (u : Unit) => r = nI (bN ((pL M LBu T).1))) (fun (u : Unit) => mW dA q (pS M (pL M LBu T).2 so)) (fun (u : Unit) (H : Heap) => True) (va_A (mW dA q (pS M T so)) sz)) 0 0 (va_A (mW dA q (pS M T so)) sz) := by
  refine zM (by decide) (Nat.le_of_ble_eq_true rfl) ?_
  intro p e s m below meth c ls A H locs hHe hx hb hr hlocks hml hown hname hts hX hsz hB hAe hA hAB hH hRo hl
  have hl : lv_has ls 1 [(0, .ref (q 0))] := hl
  refine lv_aload_n hx hb dX2_readsBucket_0 rfl (lv_at hl 0 rfl) ?_
  refine lv_bipush (v := nI 117) hx hb dX2_readsBucket_1 (by decide) ?_
  refine z_ci (wr := []) (va_runV (As := [.int (nI 117)]) (rest := []) ⟨hx, hb, hml, hown, hts⟩ (metX2_reads l G dA dS B0 H.size q M T so (by first | exact hi | assumption | omega) (by first | exact hT | assumption | omega) 117) (cwV 1 hts (lw_V q2408 q2410 qs71 q91 q2411) rfl rfl rfl (by decide +kernel) ⟨Nat.le_of_ble_eq_true rfl, Nat.le_of_ble_eq_true rfl⟩) (zPV hX hH hB hAB (z_recv hX kX2 (hH.at 0 rfl)) [0, 1, 2, 3, 4, 5, 6, 7, 8] rfl rfl trivial) rfl rfl hl.1 rfl (lv_room (Nat.le_of_ble_eq_true rfl)) dX2_readsBucket_3 ⟨(Nat.le_of_ble_eq_true rfl), (Nat.le_of_ble_eq_true rfl)⟩) hH hA [0, 1, 2, 3, 4, 5, 6, 7, 8] [] rfl rfl (by decide) (by decide) (fun r_1 u_r_1 H locs hw_r_1 hH hR_r_1 hk_r_1 => ?_)
  obtain rfl := hw_r_1
  have hH : zH G A s.heap (mW dA q (pS M (pC M 117 T).2 so)) H locs := hH
  have hB_r_1 := (pC_B (M := M) (T := T) (c := 117) (by decide) (by first | exact hT | assumption)).1
  refine z_ifeqB (b := (pC M 117 T).1) (tgt := 54) hx hb dX2_readsBucket_6 (by decide) (fun c_6_2 => ?_) (fun c_6_2 => ?_)
  · skip
    refine lv_iconst (v := nI 0) hx hb dX2_readsBucket_54 (by decide) ?_
    have eM : pS M (pC M 117 T).2 so = pS M (pL M LBu T).2 so := by simp only [LBu, pL_0, pL_1, pL_2, pL_n, if_pos c_6_2, if_neg (t_nt c_6_2)]; first | done | rfl
    rw [eM] at hH
    exact z_zret hx hb hr hlocks hH (by first | rfl | exact z_narB _ | decide) (u := ()) (by simp only [LBu, pL_0, pL_1, pL_2, pL_n, if_pos c_6_2, if_neg (t_nt c_6_2)]; first | done | rfl) ⟨hH.1, hH.2.1⟩ trivial (Nat.le_of_ble_eq_true rfl) (Nat.le_of_ble_eq_true rfl) dX2_readsBucket_55
  · skip
    refine lv_aload_n hx hb dX2_readsBucket_9 rfl (lv_at hl 0 rfl) ?_
    refine lv_bipush (v := nI 99) hx hb dX2_readsBucket_10 (by decide) ?_
    refine z_ci (wr := []) (va_runV (As := [.int (nI 99)]) (rest := []) ⟨hx, hb, hml, hown, hts⟩ (metX2_reads l G dA dS B0 H.size q M ((pC M 117 T).2) so (by first | exact hi | assumption | omega) (by first | exact hT | assumption | omega) 99) (cwV 1 hts (lw_V q2408 q2410 qs71 q91 q2411) rfl rfl rfl (by decide +kernel) ⟨Nat.le_of_ble_eq_true rfl, Nat.le_of_ble_eq_true rfl⟩) (zPV hX hH hB hAB (z_recv hX kX2 (hH.at 0 rfl)) [0, 1, 2, 3, 4, 5, 6, 7, 8] rfl rfl trivial) rfl rfl hl.1 rfl (lv_room (Nat.le_of_ble_eq_true rfl)) dX2_readsBucket_12 ⟨(Nat.le_of_ble_eq_true rfl), (Nat.le_of_ble_eq_true rfl)⟩) hH hA [0, 1, 2, 3, 4, 5, 6, 7, 8] [] rfl rfl (by decide) (by decide) (fun r_3 u_r_3 H locs hw_r_3 hH hR_r_3 hk_r_3 => ?_)
    obtain rfl := hw_r_3
    have hH : zH G A s.heap (mW dA q (pS M (pC M 99 ((pC M 117 T).2)).2 so)) H locs := hH
    have hB_r_3 := (pC_B (M := M) (T := ((pC M 117 T).2)) (c := 99) (by decide) (by first | exact hT | assumption)).1
    refine z_ifeqB (b := (pC M 99 ((pC M 117 T).2)).1) (tgt := 54) hx hb dX2_readsBucket_15 (by decide) (fun c_15_4 => ?_) (fun c_15_4 => ?_)
    · skip
      refine lv_iconst (v := nI 0) hx hb dX2_readsBucket_54 (by decide) ?_
      have eM : pS M (pC M 99 ((pC M 117 T).2)).2 so = pS M (pL M LBu T).2 so := by simp only [LBu, pL_0, pL_1, pL_2, pL_n, if_pos c_6_2, if_neg (t_nf c_6_2), if_pos c_15_4, if_neg (t_nt c_15_4)]; first | done | rfl
      rw [eM] at hH
      exact z_zret hx hb hr hlocks hH (by first | rfl | exact z_narB _ | decide) (u := ()) (by simp only [LBu, pL_0, pL_1, pL_2, pL_n, if_pos c_6_2, if_neg (t_nf c_6_2), if_pos c_15_4, if_neg (t_nt c_15_4)]; first | done | rfl) ⟨hH.1, hH.2.1⟩ trivial (Nat.le_of_ble_eq_true rfl) (Nat.le_of_ble_eq_true rfl) dX2_readsBucket_55
    · skip
      refine lv_aload_n hx hb dX2_readsBucket_18 rfl (lv_at hl 0 rfl) ?_
      refine lv_bipush (v := nI 107) hx hb dX2_readsBucket_19 (by decide) ?_
      refine z_ci (wr := []) (va_runV (As := [.int (nI 107)]) (rest := []) ⟨hx, hb, hml, hown, hts⟩ (metX2_reads l G dA dS B0 H.size q M ((pC M 99 ((pC M 117 T).2)).2) so (by first | exact hi | assumption | omega) (by first | exact hT | assumption | omega) 107) (cwV 1 hts (lw_V q2408 q2410 qs71 q91 q2411) rfl rfl rfl (by decide +kernel) ⟨Nat.le_of_ble_eq_true rfl, Nat.le_of_ble_eq_true rfl⟩) (zPV hX hH hB hAB (z_recv hX kX2 (hH.at 0 rfl)) [0, 1, 2, 3, 4, 5, 6, 7, 8] rfl rfl trivial) rfl rfl hl.1 rfl (lv_room (Nat.le_of_ble_eq_true rfl)) dX2_readsBucket_21 ⟨(Nat.le_of_ble_eq_true rfl), (Nat.le_of_ble_eq_true rfl)⟩) hH hA [0, 1, 2, 3, 4, 5, 6, 7, 8] [] rfl rfl (by decide) (by decide) (fun r_5 u_r_5 H locs hw_r_5 hH hR_r_5 hk_r_5 => ?_)
      obtain rfl := hw_r_5
      have hH : zH G A s.heap (mW dA q (pS M (pC M 107 ((pC M 99 ((pC M 117 T).2)).2)).2 so)) H locs := hH
      have hB_r_5 := (pC_B (M := M) (T := ((pC M 99 ((pC M 117 T).2)).2)) (c := 107) (by decide) (by first | exact hT | assumption)).1
      refine z_ifeqB (b := (pC M 107 ((pC M 99 ((pC M 117 T).2)).2)).1) (tgt := 54) hx hb dX2_readsBucket_24 (by decide) (fun c_24_6 => ?_) (fun c_24_6 => ?_)
      · skip
        refine lv_iconst (v := nI 0) hx hb dX2_readsBucket_54 (by decide) ?_
        have eM : pS M (pC M 107 ((pC M 99 ((pC M 117 T).2)).2)).2 so = pS M (pL M LBu T).2 so := by simp only [LBu, pL_0, pL_1, pL_2, pL_n, if_pos c_6_2, if_neg (t_nf c_6_2), if_pos c_15_4, if_neg (t_nf c_15_4), if_pos c_24_6, if_neg (t_nt c_24_6)]; first | done | rfl
        rw [eM] at hH
        exact z_zret hx hb hr hlocks hH (by first | rfl | exact z_narB _ | decide) (u := ()) (by simp only [LBu, pL_0, pL_1, pL_2, pL_n, if_pos c_6_2, if_neg (t_nf c_6_2), if_pos c_15_4, if_neg (t_nf c_15_4), if_pos c_24_6, if_neg (t_nt c_24_6)]; first | done | rfl) ⟨hH.1, hH.2.1⟩ trivial (Nat.le_of_ble_eq_true rfl) (Nat.le_of_ble_eq_true rfl) dX2_readsBucket_55
      · skip
        refine lv_aload_n hx hb dX2_readsBucket_27 rfl (lv_at hl 0 rfl) ?_
        refine lv_bipush (v := nI 101) hx hb dX2_readsBucket_28 (by decide) ?_
        refine z_ci (wr := []) (va_runV (As := [.int (nI 101)]) (rest := []) ⟨hx, hb, hml, hown, hts⟩ (metX2_reads l G dA dS B0 H.size q M ((pC M 107 ((pC M 99 ((pC M 117 T).2)).2)).2) so (by first | exact hi | assumption | omega) (by first | exact hT | assumption | omega) 101) (cwV 1 hts (lw_V q2408 q2410 qs71 q91 q2411) rfl rfl rfl (by decide +kernel) ⟨Nat.le_of_ble_eq_true rfl, Nat.le_of_ble_eq_true rfl⟩) (zPV hX hH hB hAB (z_recv hX kX2 (hH.at 0 rfl)) [0, 1, 2, 3, 4, 5, 6, 7, 8] rfl rfl trivial) rfl rfl hl.1 rfl (lv_room (Nat.le_of_ble_eq_true rfl)) dX2_readsBucket_30 ⟨(Nat.le_of_ble_eq_true rfl), (Nat.le_of_ble_eq_true rfl)⟩) hH hA [0, 1, 2, 3, 4, 5, 6, 7, 8] [] rfl rfl (by decide) (by decide) (fun r_7 u_r_7 H locs hw_r_7 hH hR_r_7 hk_r_7 => ?_)
        obtain rfl := hw_r_7
        have hH : zH G A s.heap (mW dA q (pS M (pC M 101 ((pC M 107 ((pC M 99 ((pC M 117 T).2)).2)).2)).2 so)) H locs := hH
        have hB_r_7 := (pC_B (M := M) (T := ((pC M 107 ((pC M 99 ((pC M 117 T).2)).2)).2)) (c := 101) (by decide) (by first | exact hT | assumption)).1
        refine z_ifeqB (b := (pC M 101 ((pC M 107 ((pC M 99 ((pC M 117 T).2)).2)).2)).1) (tgt := 54) hx hb dX2_readsBucket_33 (by decide) (fun c_33_8 => ?_) (fun c_33_8 => ?_)
        · skip
          refine lv_iconst (v := nI 0) hx hb dX2_readsBucket_54 (by decide) ?_
          have eM : pS M (pC M 101 ((pC M 107 ((pC M 99 ((pC M 117 T).2)).2)).2)).2 so = pS M (pL M LBu T).2 so := by simp only [LBu, pL_0, pL_1, pL_2, pL_n, if_pos c_6_2, if_neg (t_nf c_6_2), if_pos c_15_4, if_neg (t_nf c_15_4), if_pos c_24_6, if_neg (t_nf c_24_6), if_pos c_33_8, if_neg (t_nt c_33_8)]; first | done | rfl
          rw [eM] at hH
          exact z_zret hx hb hr hlocks hH (by first | rfl | exact z_narB _ | decide) (u := ()) (by simp only [LBu, pL_0, pL_1, pL_2, pL_n, if_pos c_6_2, if_neg (t_nf c_6_2), if_pos c_15_4, if_neg (t_nf c_15_4), if_pos c_24_6, if_neg (t_nf c_24_6), if_pos c_33_8, if_neg (t_nt c_33_8)]; first | done | rfl) ⟨hH.1, hH.2.1⟩ trivial (Nat.le_of_ble_eq_true rfl) (Nat.le_of_ble_eq_true rfl) dX2_readsBucket_55
        · skip
          refine lv_aload_n hx hb dX2_readsBucket_36 rfl (lv_at hl 0 rfl) ?_
          refine lv_bipush (v := nI 116) hx hb dX2_readsBucket_37 (by decide) ?_
          refine z_ci (wr := []) (va_runV (As := [.int (nI 116)]) (rest := []) ⟨hx, hb, hml, hown, hts⟩ (metX2_reads l G dA dS B0 H.size q M ((pC M 101 ((pC M 107 ((pC M 99 ((pC M 117 T).2)).2)).2)).2) so (by first | exact hi | assumption | omega) (by first | exact hT | assumption | omega) 116) (cwV 1 hts (lw_V q2408 q2410 qs71 q91 q2411) rfl rfl rfl (by decide +kernel) ⟨Nat.le_of_ble_eq_true rfl, Nat.le_of_ble_eq_true rfl⟩) (zPV hX hH hB hAB (z_recv hX kX2 (hH.at 0 rfl)) [0, 1, 2, 3, 4, 5, 6, 7, 8] rfl rfl trivial) rfl rfl hl.1 rfl (lv_room (Nat.le_of_ble_eq_true rfl)) dX2_readsBucket_39 ⟨(Nat.le_of_ble_eq_true rfl), (Nat.le_of_ble_eq_true rfl)⟩) hH hA [0, 1, 2, 3, 4, 5, 6, 7, 8] [] rfl rfl (by decide) (by decide) (fun r_9 u_r_9 H locs hw_r_9 hH hR_r_9 hk_r_9 => ?_)
          obtain rfl := hw_r_9
          have hH : zH G A s.heap (mW dA q (pS M (pC M 116 ((pC M 101 ((pC M 107 ((pC M 99 ((pC M 117 T).2)).2)).2)).2)).2 so)) H locs := hH
          have hB_r_9 := (pC_B (M := M) (T := ((pC M 101 ((pC M 107 ((pC M 99 ((pC M 117 T).2)).2)).2)).2)) (c := 116) (by decide) (by first | exact hT | assumption)).1
          refine z_ifeqB (b := (pC M 116 ((pC M 101 ((pC M 107 ((pC M 99 ((pC M 117 T).2)).2)).2)).2)).1) (tgt := 54) hx hb dX2_readsBucket_42 (by decide) (fun c_42_10 => ?_) (fun c_42_10 => ?_)
          · skip
            refine lv_iconst (v := nI 0) hx hb dX2_readsBucket_54 (by decide) ?_
            have eM : pS M (pC M 116 ((pC M 101 ((pC M 107 ((pC M 99 ((pC M 117 T).2)).2)).2)).2)).2 so = pS M (pL M LBu T).2 so := by simp only [LBu, pL_0, pL_1, pL_2, pL_n, if_pos c_6_2, if_neg (t_nf c_6_2), if_pos c_15_4, if_neg (t_nf c_15_4), if_pos c_24_6, if_neg (t_nf c_24_6), if_pos c_33_8, if_neg (t_nf c_33_8), if_pos c_42_10, if_neg (t_nt c_42_10)]; first | done | rfl
            rw [eM] at hH
            exact z_zret hx hb hr hlocks hH (by first | rfl | exact z_narB _ | decide) (u := ()) (by simp only [LBu, pL_0, pL_1, pL_2, pL_n, if_pos c_6_2, if_neg (t_nf c_6_2), if_pos c_15_4, if_neg (t_nf c_15_4), if_pos c_24_6, if_neg (t_nf c_24_6), if_pos c_33_8, if_neg (t_nf c_33_8), if_pos c_42_10, if_neg (t_nt c_42_10)]; first | done | rfl) ⟨hH.1, hH.2.1⟩ trivial (Nat.le_of_ble_eq_true rfl) (Nat.le_of_ble_eq_true rfl) dX2_readsBucket_55
          · skip
            refine lv_aload_n hx hb dX2_readsBucket_45 rfl (lv_at hl 0 rfl) ?_
            refine lv_bipush (v := nI 32) hx hb dX2_readsBucket_46 (by decide) ?_
            refine z_ci (wr := []) (va_runV (As := [.int (nI 32)]) (rest := []) ⟨hx, hb, hml, hown, hts⟩ (metX2_reads l G dA dS B0 H.size q M ((pC M 116 ((pC M 101 ((pC M 107 ((pC M 99 ((pC M 117 T).2)).2)).2)).2)).2) so (by first | exact hi | assumption | omega) (by first | exact hT | assumption | omega) 32) (cwV 1 hts (lw_V q2408 q2410 qs71 q91 q2411) rfl rfl rfl (by decide +kernel) ⟨Nat.le_of_ble_eq_true rfl, Nat.le_of_ble_eq_true rfl⟩) (zPV hX hH hB hAB (z_recv hX kX2 (hH.at 0 rfl)) [0, 1, 2, 3, 4, 5, 6, 7, 8] rfl rfl trivial) rfl rfl hl.1 rfl (lv_room (Nat.le_of_ble_eq_true rfl)) dX2_readsBucket_48 ⟨(Nat.le_of_ble_eq_true rfl), (Nat.le_of_ble_eq_true rfl)⟩) hH hA [0, 1, 2, 3, 4, 5, 6, 7, 8] [] rfl rfl (by decide) (by decide) (fun r_11 u_r_11 H locs hw_r_11 hH hR_r_11 hk_r_11 => ?_)
            obtain rfl := hw_r_11
            have hH : zH G A s.heap (mW dA q (pS M (pC M 32 ((pC M 116 ((pC M 101 ((pC M 107 ((pC M 99 ((pC M 117 T).2)).2)).2)).2)).2)).2 so)) H locs := hH
            have hB_r_11 := (pC_B (M := M) (T := ((pC M 116 ((pC M 101 ((pC M 107 ((pC M 99 ((pC M 117 T).2)).2)).2)).2)).2)) (c := 32) (by decide) (by first | exact hT | assumption)).1
            refine z_ifneB (b := (pC M 32 ((pC M 116 ((pC M 101 ((pC M 107 ((pC M 99 ((pC M 117 T).2)).2)).2)).2)).2)).1) (tgt := 56) hx hb dX2_readsBucket_51 (by decide) (fun c_51_12 => ?_) (fun c_51_12 => ?_)
            · skip
              refine lv_aload_n hx hb dX2_readsBucket_56 rfl (lv_at hl 0 rfl) ?_
              refine lv_iconst (v := nI 0) hx hb dX2_readsBucket_57 (by decide) ?_
              refine z_ci (wr := []) (va_runV (As := [.int (nI 0)]) (rest := []) ⟨hx, hb, hml, hown, hts⟩ (metX2_readsDigit l G dA dS B0 H.size q M ((pC M 32 ((pC M 116 ((pC M 101 ((pC M 107 ((pC M 99 ((pC M 117 T).2)).2)).2)).2)).2)).2) so (by first | exact hi | assumption | omega) (by first | exact hT | assumption | omega) 0 (by first | exact hk | assumption | omega)) (cwV 1 hts (lw_V q2416 q2418 qs73 q91 q2419) rfl rfl rfl (by decide +kernel) ⟨Nat.le_of_ble_eq_true rfl, Nat.le_of_ble_eq_true rfl⟩) (zPV hX hH hB hAB (z_recv hX kX2 (hH.at 0 rfl)) [0, 1, 2, 3, 4, 5, 6, 7, 8] rfl rfl trivial) rfl rfl hl.1 rfl (lv_room (Nat.le_of_ble_eq_true rfl)) dX2_readsBucket_58 ⟨(Nat.le_of_ble_eq_true rfl), (Nat.le_of_ble_eq_true rfl)⟩) hH hA [0, 1, 2, 3, 4, 5, 6, 7, 8] [] rfl rfl (by decide) (by decide) (fun r_13 u_r_13 H locs hw_r_13 hH hR_r_13 hk_r_13 => ?_)
              obtain rfl := hw_r_13
              have hH : zH G A s.heap (mW dA q (pS M (pD M 0 ((pC M 32 ((pC M 116 ((pC M 101 ((pC M 107 ((pC M 99 ((pC M 117 T).2)).2)).2)).2)).2)).2)).2 so)) H locs := hH
              have hB_r_13 := (pD_B (M := M) (T := ((pC M 32 ((pC M 116 ((pC M 101 ((pC M 107 ((pC M 99 ((pC M 117 T).2)).2)).2)).2)).2)).2)) (k := 0) hi (by first | exact hT | assumption)).1
              refine z_ifeqB (b := (pD M 0 ((pC M 32 ((pC M 116 ((pC M 101 ((pC M 107 ((pC M 99 ((pC M 117 T).2)).2)).2)).2)).2)).2)).1) (tgt := 85) hx hb dX2_readsBucket_61 (by decide) (fun c_61_14 => ?_) (fun c_61_14 => ?_)
              · skip
                refine lv_iconst (v := nI 0) hx hb dX2_readsBucket_85 (by decide) ?_
                have eM : pS M (pD M 0 ((pC M 32 ((pC M 116 ((pC M 101 ((pC M 107 ((pC M 99 ((pC M 117 T).2)).2)).2)).2)).2)).2)).2 so = pS M (pL M LBu T).2 so := by simp only [LBu, pL_0, pL_1, pL_2, pL_n, if_pos c_6_2, if_neg (t_nf c_6_2), if_pos c_15_4, if_neg (t_nf c_15_4), if_pos c_24_6, if_neg (t_nf c_24_6), if_pos c_33_8, if_neg (t_nf c_33_8), if_pos c_42_10, if_neg (t_nf c_42_10), if_pos c_51_12, if_neg (t_nf c_51_12), if_pos c_61_14, if_neg (t_nt c_61_14)]; first | done | rfl
                rw [eM] at hH
                exact z_zret hx hb hr hlocks hH (by first | rfl | exact z_narB _ | decide) (u := ()) (by simp only [LBu, pL_0, pL_1, pL_2, pL_n, if_pos c_6_2, if_neg (t_nf c_6_2), if_pos c_15_4, if_neg (t_nf c_15_4), if_pos c_24_6, if_neg (t_nf c_24_6), if_pos c_33_8, if_neg (t_nf c_33_8), if_pos c_42_10, if_neg (t_nf c_42_10), if_pos c_51_12, if_neg (t_nf c_51_12), if_pos c_61_14, if_neg (t_nt c_61_14)]; first | done | rfl) ⟨hH.1, hH.2.1⟩ trivial (Nat.le_of_ble_eq_true rfl) (Nat.le_of_ble_eq_true rfl) dX2_readsBucket_86
              · skip
                refine lv_aload_n hx hb dX2_readsBucket_64 rfl (lv_at hl 0 rfl) ?_
                refine lv_bipush (v := nI 32) hx hb dX2_readsBucket_65 (by decide) ?_
                refine z_ci (wr := []) (va_runV (As := [.int (nI 32)]) (rest := []) ⟨hx, hb, hml, hown, hts⟩ (metX2_reads l G dA dS B0 H.size q M ((pD M 0 ((pC M 32 ((pC M 116 ((pC M 101 ((pC M 107 ((pC M 99 ((pC M 117 T).2)).2)).2)).2)).2)).2)).2) so (by first | exact hi | assumption | omega) (by first | exact hT | assumption | omega) 32) (cwV 1 hts (lw_V q2408 q2410 qs71 q91 q2411) rfl rfl rfl (by decide +kernel) ⟨Nat.le_of_ble_eq_true rfl, Nat.le_of_ble_eq_true rfl⟩) (zPV hX hH hB hAB (z_recv hX kX2 (hH.at 0 rfl)) [0, 1, 2, 3, 4, 5, 6, 7, 8] rfl rfl trivial) rfl rfl hl.1 rfl (lv_room (Nat.le_of_ble_eq_true rfl)) dX2_readsBucket_67 ⟨(Nat.le_of_ble_eq_true rfl), (Nat.le_of_ble_eq_true rfl)⟩) hH hA [0, 1, 2, 3, 4, 5, 6, 7, 8] [] rfl rfl (by decide) (by decide) (fun r_15 u_r_15 H locs hw_r_15 hH hR_r_15 hk_r_15 => ?_)
                obtain rfl := hw_r_15
                have hH : zH G A s.heap (mW dA q (pS M (pC M 32 ((pD M 0 ((pC M 32 ((pC M 116 ((pC M 101 ((pC M 107 ((pC M 99 ((pC M 117 T).2)).2)).2)).2)).2)).2)).2)).2 so)) H locs := hH
                have hB_r_15 := (pC_B (M := M) (T := ((pD M 0 ((pC M 32 ((pC M 116 ((pC M 101 ((pC M 107 ((pC M 99 ((pC M 117 T).2)).2)).2)).2)).2)).2)).2)) (c := 32) (by decide) (by first | exact hT | assumption)).1
                refine z_ifeqB (b := (pC M 32 ((pD M 0 ((pC M 32 ((pC M 116 ((pC M 101 ((pC M 107 ((pC M 99 ((pC M 117 T).2)).2)).2)).2)).2)).2)).2)).1) (tgt := 85) hx hb dX2_readsBucket_70 (by decide) (fun c_70_16 => ?_) (fun c_70_16 => ?_)
                · skip
                  refine lv_iconst (v := nI 0) hx hb dX2_readsBucket_85 (by decide) ?_
                  have eM : pS M (pC M 32 ((pD M 0 ((pC M 32 ((pC M 116 ((pC M 101 ((pC M 107 ((pC M 99 ((pC M 117 T).2)).2)).2)).2)).2)).2)).2)).2 so = pS M (pL M LBu T).2 so := by simp only [LBu, pL_0, pL_1, pL_2, pL_n, if_pos c_6_2, if_neg (t_nf c_6_2), if_pos c_15_4, if_neg (t_nf c_15_4), if_pos c_24_6, if_neg (t_nf c_24_6), if_pos c_33_8, if_neg (t_nf c_33_8), if_pos c_42_10, if_neg (t_nf c_42_10), if_pos c_51_12, if_neg (t_nf c_51_12), if_pos c_61_14, if_neg (t_nf c_61_14), if_pos c_70_16, if_neg (t_nt c_70_16)]; first | done | rfl
                  rw [eM] at hH
                  exact z_zret hx hb hr hlocks hH (by first | rfl | exact z_narB _ | decide) (u := ()) (by simp only [LBu, pL_0, pL_1, pL_2, pL_n, if_pos c_6_2, if_neg (t_nf c_6_2), if_pos c_15_4, if_neg (t_nf c_15_4), if_pos c_24_6, if_neg (t_nf c_24_6), if_pos c_33_8, if_neg (t_nf c_33_8), if_pos c_42_10, if_neg (t_nf c_42_10), if_pos c_51_12, if_neg (t_nf c_51_12), if_pos c_61_14, if_neg (t_nf c_61_14), if_pos c_70_16, if_neg (t_nt c_70_16)]; first | done | rfl) ⟨hH.1, hH.2.1⟩ trivial (Nat.le_of_ble_eq_true rfl) (Nat.le_of_ble_eq_true rfl) dX2_readsBucket_86
                · skip
                  refine lv_aload_n hx hb dX2_readsBucket_73 rfl (lv_at hl 0 rfl) ?_
                  refine lv_iconst (v := nI 1) hx hb dX2_readsBucket_74 (by decide) ?_
                  refine z_ci (wr := []) (va_runV (As := [.int (nI 1)]) (rest := []) ⟨hx, hb, hml, hown, hts⟩ (metX2_readsDigit l G dA dS B0 H.size q M ((pC M 32 ((pD M 0 ((pC M 32 ((pC M 116 ((pC M 101 ((pC M 107 ((pC M 99 ((pC M 117 T).2)).2)).2)).2)).2)).2)).2)).2) so (by first | exact hi | assumption | omega) (by first | exact hT | assumption | omega) 1 (by first | exact hk | assumption | omega)) (cwV 1 hts (lw_V q2416 q2418 qs73 q91 q2419) rfl rfl rfl (by decide +kernel) ⟨Nat.le_of_ble_eq_true rfl, Nat.le_of_ble_eq_true rfl⟩) (zPV hX hH hB hAB (z_recv hX kX2 (hH.at 0 rfl)) [0, 1, 2, 3, 4, 5, 6, 7, 8] rfl rfl trivial) rfl rfl hl.1 rfl (lv_room (Nat.le_of_ble_eq_true rfl)) dX2_readsBucket_75 ⟨(Nat.le_of_ble_eq_true rfl), (Nat.le_of_ble_eq_true rfl)⟩) hH hA [0, 1, 2, 3, 4, 5, 6, 7, 8] [] rfl rfl (by decide) (by decide) (fun r_17 u_r_17 H locs hw_r_17 hH hR_r_17 hk_r_17 => ?_)
                  obtain rfl := hw_r_17
                  have hH : zH G A s.heap (mW dA q (pS M (pD M 1 ((pC M 32 ((pD M 0 ((pC M 32 ((pC M 116 ((pC M 101 ((pC M 107 ((pC M 99 ((pC M 117 T).2)).2)).2)).2)).2)).2)).2)).2)).2 so)) H locs := hH
                  have hB_r_17 := (pD_B (M := M) (T := ((pC M 32 ((pD M 0 ((pC M 32 ((pC M 116 ((pC M 101 ((pC M 107 ((pC M 99 ((pC M 117 T).2)).2)).2)).2)).2)).2)).2)).2)) (k := 1) hi (by first | exact hT | assumption)).1
                  refine z_ifeqB (b := (pD M 1 ((pC M 32 ((pD M 0 ((pC M 32 ((pC M 116 ((pC M 101 ((pC M 107 ((pC M 99 ((pC M 117 T).2)).2)).2)).2)).2)).2)).2)).2)).1) (tgt := 85) hx hb dX2_readsBucket_78 (by decide) (fun c_78_18 => ?_) (fun c_78_18 => ?_)
                  · skip
                    refine lv_iconst (v := nI 0) hx hb dX2_readsBucket_85 (by decide) ?_
                    have eM : pS M (pD M 1 ((pC M 32 ((pD M 0 ((pC M 32 ((pC M 116 ((pC M 101 ((pC M 107 ((pC M 99 ((pC M 117 T).2)).2)).2)).2)).2)).2)).2)).2)).2 so = pS M (pL M LBu T).2 so := by simp only [LBu, pL_0, pL_1, pL_2, pL_n, if_pos c_6_2, if_neg (t_nf c_6_2), if_pos c_15_4, if_neg (t_nf c_15_4), if_pos c_24_6, if_neg (t_nf c_24_6), if_pos c_33_8, if_neg (t_nf c_33_8), if_pos c_42_10, if_neg (t_nf c_42_10), if_pos c_51_12, if_neg (t_nf c_51_12), if_pos c_61_14, if_neg (t_nf c_61_14), if_pos c_70_16, if_neg (t_nf c_70_16), if_pos c_78_18, if_neg (t_nt c_78_18)]; first | done | rfl
                    rw [eM] at hH
                    exact z_zret hx hb hr hlocks hH (by first | rfl | exact z_narB _ | decide) (u := ()) (by simp only [LBu, pL_0, pL_1, pL_2, pL_n, if_pos c_6_2, if_neg (t_nf c_6_2), if_pos c_15_4, if_neg (t_nf c_15_4), if_pos c_24_6, if_neg (t_nf c_24_6), if_pos c_33_8, if_neg (t_nf c_33_8), if_pos c_42_10, if_neg (t_nf c_42_10), if_pos c_51_12, if_neg (t_nf c_51_12), if_pos c_61_14, if_neg (t_nf c_61_14), if_pos c_70_16, if_neg (t_nf c_70_16), if_pos c_78_18, if_neg (t_nt c_78_18)]; first | done | rfl) ⟨hH.1, hH.2.1⟩ trivial (Nat.le_of_ble_eq_true rfl) (Nat.le_of_ble_eq_true rfl) dX2_readsBucket_86
                  · skip
                    refine lv_iconst (v := nI 1) hx hb dX2_readsBucket_81 (by decide) ?_
                    refine lv_goto (tgt := 86) hx hb dX2_readsBucket_82 (by decide) ?_
                    have eM : pS M (pD M 1 ((pC M 32 ((pD M 0 ((pC M 32 ((pC M 116 ((pC M 101 ((pC M 107 ((pC M 99 ((pC M 117 T).2)).2)).2)).2)).2)).2)).2)).2)).2 so = pS M (pL M LBu T).2 so := by simp only [LBu, pL_0, pL_1, pL_2, pL_n, if_pos c_6_2, if_neg (t_nf c_6_2), if_pos c_15_4, if_neg (t_nf c_15_4), if_pos c_24_6, if_neg (t_nf c_24_6), if_pos c_33_8, if_neg (t_nf c_33_8), if_pos c_42_10, if_neg (t_nf c_42_10), if_pos c_51_12, if_neg (t_nf c_51_12), if_pos c_61_14, if_neg (t_nf c_61_14), if_pos c_70_16, if_neg (t_nf c_70_16), if_pos c_78_18, if_neg (t_nf c_78_18)]; first | done | rfl
                    rw [eM] at hH
                    exact z_zret hx hb hr hlocks hH (by first | rfl | exact z_narB _ | decide) (u := ()) (by simp only [LBu, pL_0, pL_1, pL_2, pL_n, if_pos c_6_2, if_neg (t_nf c_6_2), if_pos c_15_4, if_neg (t_nf c_15_4), if_pos c_24_6, if_neg (t_nf c_24_6), if_pos c_33_8, if_neg (t_nf c_33_8), if_pos c_42_10, if_neg (t_nf c_42_10), if_pos c_51_12, if_neg (t_nf c_51_12), if_pos c_61_14, if_neg (t_nf c_61_14), if_pos c_70_16, if_neg (t_nf c_70_16), if_pos c_78_18, if_neg (t_nf c_78_18)]; first | done | rfl) ⟨hH.1, hH.2.1⟩ trivial (Nat.le_of_ble_eq_true rfl) (Nat.le_of_ble_eq_true rfl) dX2_readsBucket_86
            · skip
              refine lv_iconst (v := nI 0) hx hb dX2_readsBucket_54 (by decide) ?_
              have eM : pS M (pC M 32 ((pC M 116 ((pC M 101 ((pC M 107 ((pC M 99 ((pC M 117 T).2)).2)).2)).2)).2)).2 so = pS M (pL M LBu T).2 so := by simp only [LBu, pL_0, pL_1, pL_2, pL_n, if_pos c_6_2, if_neg (t_nf c_6_2), if_pos c_15_4, if_neg (t_nf c_15_4), if_pos c_24_6, if_neg (t_nf c_24_6), if_pos c_33_8, if_neg (t_nf c_33_8), if_pos c_42_10, if_neg (t_nf c_42_10), if_pos c_51_12, if_neg (t_nt c_51_12)]; first | done | rfl
              rw [eM] at hH
              exact z_zret hx hb hr hlocks hH (by first | rfl | exact z_narB _ | decide) (u := ()) (by simp only [LBu, pL_0, pL_1, pL_2, pL_n, if_pos c_6_2, if_neg (t_nf c_6_2), if_pos c_15_4, if_neg (t_nf c_15_4), if_pos c_24_6, if_neg (t_nf c_24_6), if_pos c_33_8, if_neg (t_nf c_33_8), if_pos c_42_10, if_neg (t_nf c_42_10), if_pos c_51_12, if_neg (t_nt c_51_12)]; first | done | rfl) ⟨hH.1, hH.2.1⟩ trivial (Nat.le_of_ble_eq_true rfl) (Nat.le_of_ble_eq_true rfl) dX2_readsBucket_55

set_option maxHeartbeats 4000000 in
set_option maxRecDepth 100000 in
theorem metX2_readsP (l : Launch) (G : va_G) (dA : Nat → ClassId) (dS : Nat → Nat) (B0 sz : Nat) (q : Nat → Nat) (M : mS) (T : pT) (so : Nat) (hi : iB M) (hT : pB M T) : Met l yX2_readsP (ws_ yX2_readsP cX2_readsP 1 (some FieldType.boolean)) ({ frames := 3, cells := 0, slots := 0, locals := 64 }) (zP G dA dS B0 [.ref (q 0)] sz (mW dA q (pS M T so)) (fun H => True)) (zQi G (fun (r : Int32) (u : Unit) => r = nI (bN ((pP M T so).1))) (fun (u : Unit) => mW dA q (pS M (pP M T so).2.1 (pP M T so).2.2)) (fun (u : Unit) (H : Heap) => True) (va_A (mW dA q (pS M T so)) sz)) 0 0 (va_A (mW dA q (pS M T so)) sz) := by
  refine zM (by decide) (Nat.le_of_ble_eq_true rfl) ?_
  intro p e s m below meth c ls A H locs hHe hx hb hr hlocks hml hown hname hts hX hsz hB hAe hA hAB hH hRo hl
  have hl : lv_has ls 1 [(0, .ref (q 0))] := hl
  refine lv_aload_n hx hb dX2_readsP_0 rfl (lv_at hl 0 rfl) ?_
  refine lv_bipush (v := nI 117) hx hb dX2_readsP_1 (by decide) ?_
  refine z_ci (wr := []) (va_runV (As := [.int (nI 117)]) (rest := []) ⟨hx, hb, hml, hown, hts⟩ (metX2_reads l G dA dS B0 H.size q M T so (by first | exact hi | assumption | omega) (by first | exact hT | assumption | omega) 117) (cwV 1 hts (lw_V q2408 q2410 qs71 q91 q2411) rfl rfl rfl (by decide +kernel) ⟨Nat.le_of_ble_eq_true rfl, Nat.le_of_ble_eq_true rfl⟩) (zPV hX hH hB hAB (z_recv hX kX2 (hH.at 0 rfl)) [0, 1, 2, 3, 4, 5, 6, 7, 8] rfl rfl trivial) rfl rfl hl.1 rfl (lv_room (Nat.le_of_ble_eq_true rfl)) dX2_readsP_3 ⟨(Nat.le_of_ble_eq_true rfl), (Nat.le_of_ble_eq_true rfl)⟩) hH hA [0, 1, 2, 3, 4, 5, 6, 7, 8] [] rfl rfl (by decide) (by decide) (fun r_1 u_r_1 H locs hw_r_1 hH hR_r_1 hk_r_1 => ?_)
  obtain rfl := hw_r_1
  have hH : zH G A s.heap (mW dA q (pS M (pC M 117 T).2 so)) H locs := hH
  have hB_r_1 := (pC_B (M := M) (T := T) (c := 117) (by decide) (by first | exact hT | assumption)).1
  refine z_ifeqB (b := (pC M 117 T).1) (tgt := 50) hx hb dX2_readsP_6 (by decide) (fun c_6_2 => ?_) (fun c_6_2 => ?_)
  · skip
    refine lv_aload_n hx hb dX2_readsP_50 rfl (lv_at hl 0 rfl) ?_
    refine lv_bipush (v := nI 114) hx hb dX2_readsP_51 (by decide) ?_
    refine z_put hx hb hts hown hX kX2 21 (by decide) hH 0 rfl q2031 (fun _ h9 => h9) rfl rfl rfl (Nat.le_of_ble_eq_true rfl) dX2_readsP_53 (fun H locs hH => ?_)
    have hH : zH G A s.heap (mW dA q (pS M (pC M 117 T).2 114)) H locs := hH
    refine lv_aload_n hx hb dX2_readsP_56 rfl (lv_at hl 0 rfl) ?_
    refine lv_bipush (v := nI 114) hx hb dX2_readsP_57 (by decide) ?_
    refine z_ci (wr := []) (va_runV (As := [.int (nI 114)]) (rest := []) ⟨hx, hb, hml, hown, hts⟩ (metX2_reads l G dA dS B0 H.size q M ((pC M 117 T).2) 114 (by first | exact hi | assumption | omega) (by first | exact hT | assumption | omega) 114) (cwV 1 hts (lw_V q2408 q2410 qs71 q91 q2411) rfl rfl rfl (by decide +kernel) ⟨Nat.le_of_ble_eq_true rfl, Nat.le_of_ble_eq_true rfl⟩) (zPV hX hH hB hAB (z_recv hX kX2 (hH.at 0 rfl)) [0, 1, 2, 3, 4, 5, 6, 7, 8] rfl rfl trivial) rfl rfl hl.1 rfl (lv_room (Nat.le_of_ble_eq_true rfl)) dX2_readsP_59 ⟨(Nat.le_of_ble_eq_true rfl), (Nat.le_of_ble_eq_true rfl)⟩) hH hA [0, 1, 2, 3, 4, 5, 6, 7, 8] [] rfl rfl (by decide) (by decide) (fun r_3 u_r_3 H locs hw_r_3 hH hR_r_3 hk_r_3 => ?_)
    obtain rfl := hw_r_3
    have hH : zH G A s.heap (mW dA q (pS M (pC M 114 ((pC M 117 T).2)).2 114)) H locs := hH
    have hB_r_3 := (pC_B (M := M) (T := ((pC M 117 T).2)) (c := 114) (by decide) (by first | exact hT | assumption)).1
    refine z_ifeqB (b := (pC M 114 ((pC M 117 T).2)).1) (tgt := 113) hx hb dX2_readsP_62 (by decide) (fun c_62_4 => ?_) (fun c_62_4 => ?_)
    · skip
      refine lv_iconst (v := nI 0) hx hb dX2_readsP_113 (by decide) ?_
      have eM : pS M (pC M 114 ((pC M 117 T).2)).2 114 = pS M (pP M T so).2.1 (pP M T so).2.2 := by simp only [pP, LPu, LPr, pL_0, pL_1, pL_2, pL_n, if_pos c_6_2, if_neg (t_nt c_6_2), if_pos c_62_4, if_neg (t_nt c_62_4)]; first | done | rfl
      rw [eM] at hH
      exact z_zret hx hb hr hlocks hH (by first | rfl | exact z_narB _ | decide) (u := ()) (by simp only [pP, LPu, LPr, pL_0, pL_1, pL_2, pL_n, if_pos c_6_2, if_neg (t_nt c_6_2), if_pos c_62_4, if_neg (t_nt c_62_4)]; first | done | rfl) ⟨hH.1, hH.2.1⟩ trivial (Nat.le_of_ble_eq_true rfl) (Nat.le_of_ble_eq_true rfl) dX2_readsP_114
    · skip
      refine lv_aload_n hx hb dX2_readsP_65 rfl (lv_at hl 0 rfl) ?_
      refine lv_bipush (v := nI 105) hx hb dX2_readsP_66 (by decide) ?_
      refine z_ci (wr := []) (va_runV (As := [.int (nI 105)]) (rest := []) ⟨hx, hb, hml, hown, hts⟩ (metX2_reads l G dA dS B0 H.size q M ((pC M 114 ((pC M 117 T).2)).2) 114 (by first | exact hi | assumption | omega) (by first | exact hT | assumption | omega) 105) (cwV 1 hts (lw_V q2408 q2410 qs71 q91 q2411) rfl rfl rfl (by decide +kernel) ⟨Nat.le_of_ble_eq_true rfl, Nat.le_of_ble_eq_true rfl⟩) (zPV hX hH hB hAB (z_recv hX kX2 (hH.at 0 rfl)) [0, 1, 2, 3, 4, 5, 6, 7, 8] rfl rfl trivial) rfl rfl hl.1 rfl (lv_room (Nat.le_of_ble_eq_true rfl)) dX2_readsP_68 ⟨(Nat.le_of_ble_eq_true rfl), (Nat.le_of_ble_eq_true rfl)⟩) hH hA [0, 1, 2, 3, 4, 5, 6, 7, 8] [] rfl rfl (by decide) (by decide) (fun r_5 u_r_5 H locs hw_r_5 hH hR_r_5 hk_r_5 => ?_)
      obtain rfl := hw_r_5
      have hH : zH G A s.heap (mW dA q (pS M (pC M 105 ((pC M 114 ((pC M 117 T).2)).2)).2 114)) H locs := hH
      have hB_r_5 := (pC_B (M := M) (T := ((pC M 114 ((pC M 117 T).2)).2)) (c := 105) (by decide) (by first | exact hT | assumption)).1
      refine z_ifeqB (b := (pC M 105 ((pC M 114 ((pC M 117 T).2)).2)).1) (tgt := 113) hx hb dX2_readsP_71 (by decide) (fun c_71_6 => ?_) (fun c_71_6 => ?_)
      · skip
        refine lv_iconst (v := nI 0) hx hb dX2_readsP_113 (by decide) ?_
        have eM : pS M (pC M 105 ((pC M 114 ((pC M 117 T).2)).2)).2 114 = pS M (pP M T so).2.1 (pP M T so).2.2 := by simp only [pP, LPu, LPr, pL_0, pL_1, pL_2, pL_n, if_pos c_6_2, if_neg (t_nt c_6_2), if_pos c_62_4, if_neg (t_nf c_62_4), if_pos c_71_6, if_neg (t_nt c_71_6)]; first | done | rfl
        rw [eM] at hH
        exact z_zret hx hb hr hlocks hH (by first | rfl | exact z_narB _ | decide) (u := ()) (by simp only [pP, LPu, LPr, pL_0, pL_1, pL_2, pL_n, if_pos c_6_2, if_neg (t_nt c_6_2), if_pos c_62_4, if_neg (t_nf c_62_4), if_pos c_71_6, if_neg (t_nt c_71_6)]; first | done | rfl) ⟨hH.1, hH.2.1⟩ trivial (Nat.le_of_ble_eq_true rfl) (Nat.le_of_ble_eq_true rfl) dX2_readsP_114
      · skip
        refine lv_aload_n hx hb dX2_readsP_74 rfl (lv_at hl 0 rfl) ?_
        refine lv_bipush (v := nI 109) hx hb dX2_readsP_75 (by decide) ?_
        refine z_ci (wr := []) (va_runV (As := [.int (nI 109)]) (rest := []) ⟨hx, hb, hml, hown, hts⟩ (metX2_reads l G dA dS B0 H.size q M ((pC M 105 ((pC M 114 ((pC M 117 T).2)).2)).2) 114 (by first | exact hi | assumption | omega) (by first | exact hT | assumption | omega) 109) (cwV 1 hts (lw_V q2408 q2410 qs71 q91 q2411) rfl rfl rfl (by decide +kernel) ⟨Nat.le_of_ble_eq_true rfl, Nat.le_of_ble_eq_true rfl⟩) (zPV hX hH hB hAB (z_recv hX kX2 (hH.at 0 rfl)) [0, 1, 2, 3, 4, 5, 6, 7, 8] rfl rfl trivial) rfl rfl hl.1 rfl (lv_room (Nat.le_of_ble_eq_true rfl)) dX2_readsP_77 ⟨(Nat.le_of_ble_eq_true rfl), (Nat.le_of_ble_eq_true rfl)⟩) hH hA [0, 1, 2, 3, 4, 5, 6, 7, 8] [] rfl rfl (by decide) (by decide) (fun r_7 u_r_7 H locs hw_r_7 hH hR_r_7 hk_r_7 => ?_)
        obtain rfl := hw_r_7
        have hH : zH G A s.heap (mW dA q (pS M (pC M 109 ((pC M 105 ((pC M 114 ((pC M 117 T).2)).2)).2)).2 114)) H locs := hH
        have hB_r_7 := (pC_B (M := M) (T := ((pC M 105 ((pC M 114 ((pC M 117 T).2)).2)).2)) (c := 109) (by decide) (by first | exact hT | assumption)).1
        refine z_ifeqB (b := (pC M 109 ((pC M 105 ((pC M 114 ((pC M 117 T).2)).2)).2)).1) (tgt := 113) hx hb dX2_readsP_80 (by decide) (fun c_80_8 => ?_) (fun c_80_8 => ?_)
        · skip
          refine lv_iconst (v := nI 0) hx hb dX2_readsP_113 (by decide) ?_
          have eM : pS M (pC M 109 ((pC M 105 ((pC M 114 ((pC M 117 T).2)).2)).2)).2 114 = pS M (pP M T so).2.1 (pP M T so).2.2 := by simp only [pP, LPu, LPr, pL_0, pL_1, pL_2, pL_n, if_pos c_6_2, if_neg (t_nt c_6_2), if_pos c_62_4, if_neg (t_nf c_62_4), if_pos c_71_6, if_neg (t_nf c_71_6), if_pos c_80_8, if_neg (t_nt c_80_8)]; first | done | rfl
          rw [eM] at hH
          exact z_zret hx hb hr hlocks hH (by first | rfl | exact z_narB _ | decide) (u := ()) (by simp only [pP, LPu, LPr, pL_0, pL_1, pL_2, pL_n, if_pos c_6_2, if_neg (t_nt c_6_2), if_pos c_62_4, if_neg (t_nf c_62_4), if_pos c_71_6, if_neg (t_nf c_71_6), if_pos c_80_8, if_neg (t_nt c_80_8)]; first | done | rfl) ⟨hH.1, hH.2.1⟩ trivial (Nat.le_of_ble_eq_true rfl) (Nat.le_of_ble_eq_true rfl) dX2_readsP_114
        · skip
          refine lv_aload_n hx hb dX2_readsP_83 rfl (lv_at hl 0 rfl) ?_
          refine lv_bipush (v := nI 101) hx hb dX2_readsP_84 (by decide) ?_
          refine z_ci (wr := []) (va_runV (As := [.int (nI 101)]) (rest := []) ⟨hx, hb, hml, hown, hts⟩ (metX2_reads l G dA dS B0 H.size q M ((pC M 109 ((pC M 105 ((pC M 114 ((pC M 117 T).2)).2)).2)).2) 114 (by first | exact hi | assumption | omega) (by first | exact hT | assumption | omega) 101) (cwV 1 hts (lw_V q2408 q2410 qs71 q91 q2411) rfl rfl rfl (by decide +kernel) ⟨Nat.le_of_ble_eq_true rfl, Nat.le_of_ble_eq_true rfl⟩) (zPV hX hH hB hAB (z_recv hX kX2 (hH.at 0 rfl)) [0, 1, 2, 3, 4, 5, 6, 7, 8] rfl rfl trivial) rfl rfl hl.1 rfl (lv_room (Nat.le_of_ble_eq_true rfl)) dX2_readsP_86 ⟨(Nat.le_of_ble_eq_true rfl), (Nat.le_of_ble_eq_true rfl)⟩) hH hA [0, 1, 2, 3, 4, 5, 6, 7, 8] [] rfl rfl (by decide) (by decide) (fun r_9 u_r_9 H locs hw_r_9 hH hR_r_9 hk_r_9 => ?_)
          obtain rfl := hw_r_9
          have hH : zH G A s.heap (mW dA q (pS M (pC M 101 ((pC M 109 ((pC M 105 ((pC M 114 ((pC M 117 T).2)).2)).2)).2)).2 114)) H locs := hH
          have hB_r_9 := (pC_B (M := M) (T := ((pC M 109 ((pC M 105 ((pC M 114 ((pC M 117 T).2)).2)).2)).2)) (c := 101) (by decide) (by first | exact hT | assumption)).1
          refine z_ifeqB (b := (pC M 101 ((pC M 109 ((pC M 105 ((pC M 114 ((pC M 117 T).2)).2)).2)).2)).1) (tgt := 113) hx hb dX2_readsP_89 (by decide) (fun c_89_10 => ?_) (fun c_89_10 => ?_)
          · skip
            refine lv_iconst (v := nI 0) hx hb dX2_readsP_113 (by decide) ?_
            have eM : pS M (pC M 101 ((pC M 109 ((pC M 105 ((pC M 114 ((pC M 117 T).2)).2)).2)).2)).2 114 = pS M (pP M T so).2.1 (pP M T so).2.2 := by simp only [pP, LPu, LPr, pL_0, pL_1, pL_2, pL_n, if_pos c_6_2, if_neg (t_nt c_6_2), if_pos c_62_4, if_neg (t_nf c_62_4), if_pos c_71_6, if_neg (t_nf c_71_6), if_pos c_80_8, if_neg (t_nf c_80_8), if_pos c_89_10, if_neg (t_nt c_89_10)]; first | done | rfl
            rw [eM] at hH
            exact z_zret hx hb hr hlocks hH (by first | rfl | exact z_narB _ | decide) (u := ()) (by simp only [pP, LPu, LPr, pL_0, pL_1, pL_2, pL_n, if_pos c_6_2, if_neg (t_nt c_6_2), if_pos c_62_4, if_neg (t_nf c_62_4), if_pos c_71_6, if_neg (t_nf c_71_6), if_pos c_80_8, if_neg (t_nf c_80_8), if_pos c_89_10, if_neg (t_nt c_89_10)]; first | done | rfl) ⟨hH.1, hH.2.1⟩ trivial (Nat.le_of_ble_eq_true rfl) (Nat.le_of_ble_eq_true rfl) dX2_readsP_114
          · skip
            refine lv_aload_n hx hb dX2_readsP_92 rfl (lv_at hl 0 rfl) ?_
            refine lv_bipush (v := nI 32) hx hb dX2_readsP_93 (by decide) ?_
            refine z_ci (wr := []) (va_runV (As := [.int (nI 32)]) (rest := []) ⟨hx, hb, hml, hown, hts⟩ (metX2_reads l G dA dS B0 H.size q M ((pC M 101 ((pC M 109 ((pC M 105 ((pC M 114 ((pC M 117 T).2)).2)).2)).2)).2) 114 (by first | exact hi | assumption | omega) (by first | exact hT | assumption | omega) 32) (cwV 1 hts (lw_V q2408 q2410 qs71 q91 q2411) rfl rfl rfl (by decide +kernel) ⟨Nat.le_of_ble_eq_true rfl, Nat.le_of_ble_eq_true rfl⟩) (zPV hX hH hB hAB (z_recv hX kX2 (hH.at 0 rfl)) [0, 1, 2, 3, 4, 5, 6, 7, 8] rfl rfl trivial) rfl rfl hl.1 rfl (lv_room (Nat.le_of_ble_eq_true rfl)) dX2_readsP_95 ⟨(Nat.le_of_ble_eq_true rfl), (Nat.le_of_ble_eq_true rfl)⟩) hH hA [0, 1, 2, 3, 4, 5, 6, 7, 8] [] rfl rfl (by decide) (by decide) (fun r_11 u_r_11 H locs hw_r_11 hH hR_r_11 hk_r_11 => ?_)
            obtain rfl := hw_r_11
            have hH : zH G A s.heap (mW dA q (pS M (pC M 32 ((pC M 101 ((pC M 109 ((pC M 105 ((pC M 114 ((pC M 117 T).2)).2)).2)).2)).2)).2 114)) H locs := hH
            have hB_r_11 := (pC_B (M := M) (T := ((pC M 101 ((pC M 109 ((pC M 105 ((pC M 114 ((pC M 117 T).2)).2)).2)).2)).2)) (c := 32) (by decide) (by first | exact hT | assumption)).1
            refine z_ifeqB (b := (pC M 32 ((pC M 101 ((pC M 109 ((pC M 105 ((pC M 114 ((pC M 117 T).2)).2)).2)).2)).2)).1) (tgt := 113) hx hb dX2_readsP_98 (by decide) (fun c_98_12 => ?_) (fun c_98_12 => ?_)
            · skip
              refine lv_iconst (v := nI 0) hx hb dX2_readsP_113 (by decide) ?_
              have eM : pS M (pC M 32 ((pC M 101 ((pC M 109 ((pC M 105 ((pC M 114 ((pC M 117 T).2)).2)).2)).2)).2)).2 114 = pS M (pP M T so).2.1 (pP M T so).2.2 := by simp only [pP, LPu, LPr, pL_0, pL_1, pL_2, pL_n, if_pos c_6_2, if_neg (t_nt c_6_2), if_pos c_62_4, if_neg (t_nf c_62_4), if_pos c_71_6, if_neg (t_nf c_71_6), if_pos c_80_8, if_neg (t_nf c_80_8), if_pos c_89_10, if_neg (t_nf c_89_10), if_pos c_98_12, if_neg (t_nt c_98_12)]; first | done | rfl
              rw [eM] at hH
              exact z_zret hx hb hr hlocks hH (by first | rfl | exact z_narB _ | decide) (u := ()) (by simp only [pP, LPu, LPr, pL_0, pL_1, pL_2, pL_n, if_pos c_6_2, if_neg (t_nt c_6_2), if_pos c_62_4, if_neg (t_nf c_62_4), if_pos c_71_6, if_neg (t_nf c_71_6), if_pos c_80_8, if_neg (t_nf c_80_8), if_pos c_89_10, if_neg (t_nf c_89_10), if_pos c_98_12, if_neg (t_nt c_98_12)]; first | done | rfl) ⟨hH.1, hH.2.1⟩ trivial (Nat.le_of_ble_eq_true rfl) (Nat.le_of_ble_eq_true rfl) dX2_readsP_114
            · skip
              refine lv_aload_n hx hb dX2_readsP_101 rfl (lv_at hl 0 rfl) ?_
              refine lv_iconst (v := nI 0) hx hb dX2_readsP_102 (by decide) ?_
              refine z_ci (wr := []) (va_runV (As := [.int (nI 0)]) (rest := []) ⟨hx, hb, hml, hown, hts⟩ (metX2_readsNumber l G dA dS B0 H.size q M ((pC M 32 ((pC M 101 ((pC M 109 ((pC M 105 ((pC M 114 ((pC M 117 T).2)).2)).2)).2)).2)).2) 114 (by first | exact hi | assumption | omega) (by first | exact hT | assumption | omega) 0 (by first | exact hk | assumption | omega)) (cwV 1 hts (lw_V q2420 q2422 qs74 q91 q2423) rfl rfl rfl (by decide +kernel) ⟨Nat.le_of_ble_eq_true rfl, Nat.le_of_ble_eq_true rfl⟩) (zPV hX hH hB hAB (z_recv hX kX2 (hH.at 0 rfl)) [0, 1, 2, 3, 4, 5, 6, 7, 8] rfl rfl trivial) rfl rfl hl.1 rfl (lv_room (Nat.le_of_ble_eq_true rfl)) dX2_readsP_103 ⟨(Nat.le_of_ble_eq_true rfl), (Nat.le_of_ble_eq_true rfl)⟩) hH hA [0, 1, 2, 3, 4, 5, 6, 7, 8] [] rfl rfl (by decide) (by decide) (fun r_13 u_r_13 H locs hw_r_13 hH hR_r_13 hk_r_13 => ?_)
              obtain rfl := hw_r_13
              have hH : zH G A s.heap (mW dA q (pS M (pN M 0 ((pC M 32 ((pC M 101 ((pC M 109 ((pC M 105 ((pC M 114 ((pC M 117 T).2)).2)).2)).2)).2)).2)).2 114)) H locs := hH
              have hB_r_13 := (pN_B (M := M) (T := ((pC M 32 ((pC M 101 ((pC M 109 ((pC M 105 ((pC M 114 ((pC M 117 T).2)).2)).2)).2)).2)).2)) (k := 0) hi (by first | exact hT | assumption)).1
              refine z_ifeqB (b := (pN M 0 ((pC M 32 ((pC M 101 ((pC M 109 ((pC M 105 ((pC M 114 ((pC M 117 T).2)).2)).2)).2)).2)).2)).1) (tgt := 113) hx hb dX2_readsP_106 (by decide) (fun c_106_14 => ?_) (fun c_106_14 => ?_)
              · skip
                refine lv_iconst (v := nI 0) hx hb dX2_readsP_113 (by decide) ?_
                have eM : pS M (pN M 0 ((pC M 32 ((pC M 101 ((pC M 109 ((pC M 105 ((pC M 114 ((pC M 117 T).2)).2)).2)).2)).2)).2)).2 114 = pS M (pP M T so).2.1 (pP M T so).2.2 := by simp only [pP, LPu, LPr, pL_0, pL_1, pL_2, pL_n, if_pos c_6_2, if_neg (t_nt c_6_2), if_pos c_62_4, if_neg (t_nf c_62_4), if_pos c_71_6, if_neg (t_nf c_71_6), if_pos c_80_8, if_neg (t_nf c_80_8), if_pos c_89_10, if_neg (t_nf c_89_10), if_pos c_98_12, if_neg (t_nf c_98_12), if_pos c_106_14, if_neg (t_nt c_106_14)]; first | done | rfl
                rw [eM] at hH
                exact z_zret hx hb hr hlocks hH (by first | rfl | exact z_narB _ | decide) (u := ()) (by simp only [pP, LPu, LPr, pL_0, pL_1, pL_2, pL_n, if_pos c_6_2, if_neg (t_nt c_6_2), if_pos c_62_4, if_neg (t_nf c_62_4), if_pos c_71_6, if_neg (t_nf c_71_6), if_pos c_80_8, if_neg (t_nf c_80_8), if_pos c_89_10, if_neg (t_nf c_89_10), if_pos c_98_12, if_neg (t_nf c_98_12), if_pos c_106_14, if_neg (t_nt c_106_14)]; first | done | rfl) ⟨hH.1, hH.2.1⟩ trivial (Nat.le_of_ble_eq_true rfl) (Nat.le_of_ble_eq_true rfl) dX2_readsP_114
              · skip
                refine lv_iconst (v := nI 1) hx hb dX2_readsP_109 (by decide) ?_
                refine lv_goto (tgt := 114) hx hb dX2_readsP_110 (by decide) ?_
                have eM : pS M (pN M 0 ((pC M 32 ((pC M 101 ((pC M 109 ((pC M 105 ((pC M 114 ((pC M 117 T).2)).2)).2)).2)).2)).2)).2 114 = pS M (pP M T so).2.1 (pP M T so).2.2 := by simp only [pP, LPu, LPr, pL_0, pL_1, pL_2, pL_n, if_pos c_6_2, if_neg (t_nt c_6_2), if_pos c_62_4, if_neg (t_nf c_62_4), if_pos c_71_6, if_neg (t_nf c_71_6), if_pos c_80_8, if_neg (t_nf c_80_8), if_pos c_89_10, if_neg (t_nf c_89_10), if_pos c_98_12, if_neg (t_nf c_98_12), if_pos c_106_14, if_neg (t_nf c_106_14)]; first | done | rfl
                rw [eM] at hH
                exact z_zret hx hb hr hlocks hH (by first | rfl | exact z_narB _ | decide) (u := ()) (by simp only [pP, LPu, LPr, pL_0, pL_1, pL_2, pL_n, if_pos c_6_2, if_neg (t_nt c_6_2), if_pos c_62_4, if_neg (t_nf c_62_4), if_pos c_71_6, if_neg (t_nf c_71_6), if_pos c_80_8, if_neg (t_nf c_80_8), if_pos c_89_10, if_neg (t_nf c_89_10), if_pos c_98_12, if_neg (t_nf c_98_12), if_pos c_106_14, if_neg (t_nf c_106_14)]; first | done | rfl) ⟨hH.1, hH.2.1⟩ trivial (Nat.le_of_ble_eq_true rfl) (Nat.le_of_ble_eq_true rfl) dX2_readsP_114
  · skip
    refine lv_aload_n hx hb dX2_readsP_9 rfl (lv_at hl 0 rfl) ?_
    refine lv_bipush (v := nI 109) hx hb dX2_readsP_10 (by decide) ?_
    refine z_ci (wr := []) (va_runV (As := [.int (nI 109)]) (rest := []) ⟨hx, hb, hml, hown, hts⟩ (metX2_reads l G dA dS B0 H.size q M ((pC M 117 T).2) so (by first | exact hi | assumption | omega) (by first | exact hT | assumption | omega) 109) (cwV 1 hts (lw_V q2408 q2410 qs71 q91 q2411) rfl rfl rfl (by decide +kernel) ⟨Nat.le_of_ble_eq_true rfl, Nat.le_of_ble_eq_true rfl⟩) (zPV hX hH hB hAB (z_recv hX kX2 (hH.at 0 rfl)) [0, 1, 2, 3, 4, 5, 6, 7, 8] rfl rfl trivial) rfl rfl hl.1 rfl (lv_room (Nat.le_of_ble_eq_true rfl)) dX2_readsP_12 ⟨(Nat.le_of_ble_eq_true rfl), (Nat.le_of_ble_eq_true rfl)⟩) hH hA [0, 1, 2, 3, 4, 5, 6, 7, 8] [] rfl rfl (by decide) (by decide) (fun r_15 u_r_15 H locs hw_r_15 hH hR_r_15 hk_r_15 => ?_)
    obtain rfl := hw_r_15
    have hH : zH G A s.heap (mW dA q (pS M (pC M 109 ((pC M 117 T).2)).2 so)) H locs := hH
    have hB_r_15 := (pC_B (M := M) (T := ((pC M 117 T).2)) (c := 109) (by decide) (by first | exact hT | assumption)).1
    refine z_ifeqB (b := (pC M 109 ((pC M 117 T).2)).1) (tgt := 48) hx hb dX2_readsP_15 (by decide) (fun c_15_16 => ?_) (fun c_15_16 => ?_)
    · skip
      refine lv_iconst (v := nI 0) hx hb dX2_readsP_48 (by decide) ?_
      have eM : pS M (pC M 109 ((pC M 117 T).2)).2 so = pS M (pP M T so).2.1 (pP M T so).2.2 := by simp only [pP, LPu, LPr, pL_0, pL_1, pL_2, pL_n, if_pos c_6_2, if_neg (t_nf c_6_2), if_pos c_15_16, if_neg (t_nt c_15_16)]; first | done | rfl
      rw [eM] at hH
      exact z_zret hx hb hr hlocks hH (by first | rfl | exact z_narB _ | decide) (u := ()) (by simp only [pP, LPu, LPr, pL_0, pL_1, pL_2, pL_n, if_pos c_6_2, if_neg (t_nf c_6_2), if_pos c_15_16, if_neg (t_nt c_15_16)]; first | done | rfl) ⟨hH.1, hH.2.1⟩ trivial (Nat.le_of_ble_eq_true rfl) (Nat.le_of_ble_eq_true rfl) dX2_readsP_49
    · skip
      refine lv_aload_n hx hb dX2_readsP_18 rfl (lv_at hl 0 rfl) ?_
      refine lv_bipush (v := nI 112) hx hb dX2_readsP_19 (by decide) ?_
      refine z_ci (wr := []) (va_runV (As := [.int (nI 112)]) (rest := []) ⟨hx, hb, hml, hown, hts⟩ (metX2_reads l G dA dS B0 H.size q M ((pC M 109 ((pC M 117 T).2)).2) so (by first | exact hi | assumption | omega) (by first | exact hT | assumption | omega) 112) (cwV 1 hts (lw_V q2408 q2410 qs71 q91 q2411) rfl rfl rfl (by decide +kernel) ⟨Nat.le_of_ble_eq_true rfl, Nat.le_of_ble_eq_true rfl⟩) (zPV hX hH hB hAB (z_recv hX kX2 (hH.at 0 rfl)) [0, 1, 2, 3, 4, 5, 6, 7, 8] rfl rfl trivial) rfl rfl hl.1 rfl (lv_room (Nat.le_of_ble_eq_true rfl)) dX2_readsP_21 ⟨(Nat.le_of_ble_eq_true rfl), (Nat.le_of_ble_eq_true rfl)⟩) hH hA [0, 1, 2, 3, 4, 5, 6, 7, 8] [] rfl rfl (by decide) (by decide) (fun r_17 u_r_17 H locs hw_r_17 hH hR_r_17 hk_r_17 => ?_)
      obtain rfl := hw_r_17
      have hH : zH G A s.heap (mW dA q (pS M (pC M 112 ((pC M 109 ((pC M 117 T).2)).2)).2 so)) H locs := hH
      have hB_r_17 := (pC_B (M := M) (T := ((pC M 109 ((pC M 117 T).2)).2)) (c := 112) (by decide) (by first | exact hT | assumption)).1
      refine z_ifeqB (b := (pC M 112 ((pC M 109 ((pC M 117 T).2)).2)).1) (tgt := 48) hx hb dX2_readsP_24 (by decide) (fun c_24_18 => ?_) (fun c_24_18 => ?_)
      · skip
        refine lv_iconst (v := nI 0) hx hb dX2_readsP_48 (by decide) ?_
        have eM : pS M (pC M 112 ((pC M 109 ((pC M 117 T).2)).2)).2 so = pS M (pP M T so).2.1 (pP M T so).2.2 := by simp only [pP, LPu, LPr, pL_0, pL_1, pL_2, pL_n, if_pos c_6_2, if_neg (t_nf c_6_2), if_pos c_15_16, if_neg (t_nf c_15_16), if_pos c_24_18, if_neg (t_nt c_24_18)]; first | done | rfl
        rw [eM] at hH
        exact z_zret hx hb hr hlocks hH (by first | rfl | exact z_narB _ | decide) (u := ()) (by simp only [pP, LPu, LPr, pL_0, pL_1, pL_2, pL_n, if_pos c_6_2, if_neg (t_nf c_6_2), if_pos c_15_16, if_neg (t_nf c_15_16), if_pos c_24_18, if_neg (t_nt c_24_18)]; first | done | rfl) ⟨hH.1, hH.2.1⟩ trivial (Nat.le_of_ble_eq_true rfl) (Nat.le_of_ble_eq_true rfl) dX2_readsP_49
      · skip
        refine lv_aload_n hx hb dX2_readsP_27 rfl (lv_at hl 0 rfl) ?_
        refine lv_bipush (v := nI 32) hx hb dX2_readsP_28 (by decide) ?_
        refine z_ci (wr := []) (va_runV (As := [.int (nI 32)]) (rest := []) ⟨hx, hb, hml, hown, hts⟩ (metX2_reads l G dA dS B0 H.size q M ((pC M 112 ((pC M 109 ((pC M 117 T).2)).2)).2) so (by first | exact hi | assumption | omega) (by first | exact hT | assumption | omega) 32) (cwV 1 hts (lw_V q2408 q2410 qs71 q91 q2411) rfl rfl rfl (by decide +kernel) ⟨Nat.le_of_ble_eq_true rfl, Nat.le_of_ble_eq_true rfl⟩) (zPV hX hH hB hAB (z_recv hX kX2 (hH.at 0 rfl)) [0, 1, 2, 3, 4, 5, 6, 7, 8] rfl rfl trivial) rfl rfl hl.1 rfl (lv_room (Nat.le_of_ble_eq_true rfl)) dX2_readsP_30 ⟨(Nat.le_of_ble_eq_true rfl), (Nat.le_of_ble_eq_true rfl)⟩) hH hA [0, 1, 2, 3, 4, 5, 6, 7, 8] [] rfl rfl (by decide) (by decide) (fun r_19 u_r_19 H locs hw_r_19 hH hR_r_19 hk_r_19 => ?_)
        obtain rfl := hw_r_19
        have hH : zH G A s.heap (mW dA q (pS M (pC M 32 ((pC M 112 ((pC M 109 ((pC M 117 T).2)).2)).2)).2 so)) H locs := hH
        have hB_r_19 := (pC_B (M := M) (T := ((pC M 112 ((pC M 109 ((pC M 117 T).2)).2)).2)) (c := 32) (by decide) (by first | exact hT | assumption)).1
        refine z_ifeqB (b := (pC M 32 ((pC M 112 ((pC M 109 ((pC M 117 T).2)).2)).2)).1) (tgt := 48) hx hb dX2_readsP_33 (by decide) (fun c_33_20 => ?_) (fun c_33_20 => ?_)
        · skip
          refine lv_iconst (v := nI 0) hx hb dX2_readsP_48 (by decide) ?_
          have eM : pS M (pC M 32 ((pC M 112 ((pC M 109 ((pC M 117 T).2)).2)).2)).2 so = pS M (pP M T so).2.1 (pP M T so).2.2 := by simp only [pP, LPu, LPr, pL_0, pL_1, pL_2, pL_n, if_pos c_6_2, if_neg (t_nf c_6_2), if_pos c_15_16, if_neg (t_nf c_15_16), if_pos c_24_18, if_neg (t_nf c_24_18), if_pos c_33_20, if_neg (t_nt c_33_20)]; first | done | rfl
          rw [eM] at hH
          exact z_zret hx hb hr hlocks hH (by first | rfl | exact z_narB _ | decide) (u := ()) (by simp only [pP, LPu, LPr, pL_0, pL_1, pL_2, pL_n, if_pos c_6_2, if_neg (t_nf c_6_2), if_pos c_15_16, if_neg (t_nf c_15_16), if_pos c_24_18, if_neg (t_nf c_24_18), if_pos c_33_20, if_neg (t_nt c_33_20)]; first | done | rfl) ⟨hH.1, hH.2.1⟩ trivial (Nat.le_of_ble_eq_true rfl) (Nat.le_of_ble_eq_true rfl) dX2_readsP_49
        · skip
          refine lv_aload_n hx hb dX2_readsP_36 rfl (lv_at hl 0 rfl) ?_
          refine lv_iconst (v := nI 0) hx hb dX2_readsP_37 (by decide) ?_
          refine z_ci (wr := []) (va_runV (As := [.int (nI 0)]) (rest := []) ⟨hx, hb, hml, hown, hts⟩ (metX2_readsDigit l G dA dS B0 H.size q M ((pC M 32 ((pC M 112 ((pC M 109 ((pC M 117 T).2)).2)).2)).2) so (by first | exact hi | assumption | omega) (by first | exact hT | assumption | omega) 0 (by first | exact hk | assumption | omega)) (cwV 1 hts (lw_V q2416 q2418 qs73 q91 q2419) rfl rfl rfl (by decide +kernel) ⟨Nat.le_of_ble_eq_true rfl, Nat.le_of_ble_eq_true rfl⟩) (zPV hX hH hB hAB (z_recv hX kX2 (hH.at 0 rfl)) [0, 1, 2, 3, 4, 5, 6, 7, 8] rfl rfl trivial) rfl rfl hl.1 rfl (lv_room (Nat.le_of_ble_eq_true rfl)) dX2_readsP_38 ⟨(Nat.le_of_ble_eq_true rfl), (Nat.le_of_ble_eq_true rfl)⟩) hH hA [0, 1, 2, 3, 4, 5, 6, 7, 8] [] rfl rfl (by decide) (by decide) (fun r_21 u_r_21 H locs hw_r_21 hH hR_r_21 hk_r_21 => ?_)
          obtain rfl := hw_r_21
          have hH : zH G A s.heap (mW dA q (pS M (pD M 0 ((pC M 32 ((pC M 112 ((pC M 109 ((pC M 117 T).2)).2)).2)).2)).2 so)) H locs := hH
          have hB_r_21 := (pD_B (M := M) (T := ((pC M 32 ((pC M 112 ((pC M 109 ((pC M 117 T).2)).2)).2)).2)) (k := 0) hi (by first | exact hT | assumption)).1
          refine z_ifeqB (b := (pD M 0 ((pC M 32 ((pC M 112 ((pC M 109 ((pC M 117 T).2)).2)).2)).2)).1) (tgt := 48) hx hb dX2_readsP_41 (by decide) (fun c_41_22 => ?_) (fun c_41_22 => ?_)
          · skip
            refine lv_iconst (v := nI 0) hx hb dX2_readsP_48 (by decide) ?_
            have eM : pS M (pD M 0 ((pC M 32 ((pC M 112 ((pC M 109 ((pC M 117 T).2)).2)).2)).2)).2 so = pS M (pP M T so).2.1 (pP M T so).2.2 := by simp only [pP, LPu, LPr, pL_0, pL_1, pL_2, pL_n, if_pos c_6_2, if_neg (t_nf c_6_2), if_pos c_15_16, if_neg (t_nf c_15_16), if_pos c_24_18, if_neg (t_nf c_24_18), if_pos c_33_20, if_neg (t_nf c_33_20), if_pos c_41_22, if_neg (t_nt c_41_22)]; first | done | rfl
            rw [eM] at hH
            exact z_zret hx hb hr hlocks hH (by first | rfl | exact z_narB _ | decide) (u := ()) (by simp only [pP, LPu, LPr, pL_0, pL_1, pL_2, pL_n, if_pos c_6_2, if_neg (t_nf c_6_2), if_pos c_15_16, if_neg (t_nf c_15_16), if_pos c_24_18, if_neg (t_nf c_24_18), if_pos c_33_20, if_neg (t_nf c_33_20), if_pos c_41_22, if_neg (t_nt c_41_22)]; first | done | rfl) ⟨hH.1, hH.2.1⟩ trivial (Nat.le_of_ble_eq_true rfl) (Nat.le_of_ble_eq_true rfl) dX2_readsP_49
          · skip
            refine lv_iconst (v := nI 1) hx hb dX2_readsP_44 (by decide) ?_
            refine lv_goto (tgt := 49) hx hb dX2_readsP_45 (by decide) ?_
            have eM : pS M (pD M 0 ((pC M 32 ((pC M 112 ((pC M 109 ((pC M 117 T).2)).2)).2)).2)).2 so = pS M (pP M T so).2.1 (pP M T so).2.2 := by simp only [pP, LPu, LPr, pL_0, pL_1, pL_2, pL_n, if_pos c_6_2, if_neg (t_nf c_6_2), if_pos c_15_16, if_neg (t_nf c_15_16), if_pos c_24_18, if_neg (t_nf c_24_18), if_pos c_33_20, if_neg (t_nf c_33_20), if_pos c_41_22, if_neg (t_nf c_41_22)]; first | done | rfl
            rw [eM] at hH
            exact z_zret hx hb hr hlocks hH (by first | rfl | exact z_narB _ | decide) (u := ()) (by simp only [pP, LPu, LPr, pL_0, pL_1, pL_2, pL_n, if_pos c_6_2, if_neg (t_nf c_6_2), if_pos c_15_16, if_neg (t_nf c_15_16), if_pos c_24_18, if_neg (t_nf c_24_18), if_pos c_33_20, if_neg (t_nf c_33_20), if_pos c_41_22, if_neg (t_nf c_41_22)]; first | done | rfl) ⟨hH.1, hH.2.1⟩ trivial (Nat.le_of_ble_eq_true rfl) (Nat.le_of_ble_eq_true rfl) dX2_readsP_49

set_option maxHeartbeats 4000000 in
set_option maxRecDepth 100000 in
theorem metX2_readsD (l : Launch) (G : va_G) (dA : Nat → ClassId) (dS : Nat → Nat) (B0 sz : Nat) (q : Nat → Nat) (M : mS) (T : pT) (so : Nat) (hi : iB M) (hT : pB M T) : Met l yX2_readsD (ws_ yX2_readsD cX2_readsD 1 (some FieldType.boolean)) ({ frames := 3, cells := 0, slots := 0, locals := 64 }) (zP G dA dS B0 [.ref (q 0)] sz (mW dA q (pS M T so)) (fun H => True)) (zQi G (fun (r : Int32) (u : Unit) => r = nI (bN ((pDr M T so).1))) (fun (u : Unit) => mW dA q (pS M (pDr M T so).2.1 (pDr M T so).2.2)) (fun (u : Unit) (H : Heap) => True) (va_A (mW dA q (pS M T so)) sz)) 0 0 (va_A (mW dA q (pS M T so)) sz) := by
  refine zM (by decide) (Nat.le_of_ble_eq_true rfl) ?_
  intro p e s m below meth c ls A H locs hHe hx hb hr hlocks hml hown hname hts hX hsz hB hAe hA hAB hH hRo hl
  have hl : lv_has ls 1 [(0, .ref (q 0))] := hl
  refine lv_aload_n hx hb dX2_readsD_0 rfl (lv_at hl 0 rfl) ?_
  refine lv_bipush (v := nI 114) hx hb dX2_readsD_1 (by decide) ?_
  refine z_ci (wr := []) (va_runV (As := [.int (nI 114)]) (rest := []) ⟨hx, hb, hml, hown, hts⟩ (metX2_reads l G dA dS B0 H.size q M T so (by first | exact hi | assumption | omega) (by first | exact hT | assumption | omega) 114) (cwV 1 hts (lw_V q2408 q2410 qs71 q91 q2411) rfl rfl rfl (by decide +kernel) ⟨Nat.le_of_ble_eq_true rfl, Nat.le_of_ble_eq_true rfl⟩) (zPV hX hH hB hAB (z_recv hX kX2 (hH.at 0 rfl)) [0, 1, 2, 3, 4, 5, 6, 7, 8] rfl rfl trivial) rfl rfl hl.1 rfl (lv_room (Nat.le_of_ble_eq_true rfl)) dX2_readsD_3 ⟨(Nat.le_of_ble_eq_true rfl), (Nat.le_of_ble_eq_true rfl)⟩) hH hA [0, 1, 2, 3, 4, 5, 6, 7, 8] [] rfl rfl (by decide) (by decide) (fun r_1 u_r_1 H locs hw_r_1 hH hR_r_1 hk_r_1 => ?_)
  obtain rfl := hw_r_1
  have hH : zH G A s.heap (mW dA q (pS M (pC M 114 T).2 so)) H locs := hH
  have hB_r_1 := (pC_B (M := M) (T := T) (c := 114) (by decide) (by first | exact hT | assumption)).1
  refine z_ifneB (b := (pC M 114 T).1) (tgt := 11) hx hb dX2_readsD_6 (by decide) (fun c_6_2 => ?_) (fun c_6_2 => ?_)
  · skip
    refine lv_aload_n hx hb dX2_readsD_11 rfl (lv_at hl 0 rfl) ?_
    refine lv_bipush (v := nI 97) hx hb dX2_readsD_12 (by decide) ?_
    refine z_ci (wr := []) (va_runV (As := [.int (nI 97)]) (rest := []) ⟨hx, hb, hml, hown, hts⟩ (metX2_reads l G dA dS B0 H.size q M ((pC M 114 T).2) so (by first | exact hi | assumption | omega) (by first | exact hT | assumption | omega) 97) (cwV 1 hts (lw_V q2408 q2410 qs71 q91 q2411) rfl rfl rfl (by decide +kernel) ⟨Nat.le_of_ble_eq_true rfl, Nat.le_of_ble_eq_true rfl⟩) (zPV hX hH hB hAB (z_recv hX kX2 (hH.at 0 rfl)) [0, 1, 2, 3, 4, 5, 6, 7, 8] rfl rfl trivial) rfl rfl hl.1 rfl (lv_room (Nat.le_of_ble_eq_true rfl)) dX2_readsD_14 ⟨(Nat.le_of_ble_eq_true rfl), (Nat.le_of_ble_eq_true rfl)⟩) hH hA [0, 1, 2, 3, 4, 5, 6, 7, 8] [] rfl rfl (by decide) (by decide) (fun r_3 u_r_3 H locs hw_r_3 hH hR_r_3 hk_r_3 => ?_)
    obtain rfl := hw_r_3
    have hH : zH G A s.heap (mW dA q (pS M (pC M 97 ((pC M 114 T).2)).2 so)) H locs := hH
    have hB_r_3 := (pC_B (M := M) (T := ((pC M 114 T).2)) (c := 97) (by decide) (by first | exact hT | assumption)).1
    refine z_ifeqB (b := (pC M 97 ((pC M 114 T).2)).1) (tgt := 61) hx hb dX2_readsD_17 (by decide) (fun c_17_4 => ?_) (fun c_17_4 => ?_)
    · skip
      refine lv_aload_n hx hb dX2_readsD_61 rfl (lv_at hl 0 rfl) ?_
      refine lv_bipush (v := nI 111) hx hb dX2_readsD_62 (by decide) ?_
      refine z_put hx hb hts hown hX kX2 21 (by decide) hH 0 rfl q2031 (fun _ h9 => h9) rfl rfl rfl (Nat.le_of_ble_eq_true rfl) dX2_readsD_64 (fun H locs hH => ?_)
      have hH : zH G A s.heap (mW dA q (pS M (pC M 97 ((pC M 114 T).2)).2 111)) H locs := hH
      refine lv_aload_n hx hb dX2_readsD_67 rfl (lv_at hl 0 rfl) ?_
      refine lv_bipush (v := nI 111) hx hb dX2_readsD_68 (by decide) ?_
      refine z_ci (wr := []) (va_runV (As := [.int (nI 111)]) (rest := []) ⟨hx, hb, hml, hown, hts⟩ (metX2_reads l G dA dS B0 H.size q M ((pC M 97 ((pC M 114 T).2)).2) 111 (by first | exact hi | assumption | omega) (by first | exact hT | assumption | omega) 111) (cwV 1 hts (lw_V q2408 q2410 qs71 q91 q2411) rfl rfl rfl (by decide +kernel) ⟨Nat.le_of_ble_eq_true rfl, Nat.le_of_ble_eq_true rfl⟩) (zPV hX hH hB hAB (z_recv hX kX2 (hH.at 0 rfl)) [0, 1, 2, 3, 4, 5, 6, 7, 8] rfl rfl trivial) rfl rfl hl.1 rfl (lv_room (Nat.le_of_ble_eq_true rfl)) dX2_readsD_70 ⟨(Nat.le_of_ble_eq_true rfl), (Nat.le_of_ble_eq_true rfl)⟩) hH hA [0, 1, 2, 3, 4, 5, 6, 7, 8] [] rfl rfl (by decide) (by decide) (fun r_5 u_r_5 H locs hw_r_5 hH hR_r_5 hk_r_5 => ?_)
      obtain rfl := hw_r_5
      have hH : zH G A s.heap (mW dA q (pS M (pC M 111 ((pC M 97 ((pC M 114 T).2)).2)).2 111)) H locs := hH
      have hB_r_5 := (pC_B (M := M) (T := ((pC M 97 ((pC M 114 T).2)).2)) (c := 111) (by decide) (by first | exact hT | assumption)).1
      refine z_ifeqB (b := (pC M 111 ((pC M 97 ((pC M 114 T).2)).2)).1) (tgt := 106) hx hb dX2_readsD_73 (by decide) (fun c_73_6 => ?_) (fun c_73_6 => ?_)
      · skip
        refine lv_iconst (v := nI 0) hx hb dX2_readsD_106 (by decide) ?_
        have eM : pS M (pC M 111 ((pC M 97 ((pC M 114 T).2)).2)).2 111 = pS M (pDr M T so).2.1 (pDr M T so).2.2 := by simp only [pDr, LDa, LDo, pL_0, pL_1, pL_2, pL_n, if_pos c_6_2, if_neg (t_nf c_6_2), if_pos c_17_4, if_neg (t_nt c_17_4), if_pos c_73_6, if_neg (t_nt c_73_6)]; first | done | rfl
        rw [eM] at hH
        exact z_zret hx hb hr hlocks hH (by first | rfl | exact z_narB _ | decide) (u := ()) (by simp only [pDr, LDa, LDo, pL_0, pL_1, pL_2, pL_n, if_pos c_6_2, if_neg (t_nf c_6_2), if_pos c_17_4, if_neg (t_nt c_17_4), if_pos c_73_6, if_neg (t_nt c_73_6)]; first | done | rfl) ⟨hH.1, hH.2.1⟩ trivial (Nat.le_of_ble_eq_true rfl) (Nat.le_of_ble_eq_true rfl) dX2_readsD_107
      · skip
        refine lv_aload_n hx hb dX2_readsD_76 rfl (lv_at hl 0 rfl) ?_
        refine lv_bipush (v := nI 112) hx hb dX2_readsD_77 (by decide) ?_
        refine z_ci (wr := []) (va_runV (As := [.int (nI 112)]) (rest := []) ⟨hx, hb, hml, hown, hts⟩ (metX2_reads l G dA dS B0 H.size q M ((pC M 111 ((pC M 97 ((pC M 114 T).2)).2)).2) 111 (by first | exact hi | assumption | omega) (by first | exact hT | assumption | omega) 112) (cwV 1 hts (lw_V q2408 q2410 qs71 q91 q2411) rfl rfl rfl (by decide +kernel) ⟨Nat.le_of_ble_eq_true rfl, Nat.le_of_ble_eq_true rfl⟩) (zPV hX hH hB hAB (z_recv hX kX2 (hH.at 0 rfl)) [0, 1, 2, 3, 4, 5, 6, 7, 8] rfl rfl trivial) rfl rfl hl.1 rfl (lv_room (Nat.le_of_ble_eq_true rfl)) dX2_readsD_79 ⟨(Nat.le_of_ble_eq_true rfl), (Nat.le_of_ble_eq_true rfl)⟩) hH hA [0, 1, 2, 3, 4, 5, 6, 7, 8] [] rfl rfl (by decide) (by decide) (fun r_7 u_r_7 H locs hw_r_7 hH hR_r_7 hk_r_7 => ?_)
        obtain rfl := hw_r_7
        have hH : zH G A s.heap (mW dA q (pS M (pC M 112 ((pC M 111 ((pC M 97 ((pC M 114 T).2)).2)).2)).2 111)) H locs := hH
        have hB_r_7 := (pC_B (M := M) (T := ((pC M 111 ((pC M 97 ((pC M 114 T).2)).2)).2)) (c := 112) (by decide) (by first | exact hT | assumption)).1
        refine z_ifeqB (b := (pC M 112 ((pC M 111 ((pC M 97 ((pC M 114 T).2)).2)).2)).1) (tgt := 106) hx hb dX2_readsD_82 (by decide) (fun c_82_8 => ?_) (fun c_82_8 => ?_)
        · skip
          refine lv_iconst (v := nI 0) hx hb dX2_readsD_106 (by decide) ?_
          have eM : pS M (pC M 112 ((pC M 111 ((pC M 97 ((pC M 114 T).2)).2)).2)).2 111 = pS M (pDr M T so).2.1 (pDr M T so).2.2 := by simp only [pDr, LDa, LDo, pL_0, pL_1, pL_2, pL_n, if_pos c_6_2, if_neg (t_nf c_6_2), if_pos c_17_4, if_neg (t_nt c_17_4), if_pos c_73_6, if_neg (t_nf c_73_6), if_pos c_82_8, if_neg (t_nt c_82_8)]; first | done | rfl
          rw [eM] at hH
          exact z_zret hx hb hr hlocks hH (by first | rfl | exact z_narB _ | decide) (u := ()) (by simp only [pDr, LDa, LDo, pL_0, pL_1, pL_2, pL_n, if_pos c_6_2, if_neg (t_nf c_6_2), if_pos c_17_4, if_neg (t_nt c_17_4), if_pos c_73_6, if_neg (t_nf c_73_6), if_pos c_82_8, if_neg (t_nt c_82_8)]; first | done | rfl) ⟨hH.1, hH.2.1⟩ trivial (Nat.le_of_ble_eq_true rfl) (Nat.le_of_ble_eq_true rfl) dX2_readsD_107
        · skip
          refine lv_aload_n hx hb dX2_readsD_85 rfl (lv_at hl 0 rfl) ?_
          refine lv_bipush (v := nI 32) hx hb dX2_readsD_86 (by decide) ?_
          refine z_ci (wr := []) (va_runV (As := [.int (nI 32)]) (rest := []) ⟨hx, hb, hml, hown, hts⟩ (metX2_reads l G dA dS B0 H.size q M ((pC M 112 ((pC M 111 ((pC M 97 ((pC M 114 T).2)).2)).2)).2) 111 (by first | exact hi | assumption | omega) (by first | exact hT | assumption | omega) 32) (cwV 1 hts (lw_V q2408 q2410 qs71 q91 q2411) rfl rfl rfl (by decide +kernel) ⟨Nat.le_of_ble_eq_true rfl, Nat.le_of_ble_eq_true rfl⟩) (zPV hX hH hB hAB (z_recv hX kX2 (hH.at 0 rfl)) [0, 1, 2, 3, 4, 5, 6, 7, 8] rfl rfl trivial) rfl rfl hl.1 rfl (lv_room (Nat.le_of_ble_eq_true rfl)) dX2_readsD_88 ⟨(Nat.le_of_ble_eq_true rfl), (Nat.le_of_ble_eq_true rfl)⟩) hH hA [0, 1, 2, 3, 4, 5, 6, 7, 8] [] rfl rfl (by decide) (by decide) (fun r_9 u_r_9 H locs hw_r_9 hH hR_r_9 hk_r_9 => ?_)
          obtain rfl := hw_r_9
          have hH : zH G A s.heap (mW dA q (pS M (pC M 32 ((pC M 112 ((pC M 111 ((pC M 97 ((pC M 114 T).2)).2)).2)).2)).2 111)) H locs := hH
          have hB_r_9 := (pC_B (M := M) (T := ((pC M 112 ((pC M 111 ((pC M 97 ((pC M 114 T).2)).2)).2)).2)) (c := 32) (by decide) (by first | exact hT | assumption)).1
          refine z_ifeqB (b := (pC M 32 ((pC M 112 ((pC M 111 ((pC M 97 ((pC M 114 T).2)).2)).2)).2)).1) (tgt := 106) hx hb dX2_readsD_91 (by decide) (fun c_91_10 => ?_) (fun c_91_10 => ?_)
          · skip
            refine lv_iconst (v := nI 0) hx hb dX2_readsD_106 (by decide) ?_
            have eM : pS M (pC M 32 ((pC M 112 ((pC M 111 ((pC M 97 ((pC M 114 T).2)).2)).2)).2)).2 111 = pS M (pDr M T so).2.1 (pDr M T so).2.2 := by simp only [pDr, LDa, LDo, pL_0, pL_1, pL_2, pL_n, if_pos c_6_2, if_neg (t_nf c_6_2), if_pos c_17_4, if_neg (t_nt c_17_4), if_pos c_73_6, if_neg (t_nf c_73_6), if_pos c_82_8, if_neg (t_nf c_82_8), if_pos c_91_10, if_neg (t_nt c_91_10)]; first | done | rfl
            rw [eM] at hH
            exact z_zret hx hb hr hlocks hH (by first | rfl | exact z_narB _ | decide) (u := ()) (by simp only [pDr, LDa, LDo, pL_0, pL_1, pL_2, pL_n, if_pos c_6_2, if_neg (t_nf c_6_2), if_pos c_17_4, if_neg (t_nt c_17_4), if_pos c_73_6, if_neg (t_nf c_73_6), if_pos c_82_8, if_neg (t_nf c_82_8), if_pos c_91_10, if_neg (t_nt c_91_10)]; first | done | rfl) ⟨hH.1, hH.2.1⟩ trivial (Nat.le_of_ble_eq_true rfl) (Nat.le_of_ble_eq_true rfl) dX2_readsD_107
          · skip
            refine lv_aload_n hx hb dX2_readsD_94 rfl (lv_at hl 0 rfl) ?_
            refine lv_iconst (v := nI 0) hx hb dX2_readsD_95 (by decide) ?_
            refine z_ci (wr := []) (va_runV (As := [.int (nI 0)]) (rest := []) ⟨hx, hb, hml, hown, hts⟩ (metX2_readsNumber l G dA dS B0 H.size q M ((pC M 32 ((pC M 112 ((pC M 111 ((pC M 97 ((pC M 114 T).2)).2)).2)).2)).2) 111 (by first | exact hi | assumption | omega) (by first | exact hT | assumption | omega) 0 (by first | exact hk | assumption | omega)) (cwV 1 hts (lw_V q2420 q2422 qs74 q91 q2423) rfl rfl rfl (by decide +kernel) ⟨Nat.le_of_ble_eq_true rfl, Nat.le_of_ble_eq_true rfl⟩) (zPV hX hH hB hAB (z_recv hX kX2 (hH.at 0 rfl)) [0, 1, 2, 3, 4, 5, 6, 7, 8] rfl rfl trivial) rfl rfl hl.1 rfl (lv_room (Nat.le_of_ble_eq_true rfl)) dX2_readsD_96 ⟨(Nat.le_of_ble_eq_true rfl), (Nat.le_of_ble_eq_true rfl)⟩) hH hA [0, 1, 2, 3, 4, 5, 6, 7, 8] [] rfl rfl (by decide) (by decide) (fun r_11 u_r_11 H locs hw_r_11 hH hR_r_11 hk_r_11 => ?_)
            obtain rfl := hw_r_11
            have hH : zH G A s.heap (mW dA q (pS M (pN M 0 ((pC M 32 ((pC M 112 ((pC M 111 ((pC M 97 ((pC M 114 T).2)).2)).2)).2)).2)).2 111)) H locs := hH
            have hB_r_11 := (pN_B (M := M) (T := ((pC M 32 ((pC M 112 ((pC M 111 ((pC M 97 ((pC M 114 T).2)).2)).2)).2)).2)) (k := 0) hi (by first | exact hT | assumption)).1
            refine z_ifeqB (b := (pN M 0 ((pC M 32 ((pC M 112 ((pC M 111 ((pC M 97 ((pC M 114 T).2)).2)).2)).2)).2)).1) (tgt := 106) hx hb dX2_readsD_99 (by decide) (fun c_99_12 => ?_) (fun c_99_12 => ?_)
            · skip
              refine lv_iconst (v := nI 0) hx hb dX2_readsD_106 (by decide) ?_
              have eM : pS M (pN M 0 ((pC M 32 ((pC M 112 ((pC M 111 ((pC M 97 ((pC M 114 T).2)).2)).2)).2)).2)).2 111 = pS M (pDr M T so).2.1 (pDr M T so).2.2 := by simp only [pDr, LDa, LDo, pL_0, pL_1, pL_2, pL_n, if_pos c_6_2, if_neg (t_nf c_6_2), if_pos c_17_4, if_neg (t_nt c_17_4), if_pos c_73_6, if_neg (t_nf c_73_6), if_pos c_82_8, if_neg (t_nf c_82_8), if_pos c_91_10, if_neg (t_nf c_91_10), if_pos c_99_12, if_neg (t_nt c_99_12)]; first | done | rfl
              rw [eM] at hH
              exact z_zret hx hb hr hlocks hH (by first | rfl | exact z_narB _ | decide) (u := ()) (by simp only [pDr, LDa, LDo, pL_0, pL_1, pL_2, pL_n, if_pos c_6_2, if_neg (t_nf c_6_2), if_pos c_17_4, if_neg (t_nt c_17_4), if_pos c_73_6, if_neg (t_nf c_73_6), if_pos c_82_8, if_neg (t_nf c_82_8), if_pos c_91_10, if_neg (t_nf c_91_10), if_pos c_99_12, if_neg (t_nt c_99_12)]; first | done | rfl) ⟨hH.1, hH.2.1⟩ trivial (Nat.le_of_ble_eq_true rfl) (Nat.le_of_ble_eq_true rfl) dX2_readsD_107
            · skip
              refine lv_iconst (v := nI 1) hx hb dX2_readsD_102 (by decide) ?_
              refine lv_goto (tgt := 107) hx hb dX2_readsD_103 (by decide) ?_
              have eM : pS M (pN M 0 ((pC M 32 ((pC M 112 ((pC M 111 ((pC M 97 ((pC M 114 T).2)).2)).2)).2)).2)).2 111 = pS M (pDr M T so).2.1 (pDr M T so).2.2 := by simp only [pDr, LDa, LDo, pL_0, pL_1, pL_2, pL_n, if_pos c_6_2, if_neg (t_nf c_6_2), if_pos c_17_4, if_neg (t_nt c_17_4), if_pos c_73_6, if_neg (t_nf c_73_6), if_pos c_82_8, if_neg (t_nf c_82_8), if_pos c_91_10, if_neg (t_nf c_91_10), if_pos c_99_12, if_neg (t_nf c_99_12)]; first | done | rfl
              rw [eM] at hH
              exact z_zret hx hb hr hlocks hH (by first | rfl | exact z_narB _ | decide) (u := ()) (by simp only [pDr, LDa, LDo, pL_0, pL_1, pL_2, pL_n, if_pos c_6_2, if_neg (t_nf c_6_2), if_pos c_17_4, if_neg (t_nt c_17_4), if_pos c_73_6, if_neg (t_nf c_73_6), if_pos c_82_8, if_neg (t_nf c_82_8), if_pos c_91_10, if_neg (t_nf c_91_10), if_pos c_99_12, if_neg (t_nf c_99_12)]; first | done | rfl) ⟨hH.1, hH.2.1⟩ trivial (Nat.le_of_ble_eq_true rfl) (Nat.le_of_ble_eq_true rfl) dX2_readsD_107
    · skip
      refine lv_aload_n hx hb dX2_readsD_20 rfl (lv_at hl 0 rfl) ?_
      refine lv_bipush (v := nI 105) hx hb dX2_readsD_21 (by decide) ?_
      refine z_ci (wr := []) (va_runV (As := [.int (nI 105)]) (rest := []) ⟨hx, hb, hml, hown, hts⟩ (metX2_reads l G dA dS B0 H.size q M ((pC M 97 ((pC M 114 T).2)).2) so (by first | exact hi | assumption | omega) (by first | exact hT | assumption | omega) 105) (cwV 1 hts (lw_V q2408 q2410 qs71 q91 q2411) rfl rfl rfl (by decide +kernel) ⟨Nat.le_of_ble_eq_true rfl, Nat.le_of_ble_eq_true rfl⟩) (zPV hX hH hB hAB (z_recv hX kX2 (hH.at 0 rfl)) [0, 1, 2, 3, 4, 5, 6, 7, 8] rfl rfl trivial) rfl rfl hl.1 rfl (lv_room (Nat.le_of_ble_eq_true rfl)) dX2_readsD_23 ⟨(Nat.le_of_ble_eq_true rfl), (Nat.le_of_ble_eq_true rfl)⟩) hH hA [0, 1, 2, 3, 4, 5, 6, 7, 8] [] rfl rfl (by decide) (by decide) (fun r_13 u_r_13 H locs hw_r_13 hH hR_r_13 hk_r_13 => ?_)
      obtain rfl := hw_r_13
      have hH : zH G A s.heap (mW dA q (pS M (pC M 105 ((pC M 97 ((pC M 114 T).2)).2)).2 so)) H locs := hH
      have hB_r_13 := (pC_B (M := M) (T := ((pC M 97 ((pC M 114 T).2)).2)) (c := 105) (by decide) (by first | exact hT | assumption)).1
      refine z_ifeqB (b := (pC M 105 ((pC M 97 ((pC M 114 T).2)).2)).1) (tgt := 59) hx hb dX2_readsD_26 (by decide) (fun c_26_14 => ?_) (fun c_26_14 => ?_)
      · skip
        refine lv_iconst (v := nI 0) hx hb dX2_readsD_59 (by decide) ?_
        have eM : pS M (pC M 105 ((pC M 97 ((pC M 114 T).2)).2)).2 so = pS M (pDr M T so).2.1 (pDr M T so).2.2 := by simp only [pDr, LDa, LDo, pL_0, pL_1, pL_2, pL_n, if_pos c_6_2, if_neg (t_nf c_6_2), if_pos c_17_4, if_neg (t_nf c_17_4), if_pos c_26_14, if_neg (t_nt c_26_14)]; first | done | rfl
        rw [eM] at hH
        exact z_zret hx hb hr hlocks hH (by first | rfl | exact z_narB _ | decide) (u := ()) (by simp only [pDr, LDa, LDo, pL_0, pL_1, pL_2, pL_n, if_pos c_6_2, if_neg (t_nf c_6_2), if_pos c_17_4, if_neg (t_nf c_17_4), if_pos c_26_14, if_neg (t_nt c_26_14)]; first | done | rfl) ⟨hH.1, hH.2.1⟩ trivial (Nat.le_of_ble_eq_true rfl) (Nat.le_of_ble_eq_true rfl) dX2_readsD_60
      · skip
        refine lv_aload_n hx hb dX2_readsD_29 rfl (lv_at hl 0 rfl) ?_
        refine lv_bipush (v := nI 110) hx hb dX2_readsD_30 (by decide) ?_
        refine z_ci (wr := []) (va_runV (As := [.int (nI 110)]) (rest := []) ⟨hx, hb, hml, hown, hts⟩ (metX2_reads l G dA dS B0 H.size q M ((pC M 105 ((pC M 97 ((pC M 114 T).2)).2)).2) so (by first | exact hi | assumption | omega) (by first | exact hT | assumption | omega) 110) (cwV 1 hts (lw_V q2408 q2410 qs71 q91 q2411) rfl rfl rfl (by decide +kernel) ⟨Nat.le_of_ble_eq_true rfl, Nat.le_of_ble_eq_true rfl⟩) (zPV hX hH hB hAB (z_recv hX kX2 (hH.at 0 rfl)) [0, 1, 2, 3, 4, 5, 6, 7, 8] rfl rfl trivial) rfl rfl hl.1 rfl (lv_room (Nat.le_of_ble_eq_true rfl)) dX2_readsD_32 ⟨(Nat.le_of_ble_eq_true rfl), (Nat.le_of_ble_eq_true rfl)⟩) hH hA [0, 1, 2, 3, 4, 5, 6, 7, 8] [] rfl rfl (by decide) (by decide) (fun r_15 u_r_15 H locs hw_r_15 hH hR_r_15 hk_r_15 => ?_)
        obtain rfl := hw_r_15
        have hH : zH G A s.heap (mW dA q (pS M (pC M 110 ((pC M 105 ((pC M 97 ((pC M 114 T).2)).2)).2)).2 so)) H locs := hH
        have hB_r_15 := (pC_B (M := M) (T := ((pC M 105 ((pC M 97 ((pC M 114 T).2)).2)).2)) (c := 110) (by decide) (by first | exact hT | assumption)).1
        refine z_ifeqB (b := (pC M 110 ((pC M 105 ((pC M 97 ((pC M 114 T).2)).2)).2)).1) (tgt := 59) hx hb dX2_readsD_35 (by decide) (fun c_35_16 => ?_) (fun c_35_16 => ?_)
        · skip
          refine lv_iconst (v := nI 0) hx hb dX2_readsD_59 (by decide) ?_
          have eM : pS M (pC M 110 ((pC M 105 ((pC M 97 ((pC M 114 T).2)).2)).2)).2 so = pS M (pDr M T so).2.1 (pDr M T so).2.2 := by simp only [pDr, LDa, LDo, pL_0, pL_1, pL_2, pL_n, if_pos c_6_2, if_neg (t_nf c_6_2), if_pos c_17_4, if_neg (t_nf c_17_4), if_pos c_26_14, if_neg (t_nf c_26_14), if_pos c_35_16, if_neg (t_nt c_35_16)]; first | done | rfl
          rw [eM] at hH
          exact z_zret hx hb hr hlocks hH (by first | rfl | exact z_narB _ | decide) (u := ()) (by simp only [pDr, LDa, LDo, pL_0, pL_1, pL_2, pL_n, if_pos c_6_2, if_neg (t_nf c_6_2), if_pos c_17_4, if_neg (t_nf c_17_4), if_pos c_26_14, if_neg (t_nf c_26_14), if_pos c_35_16, if_neg (t_nt c_35_16)]; first | done | rfl) ⟨hH.1, hH.2.1⟩ trivial (Nat.le_of_ble_eq_true rfl) (Nat.le_of_ble_eq_true rfl) dX2_readsD_60
        · skip
          refine lv_aload_n hx hb dX2_readsD_38 rfl (lv_at hl 0 rfl) ?_
          refine lv_bipush (v := nI 32) hx hb dX2_readsD_39 (by decide) ?_
          refine z_ci (wr := []) (va_runV (As := [.int (nI 32)]) (rest := []) ⟨hx, hb, hml, hown, hts⟩ (metX2_reads l G dA dS B0 H.size q M ((pC M 110 ((pC M 105 ((pC M 97 ((pC M 114 T).2)).2)).2)).2) so (by first | exact hi | assumption | omega) (by first | exact hT | assumption | omega) 32) (cwV 1 hts (lw_V q2408 q2410 qs71 q91 q2411) rfl rfl rfl (by decide +kernel) ⟨Nat.le_of_ble_eq_true rfl, Nat.le_of_ble_eq_true rfl⟩) (zPV hX hH hB hAB (z_recv hX kX2 (hH.at 0 rfl)) [0, 1, 2, 3, 4, 5, 6, 7, 8] rfl rfl trivial) rfl rfl hl.1 rfl (lv_room (Nat.le_of_ble_eq_true rfl)) dX2_readsD_41 ⟨(Nat.le_of_ble_eq_true rfl), (Nat.le_of_ble_eq_true rfl)⟩) hH hA [0, 1, 2, 3, 4, 5, 6, 7, 8] [] rfl rfl (by decide) (by decide) (fun r_17 u_r_17 H locs hw_r_17 hH hR_r_17 hk_r_17 => ?_)
          obtain rfl := hw_r_17
          have hH : zH G A s.heap (mW dA q (pS M (pC M 32 ((pC M 110 ((pC M 105 ((pC M 97 ((pC M 114 T).2)).2)).2)).2)).2 so)) H locs := hH
          have hB_r_17 := (pC_B (M := M) (T := ((pC M 110 ((pC M 105 ((pC M 97 ((pC M 114 T).2)).2)).2)).2)) (c := 32) (by decide) (by first | exact hT | assumption)).1
          refine z_ifeqB (b := (pC M 32 ((pC M 110 ((pC M 105 ((pC M 97 ((pC M 114 T).2)).2)).2)).2)).1) (tgt := 59) hx hb dX2_readsD_44 (by decide) (fun c_44_18 => ?_) (fun c_44_18 => ?_)
          · skip
            refine lv_iconst (v := nI 0) hx hb dX2_readsD_59 (by decide) ?_
            have eM : pS M (pC M 32 ((pC M 110 ((pC M 105 ((pC M 97 ((pC M 114 T).2)).2)).2)).2)).2 so = pS M (pDr M T so).2.1 (pDr M T so).2.2 := by simp only [pDr, LDa, LDo, pL_0, pL_1, pL_2, pL_n, if_pos c_6_2, if_neg (t_nf c_6_2), if_pos c_17_4, if_neg (t_nf c_17_4), if_pos c_26_14, if_neg (t_nf c_26_14), if_pos c_35_16, if_neg (t_nf c_35_16), if_pos c_44_18, if_neg (t_nt c_44_18)]; first | done | rfl
            rw [eM] at hH
            exact z_zret hx hb hr hlocks hH (by first | rfl | exact z_narB _ | decide) (u := ()) (by simp only [pDr, LDa, LDo, pL_0, pL_1, pL_2, pL_n, if_pos c_6_2, if_neg (t_nf c_6_2), if_pos c_17_4, if_neg (t_nf c_17_4), if_pos c_26_14, if_neg (t_nf c_26_14), if_pos c_35_16, if_neg (t_nf c_35_16), if_pos c_44_18, if_neg (t_nt c_44_18)]; first | done | rfl) ⟨hH.1, hH.2.1⟩ trivial (Nat.le_of_ble_eq_true rfl) (Nat.le_of_ble_eq_true rfl) dX2_readsD_60
          · skip
            refine lv_aload_n hx hb dX2_readsD_47 rfl (lv_at hl 0 rfl) ?_
            refine lv_iconst (v := nI 0) hx hb dX2_readsD_48 (by decide) ?_
            refine z_ci (wr := []) (va_runV (As := [.int (nI 0)]) (rest := []) ⟨hx, hb, hml, hown, hts⟩ (metX2_readsNumber l G dA dS B0 H.size q M ((pC M 32 ((pC M 110 ((pC M 105 ((pC M 97 ((pC M 114 T).2)).2)).2)).2)).2) so (by first | exact hi | assumption | omega) (by first | exact hT | assumption | omega) 0 (by first | exact hk | assumption | omega)) (cwV 1 hts (lw_V q2420 q2422 qs74 q91 q2423) rfl rfl rfl (by decide +kernel) ⟨Nat.le_of_ble_eq_true rfl, Nat.le_of_ble_eq_true rfl⟩) (zPV hX hH hB hAB (z_recv hX kX2 (hH.at 0 rfl)) [0, 1, 2, 3, 4, 5, 6, 7, 8] rfl rfl trivial) rfl rfl hl.1 rfl (lv_room (Nat.le_of_ble_eq_true rfl)) dX2_readsD_49 ⟨(Nat.le_of_ble_eq_true rfl), (Nat.le_of_ble_eq_true rfl)⟩) hH hA [0, 1, 2, 3, 4, 5, 6, 7, 8] [] rfl rfl (by decide) (by decide) (fun r_19 u_r_19 H locs hw_r_19 hH hR_r_19 hk_r_19 => ?_)
            obtain rfl := hw_r_19
            have hH : zH G A s.heap (mW dA q (pS M (pN M 0 ((pC M 32 ((pC M 110 ((pC M 105 ((pC M 97 ((pC M 114 T).2)).2)).2)).2)).2)).2 so)) H locs := hH
            have hB_r_19 := (pN_B (M := M) (T := ((pC M 32 ((pC M 110 ((pC M 105 ((pC M 97 ((pC M 114 T).2)).2)).2)).2)).2)) (k := 0) hi (by first | exact hT | assumption)).1
            refine z_ifeqB (b := (pN M 0 ((pC M 32 ((pC M 110 ((pC M 105 ((pC M 97 ((pC M 114 T).2)).2)).2)).2)).2)).1) (tgt := 59) hx hb dX2_readsD_52 (by decide) (fun c_52_20 => ?_) (fun c_52_20 => ?_)
            · skip
              refine lv_iconst (v := nI 0) hx hb dX2_readsD_59 (by decide) ?_
              have eM : pS M (pN M 0 ((pC M 32 ((pC M 110 ((pC M 105 ((pC M 97 ((pC M 114 T).2)).2)).2)).2)).2)).2 so = pS M (pDr M T so).2.1 (pDr M T so).2.2 := by simp only [pDr, LDa, LDo, pL_0, pL_1, pL_2, pL_n, if_pos c_6_2, if_neg (t_nf c_6_2), if_pos c_17_4, if_neg (t_nf c_17_4), if_pos c_26_14, if_neg (t_nf c_26_14), if_pos c_35_16, if_neg (t_nf c_35_16), if_pos c_44_18, if_neg (t_nf c_44_18), if_pos c_52_20, if_neg (t_nt c_52_20)]; first | done | rfl
              rw [eM] at hH
              exact z_zret hx hb hr hlocks hH (by first | rfl | exact z_narB _ | decide) (u := ()) (by simp only [pDr, LDa, LDo, pL_0, pL_1, pL_2, pL_n, if_pos c_6_2, if_neg (t_nf c_6_2), if_pos c_17_4, if_neg (t_nf c_17_4), if_pos c_26_14, if_neg (t_nf c_26_14), if_pos c_35_16, if_neg (t_nf c_35_16), if_pos c_44_18, if_neg (t_nf c_44_18), if_pos c_52_20, if_neg (t_nt c_52_20)]; first | done | rfl) ⟨hH.1, hH.2.1⟩ trivial (Nat.le_of_ble_eq_true rfl) (Nat.le_of_ble_eq_true rfl) dX2_readsD_60
            · skip
              refine lv_iconst (v := nI 1) hx hb dX2_readsD_55 (by decide) ?_
              refine lv_goto (tgt := 60) hx hb dX2_readsD_56 (by decide) ?_
              have eM : pS M (pN M 0 ((pC M 32 ((pC M 110 ((pC M 105 ((pC M 97 ((pC M 114 T).2)).2)).2)).2)).2)).2 so = pS M (pDr M T so).2.1 (pDr M T so).2.2 := by simp only [pDr, LDa, LDo, pL_0, pL_1, pL_2, pL_n, if_pos c_6_2, if_neg (t_nf c_6_2), if_pos c_17_4, if_neg (t_nf c_17_4), if_pos c_26_14, if_neg (t_nf c_26_14), if_pos c_35_16, if_neg (t_nf c_35_16), if_pos c_44_18, if_neg (t_nf c_44_18), if_pos c_52_20, if_neg (t_nf c_52_20)]; first | done | rfl
              rw [eM] at hH
              exact z_zret hx hb hr hlocks hH (by first | rfl | exact z_narB _ | decide) (u := ()) (by simp only [pDr, LDa, LDo, pL_0, pL_1, pL_2, pL_n, if_pos c_6_2, if_neg (t_nf c_6_2), if_pos c_17_4, if_neg (t_nf c_17_4), if_pos c_26_14, if_neg (t_nf c_26_14), if_pos c_35_16, if_neg (t_nf c_35_16), if_pos c_44_18, if_neg (t_nf c_44_18), if_pos c_52_20, if_neg (t_nf c_52_20)]; first | done | rfl) ⟨hH.1, hH.2.1⟩ trivial (Nat.le_of_ble_eq_true rfl) (Nat.le_of_ble_eq_true rfl) dX2_readsD_60
  · skip
    refine lv_iconst (v := nI 0) hx hb dX2_readsD_9 (by decide) ?_
    have eM : pS M (pC M 114 T).2 so = pS M (pDr M T so).2.1 (pDr M T so).2.2 := by simp only [pDr, LDa, LDo, pL_0, pL_1, pL_2, pL_n, if_pos c_6_2, if_neg (t_nt c_6_2)]; first | done | rfl
    rw [eM] at hH
    exact z_zret hx hb hr hlocks hH (by first | rfl | exact z_narB _ | decide) (u := ()) (by simp only [pDr, LDa, LDo, pL_0, pL_1, pL_2, pL_n, if_pos c_6_2, if_neg (t_nt c_6_2)]; first | done | rfl) ⟨hH.1, hH.2.1⟩ trivial (Nat.le_of_ble_eq_true rfl) (Nat.le_of_ble_eq_true rfl) dX2_readsD_10

set_option maxHeartbeats 4000000 in
set_option maxRecDepth 100000 in
theorem metX2_readsCommand (l : Launch) (G : va_G) (dA : Nat → ClassId) (dS : Nat → Nat) (B0 sz : Nat) (q : Nat → Nat) (M : mS) (T : pT) (so : Nat) (hi : iB M) (hT : pB M T) : Met l yX2_readsCommand (ws_ yX2_readsCommand cX2_readsCommand 1 (some FieldType.boolean)) ({ frames := 4, cells := 0, slots := 0, locals := 84 }) (zP G dA dS B0 [.ref (q 0)] sz (mW dA q (pS M T so)) (fun H => True)) (zQi G (fun (r : Int32) (u : Unit) => r = nI (bN ((pCmd M T).1))) (fun (u : Unit) => mW dA q (pS M (pCmd M T).2.1 (pCmd M T).2.2)) (fun (u : Unit) (H : Heap) => True) (va_A (mW dA q (pS M T so)) sz)) 0 0 (va_A (mW dA q (pS M T so)) sz) := by
  refine zM (by decide) (Nat.le_of_ble_eq_true rfl) ?_
  intro p e s m below meth c ls A H locs hHe hx hb hr hlocks hml hown hname hts hX hsz hB hAe hA hAB hH hRo hl
  have hl : lv_has ls 1 [(0, .ref (q 0))] := hl
  refine lv_aload_n hx hb dX2_readsCommand_0 rfl (lv_at hl 0 rfl) ?_
  refine lv_aload_n hx hb dX2_readsCommand_1 rfl (lv_at hl 0 rfl) ?_
  refine z_ci (wr := []) (va_runV (As := []) (rest := [.ref (q 0)]) ⟨hx, hb, hml, hown, hts⟩ (metX2_nextSign l G dA dS B0 H.size q M T so (by first | exact hi | assumption | omega) (by first | exact hT | assumption | omega)) (cwV 0 hts (lw_V q2404 q2406 qs70 q91 q2407) rfl rfl rfl (by decide +kernel) ⟨Nat.le_of_ble_eq_true rfl, Nat.le_of_ble_eq_true rfl⟩) (zPV hX hH hB hAB (z_recv hX kX2 (hH.at 0 rfl)) [0, 1, 2, 3, 4, 5, 6, 7, 8] rfl rfl trivial) rfl rfl hl.1 rfl (lv_room (Nat.le_of_ble_eq_true rfl)) dX2_readsCommand_2 ⟨(Nat.le_of_ble_eq_true rfl), (Nat.le_of_ble_eq_true rfl)⟩) hH hA [0, 1, 2, 3, 4, 5, 6, 7, 8] [] rfl rfl (by decide) (by decide) (fun r_1 u_r_1 H locs hw_r_1 hH hR_r_1 hk_r_1 => ?_)
  obtain rfl := hw_r_1
  have hH : zH G A s.heap (mW dA q (pS M T so)) H locs := hH
  refine z_put hx hb hts hown hX kX2 21 (by decide) hH 0 rfl q2031 (fun _ h9 => h9) rfl rfl rfl (Nat.le_of_ble_eq_true rfl) dX2_readsCommand_5 (fun H locs hH => ?_)
  have hH : zH G A s.heap (mW dA q (pS M T (nx M T.1))) H locs := hH
  refine lv_aload_n hx hb dX2_readsCommand_8 rfl (lv_at hl 0 rfl) ?_
  refine lv_bipush (v := nI 106) hx hb dX2_readsCommand_9 (by decide) ?_
  refine z_ci (wr := []) (va_runV (As := [.int (nI 106)]) (rest := []) ⟨hx, hb, hml, hown, hts⟩ (metX2_reads l G dA dS B0 H.size q M T (nx M T.1) (by first | exact hi | assumption | omega) (by first | exact hT | assumption | omega) 106) (cwV 1 hts (lw_V q2408 q2410 qs71 q91 q2411) rfl rfl rfl (by decide +kernel) ⟨Nat.le_of_ble_eq_true rfl, Nat.le_of_ble_eq_true rfl⟩) (zPV hX hH hB hAB (z_recv hX kX2 (hH.at 0 rfl)) [0, 1, 2, 3, 4, 5, 6, 7, 8] rfl rfl trivial) rfl rfl hl.1 rfl (lv_room (Nat.le_of_ble_eq_true rfl)) dX2_readsCommand_11 ⟨(Nat.le_of_ble_eq_true rfl), (Nat.le_of_ble_eq_true rfl)⟩) hH hA [0, 1, 2, 3, 4, 5, 6, 7, 8] [] rfl rfl (by decide) (by decide) (fun r_2 u_r_2 H locs hw_r_2 hH hR_r_2 hk_r_2 => ?_)
  obtain rfl := hw_r_2
  have hH : zH G A s.heap (mW dA q (pS M (pC M 106 T).2 (nx M T.1))) H locs := hH
  have hB_r_2 := (pC_B (M := M) (T := T) (c := 106) (by decide) (by first | exact hT | assumption)).1
  refine z_ifeqB (b := (pC M 106 T).1) (tgt := 22) hx hb dX2_readsCommand_14 (by decide) (fun c_14_3 => ?_) (fun c_14_3 => ?_)
  · skip
    refine lv_aload_n hx hb dX2_readsCommand_22 rfl (lv_at hl 0 rfl) ?_
    refine lv_bipush (v := nI 112) hx hb dX2_readsCommand_23 (by decide) ?_
    refine z_ci (wr := []) (va_runV (As := [.int (nI 112)]) (rest := []) ⟨hx, hb, hml, hown, hts⟩ (metX2_reads l G dA dS B0 H.size q M ((pC M 106 T).2) (nx M T.1) (by first | exact hi | assumption | omega) (by first | exact hT | assumption | omega) 112) (cwV 1 hts (lw_V q2408 q2410 qs71 q91 q2411) rfl rfl rfl (by decide +kernel) ⟨Nat.le_of_ble_eq_true rfl, Nat.le_of_ble_eq_true rfl⟩) (zPV hX hH hB hAB (z_recv hX kX2 (hH.at 0 rfl)) [0, 1, 2, 3, 4, 5, 6, 7, 8] rfl rfl trivial) rfl rfl hl.1 rfl (lv_room (Nat.le_of_ble_eq_true rfl)) dX2_readsCommand_25 ⟨(Nat.le_of_ble_eq_true rfl), (Nat.le_of_ble_eq_true rfl)⟩) hH hA [0, 1, 2, 3, 4, 5, 6, 7, 8] [] rfl rfl (by decide) (by decide) (fun r_4 u_r_4 H locs hw_r_4 hH hR_r_4 hk_r_4 => ?_)
    obtain rfl := hw_r_4
    have hH : zH G A s.heap (mW dA q (pS M (pC M 112 ((pC M 106 T).2)).2 (nx M T.1))) H locs := hH
    have hB_r_4 := (pC_B (M := M) (T := ((pC M 106 T).2)) (c := 112) (by decide) (by first | exact hT | assumption)).1
    refine z_ifeqB (b := (pC M 112 ((pC M 106 T).2)).1) (tgt := 36) hx hb dX2_readsCommand_28 (by decide) (fun c_28_5 => ?_) (fun c_28_5 => ?_)
    · skip
      refine lv_aload_n hx hb dX2_readsCommand_36 rfl (lv_at hl 0 rfl) ?_
      refine lv_bipush (v := nI 100) hx hb dX2_readsCommand_37 (by decide) ?_
      refine z_ci (wr := []) (va_runV (As := [.int (nI 100)]) (rest := []) ⟨hx, hb, hml, hown, hts⟩ (metX2_reads l G dA dS B0 H.size q M ((pC M 112 ((pC M 106 T).2)).2) (nx M T.1) (by first | exact hi | assumption | omega) (by first | exact hT | assumption | omega) 100) (cwV 1 hts (lw_V q2408 q2410 qs71 q91 q2411) rfl rfl rfl (by decide +kernel) ⟨Nat.le_of_ble_eq_true rfl, Nat.le_of_ble_eq_true rfl⟩) (zPV hX hH hB hAB (z_recv hX kX2 (hH.at 0 rfl)) [0, 1, 2, 3, 4, 5, 6, 7, 8] rfl rfl trivial) rfl rfl hl.1 rfl (lv_room (Nat.le_of_ble_eq_true rfl)) dX2_readsCommand_39 ⟨(Nat.le_of_ble_eq_true rfl), (Nat.le_of_ble_eq_true rfl)⟩) hH hA [0, 1, 2, 3, 4, 5, 6, 7, 8] [] rfl rfl (by decide) (by decide) (fun r_6 u_r_6 H locs hw_r_6 hH hR_r_6 hk_r_6 => ?_)
      obtain rfl := hw_r_6
      have hH : zH G A s.heap (mW dA q (pS M (pC M 100 ((pC M 112 ((pC M 106 T).2)).2)).2 (nx M T.1))) H locs := hH
      have hB_r_6 := (pC_B (M := M) (T := ((pC M 112 ((pC M 106 T).2)).2)) (c := 100) (by decide) (by first | exact hT | assumption)).1
      refine z_ifeqB (b := (pC M 100 ((pC M 112 ((pC M 106 T).2)).2)).1) (tgt := 50) hx hb dX2_readsCommand_42 (by decide) (fun c_42_7 => ?_) (fun c_42_7 => ?_)
      · skip
        refine lv_aload_n hx hb dX2_readsCommand_50 rfl (lv_at hl 0 rfl) ?_
        refine lv_bipush (v := nI 115) hx hb dX2_readsCommand_51 (by decide) ?_
        refine z_ci (wr := []) (va_runV (As := [.int (nI 115)]) (rest := []) ⟨hx, hb, hml, hown, hts⟩ (metX2_reads l G dA dS B0 H.size q M ((pC M 100 ((pC M 112 ((pC M 106 T).2)).2)).2) (nx M T.1) (by first | exact hi | assumption | omega) (by first | exact hT | assumption | omega) 115) (cwV 1 hts (lw_V q2408 q2410 qs71 q91 q2411) rfl rfl rfl (by decide +kernel) ⟨Nat.le_of_ble_eq_true rfl, Nat.le_of_ble_eq_true rfl⟩) (zPV hX hH hB hAB (z_recv hX kX2 (hH.at 0 rfl)) [0, 1, 2, 3, 4, 5, 6, 7, 8] rfl rfl trivial) rfl rfl hl.1 rfl (lv_room (Nat.le_of_ble_eq_true rfl)) dX2_readsCommand_53 ⟨(Nat.le_of_ble_eq_true rfl), (Nat.le_of_ble_eq_true rfl)⟩) hH hA [0, 1, 2, 3, 4, 5, 6, 7, 8] [] rfl rfl (by decide) (by decide) (fun r_8 u_r_8 H locs hw_r_8 hH hR_r_8 hk_r_8 => ?_)
        obtain rfl := hw_r_8
        have hH : zH G A s.heap (mW dA q (pS M (pC M 115 ((pC M 100 ((pC M 112 ((pC M 106 T).2)).2)).2)).2 (nx M T.1))) H locs := hH
        have hB_r_8 := (pC_B (M := M) (T := ((pC M 100 ((pC M 112 ((pC M 106 T).2)).2)).2)) (c := 115) (by decide) (by first | exact hT | assumption)).1
        refine z_ifeqB (b := (pC M 115 ((pC M 100 ((pC M 112 ((pC M 106 T).2)).2)).2)).1) (tgt := 64) hx hb dX2_readsCommand_56 (by decide) (fun c_56_9 => ?_) (fun c_56_9 => ?_)
        · skip
          refine lv_aload_n hx hb dX2_readsCommand_64 rfl (lv_at hl 0 rfl) ?_
          refine lv_bipush (v := nI 98) hx hb dX2_readsCommand_65 (by decide) ?_
          refine z_ci (wr := []) (va_runV (As := [.int (nI 98)]) (rest := []) ⟨hx, hb, hml, hown, hts⟩ (metX2_reads l G dA dS B0 H.size q M ((pC M 115 ((pC M 100 ((pC M 112 ((pC M 106 T).2)).2)).2)).2) (nx M T.1) (by first | exact hi | assumption | omega) (by first | exact hT | assumption | omega) 98) (cwV 1 hts (lw_V q2408 q2410 qs71 q91 q2411) rfl rfl rfl (by decide +kernel) ⟨Nat.le_of_ble_eq_true rfl, Nat.le_of_ble_eq_true rfl⟩) (zPV hX hH hB hAB (z_recv hX kX2 (hH.at 0 rfl)) [0, 1, 2, 3, 4, 5, 6, 7, 8] rfl rfl trivial) rfl rfl hl.1 rfl (lv_room (Nat.le_of_ble_eq_true rfl)) dX2_readsCommand_67 ⟨(Nat.le_of_ble_eq_true rfl), (Nat.le_of_ble_eq_true rfl)⟩) hH hA [0, 1, 2, 3, 4, 5, 6, 7, 8] [] rfl rfl (by decide) (by decide) (fun r_10 u_r_10 H locs hw_r_10 hH hR_r_10 hk_r_10 => ?_)
          obtain rfl := hw_r_10
          have hH : zH G A s.heap (mW dA q (pS M (pC M 98 ((pC M 115 ((pC M 100 ((pC M 112 ((pC M 106 T).2)).2)).2)).2)).2 (nx M T.1))) H locs := hH
          have hB_r_10 := (pC_B (M := M) (T := ((pC M 115 ((pC M 100 ((pC M 112 ((pC M 106 T).2)).2)).2)).2)) (c := 98) (by decide) (by first | exact hT | assumption)).1
          refine z_ifeqB (b := (pC M 98 ((pC M 115 ((pC M 100 ((pC M 112 ((pC M 106 T).2)).2)).2)).2)).1) (tgt := 78) hx hb dX2_readsCommand_70 (by decide) (fun c_70_11 => ?_) (fun c_70_11 => ?_)
          · skip
            refine lv_aload_n hx hb dX2_readsCommand_78 rfl (lv_at hl 0 rfl) ?_
            refine lv_bipush (v := nI 103) hx hb dX2_readsCommand_79 (by decide) ?_
            refine z_ci (wr := []) (va_runV (As := [.int (nI 103)]) (rest := []) ⟨hx, hb, hml, hown, hts⟩ (metX2_reads l G dA dS B0 H.size q M ((pC M 98 ((pC M 115 ((pC M 100 ((pC M 112 ((pC M 106 T).2)).2)).2)).2)).2) (nx M T.1) (by first | exact hi | assumption | omega) (by first | exact hT | assumption | omega) 103) (cwV 1 hts (lw_V q2408 q2410 qs71 q91 q2411) rfl rfl rfl (by decide +kernel) ⟨Nat.le_of_ble_eq_true rfl, Nat.le_of_ble_eq_true rfl⟩) (zPV hX hH hB hAB (z_recv hX kX2 (hH.at 0 rfl)) [0, 1, 2, 3, 4, 5, 6, 7, 8] rfl rfl trivial) rfl rfl hl.1 rfl (lv_room (Nat.le_of_ble_eq_true rfl)) dX2_readsCommand_81 ⟨(Nat.le_of_ble_eq_true rfl), (Nat.le_of_ble_eq_true rfl)⟩) hH hA [0, 1, 2, 3, 4, 5, 6, 7, 8] [] rfl rfl (by decide) (by decide) (fun r_12 u_r_12 H locs hw_r_12 hH hR_r_12 hk_r_12 => ?_)
            obtain rfl := hw_r_12
            have hH : zH G A s.heap (mW dA q (pS M (pC M 103 ((pC M 98 ((pC M 115 ((pC M 100 ((pC M 112 ((pC M 106 T).2)).2)).2)).2)).2)).2 (nx M T.1))) H locs := hH
            have hB_r_12 := (pC_B (M := M) (T := ((pC M 98 ((pC M 115 ((pC M 100 ((pC M 112 ((pC M 106 T).2)).2)).2)).2)).2)) (c := 103) (by decide) (by first | exact hT | assumption)).1
            refine z_ifeqB (b := (pC M 103 ((pC M 98 ((pC M 115 ((pC M 100 ((pC M 112 ((pC M 106 T).2)).2)).2)).2)).2)).1) (tgt := 117) hx hb dX2_readsCommand_84 (by decide) (fun c_84_13 => ?_) (fun c_84_13 => ?_)
            · skip
              refine lv_iconst (v := nI 0) hx hb dX2_readsCommand_117 (by decide) ?_
              have eM : pS M (pC M 103 ((pC M 98 ((pC M 115 ((pC M 100 ((pC M 112 ((pC M 106 T).2)).2)).2)).2)).2)).2 (nx M T.1) = pS M (pCmd M T).2.1 (pCmd M T).2.2 := by simp only [pCmd, LGo, pL_0, pL_1, pL_2, pL_n, if_pos c_14_3, if_neg (t_nt c_14_3), if_pos c_28_5, if_neg (t_nt c_28_5), if_pos c_42_7, if_neg (t_nt c_42_7), if_pos c_56_9, if_neg (t_nt c_56_9), if_pos c_70_11, if_neg (t_nt c_70_11), if_pos c_84_13, if_neg (t_nt c_84_13)]; first | done | rfl
              rw [eM] at hH
              exact z_zret hx hb hr hlocks hH (by first | rfl | exact z_narB _ | decide) (u := ()) (by simp only [pCmd, LGo, pL_0, pL_1, pL_2, pL_n, if_pos c_14_3, if_neg (t_nt c_14_3), if_pos c_28_5, if_neg (t_nt c_28_5), if_pos c_42_7, if_neg (t_nt c_42_7), if_pos c_56_9, if_neg (t_nt c_56_9), if_pos c_70_11, if_neg (t_nt c_70_11), if_pos c_84_13, if_neg (t_nt c_84_13)]; first | done | rfl) ⟨hH.1, hH.2.1⟩ trivial (Nat.le_of_ble_eq_true rfl) (Nat.le_of_ble_eq_true rfl) dX2_readsCommand_118
            · skip
              refine lv_aload_n hx hb dX2_readsCommand_87 rfl (lv_at hl 0 rfl) ?_
              refine lv_bipush (v := nI 111) hx hb dX2_readsCommand_88 (by decide) ?_
              refine z_ci (wr := []) (va_runV (As := [.int (nI 111)]) (rest := []) ⟨hx, hb, hml, hown, hts⟩ (metX2_reads l G dA dS B0 H.size q M ((pC M 103 ((pC M 98 ((pC M 115 ((pC M 100 ((pC M 112 ((pC M 106 T).2)).2)).2)).2)).2)).2) (nx M T.1) (by first | exact hi | assumption | omega) (by first | exact hT | assumption | omega) 111) (cwV 1 hts (lw_V q2408 q2410 qs71 q91 q2411) rfl rfl rfl (by decide +kernel) ⟨Nat.le_of_ble_eq_true rfl, Nat.le_of_ble_eq_true rfl⟩) (zPV hX hH hB hAB (z_recv hX kX2 (hH.at 0 rfl)) [0, 1, 2, 3, 4, 5, 6, 7, 8] rfl rfl trivial) rfl rfl hl.1 rfl (lv_room (Nat.le_of_ble_eq_true rfl)) dX2_readsCommand_90 ⟨(Nat.le_of_ble_eq_true rfl), (Nat.le_of_ble_eq_true rfl)⟩) hH hA [0, 1, 2, 3, 4, 5, 6, 7, 8] [] rfl rfl (by decide) (by decide) (fun r_14 u_r_14 H locs hw_r_14 hH hR_r_14 hk_r_14 => ?_)
              obtain rfl := hw_r_14
              have hH : zH G A s.heap (mW dA q (pS M (pC M 111 ((pC M 103 ((pC M 98 ((pC M 115 ((pC M 100 ((pC M 112 ((pC M 106 T).2)).2)).2)).2)).2)).2)).2 (nx M T.1))) H locs := hH
              have hB_r_14 := (pC_B (M := M) (T := ((pC M 103 ((pC M 98 ((pC M 115 ((pC M 100 ((pC M 112 ((pC M 106 T).2)).2)).2)).2)).2)).2)) (c := 111) (by decide) (by first | exact hT | assumption)).1
              refine z_ifeqB (b := (pC M 111 ((pC M 103 ((pC M 98 ((pC M 115 ((pC M 100 ((pC M 112 ((pC M 106 T).2)).2)).2)).2)).2)).2)).1) (tgt := 117) hx hb dX2_readsCommand_93 (by decide) (fun c_93_15 => ?_) (fun c_93_15 => ?_)
              · skip
                refine lv_iconst (v := nI 0) hx hb dX2_readsCommand_117 (by decide) ?_
                have eM : pS M (pC M 111 ((pC M 103 ((pC M 98 ((pC M 115 ((pC M 100 ((pC M 112 ((pC M 106 T).2)).2)).2)).2)).2)).2)).2 (nx M T.1) = pS M (pCmd M T).2.1 (pCmd M T).2.2 := by simp only [pCmd, LGo, pL_0, pL_1, pL_2, pL_n, if_pos c_14_3, if_neg (t_nt c_14_3), if_pos c_28_5, if_neg (t_nt c_28_5), if_pos c_42_7, if_neg (t_nt c_42_7), if_pos c_56_9, if_neg (t_nt c_56_9), if_pos c_70_11, if_neg (t_nt c_70_11), if_pos c_84_13, if_neg (t_nf c_84_13), if_pos c_93_15, if_neg (t_nt c_93_15)]; first | done | rfl
                rw [eM] at hH
                exact z_zret hx hb hr hlocks hH (by first | rfl | exact z_narB _ | decide) (u := ()) (by simp only [pCmd, LGo, pL_0, pL_1, pL_2, pL_n, if_pos c_14_3, if_neg (t_nt c_14_3), if_pos c_28_5, if_neg (t_nt c_28_5), if_pos c_42_7, if_neg (t_nt c_42_7), if_pos c_56_9, if_neg (t_nt c_56_9), if_pos c_70_11, if_neg (t_nt c_70_11), if_pos c_84_13, if_neg (t_nf c_84_13), if_pos c_93_15, if_neg (t_nt c_93_15)]; first | done | rfl) ⟨hH.1, hH.2.1⟩ trivial (Nat.le_of_ble_eq_true rfl) (Nat.le_of_ble_eq_true rfl) dX2_readsCommand_118
              · skip
                refine lv_aload_n hx hb dX2_readsCommand_96 rfl (lv_at hl 0 rfl) ?_
                refine lv_bipush (v := nI 32) hx hb dX2_readsCommand_97 (by decide) ?_
                refine z_ci (wr := []) (va_runV (As := [.int (nI 32)]) (rest := []) ⟨hx, hb, hml, hown, hts⟩ (metX2_reads l G dA dS B0 H.size q M ((pC M 111 ((pC M 103 ((pC M 98 ((pC M 115 ((pC M 100 ((pC M 112 ((pC M 106 T).2)).2)).2)).2)).2)).2)).2) (nx M T.1) (by first | exact hi | assumption | omega) (by first | exact hT | assumption | omega) 32) (cwV 1 hts (lw_V q2408 q2410 qs71 q91 q2411) rfl rfl rfl (by decide +kernel) ⟨Nat.le_of_ble_eq_true rfl, Nat.le_of_ble_eq_true rfl⟩) (zPV hX hH hB hAB (z_recv hX kX2 (hH.at 0 rfl)) [0, 1, 2, 3, 4, 5, 6, 7, 8] rfl rfl trivial) rfl rfl hl.1 rfl (lv_room (Nat.le_of_ble_eq_true rfl)) dX2_readsCommand_99 ⟨(Nat.le_of_ble_eq_true rfl), (Nat.le_of_ble_eq_true rfl)⟩) hH hA [0, 1, 2, 3, 4, 5, 6, 7, 8] [] rfl rfl (by decide) (by decide) (fun r_16 u_r_16 H locs hw_r_16 hH hR_r_16 hk_r_16 => ?_)
                obtain rfl := hw_r_16
                have hH : zH G A s.heap (mW dA q (pS M (pC M 32 ((pC M 111 ((pC M 103 ((pC M 98 ((pC M 115 ((pC M 100 ((pC M 112 ((pC M 106 T).2)).2)).2)).2)).2)).2)).2)).2 (nx M T.1))) H locs := hH
                have hB_r_16 := (pC_B (M := M) (T := ((pC M 111 ((pC M 103 ((pC M 98 ((pC M 115 ((pC M 100 ((pC M 112 ((pC M 106 T).2)).2)).2)).2)).2)).2)).2)) (c := 32) (by decide) (by first | exact hT | assumption)).1
                refine z_ifeqB (b := (pC M 32 ((pC M 111 ((pC M 103 ((pC M 98 ((pC M 115 ((pC M 100 ((pC M 112 ((pC M 106 T).2)).2)).2)).2)).2)).2)).2)).1) (tgt := 117) hx hb dX2_readsCommand_102 (by decide) (fun c_102_17 => ?_) (fun c_102_17 => ?_)
                · skip
                  refine lv_iconst (v := nI 0) hx hb dX2_readsCommand_117 (by decide) ?_
                  have eM : pS M (pC M 32 ((pC M 111 ((pC M 103 ((pC M 98 ((pC M 115 ((pC M 100 ((pC M 112 ((pC M 106 T).2)).2)).2)).2)).2)).2)).2)).2 (nx M T.1) = pS M (pCmd M T).2.1 (pCmd M T).2.2 := by simp only [pCmd, LGo, pL_0, pL_1, pL_2, pL_n, if_pos c_14_3, if_neg (t_nt c_14_3), if_pos c_28_5, if_neg (t_nt c_28_5), if_pos c_42_7, if_neg (t_nt c_42_7), if_pos c_56_9, if_neg (t_nt c_56_9), if_pos c_70_11, if_neg (t_nt c_70_11), if_pos c_84_13, if_neg (t_nf c_84_13), if_pos c_93_15, if_neg (t_nf c_93_15), if_pos c_102_17, if_neg (t_nt c_102_17)]; first | done | rfl
                  rw [eM] at hH
                  exact z_zret hx hb hr hlocks hH (by first | rfl | exact z_narB _ | decide) (u := ()) (by simp only [pCmd, LGo, pL_0, pL_1, pL_2, pL_n, if_pos c_14_3, if_neg (t_nt c_14_3), if_pos c_28_5, if_neg (t_nt c_28_5), if_pos c_42_7, if_neg (t_nt c_42_7), if_pos c_56_9, if_neg (t_nt c_56_9), if_pos c_70_11, if_neg (t_nt c_70_11), if_pos c_84_13, if_neg (t_nf c_84_13), if_pos c_93_15, if_neg (t_nf c_93_15), if_pos c_102_17, if_neg (t_nt c_102_17)]; first | done | rfl) ⟨hH.1, hH.2.1⟩ trivial (Nat.le_of_ble_eq_true rfl) (Nat.le_of_ble_eq_true rfl) dX2_readsCommand_118
                · skip
                  refine lv_aload_n hx hb dX2_readsCommand_105 rfl (lv_at hl 0 rfl) ?_
                  refine lv_iconst (v := nI 0) hx hb dX2_readsCommand_106 (by decide) ?_
                  refine z_ci (wr := []) (va_runV (As := [.int (nI 0)]) (rest := []) ⟨hx, hb, hml, hown, hts⟩ (metX2_readsDigit l G dA dS B0 H.size q M ((pC M 32 ((pC M 111 ((pC M 103 ((pC M 98 ((pC M 115 ((pC M 100 ((pC M 112 ((pC M 106 T).2)).2)).2)).2)).2)).2)).2)).2) (nx M T.1) (by first | exact hi | assumption | omega) (by first | exact hT | assumption | omega) 0 (by first | exact hk | assumption | omega)) (cwV 1 hts (lw_V q2416 q2418 qs73 q91 q2419) rfl rfl rfl (by decide +kernel) ⟨Nat.le_of_ble_eq_true rfl, Nat.le_of_ble_eq_true rfl⟩) (zPV hX hH hB hAB (z_recv hX kX2 (hH.at 0 rfl)) [0, 1, 2, 3, 4, 5, 6, 7, 8] rfl rfl trivial) rfl rfl hl.1 rfl (lv_room (Nat.le_of_ble_eq_true rfl)) dX2_readsCommand_107 ⟨(Nat.le_of_ble_eq_true rfl), (Nat.le_of_ble_eq_true rfl)⟩) hH hA [0, 1, 2, 3, 4, 5, 6, 7, 8] [] rfl rfl (by decide) (by decide) (fun r_18 u_r_18 H locs hw_r_18 hH hR_r_18 hk_r_18 => ?_)
                  obtain rfl := hw_r_18
                  have hH : zH G A s.heap (mW dA q (pS M (pD M 0 ((pC M 32 ((pC M 111 ((pC M 103 ((pC M 98 ((pC M 115 ((pC M 100 ((pC M 112 ((pC M 106 T).2)).2)).2)).2)).2)).2)).2)).2)).2 (nx M T.1))) H locs := hH
                  have hB_r_18 := (pD_B (M := M) (T := ((pC M 32 ((pC M 111 ((pC M 103 ((pC M 98 ((pC M 115 ((pC M 100 ((pC M 112 ((pC M 106 T).2)).2)).2)).2)).2)).2)).2)).2)) (k := 0) hi (by first | exact hT | assumption)).1
                  refine z_ifeqB (b := (pD M 0 ((pC M 32 ((pC M 111 ((pC M 103 ((pC M 98 ((pC M 115 ((pC M 100 ((pC M 112 ((pC M 106 T).2)).2)).2)).2)).2)).2)).2)).2)).1) (tgt := 117) hx hb dX2_readsCommand_110 (by decide) (fun c_110_19 => ?_) (fun c_110_19 => ?_)
                  · skip
                    refine lv_iconst (v := nI 0) hx hb dX2_readsCommand_117 (by decide) ?_
                    have eM : pS M (pD M 0 ((pC M 32 ((pC M 111 ((pC M 103 ((pC M 98 ((pC M 115 ((pC M 100 ((pC M 112 ((pC M 106 T).2)).2)).2)).2)).2)).2)).2)).2)).2 (nx M T.1) = pS M (pCmd M T).2.1 (pCmd M T).2.2 := by simp only [pCmd, LGo, pL_0, pL_1, pL_2, pL_n, if_pos c_14_3, if_neg (t_nt c_14_3), if_pos c_28_5, if_neg (t_nt c_28_5), if_pos c_42_7, if_neg (t_nt c_42_7), if_pos c_56_9, if_neg (t_nt c_56_9), if_pos c_70_11, if_neg (t_nt c_70_11), if_pos c_84_13, if_neg (t_nf c_84_13), if_pos c_93_15, if_neg (t_nf c_93_15), if_pos c_102_17, if_neg (t_nf c_102_17), if_pos c_110_19, if_neg (t_nt c_110_19)]; first | done | rfl
                    rw [eM] at hH
                    exact z_zret hx hb hr hlocks hH (by first | rfl | exact z_narB _ | decide) (u := ()) (by simp only [pCmd, LGo, pL_0, pL_1, pL_2, pL_n, if_pos c_14_3, if_neg (t_nt c_14_3), if_pos c_28_5, if_neg (t_nt c_28_5), if_pos c_42_7, if_neg (t_nt c_42_7), if_pos c_56_9, if_neg (t_nt c_56_9), if_pos c_70_11, if_neg (t_nt c_70_11), if_pos c_84_13, if_neg (t_nf c_84_13), if_pos c_93_15, if_neg (t_nf c_93_15), if_pos c_102_17, if_neg (t_nf c_102_17), if_pos c_110_19, if_neg (t_nt c_110_19)]; first | done | rfl) ⟨hH.1, hH.2.1⟩ trivial (Nat.le_of_ble_eq_true rfl) (Nat.le_of_ble_eq_true rfl) dX2_readsCommand_118
                  · skip
                    refine lv_iconst (v := nI 1) hx hb dX2_readsCommand_113 (by decide) ?_
                    refine lv_goto (tgt := 118) hx hb dX2_readsCommand_114 (by decide) ?_
                    have eM : pS M (pD M 0 ((pC M 32 ((pC M 111 ((pC M 103 ((pC M 98 ((pC M 115 ((pC M 100 ((pC M 112 ((pC M 106 T).2)).2)).2)).2)).2)).2)).2)).2)).2 (nx M T.1) = pS M (pCmd M T).2.1 (pCmd M T).2.2 := by simp only [pCmd, LGo, pL_0, pL_1, pL_2, pL_n, if_pos c_14_3, if_neg (t_nt c_14_3), if_pos c_28_5, if_neg (t_nt c_28_5), if_pos c_42_7, if_neg (t_nt c_42_7), if_pos c_56_9, if_neg (t_nt c_56_9), if_pos c_70_11, if_neg (t_nt c_70_11), if_pos c_84_13, if_neg (t_nf c_84_13), if_pos c_93_15, if_neg (t_nf c_93_15), if_pos c_102_17, if_neg (t_nf c_102_17), if_pos c_110_19, if_neg (t_nf c_110_19)]; first | done | rfl
                    rw [eM] at hH
                    exact z_zret hx hb hr hlocks hH (by first | rfl | exact z_narB _ | decide) (u := ()) (by simp only [pCmd, LGo, pL_0, pL_1, pL_2, pL_n, if_pos c_14_3, if_neg (t_nt c_14_3), if_pos c_28_5, if_neg (t_nt c_28_5), if_pos c_42_7, if_neg (t_nt c_42_7), if_pos c_56_9, if_neg (t_nt c_56_9), if_pos c_70_11, if_neg (t_nt c_70_11), if_pos c_84_13, if_neg (t_nf c_84_13), if_pos c_93_15, if_neg (t_nf c_93_15), if_pos c_102_17, if_neg (t_nf c_102_17), if_pos c_110_19, if_neg (t_nf c_110_19)]; first | done | rfl) ⟨hH.1, hH.2.1⟩ trivial (Nat.le_of_ble_eq_true rfl) (Nat.le_of_ble_eq_true rfl) dX2_readsCommand_118
          · skip
            refine lv_aload_n hx hb dX2_readsCommand_73 rfl (lv_at hl 0 rfl) ?_
            refine z_ci (wr := []) (va_runV (As := []) (rest := []) ⟨hx, hb, hml, hown, hts⟩ (metX2_readsBucket l G dA dS B0 H.size q M ((pC M 98 ((pC M 115 ((pC M 100 ((pC M 112 ((pC M 106 T).2)).2)).2)).2)).2) (nx M T.1) (by first | exact hi | assumption | omega) (by first | exact hT | assumption | omega)) (cwV 0 hts (lw_V q2436 q2438 qs78 q91 q2439) rfl rfl rfl (by decide +kernel) ⟨Nat.le_of_ble_eq_true rfl, Nat.le_of_ble_eq_true rfl⟩) (zPV hX hH hB hAB (z_recv hX kX2 (hH.at 0 rfl)) [0, 1, 2, 3, 4, 5, 6, 7, 8] rfl rfl trivial) rfl rfl hl.1 rfl (lv_room (Nat.le_of_ble_eq_true rfl)) dX2_readsCommand_74 ⟨(Nat.le_of_ble_eq_true rfl), (Nat.le_of_ble_eq_true rfl)⟩) hH hA [0, 1, 2, 3, 4, 5, 6, 7, 8] [] rfl rfl (by decide) (by decide) (fun r_20 u_r_20 H locs hw_r_20 hH hR_r_20 hk_r_20 => ?_)
            obtain rfl := hw_r_20
            have hH : zH G A s.heap (mW dA q (pS M (pL M LBu ((pC M 98 ((pC M 115 ((pC M 100 ((pC M 112 ((pC M 106 T).2)).2)).2)).2)).2)).2 (nx M T.1))) H locs := hH
            have eM : pS M (pL M LBu ((pC M 98 ((pC M 115 ((pC M 100 ((pC M 112 ((pC M 106 T).2)).2)).2)).2)).2)).2 (nx M T.1) = pS M (pCmd M T).2.1 (pCmd M T).2.2 := by simp only [pCmd, LGo, pL_0, pL_1, pL_2, pL_n, if_pos c_14_3, if_neg (t_nt c_14_3), if_pos c_28_5, if_neg (t_nt c_28_5), if_pos c_42_7, if_neg (t_nt c_42_7), if_pos c_56_9, if_neg (t_nt c_56_9), if_pos c_70_11, if_neg (t_nf c_70_11)]; first | done | rfl
            rw [eM] at hH
            exact z_zret hx hb hr hlocks hH (by first | rfl | exact z_narB _ | decide) (u := ()) (by simp only [pCmd, LGo, pL_0, pL_1, pL_2, pL_n, if_pos c_14_3, if_neg (t_nt c_14_3), if_pos c_28_5, if_neg (t_nt c_28_5), if_pos c_42_7, if_neg (t_nt c_42_7), if_pos c_56_9, if_neg (t_nt c_56_9), if_pos c_70_11, if_neg (t_nf c_70_11)]; first | done | rfl) ⟨hH.1, hH.2.1⟩ trivial (Nat.le_of_ble_eq_true rfl) (Nat.le_of_ble_eq_true rfl) dX2_readsCommand_77
        · skip
          refine lv_aload_n hx hb dX2_readsCommand_59 rfl (lv_at hl 0 rfl) ?_
          refine z_ci (wr := []) (va_runV (As := []) (rest := []) ⟨hx, hb, hml, hown, hts⟩ (metX2_readsStroke l G dA dS B0 H.size q M ((pC M 115 ((pC M 100 ((pC M 112 ((pC M 106 T).2)).2)).2)).2) (nx M T.1) (by first | exact hi | assumption | omega) (by first | exact hT | assumption | omega)) (cwV 0 hts (lw_V q2432 q2434 qs77 q91 q2435) rfl rfl rfl (by decide +kernel) ⟨Nat.le_of_ble_eq_true rfl, Nat.le_of_ble_eq_true rfl⟩) (zPV hX hH hB hAB (z_recv hX kX2 (hH.at 0 rfl)) [0, 1, 2, 3, 4, 5, 6, 7, 8] rfl rfl trivial) rfl rfl hl.1 rfl (lv_room (Nat.le_of_ble_eq_true rfl)) dX2_readsCommand_60 ⟨(Nat.le_of_ble_eq_true rfl), (Nat.le_of_ble_eq_true rfl)⟩) hH hA [0, 1, 2, 3, 4, 5, 6, 7, 8] [] rfl rfl (by decide) (by decide) (fun r_21 u_r_21 H locs hw_r_21 hH hR_r_21 hk_r_21 => ?_)
          obtain rfl := hw_r_21
          have hH : zH G A s.heap (mW dA q (pS M (pL M LSt ((pC M 115 ((pC M 100 ((pC M 112 ((pC M 106 T).2)).2)).2)).2)).2 (nx M T.1))) H locs := hH
          have eM : pS M (pL M LSt ((pC M 115 ((pC M 100 ((pC M 112 ((pC M 106 T).2)).2)).2)).2)).2 (nx M T.1) = pS M (pCmd M T).2.1 (pCmd M T).2.2 := by simp only [pCmd, LGo, pL_0, pL_1, pL_2, pL_n, if_pos c_14_3, if_neg (t_nt c_14_3), if_pos c_28_5, if_neg (t_nt c_28_5), if_pos c_42_7, if_neg (t_nt c_42_7), if_pos c_56_9, if_neg (t_nf c_56_9)]; first | done | rfl
          rw [eM] at hH
          exact z_zret hx hb hr hlocks hH (by first | rfl | exact z_narB _ | decide) (u := ()) (by simp only [pCmd, LGo, pL_0, pL_1, pL_2, pL_n, if_pos c_14_3, if_neg (t_nt c_14_3), if_pos c_28_5, if_neg (t_nt c_28_5), if_pos c_42_7, if_neg (t_nt c_42_7), if_pos c_56_9, if_neg (t_nf c_56_9)]; first | done | rfl) ⟨hH.1, hH.2.1⟩ trivial (Nat.le_of_ble_eq_true rfl) (Nat.le_of_ble_eq_true rfl) dX2_readsCommand_63
      · skip
        refine lv_aload_n hx hb dX2_readsCommand_45 rfl (lv_at hl 0 rfl) ?_
        refine z_ci (wr := []) (va_runV (As := []) (rest := []) ⟨hx, hb, hml, hown, hts⟩ (metX2_readsD l G dA dS B0 H.size q M ((pC M 100 ((pC M 112 ((pC M 106 T).2)).2)).2) (nx M T.1) (by first | exact hi | assumption | omega) (by first | exact hT | assumption | omega)) (cwV 0 hts (lw_V q2428 q2430 qs76 q91 q2431) rfl rfl rfl (by decide +kernel) ⟨Nat.le_of_ble_eq_true rfl, Nat.le_of_ble_eq_true rfl⟩) (zPV hX hH hB hAB (z_recv hX kX2 (hH.at 0 rfl)) [0, 1, 2, 3, 4, 5, 6, 7, 8] rfl rfl trivial) rfl rfl hl.1 rfl (lv_room (Nat.le_of_ble_eq_true rfl)) dX2_readsCommand_46 ⟨(Nat.le_of_ble_eq_true rfl), (Nat.le_of_ble_eq_true rfl)⟩) hH hA [0, 1, 2, 3, 4, 5, 6, 7, 8] [] rfl rfl (by decide) (by decide) (fun r_22 u_r_22 H locs hw_r_22 hH hR_r_22 hk_r_22 => ?_)
        obtain rfl := hw_r_22
        have hH : zH G A s.heap (mW dA q (pS M (pDr M ((pC M 100 ((pC M 112 ((pC M 106 T).2)).2)).2) (nx M T.1)).2.1 (pDr M ((pC M 100 ((pC M 112 ((pC M 106 T).2)).2)).2) (nx M T.1)).2.2)) H locs := hH
        have eM : pS M (pDr M ((pC M 100 ((pC M 112 ((pC M 106 T).2)).2)).2) (nx M T.1)).2.1 (pDr M ((pC M 100 ((pC M 112 ((pC M 106 T).2)).2)).2) (nx M T.1)).2.2 = pS M (pCmd M T).2.1 (pCmd M T).2.2 := by simp only [pCmd, LGo, pL_0, pL_1, pL_2, pL_n, if_pos c_14_3, if_neg (t_nt c_14_3), if_pos c_28_5, if_neg (t_nt c_28_5), if_pos c_42_7, if_neg (t_nf c_42_7)]; first | done | rfl
        rw [eM] at hH
        exact z_zret hx hb hr hlocks hH (by first | rfl | exact z_narB _ | decide) (u := ()) (by simp only [pCmd, LGo, pL_0, pL_1, pL_2, pL_n, if_pos c_14_3, if_neg (t_nt c_14_3), if_pos c_28_5, if_neg (t_nt c_28_5), if_pos c_42_7, if_neg (t_nf c_42_7)]; first | done | rfl) ⟨hH.1, hH.2.1⟩ trivial (Nat.le_of_ble_eq_true rfl) (Nat.le_of_ble_eq_true rfl) dX2_readsCommand_49
    · skip
      refine lv_aload_n hx hb dX2_readsCommand_31 rfl (lv_at hl 0 rfl) ?_
      refine z_ci (wr := []) (va_runV (As := []) (rest := []) ⟨hx, hb, hml, hown, hts⟩ (metX2_readsP l G dA dS B0 H.size q M ((pC M 112 ((pC M 106 T).2)).2) (nx M T.1) (by first | exact hi | assumption | omega) (by first | exact hT | assumption | omega)) (cwV 0 hts (lw_V q2424 q2426 qs75 q91 q2427) rfl rfl rfl (by decide +kernel) ⟨Nat.le_of_ble_eq_true rfl, Nat.le_of_ble_eq_true rfl⟩) (zPV hX hH hB hAB (z_recv hX kX2 (hH.at 0 rfl)) [0, 1, 2, 3, 4, 5, 6, 7, 8] rfl rfl trivial) rfl rfl hl.1 rfl (lv_room (Nat.le_of_ble_eq_true rfl)) dX2_readsCommand_32 ⟨(Nat.le_of_ble_eq_true rfl), (Nat.le_of_ble_eq_true rfl)⟩) hH hA [0, 1, 2, 3, 4, 5, 6, 7, 8] [] rfl rfl (by decide) (by decide) (fun r_23 u_r_23 H locs hw_r_23 hH hR_r_23 hk_r_23 => ?_)
      obtain rfl := hw_r_23
      have hH : zH G A s.heap (mW dA q (pS M (pP M ((pC M 112 ((pC M 106 T).2)).2) (nx M T.1)).2.1 (pP M ((pC M 112 ((pC M 106 T).2)).2) (nx M T.1)).2.2)) H locs := hH
      have eM : pS M (pP M ((pC M 112 ((pC M 106 T).2)).2) (nx M T.1)).2.1 (pP M ((pC M 112 ((pC M 106 T).2)).2) (nx M T.1)).2.2 = pS M (pCmd M T).2.1 (pCmd M T).2.2 := by simp only [pCmd, LGo, pL_0, pL_1, pL_2, pL_n, if_pos c_14_3, if_neg (t_nt c_14_3), if_pos c_28_5, if_neg (t_nf c_28_5)]; first | done | rfl
      rw [eM] at hH
      exact z_zret hx hb hr hlocks hH (by first | rfl | exact z_narB _ | decide) (u := ()) (by simp only [pCmd, LGo, pL_0, pL_1, pL_2, pL_n, if_pos c_14_3, if_neg (t_nt c_14_3), if_pos c_28_5, if_neg (t_nf c_28_5)]; first | done | rfl) ⟨hH.1, hH.2.1⟩ trivial (Nat.le_of_ble_eq_true rfl) (Nat.le_of_ble_eq_true rfl) dX2_readsCommand_35
  · skip
    refine lv_aload_n hx hb dX2_readsCommand_17 rfl (lv_at hl 0 rfl) ?_
    refine z_ci (wr := []) (va_runV (As := []) (rest := []) ⟨hx, hb, hml, hown, hts⟩ (metX2_readsJoke l G dA dS B0 H.size q M ((pC M 106 T).2) (nx M T.1) (by first | exact hi | assumption | omega) (by first | exact hT | assumption | omega)) (cwV 0 hts (lw_V q2412 q2414 qs72 q91 q2415) rfl rfl rfl (by decide +kernel) ⟨Nat.le_of_ble_eq_true rfl, Nat.le_of_ble_eq_true rfl⟩) (zPV hX hH hB hAB (z_recv hX kX2 (hH.at 0 rfl)) [0, 1, 2, 3, 4, 5, 6, 7, 8] rfl rfl trivial) rfl rfl hl.1 rfl (lv_room (Nat.le_of_ble_eq_true rfl)) dX2_readsCommand_18 ⟨(Nat.le_of_ble_eq_true rfl), (Nat.le_of_ble_eq_true rfl)⟩) hH hA [0, 1, 2, 3, 4, 5, 6, 7, 8] [] rfl rfl (by decide) (by decide) (fun r_24 u_r_24 H locs hw_r_24 hH hR_r_24 hk_r_24 => ?_)
    obtain rfl := hw_r_24
    have hH : zH G A s.heap (mW dA q (pS M (pL M LJ ((pC M 106 T).2)).2 (nx M T.1))) H locs := hH
    have eM : pS M (pL M LJ ((pC M 106 T).2)).2 (nx M T.1) = pS M (pCmd M T).2.1 (pCmd M T).2.2 := by simp only [pCmd, LGo, pL_0, pL_1, pL_2, pL_n, if_pos c_14_3, if_neg (t_nf c_14_3)]; first | done | rfl
    rw [eM] at hH
    exact z_zret hx hb hr hlocks hH (by first | rfl | exact z_narB _ | decide) (u := ()) (by simp only [pCmd, LGo, pL_0, pL_1, pL_2, pL_n, if_pos c_14_3, if_neg (t_nf c_14_3)]; first | done | rfl) ⟨hH.1, hH.2.1⟩ trivial (Nat.le_of_ble_eq_true rfl) (Nat.le_of_ble_eq_true rfl) dX2_readsCommand_21

set_option maxHeartbeats 4000000 in
set_option maxRecDepth 100000 in
theorem metX2_readsAll (l : Launch) (G : va_G) (dA : Nat → ClassId) (dS : Nat → Nat) (B0 sz : Nat) (q : Nat → Nat) (M : mS) (hi : iB M) (h99 : ∀ k, M 8 k ≤ 99) : Met l yX2_readsAll (ws_ yX2_readsAll cX2_readsAll 2 (some FieldType.boolean)) ({ frames := 5, cells := 0, slots := 0, locals := 104 }) (zP G dA dS B0 [.ref (q 0)] sz (mW dA q M) (fun H => True)) (zQi G (fun (r : Int32) (u : Unit) => r = nI (bN ((pAll M (M 0 17 + 1) (0, M 8) (M 0 21)).1))) (fun (u : Unit) => mW dA q (pS M (pAll M (M 0 17 + 1) (0, M 8) (M 0 21)).2.1 (pAll M (M 0 17 + 1) (0, M 8) (M 0 21)).2.2)) (fun (u : Unit) (H : Heap) => True) (va_A (mW dA q M) sz)) 0 0 (va_A (mW dA q M) sz) := by
  refine zM (by decide) (Nat.le_of_ble_eq_true rfl) ?_
  intro p e s m below meth c ls A H locs hHe hx hb hr hlocks hml hown hname hts hX hsz hB hAe hA hAB hH hRo hl
  have hl : lv_has ls 2 [(0, .ref (q 0))] := hl
  refine lv_aload_n hx hb dX2_readsAll_0 rfl (lv_at hl 0 rfl) ?_
  refine lv_iconst (v := nI 0) hx hb dX2_readsAll_1 (by decide) ?_
  refine z_put hx hb hts hown hX kX2 18 (by decide) hH 0 rfl q2028 (fun _ h9 => h9) rfl rfl rfl (Nat.le_of_ble_eq_true rfl) dX2_readsAll_2 (fun H locs hH => ?_)
  have hH : zH G A s.heap (mW dA q (mu M 0 18 0)) H locs := hH
  refine lv_iconst (v := nI 1) hx hb dX2_readsAll_5 (by decide) ?_
  refine lv_istore_n (lv' := [(1, .int (nI 1)), (0, .ref (q 0))]) hx hb dX2_readsAll_6 rfl hl (by decide) rfl (fun ls hl => ?_)
  have LP7_0 : ∀ (fuel : Nat) (T : pT) (so : Nat) (b : Bool) (fu : Nat) (hfu : (M 0 17 - T.1) < fuel) (hT : pB M T) (hfl : M 0 17 - T.1 < fu) (hJ : pAll M (M 0 17 + 1) (0, M 8) (M 0 21) = if b = true then pAll M fu T so else (decide (T.1 = M 0 17), T, so)) (H : Heap) (locs : List Loc), zH G A s.heap (mW dA q (pS M T so)) H locs → ∀ (ls : Array Slot), lv_has ls 2 [(0, .ref (q 0)), (1, .int (nI (bN b)))] → W p l e (headSpec (ws_ yX2_readsAll cX2_readsAll 2 (some FieldType.boolean)) ({ frames := 5, cells := 0, slots := 0, locals := 104 })).room s m ([.ref (q 0)] : List Value).toArray below meth c H locs 0 0 (MQ below (zQi G (fun (r : Int32) (u : Unit) => r = nI (bN ((pAll M (M 0 17 + 1) (0, M 8) (M 0 21)).1))) (fun (u : Unit) => mW dA q (pS M (pAll M (M 0 17 + 1) (0, M 8) (M 0 21)).2.1 (pAll M (M 0 17 + 1) (0, M 8) (M 0 21)).2.2)) (fun (u : Unit) (H : Heap) => True) A) ([.ref (q 0)] : List Value).toArray s 0 0 A) (F0 m 7 ls []) := by
    intro fuel
    induction fuel with
    | zero => intro T so b fu hfu; exact absurd hfu (Nat.not_lt_zero _)
    | succ fuel ih7 =>
      intro T so b fu hfu hT hfl hJ H locs hH ls hl
      have hi1 := hi.1
      have hT1 := hT.1
      refine lv_iload_n hx hb dX2_readsAll_7 rfl (lv_at hl 1 rfl) ?_
      refine z_ifeqB (b := b) (tgt := 30) hx hb dX2_readsAll_8 (by decide) (fun c_8_2 => ?_) (fun c_8_2 => ?_)
      · skip
        refine lv_aload_n hx hb dX2_readsAll_30 rfl (lv_at hl 0 rfl) ?_
        refine z_get (v := .int (nI T.1)) hx hb hts hown hX kX2 18 (by decide) (hH.at 0 rfl) rfl q2028 (fun _ h9 => h9) dX2_readsAll_31 ?_
        refine lv_aload_n hx hb dX2_readsAll_34 rfl (lv_at hl 0 rfl) ?_
        refine z_get (v := .int (nI (M 0 17))) hx hb hts hown hX kX2 17 (by decide) (hH.at 0 rfl) rfl q2027 (fun _ h9 => h9) dX2_readsAll_35 ?_
        refine z_icmp_ne (tgt := 45) hx hb dX2_readsAll_38 (by decide) (by omega) (by omega) (fun c_38_3 => ?_) (fun c_38_3 => ?_)
        · skip
          refine lv_iconst (v := nI 0) hx hb dX2_readsAll_45 (by decide) ?_
          have eM : pS M T so = pS M (pAll M (M 0 17 + 1) (0, M 8) (M 0 21)).2.1 (pAll M (M 0 17 + 1) (0, M 8) (M 0 21)).2.2 := by rw [hJ, if_neg (t_nt c_8_2)]
          rw [eM] at hH
          exact z_zret hx hb hr hlocks hH (by first | rfl | exact z_narB _ | decide) (u := ()) (by rw [hJ, if_neg (t_nt c_8_2)]; simp [bN, c_8_2, c_38_3]) ⟨hH.1, hH.2.1⟩ trivial (Nat.le_of_ble_eq_true rfl) (Nat.le_of_ble_eq_true rfl) dX2_readsAll_46
        · skip
          refine lv_iconst (v := nI 1) hx hb dX2_readsAll_41 (by decide) ?_
          refine lv_goto (tgt := 46) hx hb dX2_readsAll_42 (by decide) ?_
          have eM : pS M T so = pS M (pAll M (M 0 17 + 1) (0, M 8) (M 0 21)).2.1 (pAll M (M 0 17 + 1) (0, M 8) (M 0 21)).2.2 := by rw [hJ, if_neg (t_nt c_8_2)]
          rw [eM] at hH
          exact z_zret hx hb hr hlocks hH (by first | rfl | exact z_narB _ | decide) (u := ()) (by rw [hJ, if_neg (t_nt c_8_2)]; simp [bN, c_8_2, c_38_3]) ⟨hH.1, hH.2.1⟩ trivial (Nat.le_of_ble_eq_true rfl) (Nat.le_of_ble_eq_true rfl) dX2_readsAll_46
      · skip
        obtain ⟨f9, rfl⟩ : ∃ f9, fu = f9 + 1 := ⟨fu - 1, by omega⟩
        refine lv_aload_n hx hb dX2_readsAll_11 rfl (lv_at hl 0 rfl) ?_
        refine z_ci (wr := []) (va_runV (As := []) (rest := []) ⟨hx, hb, hml, hown, hts⟩ (metX2_readsCommand l G dA dS B0 H.size q M T so (by first | exact hi | assumption | omega) hT) (cwV 0 hts (lw_V q2400 q2402 qs69 q91 q2403) rfl rfl rfl (by decide +kernel) ⟨Nat.le_of_ble_eq_true rfl, Nat.le_of_ble_eq_true rfl⟩) (zPV hX hH hB hAB (z_recv hX kX2 (hH.at 0 rfl)) [0, 1, 2, 3, 4, 5, 6, 7, 8] rfl rfl trivial) rfl rfl hl.1 rfl (lv_room (Nat.le_of_ble_eq_true rfl)) dX2_readsAll_12 ⟨(Nat.le_of_ble_eq_true rfl), (Nat.le_of_ble_eq_true rfl)⟩) hH hA [0, 1, 2, 3, 4, 5, 6, 7, 8] [] rfl rfl (by decide) (by decide) (fun r_4 u_r_4 H locs hw_r_4 hH hR_r_4 hk_r_4 => ?_)
        obtain rfl := hw_r_4
        have hH : zH G A s.heap (mW dA q (pS M (pCmd M T).2.1 (pCmd M T).2.2)) H locs := hH
        refine z_ifneB (b := (pCmd M T).1) (tgt := 20) hx hb dX2_readsAll_15 (by decide) (fun c_15_5 => ?_) (fun c_15_5 => ?_)
        · skip
          refine lv_aload_n hx hb dX2_readsAll_20 rfl (lv_at hl 0 rfl) ?_
          refine lv_bipush (v := nI 59) hx hb dX2_readsAll_21 (by decide) ?_
          refine z_ci (wr := []) (va_runV (As := [.int (nI 59)]) (rest := []) ⟨hx, hb, hml, hown, hts⟩ (metX2_reads l G dA dS B0 H.size q M ((pCmd M T).2.1) ((pCmd M T).2.2) (by first | exact hi | assumption | omega) ((pCmd_B (M := M) (T := T) hi hT).1) 59) (cwV 1 hts (lw_V q2408 q2410 qs71 q91 q2411) rfl rfl rfl (by decide +kernel) ⟨Nat.le_of_ble_eq_true rfl, Nat.le_of_ble_eq_true rfl⟩) (zPV hX hH hB hAB (z_recv hX kX2 (hH.at 0 rfl)) [0, 1, 2, 3, 4, 5, 6, 7, 8] rfl rfl trivial) rfl rfl hl.1 rfl (lv_room (Nat.le_of_ble_eq_true rfl)) dX2_readsAll_23 ⟨(Nat.le_of_ble_eq_true rfl), (Nat.le_of_ble_eq_true rfl)⟩) hH hA [0, 1, 2, 3, 4, 5, 6, 7, 8] [] rfl rfl (by decide) (by decide) (fun r_6 u_r_6 H locs hw_r_6 hH hR_r_6 hk_r_6 => ?_)
          obtain rfl := hw_r_6
          have hH : zH G A s.heap (mW dA q (pS M (pC M 59 ((pCmd M T).2.1)).2 ((pCmd M T).2.2))) H locs := hH
          have hC := pCmd_B (M := M) (T := T) hi hT
          have hD := pC_B (M := M) (c := 59) (T := (pCmd M T).2.1) (by decide) hC.1
          have hD1 := hD.1
          have hD2 := hD.2.1
          have hD3 := hC.2.2 c_15_5
          have hD4 := hD1.1
          have hD5 := hT.1
          have hJ2 : pAll M (M 0 17 + 1) (0, M 8) (M 0 21) = if (pC M 59 (pCmd M T).2.1).1 = true then pAll M f9 (pC M 59 (pCmd M T).2.1).2 (pCmd M T).2.2 else (decide ((pC M 59 (pCmd M T).2.1).2.1 = M 0 17), (pC M 59 (pCmd M T).2.1).2, (pCmd M T).2.2) := by rw [hJ, if_pos c_8_2]; rw [pAll_s, if_pos c_15_5]
          refine lv_istore_n (lv' := [(1, .int (nI (bN ((pC M 59 ((pCmd M T).2.1)).1)))), (0, .ref (q 0))]) hx hb dX2_readsAll_26 rfl hl (by decide) rfl (fun ls hl => ?_)
          refine lv_goto (tgt := 7) hx hb dX2_readsAll_27 (by decide) ?_
          have eL : pS M (pC M 59 ((pCmd M T).2.1)).2 ((pCmd M T).2.2) = pS M ((pC M 59 (pCmd M T).2.1).2) ((pCmd M T).2.2) := by rfl
          rw [eL] at hH
          have ev_7 : nI (bN ((pC M 59 ((pCmd M T).2.1)).1)) = nI (bN ((pC M 59 (pCmd M T).2.1).1)) := by rfl
          have hl : lv_has ls 2 [(0, .ref (q 0)), (1, .int (nI (bN ((pC M 59 (pCmd M T).2.1).1))))] := z_lv (lv_sub hl [1, 0] rfl) (by rw [ev_7] <;> rfl)
          exact ih7 ((pC M 59 (pCmd M T).2.1).2) ((pCmd M T).2.2) ((pC M 59 (pCmd M T).2.1).1) f9 (by omega) (by assumption) (by omega) (by assumption) _ _ hH ls (lv_sub hl [0, 1] rfl)
        · skip
          refine lv_iconst (v := nI 0) hx hb dX2_readsAll_18 (by decide) ?_
          have eM : pS M (pCmd M T).2.1 (pCmd M T).2.2 = pS M (pAll M (M 0 17 + 1) (0, M 8) (M 0 21)).2.1 (pAll M (M 0 17 + 1) (0, M 8) (M 0 21)).2.2 := by rw [hJ, if_pos c_8_2]; rw [pAll_s, if_neg (t_nt c_15_5)]
          rw [eM] at hH
          exact z_zret hx hb hr hlocks hH (by first | rfl | exact z_narB _ | decide) (u := ()) (by rw [hJ, if_pos c_8_2]; rw [pAll_s, if_neg (t_nt c_15_5)]; rfl) ⟨hH.1, hH.2.1⟩ trivial (Nat.le_of_ble_eq_true rfl) (Nat.le_of_ble_eq_true rfl) dX2_readsAll_19
  have eL : mu M 0 18 0 = pS M (0, M 8) (M 0 21) := by exact pS_st M
  rw [eL] at hH
  have ev_8 : nI 1 = nI (bN true) := by rfl
  have hl : lv_has ls 2 [(0, .ref (q 0)), (1, .int (nI (bN true)))] := z_lv (lv_sub hl [1, 0] rfl) (by rw [ev_8] <;> rfl)
  exact LP7_0 ((M 0 17 - (0, M 8).1) + 1) (0, M 8) (M 0 21) true (M 0 17 + 1) (Nat.lt_succ_self _) (⟨Nat.zero_le _, h99⟩) (by simp only; omega) (by rw [if_pos rfl]) _ _ hH ls (lv_sub hl [0, 1] rfl)

