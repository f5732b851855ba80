/-! the jokes of a well, the least deep first -/
def pumpKinds : List (Nat ⊕ Nat) := [.inr 1, .inr 23, .inl 5, .inl 4, .inl 1, .inl 0, .inr 4, .inr 10]
theorem z_fzPI {G : va_G} {dA : Nat → ClassId} {dS : Nat → Nat} {B0 : Nat} {s : State} {A : Nat → Prop} {H H0 : Heap} {ws : va_W} {locs : List Loc} {S : PS} {w : Nat → Nat} {it : Nat} {e : va_E} (hX : zX G dA dS B0 s) (j : Nat ⊕ Nat) (hk : pumpKinds.all (fun k => zkin j && zkin k && decide (zknm j ≠ zknm k)) = true) (he : zcid G e = zkid G dA j) (hit : va_at G zcl (it, e) H0) (hH : zH G A H0 ws H locs) (hAe : ∀ q, A q ↔ va_A [(it, e)] H0.size q) (h : PumpAt G dA S w H0) : PumpAt G dA S w H := by
  have hk' := fun k hm => List.all_eq_true.mp hk k hm
  have one : ∀ {q : Nat} {f : va_E} (k : Nat ⊕ Nat), k ∈ pumpKinds → va_at G zcl (q, f) H0 → zcid G f = zkid G dA k → va_at G zcl (q, f) H := fun k hm hf hc => z_fz hH hAe hf ⟨z_ne hX j k (hk' k hm) hit hf he hc, trivial⟩
  exact ⟨one (.inr 1) (by simp [pumpKinds]) h.p rfl, one (.inr 23) (by simp [pumpKinds]) h.l rfl, fun z => one (.inl 5) (by simp [pumpKinds]) (h.a z) rfl, one (.inl 4) (by simp [pumpKinds]) h.f rfl, one (.inl 1) (by simp [pumpKinds]) h.k rfl, one (.inl 0) (by simp [pumpKinds]) h.b rfl, one (.inl 0) (by simp [pumpKinds]) h.g rfl, fun k hk => one (.inr 4) (by simp [pumpKinds]) (h.j hk) rfl, fun k hk => one (.inr 10) (by simp [pumpKinds]) (h.t hk) rfl, h.c, h.i⟩
/-- the least deep joke below a depth in a well -/
def dnF (w : Nat → Nat) (a ab : Nat) : Nat → Option Nat
  | 0 => none
  | k + 1 => if jk w k 0 = a then (if ab < jk w k 1 then (match dnF w a ab k with
      | none => some k
      | some b => if jk w k 1 < jk w b 1 then some k else some b) else dnF w a ab k) else dnF w a ab k
theorem dnF_n {w : Nat → Nat} {a ab : Nat} : ∀ {n : Nat}, dnF w a ab n = none → ∀ k, k < n → jk w k 0 = a → ¬ ab < jk w k 1
  | 0, _, k, hk, _ => absurd hk (Nat.not_lt_zero _)
  | n + 1, h, k, hk, h0 => by
    simp only [dnF] at h
    by_cases e : k = n
    · subst e
      rw [if_pos h0] at h
      split at h
      · split at h
        · cases h
        · split at h <;> cases h
      · assumption
    · refine dnF_n (n := n) ?_ k (by omega) h0
      split at h
      · split at h
        · split at h
          · cases h
          · split at h <;> cases h
        · exact h
      · exact h
theorem dnF_y {w : Nat → Nat} {a ab : Nat} : ∀ {n b : Nat}, dnF w a ab n = some b → b < n ∧ jk w b 0 = a ∧ ab < jk w b 1 ∧ ∀ k, k < n → jk w k 0 = a → ab < jk w k 1 → jk w b 1 ≤ jk w k 1
  | 0, b, h => by cases h
  | n + 1, b, h => by
    simp only [dnF] at h
    have up : ∀ {b}, dnF w a ab n = some b → (jk w n 0 = a → ab < jk w n 1 → jk w b 1 ≤ jk w n 1) → b < n + 1 ∧ jk w b 0 = a ∧ ab < jk w b 1 ∧ ∀ k, k < n + 1 → jk w k 0 = a → ab < jk w k 1 → jk w b 1 ≤ jk w k 1 := fun h1 h2 => by
      obtain ⟨q1, q2, q3, q4⟩ := dnF_y h1
      refine ⟨by omega, q2, q3, fun k hk a1 a2 => ?_⟩
      by_cases e : k = n
      · subst e; exact h2 a1 a2
      · exact q4 k (by omega) a1 a2
    split at h
    · rename_i c1
      split at h
      · rename_i c2
        split at h
        · rename_i c3
          cases h
          refine ⟨by omega, c1, c2, fun k hk a1 a2 => ?_⟩
          by_cases e : k = n
          · subst e; exact Nat.le_refl _
          · exact absurd a2 (dnF_n c3 k (by omega) a1)
        · rename_i b1 c3
          obtain ⟨q1, q2, q3, q4⟩ := dnF_y c3
          split at h
          · cases h
            refine ⟨by omega, c1, c2, fun k hk a1 a2 => ?_⟩
            by_cases e : k = n
            · subst e; exact Nat.le_refl _
            · have := q4 k (by omega) a1 a2; omega
          · cases h
            exact up c3 (fun _ _ => by omega)
      · exact up h (fun _ a2 => absurd a2 (by assumption))
    · exact up h (fun a1 _ => absurd a1 (by assumption))
theorem cN_mono {p q : Nat → Bool} : ∀ {n : Nat}, (∀ i, i < n → p i = true → q i = true) → cN p n ≤ cN q n
  | 0, _ => Nat.le_refl _
  | n + 1, h => by
    have ih := cN_mono (p := p) (q := q) (n := n) (fun i hi => h i (by omega))
    show cN p n + bN (p n) ≤ cN q n + bN (q n)
    cases hp : p n with
    | false => show cN p n + 0 ≤ _; omega
    | true => rw [h n (by omega) hp]; omega
theorem cN_lt {p q : Nat → Bool} : ∀ {n k : Nat}, (∀ i, i < n → p i = true → q i = true) → k < n → p k = false → q k = true → cN p n + 1 ≤ cN q n
  | 0, k, _, hk, _, _ => absurd hk (Nat.not_lt_zero _)
  | n + 1, k, h, hk, h1, h2 => by
    show cN p n + bN (p n) + 1 ≤ cN q n + bN (q n)
    by_cases e : k = n
    · subst e
      have := cN_mono (p := p) (q := q) (n := k) (fun i hi => h i (by omega))
      rw [h1, h2]
      show cN p k + 0 + 1 ≤ cN q k + 1
      omega
    · have ih := cN_lt (p := p) (q := q) (n := n) (k := k) (fun i hi => h i (by omega)) (by omega) h1 h2
      cases hp : p n with
      | false => show cN p n + 0 + 1 ≤ _; omega
      | true => rw [h n (by omega) hp]; omega
theorem upto_mono {w : Nat → Nat} {a d e : Nat} (h : d ≤ e) : upto w a d ≤ upto w a e := cN_mono (fun i _ hp => by
  simp only [Bool.and_eq_true, decide_eq_true_eq] at hp ⊢
  exact ⟨hp.1, by omega⟩)
theorem upto_lt {w : Nat → Nat} {a k e : Nat} (hk : k < w 0) (h0 : jk w k 0 = a) (h1 : jk w k 1 < e) : upto w a (jk w k 1) + 1 ≤ upto w a e := cN_lt (k := k) (fun i _ hp => by
  simp only [Bool.and_eq_true, decide_eq_true_eq] at hp ⊢
  exact ⟨hp.1, by omega⟩) hk (by simp) (by simp [h0, h1])
theorem upto_le (w : Nat → Nat) (a d : Nat) : upto w a d ≤ w 0 := cN_le _ _
theorem dnF_pla {w : Nat → Nat} {a ab p : Nat} (h12 : w 0 ≤ 12) (hD : rD w) (hu : upto w a (ab + 1) = p) : dnF w a ab (w 0) = pla w a (nI p) := by
  have hp : p ≤ 12 := by have := upto_le w a (ab + 1); omega
  have habv : ∀ k, jk w k 0 = a → abv w k = upto w a (jk w k 1) := fun k h => abv_upto h
  cases hf : dnF w a ab (w 0) with
  | none =>
    cases hq : pla w a (nI p) with
    | none => rfl
    | some k =>
      exfalso
      obtain ⟨q1, q2, -⟩ := fO_spec hq
      simp only [Bool.and_eq_true, decide_eq_true_eq] at q2
      have h1 := dnF_n hf k q1 q2.1
      have h2 := upto_lt (e := ab + 1) q1 q2.1 (by omega)
      have h3 := nI_inj (show abv w k < 2 ^ 31 by have := abv_le w k; omega) (show p < 2 ^ 31 by omega) q2.2
      rw [habv k q2.1] at h3
      omega
  | some b =>
    obtain ⟨q1, q2, q3, q4⟩ := dnF_y hf
    have h1 : upto w a (jk w b 1) = p := by
      rw [← hu]
      unfold upto
      refine cN_congr (fun i hi => ?_)
      by_cases e : jk w i 0 = a
      · by_cases e2 : ab < jk w i 1
        · have := q4 i hi e e2
          simp [show ¬ jk w i 1 < jk w b 1 by omega, show ¬ jk w i 1 < ab + 1 by omega]
        · simp [show jk w i 1 < jk w b 1 by omega, show jk w i 1 < ab + 1 by omega]
      · simp [e]
    cases hq : pla w a (nI p) with
    | none =>
      have := fO_none hq b q1
      simp [q2, habv b q2, h1] at this
    | some k =>
      obtain ⟨r1, r2, -⟩ := fO_spec hq
      simp only [Bool.and_eq_true, decide_eq_true_eq] at r2
      have h3 := nI_inj (show abv w k < 2 ^ 31 by have := abv_le w k; omega) (show p < 2 ^ 31 by omega) r2.2
      rw [habv k r2.1] at h3
      rcases Nat.lt_trichotomy (jk w k 1) (jk w b 1) with h4 | h4 | h4
      · have := upto_lt (e := jk w b 1) r1 r2.1 h4; omega
      · rw [hD k r1 b q1 (by rw [r2.1, q2]) h4]
      · have := upto_lt (e := jk w k 1) q1 q2 h4; omega
/-- behind the joke at a place -/
theorem upto_nx {w : Nat → Nat} {a p k : Nat} (h12 : w 0 ≤ 12) (hp : p ≤ 12) (hD : rD w) (h : pla w a (nI p) = some k) : upto w a (jk w k 1 + 1) = p + 1 := by
  obtain ⟨q1, q2, -⟩ := fO_spec h
  simp only [Bool.and_eq_true, decide_eq_true_eq] at q2
  have h3 := nI_inj (show abv w k < 2 ^ 31 by have := abv_le w k; omega) (show p < 2 ^ 31 by omega) q2.2
  rw [abv_upto q2.1] at h3
  have h4 := upto_lt (e := jk w k 1 + 1) q1 q2.1 (by omega)
  rcases upto_s hD a (jk w k 1) with h5 | h5 <;> omega
theorem pla_jin {w : Nat → Nat} {B a p k : Nat} (h : rB w B) (hp : p ≤ 12) (hk : pla w a (nI p) = some k) : p < jin w a := by
  obtain ⟨q1, q2, -⟩ := fO_spec hk
  simp only [Bool.and_eq_true, decide_eq_true_eq] at q2
  have h3 := nI_inj (show abv w k < 2 ^ 31 by have := abv_le w k; have := h.1; omega) (show p < 2 ^ 31 by omega) q2.2
  rw [abv_upto q2.1] at h3
  have h4 := upto_lt (e := 31) q1 q2.1 (by have := (h.2.2.1 k q1).2.2.1; omega)
  rw [upto_all h a] at h4
  omega
theorem pla_no {w : Nat → Nat} {B a i : Nat} {b : Int32} (h : rB w B) (hD : rD w) (hn : (pla w a (nI i)).isSome = false) (hb : ∀ x, x < i → nI x ≠ b) : pla w a b = none := by
  cases hq : pla w a b with
  | none => rfl
  | some k =>
    exfalso
    obtain ⟨q1, q2, -⟩ := fO_spec hq
    simp only [Bool.and_eq_true, decide_eq_true_eq] at q2
    by_cases hx : abv w k < i
    · exact hb _ hx q2.2
    · have h4 := upto_lt (e := 31) q1 q2.1 (by have := (h.2.2.1 k q1).2.2.1; omega)
      rw [upto_all h a, ← abv_upto q2.1] at h4
      obtain ⟨k2, hk2⟩ := pla_lt h hD (a := a) (p := i) (by omega)
      rw [hk2] at hn
      cases hn
theorem upto_1 {w : Nat → Nat} {B : Nat} (h : rB w B) (a : Nat) : upto w a (0 + 1) = 0 := by
  unfold upto
  have : ∀ n, n ≤ w 0 → cN (fun i => decide (jk w i 0 = a) && decide (jk w i 1 < 0 + 1)) n = 0 := by
    intro n
    induction n with
    | zero => intro _; rfl
    | succ n ih =>
      intro hn
      have h1 := (h.2.2.1 n (by omega)).2.1
      show cN _ n + bN _ = 0
      rw [ih (by omega)]
      simp [show ¬ jk w n 1 < 0 + 1 by omega, bN]
  exact this (w 0) (Nat.le_refl _)
set_option maxHeartbeats 4000000 in
set_option maxRecDepth 100000 in
theorem metX10_init (l : Launch) (G : va_G) (dA : Nat → ClassId) (dS : Nat → Nat) (B0 sz : Nat) (it : Nat) (p9 : Nat) (a : Nat) : Met l yX10_init (ws_ yX10_init cX10_init 3 (none)) ({ frames := 1, cells := 0, slots := 0, locals := 12 }) (zP G dA dS B0 [.ref it, .ref p9, .int (nI a)] sz [(it, .inr (9, [.int (0), .int (0), .null]))] (fun H => True)) (zQv G (fun (u : Unit) => True) (fun (u : Unit) => [(it, .inr (9, [.int (nI a), .int (0), .ref p9]))]) (fun (u : Unit) (H : Heap) => True) (va_A [(it, .inr (9, [.int (0), .int (0), .null]))] sz)) 0 0 (va_A [(it, .inr (9, [.int (0), .int (0), .null]))] sz) := by
  refine zM (by decide) (Nat.le_of_ble_eq_true rfl) ?_
  intro p e s m below meth c ls A H locs hHe hx hb hr hlocks hml hown hname hts hX hsz hB hAe hA hAB hH hRo hl
  have hl : lv_has ls 3 [(0, .ref it), (1, .ref p9), (2, .int (nI a))] := hl
  refine lv_aload_n hx hb dX10_init_0 rfl (lv_at hl 0 rfl) ?_
  refine lv_aload_n hx hb dX10_init_1 rfl (lv_at hl 1 rfl) ?_
  refine z_putF hx hb hts hown hX kX10 2 (by decide) hH 0 rfl q1068 (fun _ h9 => h9) rfl hname rfl rfl rfl (Nat.le_of_ble_eq_true rfl) dX10_init_2 (fun H locs hH => ?_)
  have hH : zH G A s.heap [(it, .inr (9, [.int (0), .int (0), .ref p9]))] H locs := hH
  refine lv_aload_n hx hb dX10_init_5 rfl (lv_at hl 0 rfl) ?_
  refine W.objInit hx hb hown (hts _ q1065) (hts _ q143) (hts _ q144) rfl (by rw [hml]; exact hl.1) rfl dX10_init_6 (Nat.le_of_ble_eq_true rfl) (Nat.le_of_ble_eq_true rfl) ?_
  refine W.eq (g2 := F0 m 9 ls []) rfl ?_
  refine lv_aload_n hx hb dX10_init_9 rfl (lv_at hl 0 rfl) ?_
  refine lv_iload_n hx hb dX10_init_10 rfl (lv_at hl 2 rfl) ?_
  refine z_putF hx hb hts hown hX kX10 0 (by decide) hH 0 rfl q1066 (fun _ h9 => h9) rfl hname rfl rfl rfl (Nat.le_of_ble_eq_true rfl) dX10_init_11 (fun H locs hH => ?_)
  have hH : zH G A s.heap [(it, .inr (9, [.int (nI a), .int (0), .ref p9]))] H locs := hH
  exact z_vret hx hb hr hlocks hH (u := ()) trivial ⟨hH.1, hH.2.1⟩ trivial (Nat.le_of_ble_eq_true rfl) (Nat.le_of_ble_eq_true rfl) dX10_init_14

set_option maxHeartbeats 4000000 in
set_option maxRecDepth 100000 in
theorem metX8_init (l : Launch) (G : va_G) (dA : Nat → ClassId) (dS : Nat → Nat) (B0 sz : Nat) (it : Nat) (p9 : Nat) (a : Nat) : Met l yX8_init (ws_ yX8_init cX8_init 3 (none)) ({ frames := 1, cells := 0, slots := 0, locals := 12 }) (zP G dA dS B0 [.ref it, .ref p9, .int (nI a)] sz [(it, .inr (7, [.int (0), .null]))] (fun H => True)) (zQv G (fun (u : Unit) => True) (fun (u : Unit) => [(it, .inr (7, [.int (nI a), .ref p9]))]) (fun (u : Unit) (H : Heap) => True) (va_A [(it, .inr (7, [.int (0), .null]))] sz)) 0 0 (va_A [(it, .inr (7, [.int (0), .null]))] sz) := by
  refine zM (by decide) (Nat.le_of_ble_eq_true rfl) ?_
  intro p e s m below meth c ls A H locs hHe hx hb hr hlocks hml hown hname hts hX hsz hB hAe hA hAB hH hRo hl
  have hl : lv_has ls 3 [(0, .ref it), (1, .ref p9), (2, .int (nI a))] := hl
  refine lv_aload_n hx hb dX8_init_0 rfl (lv_at hl 0 rfl) ?_
  refine lv_aload_n hx hb dX8_init_1 rfl (lv_at hl 1 rfl) ?_
  refine z_putF hx hb hts hown hX kX8 1 (by decide) hH 0 rfl q1027 (fun _ h9 => h9) rfl hname rfl rfl rfl (Nat.le_of_ble_eq_true rfl) dX8_init_2 (fun H locs hH => ?_)
  have hH : zH G A s.heap [(it, .inr (7, [.int (0), .ref p9]))] H locs := hH
  refine lv_aload_n hx hb dX8_init_5 rfl (lv_at hl 0 rfl) ?_
  refine lv_iload_n hx hb dX8_init_6 rfl (lv_at hl 2 rfl) ?_
  refine z_putF hx hb hts hown hX kX8 0 (by decide) hH 0 rfl q1026 (fun _ h9 => h9) rfl hname rfl rfl rfl (Nat.le_of_ble_eq_true rfl) dX8_init_7 (fun H locs hH => ?_)
  have hH : zH G A s.heap [(it, .inr (7, [.int (nI a), .ref p9]))] H locs := hH
  refine lv_aload_n hx hb dX8_init_10 rfl (lv_at hl 0 rfl) ?_
  refine W.objInit hx hb hown (hts _ q1025) (hts _ q143) (hts _ q144) rfl (by rw [hml]; exact hl.1) rfl dX8_init_11 (Nat.le_of_ble_eq_true rfl) (Nat.le_of_ble_eq_true rfl) ?_
  refine W.eq (g2 := F0 m 14 ls []) rfl ?_
  exact z_vret hx hb hr hlocks hH (u := ()) trivial ⟨hH.1, hH.2.1⟩ trivial (Nat.le_of_ble_eq_true rfl) (Nat.le_of_ble_eq_true rfl) dX8_init_14

set_option maxHeartbeats 4000000 in
set_option maxRecDepth 100000 in
theorem metX1_down (l : Launch) (G : va_G) (dA : Nat → ClassId) (dS : Nat → Nat) (B0 sz : Nat) (p9 : Nat) (a : Nat) : Met l yX1_down (ws_ yX1_down cX1_down 2 (some (FieldType.object "java/lang/Iterable"))) ({ frames := 2, cells := 1, slots := 2, locals := 34 }) (zP G dA dS B0 [.ref p9, .int (nI a)] sz [] (fun H => True)) (zQq G (fun (r : Option Nat) (u : Nat) => r = some u) (fun (u : Nat) => [(u, .inr (7, [.int (nI a), .ref p9]))]) (fun (u : Nat) (H : Heap) => True) (va_A [] sz)) 1 2 (va_A [] sz) := by
  refine zM (by decide) (Nat.le_of_ble_eq_true rfl) ?_
  intro p e s m below meth c ls A H locs hHe hx hb hr hlocks hml hown hname hts hX hsz hB hAe hA hAB hH hRo hl
  have hl : lv_has ls 2 [(0, .ref p9), (1, .int (nI a))] := hl
  refine z_new (fs := [.int (0), .null]) hx hb hts hown hX kX8 q1020 q1021 q111 hH hA (fun _ hj => z_df2 (ty := tyX8) (v0 := .int (0)) (v1 := .null) rfl rfl hj) (Nat.le_of_ble_eq_true rfl) (Nat.le_of_ble_eq_true rfl) dX1_down_0 (fun qn_1 H hH _ _ => ?_)
  have hH : zH G A s.heap [(qn_1, .inr (7, [.int (0), .null]))] H locs := hH
  refine lv_dup hx hb dX1_down_3 rfl ?_
  refine lv_aload_n hx hb dX1_down_4 rfl (lv_at hl 0 rfl) ?_
  refine lv_iload_n hx hb dX1_down_5 rfl (lv_at hl 1 rfl) ?_
  refine z_cv (wr := []) (va_runI (As := [.ref p9, .int (nI a)]) (rest := [.ref qn_1]) ⟨hx, hb, hml, hown, hts⟩ (metX8_init l G dA dS B0 H.size qn_1 p9 a) (cwI 2 hts (lw_meth q1024) rfl rfl rfl (hts _ q111) (hts _ q1022) (hts _ q1023) rfl (by decide +kernel) ⟨Nat.le_of_ble_eq_true rfl, Nat.le_of_ble_eq_true rfl⟩) (zPS hX hH hB hAB [0] rfl rfl trivial) rfl rfl hl.1 rfl (lv_room (Nat.le_of_ble_eq_true rfl)) dX1_down_6 ⟨(Nat.le_of_ble_eq_true rfl), (Nat.le_of_ble_eq_true rfl)⟩) hH hA [0] [] rfl rfl (by decide) (by decide) (fun u_r_2 H locs hw_r_2 hH hR_r_2 hk_r_2 => ?_)
  have hH : zH G A s.heap [(qn_1, .inr (7, [.int (nI a), .ref p9]))] H locs := hH
  exact z_qret hx hb hr hlocks hH (by first | exact Or.inl ⟨_, rfl⟩ | exact Or.inr ⟨_, rfl⟩) (v := some qn_1) (u := qn_1) (by rfl) ⟨hH.1, hH.2.1⟩ trivial (Nat.le_of_ble_eq_true rfl) (Nat.le_of_ble_eq_true rfl) dX1_down_9

set_option maxHeartbeats 4000000 in
set_option maxRecDepth 100000 in
theorem metX8_iterator (l : Launch) (G : va_G) (dA : Nat → ClassId) (dS : Nat → Nat) (B0 sz : Nat) (it : Nat) (p9 : Nat) (a : Nat) : Met l yX8_iterator (ws_ yX8_iterator cX8_iterator 1 (some (FieldType.object "java/util/Iterator"))) ({ frames := 2, cells := 1, slots := 3, locals := 34 }) (zP G dA dS B0 [.ref it] sz [(it, .inr (7, [.int (nI a), .ref p9]))] (fun H => True)) (zQq G (fun (r : Option Nat) (u : Nat) => r = some u) (fun (u : Nat) => [(it, .inr (7, [.int (nI a), .ref p9])), (u, .inr (9, [.int (nI a), .int (0), .ref p9]))]) (fun (u : Nat) (H : Heap) => True) (va_A [(it, .inr (7, [.int (nI a), .ref p9]))] sz)) 1 3 (va_A [(it, .inr (7, [.int (nI a), .ref p9]))] sz) := by
  refine zM (by decide) (Nat.le_of_ble_eq_true rfl) ?_
  intro p e s m below meth c ls A H locs hHe hx hb hr hlocks hml hown hname hts hX hsz hB hAe hA hAB hH hRo hl
  have hl : lv_has ls 1 [(0, .ref it)] := hl
  refine z_new (fs := [.int (0), .int (0), .null]) hx hb hts hown hX kX10 q1061 q423 q113 hH hA (fun _ hj => z_df3 (ty := tyX10) (v0 := .int (0)) (v1 := .int (0)) (v2 := .null) rfl rfl rfl hj) (Nat.le_of_ble_eq_true rfl) (Nat.le_of_ble_eq_true rfl) dX8_iterator_0 (fun qn_1 H hH _ _ => ?_)
  have hH : zH G A s.heap [(it, .inr (7, [.int (nI a), .ref p9])), (qn_1, .inr (9, [.int (0), .int (0), .null]))] H locs := hH
  refine lv_dup hx hb dX8_iterator_3 rfl ?_
  refine lv_aload_n hx hb dX8_iterator_4 rfl (lv_at hl 0 rfl) ?_
  refine z_get (v := .ref p9) hx hb hts hown hX kX8 1 (by decide) (hH.at 0 rfl) rfl q1027 (fun _ h9 => h9) dX8_iterator_5 ?_
  refine lv_aload_n hx hb dX8_iterator_8 rfl (lv_at hl 0 rfl) ?_
  refine z_get (v := .int (nI a)) hx hb hts hown hX kX8 0 (by decide) (hH.at 0 rfl) rfl q1026 (fun _ h9 => h9) dX8_iterator_9 ?_
  refine z_cv (wr := [(it, .inr (7, [.int (nI a), .ref p9]))]) (va_runI (As := [.ref p9, .int (nI a)]) (rest := [.ref qn_1]) ⟨hx, hb, hml, hown, hts⟩ (metX10_init l G dA dS B0 H.size qn_1 p9 a) (cwI 2 hts (lw_meth q1064) rfl rfl rfl (hts _ q113) (hts _ q1062) (hts _ q1063) rfl (by decide +kernel) ⟨Nat.le_of_ble_eq_true rfl, Nat.le_of_ble_eq_true rfl⟩) (zPS hX hH hB hAB [1] rfl rfl trivial) rfl rfl hl.1 rfl (lv_room (Nat.le_of_ble_eq_true rfl)) dX8_iterator_12 ⟨(Nat.le_of_ble_eq_true rfl), (Nat.le_of_ble_eq_true rfl)⟩) hH hA [1] [0] rfl rfl (by decide) (by decide) (fun u_r_2 H locs hw_r_2 hH hR_r_2 hk_r_2 => ?_)
  have hH : zH G A s.heap [(it, .inr (7, [.int (nI a), .ref p9])), (qn_1, .inr (9, [.int (nI a), .int (0), .ref p9]))] H locs := hH
  exact z_qret hx hb hr hlocks hH (by first | exact Or.inl ⟨_, rfl⟩ | exact Or.inr ⟨_, rfl⟩) (v := some qn_1) (u := qn_1) (by rfl) ⟨hH.1, hH.2.1⟩ trivial (Nat.le_of_ble_eq_true rfl) (Nat.le_of_ble_eq_true rfl) dX8_iterator_15

set_option maxHeartbeats 4000000 in
set_option maxRecDepth 100000 in
theorem metX10_found (l : Launch) (G : va_G) (dA : Nat → ClassId) (dS : Nat → Nat) (B0 sz : Nat) (it : Nat) (S : PS) (w : Nat → Nat) (B : Nat) (hrb : rB w B) (hBb : B + 20 < 2 ^ 30) (a : Nat) (ab : Nat) (k9 : Nat) (ha : a ≤ 3) (hab : ab ≤ 30) (hD : rD w) (hu : upto w a (ab + 1) = k9) : Met l yX10_found (ws_ yX10_found cX10_found 4 (some (FieldType.object "JokePump$Joke"))) ({ frames := 3, cells := 1, slots := 4, locals := 53 }) (zP G dA dS B0 [.ref it] sz [(it, .inr (9, [.int (nI a), .int (nI ab), .ref S.p]))] (fun H => PumpAt G dA S w H)) (zQq G (fun (r : Option Nat) (u : Unit) => r = (pla w a (nI k9)).map S.J) (fun (u : Unit) => [(it, .inr (9, [.int (nI a), .int (nI ab), .ref S.p]))]) (fun (u : Unit) (H : Heap) => True) (va_A [(it, .inr (9, [.int (nI a), .int (nI ab), .ref S.p]))] sz)) 1 4 (va_A [(it, .inr (9, [.int (nI a), .int (nI ab), .ref S.p]))] sz) := by
  refine zM (by decide) (Nat.le_of_ble_eq_true rfl) ?_
  intro p e s m below meth c ls A H locs hHe hx hb hr hlocks hml hown hname hts hX hsz hB hAe hA hAB hH hRo hl
  have hl : lv_has ls 4 [(0, .ref it)] := hl
  have hbw := hrb.lt (by omega)
  have h12 := hrb.1
  have hcp := hRo.c
  have hit9 := hH.at 0 rfl
  rw [hHe] at hit9
  refine lv_null hx hb dX10_found_0 ?_
  refine lv_astore_nN (lv' := [(1, .null), (0, .ref it)]) hx hb dX10_found_1 rfl hl (by decide) rfl (fun ls hl => ?_)
  refine lv_aload_n hx hb dX10_found_2 rfl (lv_at hl 1 rfl) ?_
  refine z_get (v := .ref S.p) hx hb hts hown hX kX10 2 (by decide) (hH.at 0 rfl) rfl q1068 (fun _ h9 => h9) dX10_found_3 ?_
  refine z_getN (v := .ref S.l) hx hb hts hown hX kX1 0 (by decide) ((z_fzPI hX (.inr 9) (by decide +kernel) rfl hit9 hH hAe hRo).p) rfl q183 (fun _ h9 => h9) dX10_found_6 ?_
  refine z_cq (wr := [(it, .inr (9, [.int (nI a), .int (nI ab), .ref S.p]))]) (va_runV (As := []) (rest := []) ⟨hx, hb, hml, hown, hts⟩ (metJ2_iterator l G dA dS B0 H.size S.l S.md S.a (w 0)) (cwV 0 hts (lw_V q425 q374 q375 q89 q376) rfl rfl rfl (by decide +kernel) ⟨Nat.le_of_ble_eq_true rfl, Nat.le_of_ble_eq_true rfl⟩) (zPV hX hH hB hAB (z_recv hX kJ2 ((z_fzPI hX (.inr 9) (by decide +kernel) rfl hit9 hH hAe hRo).l)) [] rfl rfl ((z_fzPI hX (.inr 9) (by decide +kernel) rfl hit9 hH hAe hRo).l)) rfl rfl hl.1 rfl (lv_room (Nat.le_of_ble_eq_true rfl)) dX10_found_9 ⟨(Nat.le_of_ble_eq_true rfl), (Nat.le_of_ble_eq_true rfl)⟩) hH hA [] [0] rfl rfl (by decide) (by decide) (fun r_1 u_r_1 H locs hw_r_1 hH hR_r_1 hk_r_1 => ?_)
  obtain rfl := hw_r_1
  refine z_st (st' := [.ref u_r_1]) rfl ?_
  have hH : zH G A s.heap [(it, .inr (9, [.int (nI a), .int (nI ab), .ref S.p])), (u_r_1, .inr (25, [.int (nI 0), .int ((-1)), .int (S.md), .ref S.l]))] H locs := hH
  refine lv_astore_n (lv' := [(2, .ref u_r_1), (1, .null), (0, .ref it)]) hx hb dX10_found_12 rfl hl (by decide) rfl (fun ls hl => ?_)
  have LP13_1 : ∀ (fuel : Nat) (i : Nat) (r9 : Int32) (hfu : (w 0 - i) < fuel) (hi : i ≤ w 0) (H : Heap) (locs : List Loc), zH G A s.heap [(it, .inr (9, [.int (nI a), .int (nI ab), .ref S.p])), (u_r_1, .inr (25, [.int (nI i), .int (r9), .int (S.md), .ref S.l]))] H locs → ∀ (ls : Array Slot), lv_has ls 4 [(2, .ref u_r_1), (0, .ref it), (1, va_rf ((dnF w a ab i).map S.J))] → W p l e (headSpec (ws_ yX10_found cX10_found 4 (some (FieldType.object "JokePump$Joke"))) ({ frames := 3, cells := 1, slots := 4, locals := 53 })).room s m ([.ref it] : List Value).toArray below meth c H locs 1 4 (MQ below (zQq G (fun (r : Option Nat) (u : Unit) => r = (pla w a (nI k9)).map S.J) (fun (u : Unit) => [(it, .inr (9, [.int (nI a), .int (nI ab), .ref S.p]))]) (fun (u : Unit) (H : Heap) => True) A) ([.ref it] : List Value).toArray s 1 4 A) (F0 m 13 ls []) := by
    intro fuel
    induction fuel with
    | zero => intro i r9 hfu; exact absurd hfu (Nat.not_lt_zero _)
    | succ fuel ih13 =>
      intro i r9 hfu hi H locs hH ls hl
      have hji := fun h => hrb.2.2.1 i h
      refine lv_aload_n hx hb dX10_found_13 rfl (lv_at hl 0 rfl) ?_
      refine z_cFi (wr := [(it, .inr (9, [.int (nI a), .int (nI ab), .ref S.p]))]) (va_runF (hX.1.1 25 _ kJ4.1).2 (As := []) (rest := []) ⟨hx, hb, hml, hown, hts⟩ (metJ4_hasNext l G dA dS B0 H.size u_r_1 S.l S.md S.a (w 0) i r9 (by first | exact hi | assumption | omega) (by first | exact hn | assumption | omega)) (va_cwF 0 hts (lw_F q427 q435 q437 q94 q439) rfl rfl rfl (z_F hX 4 (q := ("java/util/ArrayList$Itr", ⟨"java/util/Iterator", "hasNext", "()Z"⟩, ⟨"java/util/ArrayList$Itr", "hasNext", "()Z"⟩)) rfl) (by decide +kernel) ⟨Nat.le_of_ble_eq_true rfl, Nat.le_of_ble_eq_true rfl⟩) (zPV hX hH hB hAB (z_recv hX kJ4 (hH.at 1 rfl)) [1] rfl rfl ((z_fzPI hX (.inr 9) (by decide +kernel) rfl hit9 hH hAe hRo).l)) rfl rfl hl.1 rfl (lv_room (Nat.le_of_ble_eq_true rfl)) dX10_found_14 ⟨(Nat.le_of_ble_eq_true rfl), (Nat.le_of_ble_eq_true rfl)⟩) hH hA [1] [0] rfl rfl (by decide) (by decide) (fun r_3 u_r_3 H locs hw_r_3 hH hR_r_3 hk_r_3 => ?_)
      obtain rfl := hw_r_3
      have hH : zH G A s.heap [(it, .inr (9, [.int (nI a), .int (nI ab), .ref S.p])), (u_r_1, .inr (25, [.int (nI i), .int (r9), .int (S.md), .ref S.l]))] H locs := hH
      refine z_ifeqB (b := decide (i < (w 0))) (tgt := 74) hx hb dX10_found_19 (by decide) (fun c_19_4 => ?_) (fun c_19_4 => ?_)
      · skip
        have ec_19_4 := of_decide_eq_false c_19_4
        refine z_qload_n hx hb dX10_found_74 rfl (lv_at hl 2 rfl) ?_
        have hH : zH G A s.heap [(it, .inr (9, [.int (nI a), .int (nI ab), .ref S.p]))] H locs := hH.sub [0] rfl rfl
        exact z_qret hx hb hr hlocks hH (by first | exact Or.inl ⟨_, rfl⟩ | exact Or.inr ⟨_, rfl⟩) (v := ((dnF w a ab i).map S.J)) (u := ()) (by (have e : i = w 0 := (by omega)); subst e; rw [dnF_pla h12 hD hu]) ⟨hH.1, hH.2.1⟩ trivial (Nat.le_of_ble_eq_true rfl) (Nat.le_of_ble_eq_true rfl) dX10_found_75
      · skip
        have ec_19_4 := of_decide_eq_true c_19_4
        refine lv_aload_n hx hb dX10_found_22 rfl (lv_at hl 0 rfl) ?_
        refine z_cFq (wr := [(it, .inr (9, [.int (nI a), .int (nI ab), .ref S.p]))]) (va_runF (hX.1.1 25 _ kJ4.1).2 (As := []) (rest := []) ⟨hx, hb, hml, hown, hts⟩ (metJ4_next l G dA dS B0 H.size u_r_1 S.l S.md S.a (w 0) i r9 S.cp (eF (w 0) S.J) (by first | exact hi | assumption | omega) (by first | exact hc | assumption | omega) (by first | exact hcp | assumption | omega)) (va_cwF 0 hts (lw_F q441 q541 q543 q94 q545) rfl rfl rfl (z_F hX 5 (q := ("java/util/ArrayList$Itr", ⟨"java/util/Iterator", "next", "()Ljava/lang/Object;"⟩, ⟨"java/util/ArrayList$Itr", "next", "()Ljava/lang/Object;"⟩)) rfl) (by decide +kernel) ⟨Nat.le_of_ble_eq_true rfl, Nat.le_of_ble_eq_true rfl⟩) (zPV hX hH hB hAB (z_recv hX kJ4 (hH.at 1 rfl)) [1] rfl rfl (⟨((z_fzPI hX (.inr 9) (by decide +kernel) rfl hit9 hH hAe hRo).l), ((z_fzPI hX (.inr 9) (by decide +kernel) rfl hit9 hH hAe hRo).a (by omega))⟩)) rfl rfl hl.1 rfl (lv_room (Nat.le_of_ble_eq_true rfl)) dX10_found_23 ⟨(Nat.le_of_ble_eq_true rfl), (Nat.le_of_ble_eq_true rfl)⟩) hH hA [1] [0] rfl rfl (by decide) (by decide) (fun r_5 u_r_5 H locs hw_r_5 hH hR_r_5 hk_r_5 => ?_)
        obtain rfl := hw_r_5
        refine z_st (st' := [.ref (S.J i)]) (by rw [eF_lt (by omega)]; rfl) ?_
        have hH : zH G A s.heap [(it, .inr (9, [.int (nI a), .int (nI ab), .ref S.p])), (u_r_1, .inr (25, [.int (nI (i + 1)), .int (nI i), .int (S.md), .ref S.l]))] H locs := hH
        have hjk9 := hji (by omega)
        refine z_ckc hx hb hown (hts _ q550) hX kX5 ((z_fzPI hX (.inr 9) (by decide +kernel) rfl hit9 hH hAe hRo).j (k := i) (by first | assumption | omega)) dX10_found_28 ?_
        refine lv_astore_n (lv' := [(3, .ref (S.J i)), (2, .ref u_r_1), (0, .ref it), (1, va_rf ((dnF w a ab i).map S.J))]) hx hb dX10_found_31 rfl hl (by decide) rfl (fun ls hl => ?_)
        refine lv_aload_n hx hb dX10_found_32 rfl (lv_at hl 0 rfl) ?_
        refine z_getN (v := .int (nI (jk w i 0))) hx hb hts hown hX kX5 1 (by decide) ((z_fzPI hX (.inr 9) (by decide +kernel) rfl hit9 hH hAe hRo).j (k := i) (by first | assumption | omega)) rfl q580 (fun _ h9 => h9) dX10_found_33 ?_
        refine lv_aload_n hx hb dX10_found_36 rfl (lv_at hl 2 rfl) ?_
        refine z_get (v := .int (nI a)) hx hb hts hown hX kX10 0 (by decide) (hH.at 0 rfl) rfl q1066 (fun _ h9 => h9) dX10_found_37 ?_
        refine z_icmp_ne (tgt := 71) hx hb dX10_found_40 (by decide) (by omega) (by omega) (fun c_40_6 => ?_) (fun c_40_6 => ?_)
        · skip
          refine lv_goto (tgt := 13) hx hb dX10_found_71 (by decide) ?_
          have ev_7 : (va_rf ((dnF w a ab i).map S.J) : Value) = va_rf ((dnF w a ab (i + 1)).map S.J) := by first | rfl | (simp only [dnF]; simp [va_rf, c_19_4, ec_19_4, c_40_6]; done)
          have hl : lv_has ls 4 [(2, .ref u_r_1), (0, .ref it), (1, va_rf ((dnF w a ab (i + 1)).map S.J))] := z_lv (lv_sub hl [1, 2, 3] rfl) (by rw [ev_7] <;> rfl)
          exact ih13 (i + 1) (nI i) (by omega) (by omega) _ _ hH ls (lv_sub hl [0, 1, 2] rfl)
        · skip
          refine lv_aload_n hx hb dX10_found_43 rfl (lv_at hl 0 rfl) ?_
          refine z_getN (v := .int (nI (jk w i 1))) hx hb hts hown hX kX5 2 (by decide) ((z_fzPI hX (.inr 9) (by decide +kernel) rfl hit9 hH hAe hRo).j (k := i) (by first | assumption | omega)) rfl q584 (fun _ h9 => h9) dX10_found_44 ?_
          refine lv_aload_n hx hb dX10_found_47 rfl (lv_at hl 2 rfl) ?_
          refine z_get (v := .int (nI ab)) hx hb hts hown hX kX10 1 (by decide) (hH.at 0 rfl) rfl q1067 (fun _ h9 => h9) dX10_found_48 ?_
          refine z_icmp_le (tgt := 71) hx hb dX10_found_51 (by decide) (by omega) (by omega) (fun c_51_8 => ?_) (fun c_51_8 => ?_)
          · skip
            have dc_51_8 := Nat.not_lt.mp c_51_8
            refine lv_goto (tgt := 13) hx hb dX10_found_71 (by decide) ?_
            have ev_9 : (va_rf ((dnF w a ab i).map S.J) : Value) = va_rf ((dnF w a ab (i + 1)).map S.J) := by first | rfl | (simp only [dnF]; simp [va_rf, c_19_4, ec_19_4, c_40_6, c_51_8, dc_51_8]; done)
            have hl : lv_has ls 4 [(2, .ref u_r_1), (0, .ref it), (1, va_rf ((dnF w a ab (i + 1)).map S.J))] := z_lv (lv_sub hl [1, 2, 3] rfl) (by rw [ev_9] <;> rfl)
            exact ih13 (i + 1) (nI i) (by omega) (by omega) _ _ hH ls (lv_sub hl [0, 1, 2] rfl)
          · skip
            rcases ho_54 : dnF w a ab i with _ | b8
            · skip
              have hl : lv_has ls 4 [(3, .ref (S.J i)), (2, .ref u_r_1), (0, .ref it), (1, .null)] := z_lv hl (by first | rfl | (rw [ho_54]; rfl))
              refine lv_aload_nN hx hb dX10_found_54 rfl (lv_at hl 3 rfl) ?_
              refine lv_ifnullN (tgt := 69) hx hb dX10_found_55 (by decide) ?_
              refine lv_aload_n hx hb dX10_found_69 rfl (lv_at hl 0 rfl) ?_
              refine lv_astore_n (lv' := [(1, .ref (S.J i)), (3, .ref (S.J i)), (2, .ref u_r_1), (0, .ref it)]) hx hb dX10_found_70 rfl hl (by decide) rfl (fun ls hl => ?_)
              refine lv_goto (tgt := 13) hx hb dX10_found_71 (by decide) ?_
              have ev_10 : (.ref (S.J i) : Value) = va_rf ((dnF w a ab (i + 1)).map S.J) := by first | rfl | (simp only [dnF]; simp [va_rf, c_19_4, ec_19_4, c_40_6, c_51_8, ho_54]; done)
              have hl : lv_has ls 4 [(2, .ref u_r_1), (0, .ref it), (1, va_rf ((dnF w a ab (i + 1)).map S.J))] := z_lv (lv_sub hl [2, 3, 0] rfl) (by rw [ev_10] <;> rfl)
              exact ih13 (i + 1) (nI i) (by omega) (by omega) _ _ hH ls (lv_sub hl [0, 1, 2] rfl)
            · skip
              have hl : lv_has ls 4 [(3, .ref (S.J i)), (2, .ref u_r_1), (0, .ref it), (1, .ref (S.J b8))] := z_lv hl (by first | rfl | (rw [ho_54]; rfl))
              have hb8 := (dnF_y ho_54).1
              have hjb := hrb.2.2.1 b8 (by omega)
              refine lv_aload_n hx hb dX10_found_54 rfl (lv_at hl 3 rfl) ?_
              refine lv_ifnull hx hb dX10_found_55 ?_
              refine lv_aload_n hx hb dX10_found_58 rfl (lv_at hl 0 rfl) ?_
              refine z_getN (v := .int (nI (jk w i 1))) hx hb hts hown hX kX5 2 (by decide) ((z_fzPI hX (.inr 9) (by decide +kernel) rfl hit9 hH hAe hRo).j (k := i) (by first | assumption | omega)) rfl q584 (fun _ h9 => h9) dX10_found_59 ?_
              refine lv_aload_n hx hb dX10_found_62 rfl (lv_at hl 3 rfl) ?_
              refine z_getN (v := .int (nI (jk w b8 1))) hx hb hts hown hX kX5 2 (by decide) ((z_fzPI hX (.inr 9) (by decide +kernel) rfl hit9 hH hAe hRo).j (k := b8) (by first | assumption | omega)) rfl q584 (fun _ h9 => h9) dX10_found_63 ?_
              refine z_icmp_ge (tgt := 71) hx hb dX10_found_66 (by decide) (by omega) (by omega) (fun c_66_11 => ?_) (fun c_66_11 => ?_)
              · skip
                have dc_66_11 := Nat.not_lt.mp c_66_11
                refine lv_goto (tgt := 13) hx hb dX10_found_71 (by decide) ?_
                have ev_12 : (.ref (S.J b8) : Value) = va_rf ((dnF w a ab (i + 1)).map S.J) := by first | rfl | (simp only [dnF]; simp [va_rf, c_19_4, ec_19_4, c_40_6, c_51_8, ho_54, c_66_11, dc_66_11]; done)
                have hl : lv_has ls 4 [(2, .ref u_r_1), (0, .ref it), (1, va_rf ((dnF w a ab (i + 1)).map S.J))] := z_lv (lv_sub hl [1, 2, 3] rfl) (by rw [ev_12] <;> rfl)
                exact ih13 (i + 1) (nI i) (by omega) (by omega) _ _ hH ls (lv_sub hl [0, 1, 2] rfl)
              · skip
                refine lv_aload_n hx hb dX10_found_69 rfl (lv_at hl 0 rfl) ?_
                refine lv_astore_n (lv' := [(1, .ref (S.J i)), (3, .ref (S.J i)), (2, .ref u_r_1), (0, .ref it)]) hx hb dX10_found_70 rfl hl (by decide) rfl (fun ls hl => ?_)
                refine lv_goto (tgt := 13) hx hb dX10_found_71 (by decide) ?_
                have ev_13 : (.ref (S.J i) : Value) = va_rf ((dnF w a ab (i + 1)).map S.J) := by first | rfl | (simp only [dnF]; simp [va_rf, c_19_4, ec_19_4, c_40_6, c_51_8, ho_54, c_66_11]; done)
                have hl : lv_has ls 4 [(2, .ref u_r_1), (0, .ref it), (1, va_rf ((dnF w a ab (i + 1)).map S.J))] := z_lv (lv_sub hl [2, 3, 0] rfl) (by rw [ev_13] <;> rfl)
                exact ih13 (i + 1) (nI i) (by omega) (by omega) _ _ hH ls (lv_sub hl [0, 1, 2] rfl)
  have ev_14 : (.null : Value) = va_rf ((dnF w a ab 0).map S.J) := by first | rfl | (simp only [dnF]; simp [va_rf]; done)
  have hl : lv_has ls 4 [(2, .ref u_r_1), (0, .ref it), (1, va_rf ((dnF w a ab 0).map S.J))] := z_lv (lv_sub hl [0, 2, 1] rfl) (by rw [ev_14] <;> rfl)
  exact LP13_1 ((w 0 - 0) + 1) 0 (-1) (Nat.lt_succ_self _) (by omega) _ _ hH ls (lv_sub hl [0, 1, 2] rfl)

set_option maxHeartbeats 4000000 in
set_option maxRecDepth 100000 in
theorem metX10_hasNext (l : Launch) (G : va_G) (dA : Nat → ClassId) (dS : Nat → Nat) (B0 sz : Nat) (it : Nat) (S : PS) (w : Nat → Nat) (B : Nat) (hrb : rB w B) (hBb : B + 20 < 2 ^ 30) (a : Nat) (ab : Nat) (k9 : Nat) (ha : a ≤ 3) (hab : ab ≤ 30) (hD : rD w) (hu : upto w a (ab + 1) = k9) : Met l yX10_hasNext (ws_ yX10_hasNext cX10_hasNext 1 (some FieldType.boolean)) ({ frames := 4, cells := 1, slots := 4, locals := 76 }) (zP G dA dS B0 [.ref it] sz [(it, .inr (9, [.int (nI a), .int (nI ab), .ref S.p]))] (fun H => PumpAt G dA S w H)) (zQi G (fun (r : Int32) (u : Unit) => r = nI (bN ((pla w a (nI k9)).isSome))) (fun (u : Unit) => [(it, .inr (9, [.int (nI a), .int (nI ab), .ref S.p]))]) (fun (u : Unit) (H : Heap) => True) (va_A [(it, .inr (9, [.int (nI a), .int (nI ab), .ref S.p]))] sz)) 1 4 (va_A [(it, .inr (9, [.int (nI a), .int (nI ab), .ref S.p]))] sz) := by
  refine zM (by decide) (Nat.le_of_ble_eq_true rfl) ?_
  intro p e s m below meth c ls A H locs hHe hx hb hr hlocks hml hown hname hts hX hsz hB hAe hA hAB hH hRo hl
  have hl : lv_has ls 1 [(0, .ref it)] := hl
  have hbw := hrb.lt (by omega)
  have h12 := hrb.1
  have hcp := hRo.c
  have hit9 := hH.at 0 rfl
  rw [hHe] at hit9
  refine lv_aload_n hx hb dX10_hasNext_0 rfl (lv_at hl 0 rfl) ?_
  refine z_cq (wr := []) (va_runV (As := []) (rest := []) ⟨hx, hb, hml, hown, hts⟩ (metX10_found l G dA dS B0 H.size it S w B (by first | exact hrb | assumption | omega) (by first | exact hBb | assumption | omega) a ab k9 (by first | exact ha | assumption | omega) (by first | exact hab | assumption | omega) (by first | exact hD | assumption | omega) (by first | exact hu | assumption | omega)) (cwV 0 hts (lw_V q420 q422 qs1 q113 q424) rfl rfl rfl (by decide +kernel) ⟨Nat.le_of_ble_eq_true rfl, Nat.le_of_ble_eq_true rfl⟩) (zPV hX hH hB hAB (z_recv hX kX10 (hH.at 0 rfl)) [0] rfl rfl (z_fzPI hX (.inr 9) (by decide +kernel) rfl hit9 hH hAe hRo)) rfl rfl hl.1 rfl (lv_room (Nat.le_of_ble_eq_true rfl)) dX10_hasNext_1 ⟨(Nat.le_of_ble_eq_true rfl), (Nat.le_of_ble_eq_true rfl)⟩) hH hA [0] [] rfl rfl (by decide) (by decide) (fun r_1 u_r_1 H locs hw_r_1 hH hR_r_1 hk_r_1 => ?_)
  obtain rfl := hw_r_1
  have hH : zH G A s.heap [(it, .inr (9, [.int (nI a), .int (nI ab), .ref S.p]))] H locs := hH
  rcases ho_4 : pla w a (nI k9) with _ | b8
  · skip
    refine z_st (st' := [.null]) (by first | rfl | (rw [ho_4]; rfl)) ?_
    refine lv_ifnullN (tgt := 11) hx hb dX10_hasNext_4 (by decide) ?_
    refine lv_iconst (v := nI 0) hx hb dX10_hasNext_11 (by decide) ?_
    exact z_zret hx hb hr hlocks hH (by first | rfl | exact z_narB _ | decide) (u := ()) (by first | rfl | (rw [ho_4]; rfl)) ⟨hH.1, hH.2.1⟩ trivial (Nat.le_of_ble_eq_true rfl) (Nat.le_of_ble_eq_true rfl) dX10_hasNext_12
  · skip
    refine z_st (st' := [.ref (S.J b8)]) (by first | rfl | (rw [ho_4]; rfl)) ?_
    refine lv_ifnull hx hb dX10_hasNext_4 ?_
    refine lv_iconst (v := nI 1) hx hb dX10_hasNext_7 (by decide) ?_
    refine lv_goto (tgt := 12) hx hb dX10_hasNext_8 (by decide) ?_
    exact z_zret hx hb hr hlocks hH (by first | rfl | exact z_narB _ | decide) (u := ()) (by first | rfl | (rw [ho_4]; rfl)) ⟨hH.1, hH.2.1⟩ trivial (Nat.le_of_ble_eq_true rfl) (Nat.le_of_ble_eq_true rfl) dX10_hasNext_12

set_option maxHeartbeats 4000000 in
set_option maxRecDepth 100000 in
theorem metX10_next_2 (l : Launch) (G : va_G) (dA : Nat → ClassId) (dS : Nat → Nat) (B0 sz : Nat) (it : Nat) (S : PS) (w : Nat → Nat) (B : Nat) (hrb : rB w B) (hBb : B + 20 < 2 ^ 30) (a : Nat) (ab : Nat) (k9 : Nat) (ha : a ≤ 3) (hab : ab ≤ 30) (hD : rD w) (hu : upto w a (ab + 1) = k9) (j9 : Nat) (hp : pla w a (nI k9) = some j9) : Met l yX10_next_2 (ws_ yX10_next_2 cX10_next_2 2 (some (FieldType.object "JokePump$Joke"))) ({ frames := 4, cells := 1, slots := 4, locals := 76 }) (zP G dA dS B0 [.ref it] sz [(it, .inr (9, [.int (nI a), .int (nI ab), .ref S.p]))] (fun H => PumpAt G dA S w H)) (zQq G (fun (r : Option Nat) (u : Unit) => r = some (S.J j9)) (fun (u : Unit) => [(it, .inr (9, [.int (nI a), .int (nI (jk w j9 1)), .ref S.p]))]) (fun (u : Unit) (H : Heap) => True) (va_A [(it, .inr (9, [.int (nI a), .int (nI ab), .ref S.p]))] sz)) 1 4 (va_A [(it, .inr (9, [.int (nI a), .int (nI ab), .ref S.p]))] sz) := by
  refine zM (by decide) (Nat.le_of_ble_eq_true rfl) ?_
  intro p e s m below meth c ls A H locs hHe hx hb hr hlocks hml hown hname hts hX hsz hB hAe hA hAB hH hRo hl
  have hl : lv_has ls 2 [(0, .ref it)] := hl
  have hbw := hrb.lt (by omega)
  have h12 := hrb.1
  have hcp := hRo.c
  have hit9 := hH.at 0 rfl
  rw [hHe] at hit9
  have hj9 := (fO_spec hp).1
  refine lv_aload_n hx hb dX10_next_2_0 rfl (lv_at hl 0 rfl) ?_
  refine z_cq (wr := []) (va_runV (As := []) (rest := []) ⟨hx, hb, hml, hown, hts⟩ (metX10_found l G dA dS B0 H.size it S w B (by first | exact hrb | assumption | omega) (by first | exact hBb | assumption | omega) a ab k9 (by first | exact ha | assumption | omega) (by first | exact hab | assumption | omega) (by first | exact hD | assumption | omega) (by first | exact hu | assumption | omega)) (cwV 0 hts (lw_V q420 q422 qs1 q113 q424) rfl rfl rfl (by decide +kernel) ⟨Nat.le_of_ble_eq_true rfl, Nat.le_of_ble_eq_true rfl⟩) (zPV hX hH hB hAB (z_recv hX kX10 (hH.at 0 rfl)) [0] rfl rfl (z_fzPI hX (.inr 9) (by decide +kernel) rfl hit9 hH hAe hRo)) rfl rfl hl.1 rfl (lv_room (Nat.le_of_ble_eq_true rfl)) dX10_next_2_1 ⟨(Nat.le_of_ble_eq_true rfl), (Nat.le_of_ble_eq_true rfl)⟩) hH hA [0] [] rfl rfl (by decide) (by decide) (fun r_1 u_r_1 H locs hw_r_1 hH hR_r_1 hk_r_1 => ?_)
  obtain rfl := hw_r_1
  have hH : zH G A s.heap [(it, .inr (9, [.int (nI a), .int (nI ab), .ref S.p]))] H locs := hH
  refine z_st (st' := [.ref (S.J j9)]) (by rw [hp]; rfl) ?_
  refine lv_astore_n (lv' := [(1, .ref (S.J j9)), (0, .ref it)]) hx hb dX10_next_2_4 rfl hl (by decide) rfl (fun ls hl => ?_)
  refine lv_aload_n hx hb dX10_next_2_5 rfl (lv_at hl 0 rfl) ?_
  refine lv_ifnonnull (tgt := 17) hx hb dX10_next_2_6 (by decide) ?_
  refine lv_aload_n hx hb dX10_next_2_17 rfl (lv_at hl 1 rfl) ?_
  refine lv_aload_n hx hb dX10_next_2_18 rfl (lv_at hl 0 rfl) ?_
  refine z_getN (v := .int (nI (jk w j9 1))) hx hb hts hown hX kX5 2 (by decide) ((z_fzPI hX (.inr 9) (by decide +kernel) rfl hit9 hH hAe hRo).j (k := j9) (by first | assumption | omega)) rfl q584 (fun _ h9 => h9) dX10_next_2_19 ?_
  refine z_put hx hb hts hown hX kX10 1 (by decide) hH 0 rfl q1067 (fun _ h9 => h9) rfl rfl rfl (Nat.le_of_ble_eq_true rfl) dX10_next_2_22 (fun H locs hH => ?_)
  have hH : zH G A s.heap [(it, .inr (9, [.int (nI a), .int (nI (jk w j9 1)), .ref S.p]))] H locs := hH
  refine lv_aload_n hx hb dX10_next_2_25 rfl (lv_at hl 0 rfl) ?_
  exact z_qret hx hb hr hlocks hH (by first | exact Or.inl ⟨_, rfl⟩ | exact Or.inr ⟨_, rfl⟩) (v := some (S.J j9)) (u := ()) (by rfl) ⟨hH.1, hH.2.1⟩ trivial (Nat.le_of_ble_eq_true rfl) (Nat.le_of_ble_eq_true rfl) dX10_next_2_26

set_option maxHeartbeats 4000000 in
set_option maxRecDepth 100000 in
theorem metX10_next (l : Launch) (G : va_G) (dA : Nat → ClassId) (dS : Nat → Nat) (B0 sz : Nat) (it : Nat) (S : PS) (w : Nat → Nat) (B : Nat) (hrb : rB w B) (hBb : B + 20 < 2 ^ 30) (a : Nat) (ab : Nat) (k9 : Nat) (ha : a ≤ 3) (hab : ab ≤ 30) (hD : rD w) (hu : upto w a (ab + 1) = k9) (j9 : Nat) (hp : pla w a (nI k9) = some j9) : Met l yX10_next (ws_ yX10_next cX10_next 1 (some (FieldType.object "java/lang/Object"))) ({ frames := 5, cells := 1, slots := 4, locals := 97 }) (zP G dA dS B0 [.ref it] sz [(it, .inr (9, [.int (nI a), .int (nI ab), .ref S.p]))] (fun H => PumpAt G dA S w H)) (zQq G (fun (r : Option Nat) (u : Unit) => r = some (S.J j9)) (fun (u : Unit) => [(it, .inr (9, [.int (nI a), .int (nI (jk w j9 1)), .ref S.p]))]) (fun (u : Unit) (H : Heap) => True) (va_A [(it, .inr (9, [.int (nI a), .int (nI ab), .ref S.p]))] sz)) 1 4 (va_A [(it, .inr (9, [.int (nI a), .int (nI ab), .ref S.p]))] sz) := by
  refine zM (by decide) (Nat.le_of_ble_eq_true rfl) ?_
  intro p e s m below meth c ls A H locs hHe hx hb hr hlocks hml hown hname hts hX hsz hB hAe hA hAB hH hRo hl
  have hl : lv_has ls 1 [(0, .ref it)] := hl
  have hbw := hrb.lt (by omega)
  have h12 := hrb.1
  have hcp := hRo.c
  have hit9 := hH.at 0 rfl
  rw [hHe] at hit9
  have hj9 := (fO_spec hp).1
  refine lv_aload_n hx hb dX10_next_0 rfl (lv_at hl 0 rfl) ?_
  refine z_cq (wr := []) (va_runV (As := []) (rest := []) ⟨hx, hb, hml, hown, hts⟩ (metX10_next_2 l G dA dS B0 H.size it S w B (by first | exact hrb | assumption | omega) (by first | exact hBb | assumption | omega) a ab k9 (by first | exact ha | assumption | omega) (by first | exact hab | assumption | omega) (by first | exact hD | assumption | omega) (by first | exact hu | assumption | omega) j9 (by first | exact hp | assumption | omega)) (cwV 0 hts (lw_V q524 q525 q526 q113 q527) rfl rfl rfl (by decide +kernel) ⟨Nat.le_of_ble_eq_true rfl, Nat.le_of_ble_eq_true rfl⟩) (zPV hX hH hB hAB (z_recv hX kX10 (hH.at 0 rfl)) [0] rfl rfl (z_fzPI hX (.inr 9) (by decide +kernel) rfl hit9 hH hAe hRo)) rfl rfl hl.1 rfl (lv_room (Nat.le_of_ble_eq_true rfl)) dX10_next_1 ⟨(Nat.le_of_ble_eq_true rfl), (Nat.le_of_ble_eq_true rfl)⟩) hH hA [0] [] rfl rfl (by decide) (by decide) (fun r_1 u_r_1 H locs hw_r_1 hH hR_r_1 hk_r_1 => ?_)
  obtain rfl := hw_r_1
  refine z_st (st' := [.ref (S.J j9)]) rfl ?_
  have hH : zH G A s.heap [(it, .inr (9, [.int (nI a), .int (nI (jk w j9 1)), .ref S.p]))] H locs := hH
  exact z_qret hx hb hr hlocks hH (by first | exact Or.inl ⟨_, rfl⟩ | exact Or.inr ⟨_, rfl⟩) (v := some (S.J j9)) (u := ()) (by rfl) ⟨hH.1, hH.2.1⟩ trivial (Nat.le_of_ble_eq_true rfl) (Nat.le_of_ble_eq_true rfl) dX10_next_4

set_option maxHeartbeats 4000000 in
set_option maxRecDepth 100000 in
theorem metX1_at (l : Launch) (G : va_G) (dA : Nat → ClassId) (dS : Nat → Nat) (B0 sz : Nat) (S : PS) (w : Nat → Nat) (B : Nat) (hrb : rB w B) (hBb : B + 20 < 2 ^ 30) (a : Nat) (b : Int32) (ha : a ≤ 3) (hD : rD w) : Met l yX1_at (ws_ yX1_at cX1_at 6 (some (FieldType.object "JokePump$Joke"))) ({ frames := 6, cells := 28, slots := 112, locals := 117 }) (zP G dA dS B0 [.ref S.p, .int (nI a), .int (b)] sz [] (fun H => PumpAt G dA S w H)) (zQq G (fun (r : Option Nat) (u : Unit) => r = (pla w a b).map S.J) (fun (u : Unit) => []) (fun (u : Unit) (H : Heap) => True) (va_A [] sz)) 28 112 (va_A [] sz) := by
  refine zM (by decide) (Nat.le_of_ble_eq_true rfl) ?_
  intro p e s m below meth c ls A H locs hHe hx hb hr hlocks hml hown hname hts hX hsz hB hAe hA hAB hH hRo hl
  have hl : lv_has ls 6 [(0, .ref S.p), (1, .int (nI a)), (2, .int (b))] := hl
  have hbw := hrb.lt (by omega)
  have h12 := hrb.1
  have hcp := hRo.c
  refine lv_iconst (v := nI 0) hx hb dX1_at_0 (by decide) ?_
  refine lv_istore_n (lv' := [(3, .int (nI 0)), (0, .ref S.p), (1, .int (nI a)), (2, .int (b))]) hx hb dX1_at_1 rfl hl (by decide) rfl (fun ls hl => ?_)
  refine lv_aload_n hx hb dX1_at_2 rfl (lv_at hl 1 rfl) ?_
  refine lv_iload_n hx hb dX1_at_3 rfl (lv_at hl 2 rfl) ?_
  refine z_cq (wr := []) (va_runV (As := [.int (nI a)]) (rest := []) ⟨hx, hb, hml, hown, hts⟩ (metX1_down l G dA dS B0 H.size S.p a) (cwV 1 hts (lw_V q1016 q1017 q1018 q86 q1019) rfl rfl rfl (by decide +kernel) ⟨Nat.le_of_ble_eq_true rfl, Nat.le_of_ble_eq_true rfl⟩) (zPV hX hH hB hAB (z_recv hX kX1 (z_fz0 hH hAe (hRo.p))) [] rfl rfl trivial) rfl rfl hl.1 rfl (lv_room (Nat.le_of_ble_eq_true rfl)) dX1_at_4 ⟨(Nat.le_of_ble_eq_true rfl), (Nat.le_of_ble_eq_true rfl)⟩) hH hA [] [] rfl rfl (by decide) (by decide) (fun r_1 u_r_1 H locs hw_r_1 hH hR_r_1 hk_r_1 => ?_)
  obtain rfl := hw_r_1
  refine z_st (st' := [.ref u_r_1]) rfl ?_
  have hH : zH G A s.heap [(u_r_1, .inr (7, [.int (nI a), .ref S.p]))] H locs := hH
  refine z_cFq (wr := []) (va_runF (hX.1.1 7 _ kX8.1).2 (As := []) (rest := []) ⟨hx, hb, hml, hown, hts⟩ (metX8_iterator l G dA dS B0 H.size u_r_1 S.p a) (va_cwF 0 hts (lw_F q1034 q1056 q1058 q111 q1060) rfl rfl rfl (z_F hX 7 (q := ("JokePump$Pump$1", ⟨"java/lang/Iterable", "iterator", "()Ljava/util/Iterator;"⟩, ⟨"JokePump$Pump$1", "iterator", "()Ljava/util/Iterator;"⟩)) rfl) (by decide +kernel) ⟨Nat.le_of_ble_eq_true rfl, Nat.le_of_ble_eq_true rfl⟩) (zPV hX hH hB hAB (z_recv hX kX8 (hH.at 0 rfl)) [0] rfl rfl trivial) rfl rfl hl.1 rfl (lv_room (Nat.le_of_ble_eq_true rfl)) dX1_at_7 ⟨(Nat.le_of_ble_eq_true rfl), (Nat.le_of_ble_eq_true rfl)⟩) hH hA [0] [] rfl rfl (by decide) (by decide) (fun r_2 u_r_2 H locs hw_r_2 hH hR_r_2 hk_r_2 => ?_)
  obtain rfl := hw_r_2
  refine z_st (st' := [.ref u_r_2]) rfl ?_
  have hH : zH G A s.heap [(u_r_1, .inr (7, [.int (nI a), .ref S.p])), (u_r_2, .inr (9, [.int (nI a), .int (0), .ref S.p]))] H locs := hH
  refine lv_astore (lv' := [(4, .ref u_r_2), (3, .int (nI 0)), (0, .ref S.p), (1, .int (nI a)), (2, .int (b))]) hx hb dX1_at_12 hl (by decide) rfl (fun ls hl => ?_)
  have LP14_2 : ∀ (fuel : Nat) (i : Nat) (ab : Nat) (hfu : (13 - i) < fuel) (hi : i ≤ jin w a) (hab : ab ≤ 30) (hu : upto w a (ab + 1) = i) (hnb : ∀ x, x < i → nI x ≠ b) (H : Heap) (locs : List Loc), zH G A s.heap [(u_r_1, .inr (7, [.int (nI a), .ref S.p])), (u_r_2, .inr (9, [.int (nI a), .int (nI ab), .ref S.p]))] H locs → ∀ (ls : Array Slot), lv_has ls 6 [(0, .ref S.p), (1, .int (nI a)), (2, .int (b)), (3, .int (nI i)), (4, .ref u_r_2)] → W p l e (headSpec (ws_ yX1_at cX1_at 6 (some (FieldType.object "JokePump$Joke"))) ({ frames := 6, cells := 28, slots := 112, locals := 117 })).room s m ([.ref S.p, .int (nI a), .int (b)] : List Value).toArray below meth c H locs (2 + 2 * i) (5 + 8 * i) (MQ below (zQq G (fun (r : Option Nat) (u : Unit) => r = (pla w a b).map S.J) (fun (u : Unit) => []) (fun (u : Unit) (H : Heap) => True) A) ([.ref S.p, .int (nI a), .int (b)] : List Value).toArray s 28 112 A) (F0 m 14 ls []) := by
    intro fuel
    induction fuel with
    | zero => intro i ab hfu; exact absurd hfu (Nat.not_lt_zero _)
    | succ fuel ih14 =>
      intro i ab hfu hi hab hu hnb H locs hH ls hl
      have hjl9 := jin_le w a
      refine lv_aload hx hb dX1_at_14 (lv_at hl 4 rfl) ?_
      refine z_cFi (wr := [(u_r_1, .inr (7, [.int (nI a), .ref S.p]))]) (va_runF (hX.1.1 9 _ kX10.1).2 (As := []) (rest := []) ⟨hx, hb, hml, hown, hts⟩ (metX10_hasNext l G dA dS B0 H.size u_r_2 S w B (by first | exact hrb | assumption | omega) (by first | exact hBb | assumption | omega) a ab i (by first | exact ha | assumption | omega) (by first | exact hab | assumption | omega) (by first | exact hD | assumption | omega) (by first | exact hu | assumption | omega)) (va_cwF 0 hts (lw_F q397 q415 q417 q113 q419) rfl rfl rfl (z_F hX 2 (q := ("JokePump$Pump$Down", ⟨"java/util/Iterator", "hasNext", "()Z"⟩, ⟨"JokePump$Pump$Down", "hasNext", "()Z"⟩)) rfl) (by decide +kernel) ⟨Nat.le_of_ble_eq_true rfl, Nat.le_of_ble_eq_true rfl⟩) (zPV hX hH hB hAB (z_recv hX kX10 (hH.at 1 rfl)) [1] rfl rfl (z_fzP hH hAe hRo)) rfl rfl hl.1 rfl (lv_room (Nat.le_of_ble_eq_true rfl)) dX1_at_16 ⟨(show _ ≤ 28 from (by omega)), (show _ ≤ 112 from (by omega))⟩) hH hA [1] [0] rfl rfl (by decide) (by decide) (fun r_4 u_r_4 H locs hw_r_4 hH hR_r_4 hk_r_4 => ?_)
      obtain rfl := hw_r_4
      have hH : zH G A s.heap [(u_r_1, .inr (7, [.int (nI a), .ref S.p])), (u_r_2, .inr (9, [.int (nI a), .int (nI ab), .ref S.p]))] H locs := hH
      refine z_ifeqB (b := (pla w a (nI i)).isSome) (tgt := 50) hx hb dX1_at_21 (by decide) (fun c_21_5 => ?_) (fun c_21_5 => ?_)
      · skip
        refine lv_null hx hb dX1_at_50 ?_
        have hH : zH G A s.heap [] H locs := hH.sub [] rfl rfl
        exact z_qret hx hb hr hlocks hH (by first | exact Or.inl ⟨_, rfl⟩ | exact Or.inr ⟨_, rfl⟩) (v := none) (u := ()) (by rw [pla_no hrb hD c_21_5 hnb]; rfl) ⟨hH.1, hH.2.1⟩ trivial (show _ ≤ 28 from (by omega)) (show _ ≤ 112 from (by omega)) dX1_at_51
      · skip
        obtain ⟨j9, hj9⟩ := Option.isSome_iff_exists.mp c_21_5
        have hjx := hrb.2.2.1 j9 (fO_spec hj9).1
        have hjy := (fO_spec hj9).1
        refine lv_aload hx hb dX1_at_24 (lv_at hl 4 rfl) ?_
        refine z_cFq (wr := [(u_r_1, .inr (7, [.int (nI a), .ref S.p]))]) (va_runF (hX.1.1 9 _ kX10.1).2 (As := []) (rest := []) ⟨hx, hb, hml, hown, hts⟩ (metX10_next l G dA dS B0 H.size u_r_2 S w B (by first | exact hrb | assumption | omega) (by first | exact hBb | assumption | omega) a ab i (by first | exact ha | assumption | omega) (by first | exact hab | assumption | omega) (by first | exact hD | assumption | omega) (by first | exact hu | assumption | omega) j9 hj9) (va_cwF 0 hts (lw_F q565 q519 q521 q113 q523) rfl rfl rfl (z_F hX 3 (q := ("JokePump$Pump$Down", ⟨"java/util/Iterator", "next", "()Ljava/lang/Object;"⟩, ⟨"JokePump$Pump$Down", "next", "()Ljava/lang/Object;"⟩)) rfl) (by decide +kernel) ⟨Nat.le_of_ble_eq_true rfl, Nat.le_of_ble_eq_true rfl⟩) (zPV hX hH hB hAB (z_recv hX kX10 (hH.at 1 rfl)) [1] rfl rfl (z_fzP hH hAe hRo)) rfl rfl hl.1 rfl (lv_room (Nat.le_of_ble_eq_true rfl)) dX1_at_26 ⟨(show _ ≤ 28 from (by omega)), (show _ ≤ 112 from (by omega))⟩) hH hA [1] [0] rfl rfl (by decide) (by decide) (fun r_6 u_r_6 H locs hw_r_6 hH hR_r_6 hk_r_6 => ?_)
        obtain rfl := hw_r_6
        refine z_st (st' := [.ref (S.J j9)]) rfl ?_
        have hH : zH G A s.heap [(u_r_1, .inr (7, [.int (nI a), .ref S.p])), (u_r_2, .inr (9, [.int (nI a), .int (nI (jk w j9 1)), .ref S.p]))] H locs := hH
        refine z_ckc hx hb hown (hts _ q566) hX kX5 (z_fz0 hH hAe (hRo.j (k := j9) (by first | assumption | omega))) dX1_at_31 ?_
        refine lv_astore (lv' := [(5, .ref (S.J j9)), (0, .ref S.p), (1, .int (nI a)), (2, .int (b)), (3, .int (nI i)), (4, .ref u_r_2)]) hx hb dX1_at_34 hl (by decide) rfl (fun ls hl => ?_)
        refine lv_iload_n hx hb dX1_at_36 rfl (lv_at hl 4 rfl) ?_
        refine lv_iload_n hx hb dX1_at_37 rfl (lv_at hl 3 rfl) ?_
        refine lv_icmp_ne (tgt := 44) hx hb dX1_at_38 (by decide) (fun c_38_7 => ?_) (fun c_38_7 => ?_)
        · skip
          refine lv_iinc (v := nI (i + 1)) (lv' := [(3, .int (nI (i + 1))), (5, .ref (S.J j9)), (0, .ref S.p), (1, .int (nI a)), (2, .int (b)), (4, .ref u_r_2)]) hx hb dX1_at_44 hl (k := 4) rfl (nI_1 _) (by decide) rfl (fun ls hl => ?_)
          refine lv_goto (tgt := 14) hx hb dX1_at_47 (by decide) ?_
          refine W.widen (k := (2 + 2 * (i + 1))) (n := (5 + 8 * (i + 1))) (by omega) (by omega) ?_
          exact ih14 (i + 1) (jk w j9 1) (by omega) (pla_jin hrb (by omega) hj9) (by omega) (upto_nx h12 (by omega) hD hj9) (fun x hx => by by_cases e : x = i; (rw [e]; exact c_38_7); exact hnb x (by omega)) _ _ hH ls (lv_sub hl [2, 3, 4, 0, 5] rfl)
        · skip
          refine lv_aload hx hb dX1_at_41 (lv_at hl 0 rfl) ?_
          have hH : zH G A s.heap [] H locs := hH.sub [] rfl rfl
          exact z_qret hx hb hr hlocks hH (by first | exact Or.inl ⟨_, rfl⟩ | exact Or.inr ⟨_, rfl⟩) (v := some (S.J j9)) (u := ()) (by rw [← c_38_7, hj9]; rfl) ⟨hH.1, hH.2.1⟩ trivial (show _ ≤ 28 from (by omega)) (show _ ≤ 112 from (by omega)) dX1_at_43
  exact LP14_2 ((13 - 0) + 1) 0 0 (Nat.lt_succ_self _) (Nat.zero_le _) (Nat.zero_le _) (upto_1 hrb a) (fun x hx => absurd hx (Nat.not_lt_zero _)) _ _ hH ls (lv_sub hl [2, 3, 4, 1, 0] rfl)

set_option maxHeartbeats 4000000 in
set_option maxRecDepth 100000 in
theorem metX12_laugh (l : Launch) (G : va_G) (dA : Nat → ClassId) (dS : Nat → Nat) (B0 sz : Nat) (q9 : Nat) (sg : Nat) (wl : Nat) (lb : Nat) : Met l yX12_laugh (ws_ yX12_laugh cX12_laugh 1 (some FieldType.float)) ({ frames := 0, cells := 0, slots := 0, locals := 0 }) (zP G dA dS B0 [.ref q9] sz [] (fun H => va_at G zcl (q9, .inr (10, [.int (nI sg), .int (nI wl), .float (UInt32.ofNat lb)])) H)) (zQf G (fun (r : UInt32) (u : Unit) => r = UInt32.ofNat lb) (fun (u : Unit) => []) (fun (u : Unit) (H : Heap) => True) (va_A [] sz)) 0 0 (va_A [] sz) := by
  refine zM (by decide) (Nat.le_of_ble_eq_true rfl) ?_
  intro p e s m below meth c ls A H locs hHe hx hb hr hlocks hml hown hname hts hX hsz hB hAe hA hAB hH hRo hl
  have hl : lv_has ls 1 [(0, .ref q9)] := hl
  refine lv_aload_n hx hb dX12_laugh_0 rfl (lv_at hl 0 rfl) ?_
  refine z_get (v := .float (UInt32.ofNat lb)) hx hb hts hown hX kX12 2 (by decide) (z_fz0 hH hAe hRo) rfl q1129 (fun _ h9 => h9) dX12_laugh_1 ?_
  exact z_fret hx hb hr hlocks hH (u := ()) (by rfl) ⟨hH.1, hH.2.1⟩ trivial (Nat.le_of_ble_eq_true rfl) (Nat.le_of_ble_eq_true rfl) dX12_laugh_4

set_option maxHeartbeats 4000000 in
set_option maxRecDepth 100000 in
theorem metX1_laughsAgain (l : Launch) (G : va_G) (dA : Nat → ClassId) (dS : Nat → Nat) (B0 sz : Nat) (S : PS) (w : Nat → Nat) (B : Nat) (hrb : rB w B) (hBb : B + 20 < 2 ^ 30) : Met l yX1_laughsAgain (ws_ yX1_laughsAgain cX1_laughsAgain 3 (some FieldType.float)) ({ frames := 1, cells := 0, slots := 0, locals := 20 }) (zP G dA dS B0 [.ref S.p] sz [] (fun H => PumpAt G dA S w H)) (zQf G (fun (r : UInt32) (u : Unit) => r = UInt32.ofNat (lsum w (w 6))) (fun (u : Unit) => []) (fun (u : Unit) (H : Heap) => True) (va_A [] sz)) 0 0 (va_A [] sz) := by
  refine zM (by decide) (Nat.le_of_ble_eq_true rfl) ?_
  intro p e s m below meth c ls A H locs hHe hx hb hr hlocks hml hown hname hts hX hsz hB hAe hA hAB hH hRo hl
  have hl : lv_has ls 3 [(0, .ref S.p)] := hl
  have hbw := hrb.lt (by omega)
  have h12 := hrb.1
  have hcp := hRo.c
  have hw6 := hrb.2.1
  have hw11 := hrb.2.2.2.2.2.2.2.2.2.2.2.2.2.1
  refine lv_fconst0 hx hb dX1_laughsAgain_0 ?_
  refine z_topf (y := UInt32.ofNat 0) rfl ?_
  refine lv_fstore_n (lv' := [(1, .float (UInt32.ofNat 0)), (0, .ref S.p)]) hx hb dX1_laughsAgain_1 rfl hl (by decide) rfl (fun ls hl => ?_)
  refine lv_iconst (v := nI 0) hx hb dX1_laughsAgain_2 (by decide) ?_
  refine lv_istore_n (lv' := [(2, .int (nI 0)), (1, .float (UInt32.ofNat 0)), (0, .ref S.p)]) hx hb dX1_laughsAgain_3 rfl hl (by decide) rfl (fun ls hl => ?_)
  have LP4_0 : ∀ (fuel : Nat) (i : Nat) (hfu : (w 6 - i) < fuel) (hi : i ≤ w 6) (H : Heap) (locs : List Loc), zH G A s.heap [] H locs → ∀ (ls : Array Slot), lv_has ls 3 [(0, .ref S.p), (1, .float (UInt32.ofNat (lsum w i))), (2, .int (nI i))] → W p l e (headSpec (ws_ yX1_laughsAgain cX1_laughsAgain 3 (some FieldType.float)) ({ frames := 1, cells := 0, slots := 0, locals := 20 })).room s m ([.ref S.p] : List Value).toArray below meth c H locs 0 0 (MQ below (zQf G (fun (r : UInt32) (u : Unit) => r = UInt32.ofNat (lsum w (w 6))) (fun (u : Unit) => []) (fun (u : Unit) (H : Heap) => True) A) ([.ref S.p] : List Value).toArray s 0 0 A) (F0 m 4 ls []) := by
    intro fuel
    induction fuel with
    | zero => intro i hfu; exact absurd hfu (Nat.not_lt_zero _)
    | succ fuel ih4 =>
      intro i hfu hi H locs hH ls hl
      have hli := lsum_le hrb i (by omega)
      refine lv_iload_n hx hb dX1_laughsAgain_4 rfl (lv_at hl 2 rfl) ?_
      refine lv_aload_n hx hb dX1_laughsAgain_5 rfl (lv_at hl 0 rfl) ?_
      refine z_get (v := .int (nI (w 6))) hx hb hts hown hX kX1 5 (by decide) (z_fz0 hH hAe (hRo.p)) rfl q194 (fun _ h9 => h9) dX1_laughsAgain_6 ?_
      refine z_icmp_ge (tgt := 30) hx hb dX1_laughsAgain_9 (by decide) (by omega) (by omega) (fun c_9_2 => ?_) (fun c_9_2 => ?_)
      · skip
        have dc_9_2 := Nat.not_lt.mp c_9_2
        refine lv_fload_n hx hb dX1_laughsAgain_30 rfl (lv_at hl 1 rfl) ?_
        exact z_fret hx hb hr hlocks hH (u := ()) (by (have e : i = w 6 := (by omega)); subst e; rfl) ⟨hH.1, hH.2.1⟩ trivial (Nat.le_of_ble_eq_true rfl) (Nat.le_of_ble_eq_true rfl) dX1_laughsAgain_31
      · skip
        refine lv_fload_n hx hb dX1_laughsAgain_12 rfl (lv_at hl 1 rfl) ?_
        refine lv_aload_n hx hb dX1_laughsAgain_13 rfl (lv_at hl 0 rfl) ?_
        refine z_get (v := .ref S.f) hx hb hts hown hX kX1 1 (by decide) (z_fz0 hH hAe (hRo.p)) rfl q186 (fun _ h9 => h9) dX1_laughsAgain_14 ?_
        refine lv_iload_n hx hb dX1_laughsAgain_17 rfl (lv_at hl 2 rfl) ?_
        refine z_qld hx hb hX (k := i) 4 rfl (z_fz0 hH hAe (hRo.f)) rfl (by omega) (by omega) rfl dX1_laughsAgain_18 ?_
        refine z_st (st' := [.ref (S.L i), .float (UInt32.ofNat (lsum w i))]) (by rw [eF_lt (by omega)]; rfl) ?_
        have hlg := (hrb.2.2.2.2.2.2.2.2.2.2.2.2.2.2.2.2.1 i (by omega)).2.2
        refine z_cf (wr := []) (va_runU (As := []) (rest := [.float (UInt32.ofNat (lsum w i))]) ⟨hx, hb, hml, hown, hts⟩ (metX12_laugh l G dA dS B0 H.size (S.L i) (w (82 + 3 * i)) (w (82 + 3 * i + 1)) (w (82 + 3 * i + 2))) (va_cwA 0 hts (lw_U q1437 q1439 q1440 q1170 q116 q1172) rfl rfl rfl (hX.2.1 _ q1438 rfl) (by decide +kernel) ⟨Nat.le_of_ble_eq_true rfl, Nat.le_of_ble_eq_true rfl⟩) (zPV hX hH hB hAB (z_recv hX kX12 (z_fz0 hH hAe (hRo.t (k := i) (by first | assumption | omega)))) [] rfl rfl (z_fz0 hH hAe (hRo.t (k := i) (by first | assumption | omega)))) rfl rfl hl.1 rfl (lv_room (Nat.le_of_ble_eq_true rfl)) dX1_laughsAgain_19 ⟨(Nat.le_of_ble_eq_true rfl), (Nat.le_of_ble_eq_true rfl)⟩) hH hA [] [] rfl rfl (by decide) (by decide) (fun r_3 u_r_3 H locs hw_r_3 hH hR_r_3 hk_r_3 => ?_)
        obtain rfl := hw_r_3
        have hH : zH G A s.heap [] H locs := hH
        refine lv_fadd hx hb dX1_laughsAgain_22 (faN_n32 (by omega) (by omega)) ?_
        refine z_topf (y := UInt32.ofNat (faN (lsum w i) (w (82 + 3 * i + 2)))) (faN_eq _ _) ?_
        have hfa_4 := faN_le (a := (lsum w i)) (b := (w (82 + 3 * i + 2))) (by omega) (by omega)
        refine lv_fstore_n (lv' := [(1, .float (UInt32.ofNat (faN (lsum w i) (w (82 + 3 * i + 2))))), (0, .ref S.p), (2, .int (nI i))]) hx hb dX1_laughsAgain_23 rfl hl (by decide) rfl (fun ls hl => ?_)
        refine lv_iinc (v := nI (i + 1)) (lv' := [(2, .int (nI (i + 1))), (1, .float (UInt32.ofNat (faN (lsum w i) (w (82 + 3 * i + 2))))), (0, .ref S.p)]) hx hb dX1_laughsAgain_24 hl (k := 2) rfl (nI_1 _) (by decide) rfl (fun ls hl => ?_)
        refine lv_goto (tgt := 4) hx hb dX1_laughsAgain_27 (by decide) ?_
        have ev_5 : UInt32.ofNat (faN (lsum w i) (w (82 + 3 * i + 2))) = UInt32.ofNat (lsum w (i + 1)) := by rfl
        have hl : lv_has ls 3 [(0, .ref S.p), (1, .float (UInt32.ofNat (lsum w (i + 1)))), (2, .int (nI (i + 1)))] := z_lv (lv_sub hl [2, 1, 0] rfl) (by rw [ev_5] <;> rfl)
        exact ih4 (i + 1) (by omega) (by omega) _ _ hH ls (lv_sub hl [0, 1, 2] rfl)
  have ev_6 : UInt32.ofNat 0 = UInt32.ofNat (lsum w 0) := by rfl
  have hl : lv_has ls 3 [(0, .ref S.p), (1, .float (UInt32.ofNat (lsum w 0))), (2, .int (nI 0))] := z_lv (lv_sub hl [2, 1, 0] rfl) (by rw [ev_6] <;> rfl)
  exact LP4_0 ((w 6 - 0) + 1) 0 (Nat.lt_succ_self _) (by omega) _ _ hH ls (lv_sub hl [0, 1, 2] rfl)

set_option maxHeartbeats 4000000 in
set_option maxRecDepth 100000 in
theorem metX1_bestStroke (l : Launch) (G : va_G) (dA : Nat → ClassId) (dS : Nat → Nat) (B0 sz : Nat) (S : PS) (w : Nat → Nat) (B : Nat) (hrb : rB w B) (hBb : B + 20 < 2 ^ 30) (hD : rD w) : Met l yX1_bestStroke (ws_ yX1_bestStroke cX1_bestStroke 4 (some FieldType.int)) ({ frames := 7, cells := 28, slots := 112, locals := 142 }) (zP G dA dS B0 [.ref S.p] sz [] (fun H => PumpAt G dA S w H)) (zQi G (fun (r : Int32) (u : Unit) => r = aBest w) (fun (u : Unit) => []) (fun (u : Unit) (H : Heap) => True) (va_A [] sz)) 28 112 (va_A [] sz) := by
  refine zM (by decide) (Nat.le_of_ble_eq_true rfl) ?_
  intro p e s m below meth c ls A H locs hHe hx hb hr hlocks hml hown hname hts hX hsz hB hAe hA hAB hH hRo hl
  have hl : lv_has ls 4 [(0, .ref S.p)] := hl
  have hbw := hrb.lt (by omega)
  have h12 := hrb.1
  have hcp := hRo.c
  have hw2 := hrb.2.2.2.2.1
  have hw2' := hrb.2.2.2.2.2.1
  have hw3 := hrb.2.2.2.2.2.2.1
  have hw1 := hrb.2.2.2.1
  have hw4 := hrb.2.2.2.2.2.2.2.1
  refine lv_aload_n hx hb dX1_bestStroke_0 rfl (lv_at hl 0 rfl) ?_
  refine lv_aload_n hx hb dX1_bestStroke_1 rfl (lv_at hl 0 rfl) ?_
  refine z_get (v := .int (nI (w 1))) hx hb hts hown hX kX1 6 (by decide) (z_fz0 hH hAe (hRo.p)) rfl q196 (fun _ h9 => h9) dX1_bestStroke_2 ?_
  refine lv_iconst (v := nI 0) hx hb dX1_bestStroke_5 (by decide) ?_
  refine z_cq (wr := []) (va_runV (As := [.int (nI (w 1)), .int (nI 0)]) (rest := []) ⟨hx, hb, hml, hown, hts⟩ (metX1_at l G dA dS B0 H.size S w B (by first | exact hrb | assumption | omega) (by first | exact hBb | assumption | omega) (w 1) (nI 0) (by first | exact ha | assumption | omega) hD) (cwV 2 hts (lw_V q1012 q1013 q1014 q86 q1015) rfl rfl rfl (by decide +kernel) ⟨Nat.le_of_ble_eq_true rfl, Nat.le_of_ble_eq_true rfl⟩) (zPV hX hH hB hAB (z_recv hX kX1 (z_fz0 hH hAe (hRo.p))) [] rfl rfl (z_fzP hH hAe hRo)) rfl rfl hl.1 rfl (lv_room (Nat.le_of_ble_eq_true rfl)) dX1_bestStroke_6 ⟨(Nat.le_of_ble_eq_true rfl), (Nat.le_of_ble_eq_true rfl)⟩) hH hA [] [] rfl rfl (by decide) (by decide) (fun r_1 u_r_1 H locs hw_r_1 hH hR_r_1 hk_r_1 => ?_)
  obtain rfl := hw_r_1
  have hH : zH G A s.heap [] H locs := hH
  rcases ho_9 : pla w (w 1) (nI 0) with _ | k9
  · skip
    refine z_st (st' := [.null]) (by first | rfl | (rw [ho_9]; rfl)) ?_
    refine lv_astore_nN (lv' := [(1, .null), (0, .ref S.p)]) hx hb dX1_bestStroke_9 rfl hl (by decide) rfl (fun ls hl => ?_)
    refine lv_aload_nN hx hb dX1_bestStroke_10 rfl (lv_at hl 0 rfl) ?_
    refine lv_ifnonnullN hx hb dX1_bestStroke_11 ?_
    refine lv_bipush (v := (-6)) hx hb dX1_bestStroke_14 (by decide) ?_
    exact z_iret hx hb hr hlocks hH (u := ()) (by simp [aBest, ho_9]) ⟨hH.1, hH.2.1⟩ trivial (Nat.le_of_ble_eq_true rfl) (Nat.le_of_ble_eq_true rfl) dX1_bestStroke_16
  · skip
    refine z_st (st' := [.ref (S.J k9)]) (by first | rfl | (rw [ho_9]; rfl)) ?_
    have hk91 := (fO_spec ho_9).1
    have hkb := hrb.2.2.1 k9 hk91
    refine lv_astore_n (lv' := [(1, .ref (S.J k9)), (0, .ref S.p)]) hx hb dX1_bestStroke_9 rfl hl (by decide) rfl (fun ls hl => ?_)
    refine lv_aload_n hx hb dX1_bestStroke_10 rfl (lv_at hl 0 rfl) ?_
    refine lv_ifnonnull (tgt := 17) hx hb dX1_bestStroke_11 (by decide) ?_
    refine lv_iconst (v := nI 1) hx hb dX1_bestStroke_17 (by decide) ?_
    refine lv_istore_n (lv' := [(2, .int (nI 1)), (1, .ref (S.J k9)), (0, .ref S.p)]) hx hb dX1_bestStroke_18 rfl hl (by decide) rfl (fun ls hl => ?_)
    refine lv_iconst (v := nI 2) hx hb dX1_bestStroke_19 (by decide) ?_
    refine lv_istore_n (lv' := [(3, .int (nI 2)), (2, .int (nI 1)), (1, .ref (S.J k9)), (0, .ref S.p)]) hx hb dX1_bestStroke_20 rfl hl (by decide) rfl (fun ls hl => ?_)
    have LP21_1 : ∀ (fuel : Nat) (i : Nat) (hfu : (9 - i) < fuel) (hi : i ≤ 9) (H : Heap) (locs : List Loc), zH G A s.heap [] H locs → ∀ (ls : Array Slot), lv_has ls 4 [(0, .ref S.p), (1, .ref (S.J k9)), (2, .int (nI (bB (gT w (jk w k9 1)) i))), (3, .int (nI (i + 2)))] → W p l e (headSpec (ws_ yX1_bestStroke cX1_bestStroke 4 (some FieldType.int)) ({ frames := 7, cells := 28, slots := 112, locals := 142 })).room s m ([.ref S.p] : List Value).toArray below meth c H locs 28 112 (MQ below (zQi G (fun (r : Int32) (u : Unit) => r = aBest w) (fun (u : Unit) => []) (fun (u : Unit) (H : Heap) => True) A) ([.ref S.p] : List Value).toArray s 28 112 A) (F0 m 21 ls []) := by
      intro fuel
      induction fuel with
      | zero => intro i hfu; exact absurd hfu (Nat.not_lt_zero _)
      | succ fuel ih21 =>
        intro i hfu hi H locs hH ls hl
        have hbb := bB_in (gT w (jk w k9 1)) i
        refine lv_iload_n hx hb dX1_bestStroke_21 rfl (lv_at hl 3 rfl) ?_
        refine lv_bipush (v := nI 10) hx hb dX1_bestStroke_22 (by decide) ?_
        refine z_icmp_gt (tgt := 56) hx hb dX1_bestStroke_24 (by decide) (by omega) (by omega) (fun c_24_3 => ?_) (fun c_24_3 => ?_)
        · skip
          refine lv_iload_n hx hb dX1_bestStroke_56 rfl (lv_at hl 2 rfl) ?_
          exact z_iret hx hb hr hlocks hH (u := ()) (by have e9 : i = 9 := (by omega); subst e9; simp [aBest, ho_9]) ⟨hH.1, hH.2.1⟩ trivial (Nat.le_of_ble_eq_true rfl) (Nat.le_of_ble_eq_true rfl) dX1_bestStroke_57
        · skip
          have dc_24_3 := Nat.not_lt.mp c_24_3
          refine lv_aload_n hx hb dX1_bestStroke_27 rfl (lv_at hl 0 rfl) ?_
          refine lv_iload_n hx hb dX1_bestStroke_28 rfl (lv_at hl 3 rfl) ?_
          refine lv_aload_n hx hb dX1_bestStroke_29 rfl (lv_at hl 1 rfl) ?_
          refine z_getN (v := .int (nI (jk w k9 1))) hx hb hts hown hX kX5 2 (by decide) (z_fz0 hH hAe (hRo.j (k := k9) (by first | assumption | omega))) rfl q585 (fun _ h9 => h9) dX1_bestStroke_30 ?_
          refine z_ci (wr := []) (va_runV (As := [.int (nI (i + 2)), .int (nI (jk w k9 1))]) (rest := []) ⟨hx, hb, hml, hown, hts⟩ (metX1_groansBy l G dA dS B0 H.size S w B (by first | exact hrb | assumption | omega) (by first | exact hBb | assumption | omega) (i + 2) (jk w k9 1) (by first | exact hd | assumption | omega) (by first | exact hln | assumption | omega) (by first | exact hln2 | assumption | omega)) (cwV 2 hts (lw_V q1488 q1490 qs15 q86 q1491) rfl rfl rfl (by decide +kernel) ⟨Nat.le_of_ble_eq_true rfl, Nat.le_of_ble_eq_true rfl⟩) (zPV hX hH hB hAB (z_recv hX kX1 (z_fz0 hH hAe (hRo.p))) [] rfl rfl (z_fzP hH hAe hRo)) rfl rfl hl.1 rfl (lv_room (Nat.le_of_ble_eq_true rfl)) dX1_bestStroke_33 ⟨(Nat.le_of_ble_eq_true rfl), (Nat.le_of_ble_eq_true rfl)⟩) hH hA [] [] rfl rfl (by decide) (by decide) (fun r_4 u_r_4 H locs hw_r_4 hH hR_r_4 hk_r_4 => ?_)
          obtain rfl := hw_r_4
          have hH : zH G A s.heap [] H locs := hH
          have hgt_5 := gT_le w (jk w k9 1) (i + 2)
          refine lv_aload_n hx hb dX1_bestStroke_36 rfl (lv_at hl 0 rfl) ?_
          refine lv_iload_n hx hb dX1_bestStroke_37 rfl (lv_at hl 2 rfl) ?_
          refine lv_aload_n hx hb dX1_bestStroke_38 rfl (lv_at hl 1 rfl) ?_
          refine z_getN (v := .int (nI (jk w k9 1))) hx hb hts hown hX kX5 2 (by decide) (z_fz0 hH hAe (hRo.j (k := k9) (by first | assumption | omega))) rfl q585 (fun _ h9 => h9) dX1_bestStroke_39 ?_
          refine z_ci (wr := []) (va_runV (As := [.int (nI (bB (gT w (jk w k9 1)) i)), .int (nI (jk w k9 1))]) (rest := [.int (nI (gT w (jk w k9 1) (i + 2)))]) ⟨hx, hb, hml, hown, hts⟩ (metX1_groansBy l G dA dS B0 H.size S w B (by first | exact hrb | assumption | omega) (by first | exact hBb | assumption | omega) (bB (gT w (jk w k9 1)) i) (jk w k9 1) (by first | exact hd | assumption | omega) (by first | exact hln | assumption | omega) (by first | exact hln2 | assumption | omega)) (cwV 2 hts (lw_V q1488 q1490 qs15 q86 q1491) rfl rfl rfl (by decide +kernel) ⟨Nat.le_of_ble_eq_true rfl, Nat.le_of_ble_eq_true rfl⟩) (zPV hX hH hB hAB (z_recv hX kX1 (z_fz0 hH hAe (hRo.p))) [] rfl rfl (z_fzP hH hAe hRo)) rfl rfl hl.1 rfl (lv_room (Nat.le_of_ble_eq_true rfl)) dX1_bestStroke_42 ⟨(Nat.le_of_ble_eq_true rfl), (Nat.le_of_ble_eq_true rfl)⟩) hH hA [] [] rfl rfl (by decide) (by decide) (fun r_6 u_r_6 H locs hw_r_6 hH hR_r_6 hk_r_6 => ?_)
          obtain rfl := hw_r_6
          have hH : zH G A s.heap [] H locs := hH
          have hgt_7 := gT_le w (jk w k9 1) (bB (gT w (jk w k9 1)) i)
          refine z_icmp_ge (tgt := 50) hx hb dX1_bestStroke_45 (by decide) (by omega) (by omega) (fun c_45_8 => ?_) (fun c_45_8 => ?_)
          · skip
            have dc_45_8 := Nat.not_lt.mp c_45_8
            refine lv_iinc (v := nI ((i + 2) + 1)) (lv' := [(3, .int (nI ((i + 2) + 1))), (0, .ref S.p), (1, .ref (S.J k9)), (2, .int (nI (bB (gT w (jk w k9 1)) i)))]) hx hb dX1_bestStroke_50 hl (k := 3) rfl (nI_1 _) (by decide) rfl (fun ls hl => ?_)
            refine lv_goto (tgt := 21) hx hb dX1_bestStroke_53 (by decide) ?_
            have ev_9 : nI (bB (gT w (jk w k9 1)) i) = nI (bB (gT w (jk w k9 1)) (i + 1)) := by congr 1; simp only [bB]; first | (rw [if_pos (by assumption)]) | (rw [if_neg (by assumption)])
            have ev_10 : nI ((i + 2) + 1) = nI ((i + 1) + 2) := by first | rfl | (congr 1; done) | (congr 1; simp [cN, bN, ho_9, c_24_3, dc_24_3, c_45_8, dc_45_8]; done) | (congr 1; simp [cN, bN, ho_9, c_24_3, dc_24_3, c_45_8, dc_45_8]; omega)
            have hl : lv_has ls 4 [(0, .ref S.p), (1, .ref (S.J k9)), (2, .int (nI (bB (gT w (jk w k9 1)) (i + 1)))), (3, .int (nI ((i + 1) + 2)))] := z_lv (lv_sub hl [1, 2, 3, 0] rfl) (by rw [ev_9, ev_10] <;> rfl)
            exact ih21 (i + 1) (by omega) (by omega) _ _ hH ls (lv_sub hl [0, 1, 2, 3] rfl)
          · skip
            refine lv_iload_n hx hb dX1_bestStroke_48 rfl (lv_at hl 3 rfl) ?_
            refine lv_istore_n (lv' := [(2, .int (nI (i + 2))), (0, .ref S.p), (1, .ref (S.J k9)), (3, .int (nI (i + 2)))]) hx hb dX1_bestStroke_49 rfl hl (by decide) rfl (fun ls hl => ?_)
            refine lv_iinc (v := nI ((i + 2) + 1)) (lv' := [(3, .int (nI ((i + 2) + 1))), (2, .int (nI (i + 2))), (0, .ref S.p), (1, .ref (S.J k9))]) hx hb dX1_bestStroke_50 hl (k := 3) rfl (nI_1 _) (by decide) rfl (fun ls hl => ?_)
            refine lv_goto (tgt := 21) hx hb dX1_bestStroke_53 (by decide) ?_
            have ev_11 : nI (i + 2) = nI (bB (gT w (jk w k9 1)) (i + 1)) := by congr 1; simp only [bB]; first | (rw [if_pos (by assumption)]) | (rw [if_neg (by assumption)])
            have ev_12 : nI ((i + 2) + 1) = nI ((i + 1) + 2) := by first | rfl | (congr 1; done) | (congr 1; simp [cN, bN, ho_9, c_24_3, dc_24_3, c_45_8]; done) | (congr 1; simp [cN, bN, ho_9, c_24_3, dc_24_3, c_45_8]; omega)
            have hl : lv_has ls 4 [(0, .ref S.p), (1, .ref (S.J k9)), (2, .int (nI (bB (gT w (jk w k9 1)) (i + 1)))), (3, .int (nI ((i + 1) + 2)))] := z_lv (lv_sub hl [2, 3, 1, 0] rfl) (by rw [ev_11, ev_12] <;> rfl)
            exact ih21 (i + 1) (by omega) (by omega) _ _ hH ls (lv_sub hl [0, 1, 2, 3] rfl)
    have ev_13 : nI 1 = nI (bB (gT w (jk w k9 1)) 0) := by rfl
    have ev_14 : nI 2 = nI (0 + 2) := by first | rfl | (congr 1; done) | (congr 1; simp [cN, bN, ho_9]; done) | (congr 1; simp [cN, bN, ho_9]; omega)
    have hl : lv_has ls 4 [(0, .ref S.p), (1, .ref (S.J k9)), (2, .int (nI (bB (gT w (jk w k9 1)) 0))), (3, .int (nI (0 + 2)))] := z_lv (lv_sub hl [3, 2, 1, 0] rfl) (by rw [ev_13, ev_14] <;> rfl)
    exact LP21_1 ((9 - 0) + 1) 0 (Nat.lt_succ_self _) (by omega) _ _ hH ls (lv_sub hl [0, 1, 2, 3] rfl)

