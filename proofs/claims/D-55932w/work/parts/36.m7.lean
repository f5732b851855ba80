/-! the line; undoing, saving -/
def mWr (M : mS) (c : Nat) : mS := mu (mu M 6 (M 0 15) c) 0 15 (M 0 15 + 1)
def mWl (M : mS) : List Nat → mS
  | [] => M
  | c :: l => mWl (mWr M c) l
theorem mWl_app (M : mS) (a b : List Nat) : mWl (mWl M a) b = mWl M (a ++ b) := by
  induction a generalizing M with
  | nil => rfl
  | cons c l ih => exact ih (mWr M c)
theorem mWr_n (M : mS) (c : Nat) {x : Nat} (h0 : x ≠ 0) (h6 : x ≠ 6) : mWr M c x = M x := by
  unfold mWr
  rw [mu_n _ _ _ h0, mu_n _ _ _ h6]
theorem mWl_n (M : mS) (l : List Nat) {x : Nat} (h0 : x ≠ 0) (h6 : x ≠ 6) : mWl M l x = M x := by
  induction l generalizing M with
  | nil => rfl
  | cons c l ih => show mWl (mWr M c) l x = _; rw [ih, mWr_n M c h0 h6]
theorem mWl_1 (M : mS) (l : List Nat) : mWl M l 1 = M 1 := mWl_n M l (by decide) (by decide)
theorem mWr_15 (M : mS) (c : Nat) : mWr M c 0 15 = M 0 15 + 1 := mu_ss _ _ _ _
theorem mWl_15 (M : mS) (l : List Nat) : mWl M l 0 15 = M 0 15 + l.length := by
  induction l generalizing M with
  | nil => rfl
  | cons c l ih => show mWl (mWr M c) l 0 15 = _; rw [ih, mWr_15, List.length_cons]; omega
theorem mWr_f (M : mS) (c : Nat) {k : Nat} (h : k ≠ 15) : mWr M c 0 k = M 0 k := by
  unfold mWr
  rw [mu_s, uP_n _ _ h, mu_n _ _ _ (by decide)]
theorem mWl_f (M : mS) (l : List Nat) {k : Nat} (h : k ≠ 15) : mWl M l 0 k = M 0 k := by
  induction l generalizing M with
  | nil => rfl
  | cons c l ih => show mWl (mWr M c) l 0 k = _; rw [ih, mWr_f M c h]
/-- the line's places -/
theorem mWl_6 (M : mS) (l : List Nat) (j : Nat) : mWl M l 6 j = if M 0 15 ≤ j ∧ j < M 0 15 + l.length then l.getD (j - M 0 15) 0 else M 6 j := by
  induction l generalizing M with
  | nil => rw [if_neg (by simp)]; rfl
  | cons c l ih =>
    show mWl (mWr M c) l 6 j = _
    rw [ih, mWr_15]
    by_cases h : M 0 15 + 1 ≤ j ∧ j < M 0 15 + 1 + l.length
    · rw [if_pos h, if_pos (by rw [List.length_cons]; omega)]
      rw [show j - M 0 15 = (j - (M 0 15 + 1)) + 1 by omega]
      simp
    · rw [if_neg h]
      unfold mWr
      rw [mu_n _ _ _ (by decide), mu_s]
      by_cases h2 : j = M 0 15
      · rw [h2, uP_s, if_pos (by rw [List.length_cons]; omega)]
        simp
      · rw [uP_n _ _ h2, if_neg (by rw [List.length_cons]; omega)]
theorem z_i2c {c : Nat} (h : c < 65536) : ((nI c).toUInt32 % 65536).toInt32 = nI c := by
  rw [pk_char, pk_tn (by omega)]
  congr 1
  omega
/-- a number's signs -/
def dg (v : Nat) : List Nat := if 9 < v then [48 + v / 10, 48 + v % 10] else [48 + v]
theorem dg_len (v : Nat) : (dg v).length ≤ 2 := by unfold dg; split <;> simp
def jTx (w : Nat → Nat) (k : Nat) : List Nat := [32] ++ dg (jk w k 1) ++ [58] ++ dg (jk w k 2) ++ (if jk w k 4 = 1 then [33] else [])
theorem jTx_len (w : Nat → Nat) (k : Nat) : (jTx w k).length ≤ 7 := by
  have h1 := dg_len (jk w k 1)
  have h2 := dg_len (jk w k 2)
  unfold jTx
  simp only [List.length_append, List.length_cons, List.length_nil]
  split <;> simp <;> omega
/-- the jokes of a well, the first so many, as they are written -/
def wTx (w : Nat → Nat) (a : Nat) : Nat → List Nat
  | 0 => []
  | p + 1 => wTx w a p ++ (match pla w a (nI p) with
    | some k => jTx w k
    | none => [])
theorem wTx_len (w : Nat → Nat) (a : Nat) : ∀ p, (wTx w a p).length ≤ 7 * p
  | 0 => Nat.le_refl _
  | p + 1 => by
    have h1 := wTx_len w a p
    show (wTx w a p ++ _).length ≤ _
    rw [List.length_append]
    cases h : pla w a (nI p) with
    | none => simp; omega
    | some k => have := jTx_len w k; simp only; omega
def lTx (w : Nat → Nat) (a : Nat) : List Nat := [48 + a] ++ [117] ++ [48 + w (14 + a)] ++ wTx w a (jin w a)
def pTx (w : Nat → Nat) : List Nat := [64] ++ [48 + w 1] ++ [94] ++ dg (w 2) ++ [126] ++ dg (w 3) ++ [111] ++ dg (w 4) ++ [42] ++ [48 + w 5]
def mLine (M : mS) (l : List Nat) : mS := mWl (mu M 0 15 0) l
/-- two jokes don't lie at one depth of a well -/
def rD (w : Nat → Nat) : Prop := ∀ i, i < w 0 → ∀ j, j < w 0 → jk w i 0 = jk w j 0 → jk w i 1 = jk w j 1 → i = j
/-- how many jokes of a well lie above a depth -/
def upto (w : Nat → Nat) (a d : Nat) : Nat := cN (fun i => decide (jk w i 0 = a) && decide (jk w i 1 < d)) (w 0)
theorem cN_congr {p q : Nat → Bool} : ∀ {k : Nat}, (∀ i, i < k → p i = q i) → cN p k = cN q k
  | 0, _ => rfl
  | k + 1, h => by
    show cN p k + bN (p k) = cN q k + bN (q k)
    rw [cN_congr (fun i hi => h i (by omega)), h k (by omega)]
theorem abv_upto {w : Nat → Nat} {a k : Nat} (h : jk w k 0 = a) : abv w k = upto w a (jk w k 1) := by
  unfold abv upto
  exact cN_congr (fun i _ => by rw [h])
theorem cN_step1 {p q r : Nat → Bool} (hq : ∀ i, bN (q i) = bN (p i) + bN (r i)) : ∀ k, cN q k = cN p k + cN r k
  | 0 => rfl
  | k + 1 => by
    show cN q k + bN (q k) = (cN p k + bN (p k)) + (cN r k + bN (r k))
    rw [cN_step1 hq k, hq]; omega
theorem cN_one {r : Nat → Bool} : ∀ {k : Nat}, (∀ i, i < k → ∀ j, j < k → r i = true → r j = true → i = j) → cN r k ≤ 1 ∧ (cN r k = 1 → ∃ i, i < k ∧ r i = true)
  | 0, _ => ⟨Nat.zero_le _, fun h => absurd (show (0 : Nat) = 1 from h) (by decide)⟩
  | k + 1, h => by
    have ih := cN_one (r := r) (k := k) (fun i hi j hj => h i (by omega) j (by omega))
    show cN r k + bN (r k) ≤ 1 ∧ (cN r k + bN (r k) = 1 → _)
    cases hr : r k with
    | false =>
      refine ⟨ih.1, fun h1 => ?_⟩
      obtain ⟨i, hi, h2⟩ := ih.2 h1
      exact ⟨i, by omega, h2⟩
    | true =>
      have h0 : cN r k = 0 := by
        cases hc : cN r k with
        | zero => rfl
        | succ n =>
          have : cN r k = 1 := by have := ih.1; omega
          obtain ⟨i, hi, h2⟩ := ih.2 this
          have := h i (by omega) k (by omega) h2 hr
          omega
      exact ⟨by rw [h0]; decide, fun _ => ⟨k, by omega, hr⟩⟩
theorem upto_s {w : Nat → Nat} (hD : rD w) (a d : Nat) : upto w a (d + 1) = upto w a d ∨ (upto w a (d + 1) = upto w a d + 1 ∧ ∃ k, k < w 0 ∧ jk w k 0 = a ∧ jk w k 1 = d) := by
  have h1 : upto w a (d + 1) = upto w a d + cN (fun i => decide (jk w i 0 = a) && decide (jk w i 1 = d)) (w 0) := by
    unfold upto
    apply cN_step1
    intro i
    by_cases ha : jk w i 0 = a
    · rcases Nat.lt_trichotomy (jk w i 1) d with h | h | h
      · simp [ha, show jk w i 1 < d + 1 by omega, h, show ¬ jk w i 1 = d by omega, bN]
      · simp [ha, h, bN]
      · simp [ha, show ¬ jk w i 1 < d + 1 by omega, show ¬ jk w i 1 < d by omega, show ¬ jk w i 1 = d by omega, bN]
    · simp [ha, bN]
  have h2 := cN_one (r := fun i => decide (jk w i 0 = a) && decide (jk w i 1 = d)) (k := w 0) (fun i hi j hj p q => by
    simp only [Bool.and_eq_true, decide_eq_true_eq] at p q
    exact hD i hi j hj (by rw [p.1, q.1]) (by rw [p.2, q.2]))
  rcases (show cN (fun i => decide (jk w i 0 = a) && decide (jk w i 1 = d)) (w 0) = 0 ∨ cN (fun i => decide (jk w i 0 = a) && decide (jk w i 1 = d)) (w 0) = 1 by omega) with h | h
  · left; omega
  · right
    obtain ⟨i, hi, p⟩ := h2.2 h
    simp only [Bool.and_eq_true, decide_eq_true_eq] at p
    exact ⟨by omega, i, hi, p.1, p.2⟩
theorem upto_0 (w : Nat → Nat) (a : Nat) : upto w a 0 = 0 := by
  unfold upto
  generalize w 0 = n
  induction n with
  | zero => rfl
  | succ n ih =>
    show cN _ n + bN _ = 0
    rw [ih]; simp [bN]
theorem upto_all {w : Nat → Nat} {B : Nat} (h : rB w B) (a : Nat) : upto w a 31 = jin w a := by
  unfold upto jin
  exact cN_congr (fun i hi => by have := (h.2.2.1 i hi).2.2.1; simp [show jk w i 1 < 31 by omega])
theorem upto_hit {w : Nat → Nat} (hD : rD w) (a p : Nat) : ∀ d, p < upto w a d → ∃ k, k < w 0 ∧ jk w k 0 = a ∧ upto w a (jk w k 1) = p
  | 0, h => by rw [upto_0] at h; omega
  | d + 1, h => by
    by_cases h1 : p < upto w a d
    · exact upto_hit hD a p d h1
    · rcases upto_s hD a d with h2 | ⟨h2, k, hk, hk0, hk1⟩
      · omega
      · exact ⟨k, hk, hk0, by rw [hk1]; omega⟩
/-- every place below a well's number of jokes has its joke -/
theorem pla_lt {w : Nat → Nat} {B a p : Nat} (h : rB w B) (hD : rD w) (hp : p < jin w a) : ∃ k, pla w a (nI p) = some k := by
  rw [← upto_all h a] at hp
  obtain ⟨k, hk, hk0, hk1⟩ := upto_hit hD a p 31 hp
  cases hq : pla w a (nI p) with
  | some j => exact ⟨j, rfl⟩
  | none =>
    exfalso
    have := fO_none hq k hk
    rw [abv_upto hk0, hk1] at this
    simp [hk0] at this
def aWritten (M : mS) (a : Int32) : Int32 := if inR a (nI 0) (nI (M 0 15) - nI 1) = true then nI (M 6 (cl a)) else -1
def mAppend (M : mS) (a : Int32) : Int32 × mS := if inR a (nI 32) (nI 126) = false then (-2, M) else if M 0 17 = 60 then (-4, M) else (nI (M 0 17 + 1), mu (mu M 7 (M 0 17) (cl a)) 0 17 (M 0 17 + 1))
def aFault (M : mS) : Int32 := if 0 ≤ nI (M 0 19) then nI (M 0 19) else -3
def cpu (f g : Nat → Nat) (o n : Nat) : Nat → Nat := fun j => if j < n then g (o + j) else f j
theorem cpu_0 (M : mS) (a o : Nat) (g : Nat → Nat) : M = ms M a (cpu (M a) g o 0) := by
  have e : cpu (M a) g o 0 = M a := by funext j; simp [cpu]
  rw [e, ms_id]
theorem cpu_s (M : mS) {a b : Nat} (o i : Nat) (h : b ≠ a) : mu (ms M a (cpu (M a) (M b) o i)) a i (ms M a (cpu (M a) (M b) o i) b (o + i)) = ms M a (cpu (M a) (M b) o (i + 1)) := by
  rw [mu_ms, ms_n _ _ h]
  congr 1
  funext j
  simp only [uP, cpu]
  by_cases h1 : j = i
  · subst h1; simp
  · by_cases h2 : j < i
    · simp [h1, h2, show j < i + 1 by omega]
    · simp [h1, h2, show ¬ j < i + 1 by omega]
def mUndo1 (M : mS) : mS := ms (mu M 0 11 (M 0 11 - 1)) 1 (cpu (M 1) (M 2) (274 * ((M 0 12 + (M 0 11 - 1)) % 8)) 274)
def mUndo (M : mS) : Int32 × mS := if M 0 11 = 0 then (-3, M) else (nI (M 0 11 - 1), mUndo1 M)
def mSave (M : mS) : mS := mu (mCp M 3 1) 0 13 1
def mRestore (M : mS) : Int32 × mS := if M 0 13 = 0 then (-3, M) else (nI (mCp M 1 3 1 0), mu (mu (mCp M 1 3) 0 11 0) 0 12 0)
set_option maxHeartbeats 4000000 in
set_option maxRecDepth 100000 in
theorem metX2_writes (l : Launch) (G : va_G) (dA : Nat → ClassId) (dS : Nat → Nat) (B0 sz : Nat) (q : Nat → Nat) (M : mS) (c9 : Nat) (hln : M 0 15 < 60) (hc9 : c9 < 65536) : Met l yX2_writes (ws_ yX2_writes cX2_writes 2 (none)) ({ frames := 0, cells := 0, slots := 0, locals := 0 }) (zP G dA dS B0 [.ref (q 0), .int (nI c9)] sz (mW dA q M) (fun H => True)) (zQv G (fun (u : Unit) => True) (fun (u : Unit) => mW dA q (mWl M [c9])) (fun (u : Unit) (H : Heap) => True) (va_A (mW dA q M) sz)) 0 0 (va_A (mW dA q M) sz) := by
  refine zM (by decide) (Nat.le_of_ble_eq_true rfl) ?_
  intro p e s m below meth c ls A H locs hHe hx hb hr hlocks hml hown hname hts hX hsz hB hAe hA hAB hH hRo hl
  have hl : lv_has ls 2 [(0, .ref (q 0)), (1, .int (nI c9))] := hl
  refine lv_aload_n hx hb dX2_writes_0 rfl (lv_at hl 0 rfl) ?_
  refine z_get (v := .ref (q 6)) hx hb hts hown hX kX2 14 (by decide) (hH.at 0 rfl) rfl q2024 (fun _ h9 => h9) dX2_writes_1 ?_
  refine lv_aload_n hx hb dX2_writes_4 rfl (lv_at hl 0 rfl) ?_
  refine z_get (v := .int (nI (M 0 15))) hx hb hts hown hX kX2 15 (by decide) (hH.at 0 rfl) rfl q2025 (fun _ h9 => h9) dX2_writes_5 ?_
  refine lv_iload_n hx hb dX2_writes_8 rfl (lv_at hl 1 rfl) ?_
  refine lv_i2c (v := nI c9) hx hb dX2_writes_9 (z_i2c hc9) ?_
  refine z_castN hx hb hX (k := (M 0 15)) hH 6 rfl rfl (by omega) (by omega) (by omega) dX2_writes_10 (fun H locs hH => ?_)
  have hH : zH G A s.heap (mW dA q (mu M 6 (M 0 15) c9)) H locs := hH
  refine lv_aload_n hx hb dX2_writes_11 rfl (lv_at hl 0 rfl) ?_
  refine lv_dup hx hb dX2_writes_12 rfl ?_
  refine z_get (v := .int (nI (M 0 15))) hx hb hts hown hX kX2 15 (by decide) (hH.at 0 rfl) rfl q2025 (fun _ h9 => h9) dX2_writes_13 ?_
  refine lv_iconst (v := nI 1) hx hb dX2_writes_16 (by decide) ?_
  refine lv_iadd hx hb dX2_writes_17 ?_
  refine z_topi (y := nI (M 0 15 + 1)) (nI_add _ _) ?_
  refine z_put hx hb hts hown hX kX2 15 (by decide) hH 0 rfl q2025 (fun _ h9 => h9) rfl rfl rfl (Nat.le_of_ble_eq_true rfl) dX2_writes_18 (fun H locs hH => ?_)
  have hH : zH G A s.heap (mW dA q (mu (mu M 6 (M 0 15) c9) 0 15 (M 0 15 + 1))) H locs := hH
  have eM : mu (mu M 6 (M 0 15) c9) 0 15 (M 0 15 + 1) = mWl M [c9] := by rfl
  rw [eM] at hH
  exact z_vret hx hb hr hlocks hH (u := ()) trivial ⟨hH.1, hH.2.1⟩ trivial (Nat.le_of_ble_eq_true rfl) (Nat.le_of_ble_eq_true rfl) dX2_writes_21

set_option maxHeartbeats 4000000 in
set_option maxRecDepth 100000 in
theorem metX2_writesNumber (l : Launch) (G : va_G) (dA : Nat → ClassId) (dS : Nat → Nat) (B0 sz : Nat) (q : Nat → Nat) (M : mS) (v : Nat) (hln : M 0 15 + 1 < 60) (hv : v ≤ 99) : Met l yX2_writesNumber (ws_ yX2_writesNumber cX2_writesNumber 2 (none)) ({ frames := 1, cells := 0, slots := 0, locals := 21 }) (zP G dA dS B0 [.ref (q 0), .int (nI v)] sz (mW dA q M) (fun H => True)) (zQv G (fun (u : Unit) => True) (fun (u : Unit) => mW dA q (mWl M (dg v))) (fun (u : Unit) (H : Heap) => True) (va_A (mW dA q M) sz)) 0 0 (va_A (mW dA q M) sz) := by
  refine zM (by decide) (Nat.le_of_ble_eq_true rfl) ?_
  intro p e s m below meth c ls A H locs hHe hx hb hr hlocks hml hown hname hts hX hsz hB hAe hA hAB hH hRo hl
  have hl : lv_has ls 2 [(0, .ref (q 0)), (1, .int (nI v))] := hl
  refine lv_iload_n hx hb dX2_writesNumber_0 rfl (lv_at hl 1 rfl) ?_
  refine lv_bipush (v := nI 9) hx hb dX2_writesNumber_1 (by decide) ?_
  refine z_icmp_le (tgt := 17) hx hb dX2_writesNumber_3 (by decide) (by omega) (by omega) (fun c_3_1 => ?_) (fun c_3_1 => ?_)
  · skip
    have dc_3_1 := Nat.not_lt.mp c_3_1
    refine lv_aload_n hx hb dX2_writesNumber_17 rfl (lv_at hl 0 rfl) ?_
    refine lv_bipush (v := nI 48) hx hb dX2_writesNumber_18 (by decide) ?_
    refine lv_iload_n hx hb dX2_writesNumber_20 rfl (lv_at hl 1 rfl) ?_
    refine lv_bipush (v := nI 10) hx hb dX2_writesNumber_21 (by decide) ?_
    refine lv_irem hx hb dX2_writesNumber_23 (by decide) ?_
    refine z_topi (y := nI (v % 10)) (pk_rem (by omega) (by omega) (by omega)) ?_
    refine lv_iadd hx hb dX2_writesNumber_24 ?_
    refine z_topi (y := nI (48 + (v % 10))) (nI_add _ _) ?_
    refine z_cv (wr := []) (va_runV (As := [.int (nI (48 + (v % 10)))]) (rest := []) ⟨hx, hb, hml, hown, hts⟩ (metX2_writes l G dA dS B0 H.size q M (48 + (v % 10)) (by first | omega | (simp only [mWl_15, List.length_cons, List.length_nil]; omega)) (by first | exact hc9 | assumption | omega)) (cwV 1 hts (lw_V q2364 q2366 qs65 q91 q2367) rfl rfl rfl (by decide +kernel) ⟨Nat.le_of_ble_eq_true rfl, Nat.le_of_ble_eq_true rfl⟩) (zPV hX hH hB hAB (z_recv hX kX2 (hH.at 0 rfl)) [0, 1, 2, 3, 4, 5, 6, 7, 8] rfl rfl trivial) rfl rfl hl.1 rfl (lv_room (Nat.le_of_ble_eq_true rfl)) dX2_writesNumber_25 ⟨(Nat.le_of_ble_eq_true rfl), (Nat.le_of_ble_eq_true rfl)⟩) hH hA [0, 1, 2, 3, 4, 5, 6, 7, 8] [] rfl rfl (by decide) (by decide) (fun u_r_2 H locs hw_r_2 hH hR_r_2 hk_r_2 => ?_)
    have hH : zH G A s.heap (mW dA q (mWl M [(48 + (v % 10))])) H locs := hH
    have eM : mWl M [(48 + (v % 10))] = mWl M (dg v) := by first | (simp [dg, c_3_1, dc_3_1]; done) | (rw [Nat.mod_eq_of_lt (show v < 10 by omega)]; simp [dg, c_3_1, dc_3_1])
    rw [eM] at hH
    exact z_vret hx hb hr hlocks hH (u := ()) trivial ⟨hH.1, hH.2.1⟩ trivial (Nat.le_of_ble_eq_true rfl) (Nat.le_of_ble_eq_true rfl) dX2_writesNumber_28
  · skip
    refine lv_aload_n hx hb dX2_writesNumber_6 rfl (lv_at hl 0 rfl) ?_
    refine lv_bipush (v := nI 48) hx hb dX2_writesNumber_7 (by decide) ?_
    refine lv_iload_n hx hb dX2_writesNumber_9 rfl (lv_at hl 1 rfl) ?_
    refine lv_bipush (v := nI 10) hx hb dX2_writesNumber_10 (by decide) ?_
    refine lv_idiv hx hb dX2_writesNumber_12 (by decide) ?_
    refine z_topi (y := nI (v / 10)) (pk_div (by omega) (by omega) (by omega)) ?_
    refine lv_iadd hx hb dX2_writesNumber_13 ?_
    refine z_topi (y := nI (48 + (v / 10))) (nI_add _ _) ?_
    refine z_cv (wr := []) (va_runV (As := [.int (nI (48 + (v / 10)))]) (rest := []) ⟨hx, hb, hml, hown, hts⟩ (metX2_writes l G dA dS B0 H.size q M (48 + (v / 10)) (by omega) (by first | exact hc9 | assumption | omega)) (cwV 1 hts (lw_V q2364 q2366 qs65 q91 q2367) rfl rfl rfl (by decide +kernel) ⟨Nat.le_of_ble_eq_true rfl, Nat.le_of_ble_eq_true rfl⟩) (zPV hX hH hB hAB (z_recv hX kX2 (hH.at 0 rfl)) [0, 1, 2, 3, 4, 5, 6, 7, 8] rfl rfl trivial) rfl rfl hl.1 rfl (lv_room (Nat.le_of_ble_eq_true rfl)) dX2_writesNumber_14 ⟨(Nat.le_of_ble_eq_true rfl), (Nat.le_of_ble_eq_true rfl)⟩) hH hA [0, 1, 2, 3, 4, 5, 6, 7, 8] [] rfl rfl (by decide) (by decide) (fun u_r_3 H locs hw_r_3 hH hR_r_3 hk_r_3 => ?_)
    have hH : zH G A s.heap (mW dA q (mWl M [(48 + (v / 10))])) H locs := hH
    refine lv_aload_n hx hb dX2_writesNumber_17 rfl (lv_at hl 0 rfl) ?_
    refine lv_bipush (v := nI 48) hx hb dX2_writesNumber_18 (by decide) ?_
    refine lv_iload_n hx hb dX2_writesNumber_20 rfl (lv_at hl 1 rfl) ?_
    refine lv_bipush (v := nI 10) hx hb dX2_writesNumber_21 (by decide) ?_
    refine lv_irem hx hb dX2_writesNumber_23 (by decide) ?_
    refine z_topi (y := nI (v % 10)) (pk_rem (by omega) (by omega) (by omega)) ?_
    refine lv_iadd hx hb dX2_writesNumber_24 ?_
    refine z_topi (y := nI (48 + (v % 10))) (nI_add _ _) ?_
    refine z_cv (wr := []) (va_runV (As := [.int (nI (48 + (v % 10)))]) (rest := []) ⟨hx, hb, hml, hown, hts⟩ (metX2_writes l G dA dS B0 H.size q (mWl M [(48 + (v / 10))]) (48 + (v % 10)) (by first | omega | (simp only [mWl_15, List.length_cons, List.length_nil]; omega)) (by first | exact hc9 | assumption | omega)) (cwV 1 hts (lw_V q2364 q2366 qs65 q91 q2367) rfl rfl rfl (by decide +kernel) ⟨Nat.le_of_ble_eq_true rfl, Nat.le_of_ble_eq_true rfl⟩) (zPV hX hH hB hAB (z_recv hX kX2 (hH.at 0 rfl)) [0, 1, 2, 3, 4, 5, 6, 7, 8] rfl rfl trivial) rfl rfl hl.1 rfl (lv_room (Nat.le_of_ble_eq_true rfl)) dX2_writesNumber_25 ⟨(Nat.le_of_ble_eq_true rfl), (Nat.le_of_ble_eq_true rfl)⟩) hH hA [0, 1, 2, 3, 4, 5, 6, 7, 8] [] rfl rfl (by decide) (by decide) (fun u_r_4 H locs hw_r_4 hH hR_r_4 hk_r_4 => ?_)
    have hH : zH G A s.heap (mW dA q (mWl (mWl M [(48 + (v / 10))]) [(48 + (v % 10))])) H locs := hH
    rw [mWl_app] at hH
    have eM : mWl M ([(48 + (v / 10))] ++ [(48 + (v % 10))]) = mWl M (dg v) := by first | (simp [dg, c_3_1]; done) | (rw [Nat.mod_eq_of_lt (show v < 10 by omega)]; simp [dg, c_3_1])
    rw [eM] at hH
    exact z_vret hx hb hr hlocks hH (u := ()) trivial ⟨hH.1, hH.2.1⟩ trivial (Nat.le_of_ble_eq_true rfl) (Nat.le_of_ble_eq_true rfl) dX2_writesNumber_28

set_option maxHeartbeats 4000000 in
set_option maxRecDepth 100000 in
theorem metX2_writesJoke (l : Launch) (G : va_G) (dA : Nat → ClassId) (dS : Nat → Nat) (B0 sz : Nat) (q : Nat → Nat) (M : mS) (k : Nat) (hk : k < M 1 0) (hln : M 0 15 + 6 < 60) (B : Nat) (hrb : rB (M 1) B) (hBb : B + 20 < 2 ^ 30) : Met l yX2_writesJoke (ws_ yX2_writesJoke cX2_writesJoke 2 (none)) ({ frames := 2, cells := 0, slots := 0, locals := 42 }) (zP G dA dS B0 [.ref (q 0), .int (nI k)] sz (mW dA q M) (fun H => True)) (zQv G (fun (u : Unit) => True) (fun (u : Unit) => mW dA q (mWl M (jTx (M 1) k))) (fun (u : Unit) (H : Heap) => True) (va_A (mW dA q M) sz)) 0 0 (va_A (mW dA q M) sz) := by
  refine zM (by decide) (Nat.le_of_ble_eq_true rfl) ?_
  intro p e s m below meth c ls A H locs hHe hx hb hr hlocks hml hown hname hts hX hsz hB hAe hA hAB hH hRo hl
  have hl : lv_has ls 2 [(0, .ref (q 0)), (1, .int (nI k))] := hl
  have hbw := hrb.lt (by omega)
  have h12 := hrb.1
  have hjk := hrb.2.2.1 k hk
  have hd1 := dg_len (jk (M 1) k 1)
  have hd2 := dg_len (jk (M 1) k 2)
  refine lv_aload_n hx hb dX2_writesJoke_0 rfl (lv_at hl 0 rfl) ?_
  refine lv_bipush (v := nI 32) hx hb dX2_writesJoke_1 (by decide) ?_
  refine z_cv (wr := []) (va_runV (As := [.int (nI 32)]) (rest := []) ⟨hx, hb, hml, hown, hts⟩ (metX2_writes l G dA dS B0 H.size q M 32 (by first | omega | (simp only [mWl_15, mu_ss, List.length_append, List.length_cons, List.length_nil]; omega)) (by first | exact hc9 | assumption | omega)) (cwV 1 hts (lw_V q2364 q2366 qs65 q91 q2367) rfl rfl rfl (by decide +kernel) ⟨Nat.le_of_ble_eq_true rfl, Nat.le_of_ble_eq_true rfl⟩) (zPV hX hH hB hAB (z_recv hX kX2 (hH.at 0 rfl)) [0, 1, 2, 3, 4, 5, 6, 7, 8] rfl rfl trivial) rfl rfl hl.1 rfl (lv_room (Nat.le_of_ble_eq_true rfl)) dX2_writesJoke_3 ⟨(Nat.le_of_ble_eq_true rfl), (Nat.le_of_ble_eq_true rfl)⟩) hH hA [0, 1, 2, 3, 4, 5, 6, 7, 8] [] rfl rfl (by decide) (by decide) (fun u_r_1 H locs hw_r_1 hH hR_r_1 hk_r_1 => ?_)
  have hH : zH G A s.heap (mW dA q (mWl M [32])) H locs := hH
  refine lv_aload_n hx hb dX2_writesJoke_6 rfl (lv_at hl 0 rfl) ?_
  refine lv_aload_n hx hb dX2_writesJoke_7 rfl (lv_at hl 0 rfl) ?_
  refine lv_iload_n hx hb dX2_writesJoke_8 rfl (lv_at hl 1 rfl) ?_
  refine lv_iconst (v := nI 1) hx hb dX2_writesJoke_9 (by decide) ?_
  refine z_ci (wr := []) (va_runV (As := [.int (nI k), .int (nI 1)]) (rest := [.ref (q 0)]) ⟨hx, hb, hml, hown, hts⟩ (metX2_is l G dA dS B0 H.size q (mWl M [32]) k 1 (by omega) (by first | exact hj | assumption | omega)) (cwV 2 hts (lw_V q2103 q2105 qs31 q91 q2106) rfl rfl rfl (by decide +kernel) ⟨Nat.le_of_ble_eq_true rfl, Nat.le_of_ble_eq_true rfl⟩) (zPV hX hH hB hAB (z_recv hX kX2 (hH.at 0 rfl)) [0, 1, 2, 3, 4, 5, 6, 7, 8] rfl rfl trivial) rfl rfl hl.1 rfl (lv_room (Nat.le_of_ble_eq_true rfl)) dX2_writesJoke_10 ⟨(Nat.le_of_ble_eq_true rfl), (Nat.le_of_ble_eq_true rfl)⟩) hH hA [0, 1, 2, 3, 4, 5, 6, 7, 8] [] rfl rfl (by decide) (by decide) (fun r_2 u_r_2 H locs hw_r_2 hH hR_r_2 hk_r_2 => ?_)
  obtain rfl := hw_r_2
  have hH : zH G A s.heap (mW dA q (mWl M [32])) H locs := hH
  refine z_topi (y := nI (jk (M 1) k 1)) (by rw [mWl_1]) ?_
  refine z_cv (wr := []) (va_runV (As := [.int (nI (jk (M 1) k 1))]) (rest := []) ⟨hx, hb, hml, hown, hts⟩ (metX2_writesNumber l G dA dS B0 H.size q (mWl M [32]) (jk (M 1) k 1) (by first | omega | (simp only [mWl_15, mu_ss, List.length_append, List.length_cons, List.length_nil]; omega)) (by first | exact hv | assumption | omega)) (cwV 1 hts (lw_V q2372 q2374 qs67 q91 q2375) rfl rfl rfl (by decide +kernel) ⟨Nat.le_of_ble_eq_true rfl, Nat.le_of_ble_eq_true rfl⟩) (zPV hX hH hB hAB (z_recv hX kX2 (hH.at 0 rfl)) [0, 1, 2, 3, 4, 5, 6, 7, 8] rfl rfl trivial) rfl rfl hl.1 rfl (lv_room (Nat.le_of_ble_eq_true rfl)) dX2_writesJoke_13 ⟨(Nat.le_of_ble_eq_true rfl), (Nat.le_of_ble_eq_true rfl)⟩) hH hA [0, 1, 2, 3, 4, 5, 6, 7, 8] [] rfl rfl (by decide) (by decide) (fun u_r_3 H locs hw_r_3 hH hR_r_3 hk_r_3 => ?_)
  have hH : zH G A s.heap (mW dA q (mWl (mWl M [32]) (dg (jk (M 1) k 1)))) H locs := hH
  rw [mWl_app] at hH
  refine lv_aload_n hx hb dX2_writesJoke_16 rfl (lv_at hl 0 rfl) ?_
  refine lv_bipush (v := nI 58) hx hb dX2_writesJoke_17 (by decide) ?_
  refine z_cv (wr := []) (va_runV (As := [.int (nI 58)]) (rest := []) ⟨hx, hb, hml, hown, hts⟩ (metX2_writes l G dA dS B0 H.size q (mWl M ([32] ++ (dg (jk (M 1) k 1)))) 58 (by first | omega | (simp only [mWl_15, mu_ss, List.length_append, List.length_cons, List.length_nil]; omega)) (by first | exact hc9 | assumption | omega)) (cwV 1 hts (lw_V q2364 q2366 qs65 q91 q2367) rfl rfl rfl (by decide +kernel) ⟨Nat.le_of_ble_eq_true rfl, Nat.le_of_ble_eq_true rfl⟩) (zPV hX hH hB hAB (z_recv hX kX2 (hH.at 0 rfl)) [0, 1, 2, 3, 4, 5, 6, 7, 8] rfl rfl trivial) rfl rfl hl.1 rfl (lv_room (Nat.le_of_ble_eq_true rfl)) dX2_writesJoke_19 ⟨(Nat.le_of_ble_eq_true rfl), (Nat.le_of_ble_eq_true rfl)⟩) hH hA [0, 1, 2, 3, 4, 5, 6, 7, 8] [] rfl rfl (by decide) (by decide) (fun u_r_4 H locs hw_r_4 hH hR_r_4 hk_r_4 => ?_)
  have hH : zH G A s.heap (mW dA q (mWl (mWl M ([32] ++ (dg (jk (M 1) k 1)))) [58])) H locs := hH
  rw [mWl_app] at hH
  refine lv_aload_n hx hb dX2_writesJoke_22 rfl (lv_at hl 0 rfl) ?_
  refine lv_aload_n hx hb dX2_writesJoke_23 rfl (lv_at hl 0 rfl) ?_
  refine lv_iload_n hx hb dX2_writesJoke_24 rfl (lv_at hl 1 rfl) ?_
  refine lv_iconst (v := nI 2) hx hb dX2_writesJoke_25 (by decide) ?_
  refine z_ci (wr := []) (va_runV (As := [.int (nI k), .int (nI 2)]) (rest := [.ref (q 0)]) ⟨hx, hb, hml, hown, hts⟩ (metX2_is l G dA dS B0 H.size q (mWl M ([32] ++ (dg (jk (M 1) k 1)) ++ [58])) k 2 (by omega) (by first | exact hj | assumption | omega)) (cwV 2 hts (lw_V q2103 q2105 qs31 q91 q2106) rfl rfl rfl (by decide +kernel) ⟨Nat.le_of_ble_eq_true rfl, Nat.le_of_ble_eq_true rfl⟩) (zPV hX hH hB hAB (z_recv hX kX2 (hH.at 0 rfl)) [0, 1, 2, 3, 4, 5, 6, 7, 8] rfl rfl trivial) rfl rfl hl.1 rfl (lv_room (Nat.le_of_ble_eq_true rfl)) dX2_writesJoke_26 ⟨(Nat.le_of_ble_eq_true rfl), (Nat.le_of_ble_eq_true rfl)⟩) hH hA [0, 1, 2, 3, 4, 5, 6, 7, 8] [] rfl rfl (by decide) (by decide) (fun r_5 u_r_5 H locs hw_r_5 hH hR_r_5 hk_r_5 => ?_)
  obtain rfl := hw_r_5
  have hH : zH G A s.heap (mW dA q (mWl M ([32] ++ (dg (jk (M 1) k 1)) ++ [58]))) H locs := hH
  refine z_topi (y := nI (jk (M 1) k 2)) (by rw [mWl_1]) ?_
  refine z_cv (wr := []) (va_runV (As := [.int (nI (jk (M 1) k 2))]) (rest := []) ⟨hx, hb, hml, hown, hts⟩ (metX2_writesNumber l G dA dS B0 H.size q (mWl M ([32] ++ (dg (jk (M 1) k 1)) ++ [58])) (jk (M 1) k 2) (by first | omega | (simp only [mWl_15, mu_ss, List.length_append, List.length_cons, List.length_nil]; omega)) (by first | exact hv | assumption | omega)) (cwV 1 hts (lw_V q2372 q2374 qs67 q91 q2375) rfl rfl rfl (by decide +kernel) ⟨Nat.le_of_ble_eq_true rfl, Nat.le_of_ble_eq_true rfl⟩) (zPV hX hH hB hAB (z_recv hX kX2 (hH.at 0 rfl)) [0, 1, 2, 3, 4, 5, 6, 7, 8] rfl rfl trivial) rfl rfl hl.1 rfl (lv_room (Nat.le_of_ble_eq_true rfl)) dX2_writesJoke_29 ⟨(Nat.le_of_ble_eq_true rfl), (Nat.le_of_ble_eq_true rfl)⟩) hH hA [0, 1, 2, 3, 4, 5, 6, 7, 8] [] rfl rfl (by decide) (by decide) (fun u_r_6 H locs hw_r_6 hH hR_r_6 hk_r_6 => ?_)
  have hH : zH G A s.heap (mW dA q (mWl (mWl M ([32] ++ (dg (jk (M 1) k 1)) ++ [58])) (dg (jk (M 1) k 2)))) H locs := hH
  rw [mWl_app] at hH
  refine lv_aload_n hx hb dX2_writesJoke_32 rfl (lv_at hl 0 rfl) ?_
  refine lv_iload_n hx hb dX2_writesJoke_33 rfl (lv_at hl 1 rfl) ?_
  refine lv_iconst (v := nI 4) hx hb dX2_writesJoke_34 (by decide) ?_
  refine z_ci (wr := []) (va_runV (As := [.int (nI k), .int (nI 4)]) (rest := []) ⟨hx, hb, hml, hown, hts⟩ (metX2_is l G dA dS B0 H.size q (mWl M ([32] ++ (dg (jk (M 1) k 1)) ++ [58] ++ (dg (jk (M 1) k 2)))) k 4 (by omega) (by first | exact hj | assumption | omega)) (cwV 2 hts (lw_V q2103 q2105 qs31 q91 q2106) rfl rfl rfl (by decide +kernel) ⟨Nat.le_of_ble_eq_true rfl, Nat.le_of_ble_eq_true rfl⟩) (zPV hX hH hB hAB (z_recv hX kX2 (hH.at 0 rfl)) [0, 1, 2, 3, 4, 5, 6, 7, 8] rfl rfl trivial) rfl rfl hl.1 rfl (lv_room (Nat.le_of_ble_eq_true rfl)) dX2_writesJoke_35 ⟨(Nat.le_of_ble_eq_true rfl), (Nat.le_of_ble_eq_true rfl)⟩) hH hA [0, 1, 2, 3, 4, 5, 6, 7, 8] [] rfl rfl (by decide) (by decide) (fun r_7 u_r_7 H locs hw_r_7 hH hR_r_7 hk_r_7 => ?_)
  obtain rfl := hw_r_7
  have hH : zH G A s.heap (mW dA q (mWl M ([32] ++ (dg (jk (M 1) k 1)) ++ [58] ++ (dg (jk (M 1) k 2))))) H locs := hH
  refine z_topi (y := nI (jk (M 1) k 4)) (by rw [mWl_1]) ?_
  refine lv_iconst (v := nI 1) hx hb dX2_writesJoke_38 (by decide) ?_
  refine z_icmp_ne (tgt := 48) hx hb dX2_writesJoke_39 (by decide) (by omega) (by omega) (fun c_39_8 => ?_) (fun c_39_8 => ?_)
  · skip
    have eM : mWl M ([32] ++ (dg (jk (M 1) k 1)) ++ [58] ++ (dg (jk (M 1) k 2))) = mWl M (jTx (M 1) k) := by simp [jTx, c_39_8]
    rw [eM] at hH
    exact z_vret hx hb hr hlocks hH (u := ()) trivial ⟨hH.1, hH.2.1⟩ trivial (Nat.le_of_ble_eq_true rfl) (Nat.le_of_ble_eq_true rfl) dX2_writesJoke_48
  · skip
    refine lv_aload_n hx hb dX2_writesJoke_42 rfl (lv_at hl 0 rfl) ?_
    refine lv_bipush (v := nI 33) hx hb dX2_writesJoke_43 (by decide) ?_
    refine z_cv (wr := []) (va_runV (As := [.int (nI 33)]) (rest := []) ⟨hx, hb, hml, hown, hts⟩ (metX2_writes l G dA dS B0 H.size q (mWl M ([32] ++ (dg (jk (M 1) k 1)) ++ [58] ++ (dg (jk (M 1) k 2)))) 33 (by first | omega | (simp only [mWl_15, mu_ss, List.length_append, List.length_cons, List.length_nil]; omega)) (by first | exact hc9 | assumption | omega)) (cwV 1 hts (lw_V q2364 q2366 qs65 q91 q2367) rfl rfl rfl (by decide +kernel) ⟨Nat.le_of_ble_eq_true rfl, Nat.le_of_ble_eq_true rfl⟩) (zPV hX hH hB hAB (z_recv hX kX2 (hH.at 0 rfl)) [0, 1, 2, 3, 4, 5, 6, 7, 8] rfl rfl trivial) rfl rfl hl.1 rfl (lv_room (Nat.le_of_ble_eq_true rfl)) dX2_writesJoke_45 ⟨(Nat.le_of_ble_eq_true rfl), (Nat.le_of_ble_eq_true rfl)⟩) hH hA [0, 1, 2, 3, 4, 5, 6, 7, 8] [] rfl rfl (by decide) (by decide) (fun u_r_9 H locs hw_r_9 hH hR_r_9 hk_r_9 => ?_)
    have hH : zH G A s.heap (mW dA q (mWl (mWl M ([32] ++ (dg (jk (M 1) k 1)) ++ [58] ++ (dg (jk (M 1) k 2)))) [33])) H locs := hH
    rw [mWl_app] at hH
    have eM : mWl M ([32] ++ (dg (jk (M 1) k 1)) ++ [58] ++ (dg (jk (M 1) k 2)) ++ [33]) = mWl M (jTx (M 1) k) := by simp [jTx, c_39_8]
    rw [eM] at hH
    exact z_vret hx hb hr hlocks hH (u := ()) trivial ⟨hH.1, hH.2.1⟩ trivial (Nat.le_of_ble_eq_true rfl) (Nat.le_of_ble_eq_true rfl) dX2_writesJoke_48

set_option maxHeartbeats 4000000 in
set_option maxRecDepth 100000 in
theorem metX2_write (l : Launch) (G : va_G) (dA : Nat → ClassId) (dS : Nat → Nat) (B0 sz : Nat) (q : Nat → Nat) (M : mS) (a : Int32) (hD : rD (M 1)) (h6 : ∀ a, a ≤ 3 → jin (M 1) a ≤ 6) (B : Nat) (hrb : rB (M 1) B) (hBb : B + 20 < 2 ^ 30) : Met l yX2_write (ws_ yX2_write cX2_write 3 (some FieldType.int)) ({ frames := 3, cells := 0, slots := 0, locals := 68 }) (zP G dA dS B0 [.ref (q 0), .int (a)] sz (mW dA q M) (fun H => True)) (zQi G (fun (r : Int32) (u : Unit) => r = (if inR a (nI 0) (nI 3) = true then nI (lTx (M 1) (cl a)).length else -1)) (fun (u : Unit) => mW dA q (if inR a (nI 0) (nI 3) = true then mLine M (lTx (M 1) (cl a)) else M)) (fun (u : Unit) (H : Heap) => True) (va_A (mW dA q M) sz)) 0 0 (va_A (mW dA q M) sz) := by
  refine zM (by decide) (Nat.le_of_ble_eq_true rfl) ?_
  intro p e s m below meth c ls A H locs hHe hx hb hr hlocks hml hown hname hts hX hsz hB hAe hA hAB hH hRo hl
  have hl : lv_has ls 3 [(0, .ref (q 0)), (1, .int (a))] := hl
  have hbw := hrb.lt (by omega)
  have h12 := hrb.1
  refine lv_iload_n hx hb dX2_write_0 rfl (lv_at hl 1 rfl) ?_
  refine z_ci (wr := mW dA q M) (va_runS (As := [.int (a)]) (rest := []) ⟨hx, hb, hml, hown, hts⟩ (metX2_isWell l G dA dS B0 H.size a) (va_cwS 1 hts (lw_S q2088 q2089 q91 q2090) rfl rfl rfl (by decide +kernel) ⟨Nat.le_of_ble_eq_true rfl, Nat.le_of_ble_eq_true rfl⟩) (zPS hX hH hB hAB [] rfl rfl trivial) rfl rfl hl.1 rfl (lv_room (Nat.le_of_ble_eq_true rfl)) dX2_write_1 ⟨(Nat.le_of_ble_eq_true rfl), (Nat.le_of_ble_eq_true rfl)⟩) hH hA [] [0, 1, 2, 3, 4, 5, 6, 7, 8] rfl rfl (by decide) (by decide) (fun r_1 u_r_1 H locs hw_r_1 hH hR_r_1 hk_r_1 => ?_)
  obtain rfl := hw_r_1
  have hH : zH G A s.heap (mW dA q M) H locs := hH
  refine z_ifneB (b := inR a (nI 0) (nI 3)) (tgt := 9) hx hb dX2_write_4 (by decide) (fun c_4_2 => ?_) (fun c_4_2 => ?_)
  · skip
    obtain ⟨a1, rfl, hl1, hu1⟩ := inR_n (a := 0) (b := 3) (by decide) (by decide) c_4_2
    have hw14 := hrb.2.2.2.2.2.2.2.2.2.2.2.2.2.2.1 a1 (by omega)
    refine lv_aload_n hx hb dX2_write_9 rfl (lv_at hl 0 rfl) ?_
    refine lv_iconst (v := nI 0) hx hb dX2_write_10 (by decide) ?_
    refine z_put hx hb hts hown hX kX2 15 (by decide) hH 0 rfl q2025 (fun _ h9 => h9) rfl rfl rfl (Nat.le_of_ble_eq_true rfl) dX2_write_11 (fun H locs hH => ?_)
    have hH : zH G A s.heap (mW dA q (mu M 0 15 0)) H locs := hH
    have hH : zH G A s.heap (mW dA q (mWl (mu M 0 15 0) [])) H locs := hH
    refine lv_aload_n hx hb dX2_write_14 rfl (lv_at hl 0 rfl) ?_
    refine lv_bipush (v := nI 48) hx hb dX2_write_15 (by decide) ?_
    refine lv_iload_n hx hb dX2_write_17 rfl (lv_at hl 1 rfl) ?_
    refine lv_iadd hx hb dX2_write_18 ?_
    refine z_topi (y := nI (48 + a1)) (nI_add _ _) ?_
    refine z_cv (wr := []) (va_runV (As := [.int (nI (48 + a1))]) (rest := []) ⟨hx, hb, hml, hown, hts⟩ (metX2_writes l G dA dS B0 H.size q (mWl (mu M 0 15 0) []) (48 + a1) (by first | omega | (simp only [mWl_15, mu_ss, List.length_append, List.length_cons, List.length_nil]; omega)) (by first | exact hc9 | assumption | omega)) (cwV 1 hts (lw_V q2364 q2366 qs65 q91 q2367) rfl rfl rfl (by decide +kernel) ⟨Nat.le_of_ble_eq_true rfl, Nat.le_of_ble_eq_true rfl⟩) (zPV hX hH hB hAB (z_recv hX kX2 (hH.at 0 rfl)) [0, 1, 2, 3, 4, 5, 6, 7, 8] rfl rfl trivial) rfl rfl hl.1 rfl (lv_room (Nat.le_of_ble_eq_true rfl)) dX2_write_19 ⟨(Nat.le_of_ble_eq_true rfl), (Nat.le_of_ble_eq_true rfl)⟩) hH hA [0, 1, 2, 3, 4, 5, 6, 7, 8] [] rfl rfl (by decide) (by decide) (fun u_r_3 H locs hw_r_3 hH hR_r_3 hk_r_3 => ?_)
    have hH : zH G A s.heap (mW dA q (mWl (mWl (mu M 0 15 0) []) [(48 + a1)])) H locs := hH
    rw [mWl_app] at hH
    refine lv_aload_n hx hb dX2_write_22 rfl (lv_at hl 0 rfl) ?_
    refine lv_bipush (v := nI 117) hx hb dX2_write_23 (by decide) ?_
    refine z_cv (wr := []) (va_runV (As := [.int (nI 117)]) (rest := []) ⟨hx, hb, hml, hown, hts⟩ (metX2_writes l G dA dS B0 H.size q (mWl (mu M 0 15 0) ([] ++ [(48 + a1)])) 117 (by first | omega | (simp only [mWl_15, mu_ss, List.length_append, List.length_cons, List.length_nil]; omega)) (by first | exact hc9 | assumption | omega)) (cwV 1 hts (lw_V q2364 q2366 qs65 q91 q2367) rfl rfl rfl (by decide +kernel) ⟨Nat.le_of_ble_eq_true rfl, Nat.le_of_ble_eq_true rfl⟩) (zPV hX hH hB hAB (z_recv hX kX2 (hH.at 0 rfl)) [0, 1, 2, 3, 4, 5, 6, 7, 8] rfl rfl trivial) rfl rfl hl.1 rfl (lv_room (Nat.le_of_ble_eq_true rfl)) dX2_write_25 ⟨(Nat.le_of_ble_eq_true rfl), (Nat.le_of_ble_eq_true rfl)⟩) hH hA [0, 1, 2, 3, 4, 5, 6, 7, 8] [] rfl rfl (by decide) (by decide) (fun u_r_4 H locs hw_r_4 hH hR_r_4 hk_r_4 => ?_)
    have hH : zH G A s.heap (mW dA q (mWl (mWl (mu M 0 15 0) ([] ++ [(48 + a1)])) [117])) H locs := hH
    rw [mWl_app] at hH
    refine lv_aload_n hx hb dX2_write_28 rfl (lv_at hl 0 rfl) ?_
    refine lv_bipush (v := nI 48) hx hb dX2_write_29 (by decide) ?_
    refine lv_aload_n hx hb dX2_write_31 rfl (lv_at hl 0 rfl) ?_
    refine z_get (v := .ref (q 1)) hx hb hts hown hX kX2 6 (by decide) (hH.at 0 rfl) rfl q2016 (fun _ h9 => h9) dX2_write_32 ?_
    refine lv_bipush (v := nI 14) hx hb dX2_write_35 (by decide) ?_
    refine lv_iload_n hx hb dX2_write_37 rfl (lv_at hl 1 rfl) ?_
    refine lv_iadd hx hb dX2_write_38 ?_
    refine z_topi (y := nI (14 + a1)) (nI_add _ _) ?_
    refine z_iald (x := nI (M 1 (14 + a1))) hx hb hX (k := (14 + a1))  (hH.at 1 rfl) rfl (by omega) (by omega) (by show nI _ = nI _; rw [mWl_n _ _ (by decide) (by decide)]; try rfl) dX2_write_39 ?_
    have hbd_5 := hbw (14 + a1) (by omega) (by omega)
    refine lv_iadd hx hb dX2_write_40 ?_
    refine z_topi (y := nI (48 + M 1 (14 + a1))) (nI_add _ _) ?_
    refine z_cv (wr := []) (va_runV (As := [.int (nI (48 + M 1 (14 + a1)))]) (rest := []) ⟨hx, hb, hml, hown, hts⟩ (metX2_writes l G dA dS B0 H.size q (mWl (mu M 0 15 0) ([] ++ [(48 + a1)] ++ [117])) (48 + M 1 (14 + a1)) (by first | omega | (simp only [mWl_15, mu_ss, List.length_append, List.length_cons, List.length_nil]; omega)) (by first | exact hc9 | assumption | omega)) (cwV 1 hts (lw_V q2364 q2366 qs65 q91 q2367) rfl rfl rfl (by decide +kernel) ⟨Nat.le_of_ble_eq_true rfl, Nat.le_of_ble_eq_true rfl⟩) (zPV hX hH hB hAB (z_recv hX kX2 (hH.at 0 rfl)) [0, 1, 2, 3, 4, 5, 6, 7, 8] rfl rfl trivial) rfl rfl hl.1 rfl (lv_room (Nat.le_of_ble_eq_true rfl)) dX2_write_41 ⟨(Nat.le_of_ble_eq_true rfl), (Nat.le_of_ble_eq_true rfl)⟩) hH hA [0, 1, 2, 3, 4, 5, 6, 7, 8] [] rfl rfl (by decide) (by decide) (fun u_r_6 H locs hw_r_6 hH hR_r_6 hk_r_6 => ?_)
    have hH : zH G A s.heap (mW dA q (mWl (mWl (mu M 0 15 0) ([] ++ [(48 + a1)] ++ [117])) [(48 + M 1 (14 + a1))])) H locs := hH
    rw [mWl_app] at hH
    refine lv_iconst (v := nI 0) hx hb dX2_write_44 (by decide) ?_
    refine lv_istore_n (lv' := [(2, .int (nI 0)), (0, .ref (q 0)), (1, .int (nI a1))]) hx hb dX2_write_45 rfl hl (by decide) rfl (fun ls hl => ?_)
    have LP46_6 : ∀ (fuel : Nat) (i : Nat) (hfu : (jin (M 1) a1 - i) < fuel) (hi : i ≤ jin (M 1) a1) (H : Heap) (locs : List Loc), zH G A s.heap (mW dA q (mWl (mu M 0 15 0) ([48 + a1] ++ [117] ++ [48 + M 1 (14 + a1)] ++ wTx (M 1) a1 i))) H locs → ∀ (ls : Array Slot), lv_has ls 3 [(0, .ref (q 0)), (1, .int (nI a1)), (2, .int (nI i))] → W p l e (headSpec (ws_ yX2_write cX2_write 3 (some FieldType.int)) ({ frames := 3, cells := 0, slots := 0, locals := 68 })).room s m ([.ref (q 0), .int ((nI a1))] : List Value).toArray below meth c H locs 0 0 (MQ below (zQi G (fun (r : Int32) (u : Unit) => r = (if inR (nI a1) (nI 0) (nI 3) = true then nI (lTx (M 1) (cl (nI a1))).length else -1)) (fun (u : Unit) => mW dA q (if inR (nI a1) (nI 0) (nI 3) = true then mLine M (lTx (M 1) (cl (nI a1))) else M)) (fun (u : Unit) (H : Heap) => True) A) ([.ref (q 0), .int ((nI a1))] : List Value).toArray s 0 0 A) (F0 m 46 ls []) := by
      intro fuel
      induction fuel with
      | zero => intro i hfu; exact absurd hfu (Nat.not_lt_zero _)
      | succ fuel ih46 =>
        intro i hfu hi H locs hH ls hl
        have hwl := wTx_len (M 1) a1 i
        have hj6 := h6 a1 (by omega)
        refine lv_iload_n hx hb dX2_write_46 rfl (lv_at hl 2 rfl) ?_
        refine lv_aload_n hx hb dX2_write_47 rfl (lv_at hl 0 rfl) ?_
        refine lv_iload_n hx hb dX2_write_48 rfl (lv_at hl 1 rfl) ?_
        refine z_ci (wr := []) (va_runV (As := [.int (nI a1)]) (rest := [.int (nI i)]) ⟨hx, hb, hml, hown, hts⟩ (metX2_jokesIn l G dA dS B0 H.size q (mWl (mu M 0 15 0) ([48 + a1] ++ [117] ++ [48 + M 1 (14 + a1)] ++ wTx (M 1) a1 i)) a1 (by first | exact ha | assumption | omega) (by rw [mWl_1]; exact hbw) (by rw [mWl_1]; exact h12)) (cwV 1 hts (lw_V q2111 q2113 qs33 q91 q2114) rfl rfl rfl (by decide +kernel) ⟨Nat.le_of_ble_eq_true rfl, Nat.le_of_ble_eq_true rfl⟩) (zPV hX hH hB hAB (z_recv hX kX2 (hH.at 0 rfl)) [0, 1, 2, 3, 4, 5, 6, 7, 8] rfl rfl trivial) rfl rfl hl.1 rfl (lv_room (Nat.le_of_ble_eq_true rfl)) dX2_write_49 ⟨(Nat.le_of_ble_eq_true rfl), (Nat.le_of_ble_eq_true rfl)⟩) hH hA [0, 1, 2, 3, 4, 5, 6, 7, 8] [] rfl rfl (by decide) (by decide) (fun r_8 u_r_8 H locs hw_r_8 hH hR_r_8 hk_r_8 => ?_)
        obtain rfl := hw_r_8
        have hH : zH G A s.heap (mW dA q (mWl (mu M 0 15 0) ([48 + a1] ++ [117] ++ [48 + M 1 (14 + a1)] ++ wTx (M 1) a1 i))) H locs := hH
        refine z_topi (y := nI (jin (M 1) a1)) (by rw [mWl_1]; rfl) ?_
        have hjl9 := jin_le (M 1) a1
        refine z_icmp_ge (tgt := 71) hx hb dX2_write_52 (by decide) (by omega) (by omega) (fun c_52_9 => ?_) (fun c_52_9 => ?_)
        · skip
          have dc_52_9 := Nat.not_lt.mp c_52_9
          refine lv_aload_n hx hb dX2_write_71 rfl (lv_at hl 0 rfl) ?_
          refine z_get (v := .int (nI ((mWl (mu M 0 15 0) ([48 + a1] ++ [117] ++ [48 + M 1 (14 + a1)] ++ wTx (M 1) a1 i)) 0 15))) hx hb hts hown hX kX2 15 (by decide) (hH.at 0 rfl) rfl q2025 (fun _ h9 => h9) dX2_write_72 ?_
          have eM : mWl (mu M 0 15 0) ([48 + a1] ++ [117] ++ [48 + M 1 (14 + a1)] ++ wTx (M 1) a1 i) = (if inR (nI a1) (nI 0) (nI 3) = true then mLine M (lTx (M 1) (cl (nI a1))) else M) := by rw [if_pos c_4_2]; (have e9 : i = jin (M 1) a1 := (by omega)); subst e9; simp only [cl, nI_clamp (show a1 < 2 ^ 31 by omega)]; rfl
          rw [eM] at hH
          exact z_iret hx hb hr hlocks hH (u := ()) (by rw [if_pos c_4_2]; (have e9 : i = jin (M 1) a1 := (by omega)); subst e9; rw [mWl_15, mu_ss, Nat.zero_add]; simp only [cl, nI_clamp (show a1 < 2 ^ 31 by omega)]; rfl) ⟨hH.1, hH.2.1⟩ trivial (Nat.le_of_ble_eq_true rfl) (Nat.le_of_ble_eq_true rfl) dX2_write_75
        · skip
          refine lv_aload_n hx hb dX2_write_55 rfl (lv_at hl 0 rfl) ?_
          refine lv_aload_n hx hb dX2_write_56 rfl (lv_at hl 0 rfl) ?_
          refine lv_iload_n hx hb dX2_write_57 rfl (lv_at hl 1 rfl) ?_
          refine lv_iload_n hx hb dX2_write_58 rfl (lv_at hl 2 rfl) ?_
          refine z_ci (wr := []) (va_runV (As := [.int (nI a1), .int (nI i)]) (rest := [.ref (q 0)]) ⟨hx, hb, hml, hown, hts⟩ (metX2_atPlace l G dA dS B0 H.size q (mWl (mu M 0 15 0) ([48 + a1] ++ [117] ++ [48 + M 1 (14 + a1)] ++ wTx (M 1) a1 i)) a1 (nI i) (by first | exact ha | assumption | omega) (by rw [mWl_1]; exact hbw) (by rw [mWl_1]; exact h12)) (cwV 2 hts (lw_V q2230 q2232 qs55 q91 q2233) rfl rfl rfl (by decide +kernel) ⟨Nat.le_of_ble_eq_true rfl, Nat.le_of_ble_eq_true rfl⟩) (zPV hX hH hB hAB (z_recv hX kX2 (hH.at 0 rfl)) [0, 1, 2, 3, 4, 5, 6, 7, 8] rfl rfl trivial) rfl rfl hl.1 rfl (lv_room (Nat.le_of_ble_eq_true rfl)) dX2_write_59 ⟨(Nat.le_of_ble_eq_true rfl), (Nat.le_of_ble_eq_true rfl)⟩) hH hA [0, 1, 2, 3, 4, 5, 6, 7, 8] [] rfl rfl (by decide) (by decide) (fun r_10 u_r_10 H locs hw_r_10 hH hR_r_10 hk_r_10 => ?_)
          obtain rfl := hw_r_10
          have hH : zH G A s.heap (mW dA q (mWl (mu M 0 15 0) ([48 + a1] ++ [117] ++ [48 + M 1 (14 + a1)] ++ wTx (M 1) a1 i))) H locs := hH
          obtain ⟨k9, hk9⟩ := pla_lt hrb hD (a := a1) (p := i) (by omega)
          have hk91 := (fO_spec hk9).1
          have hjt := jTx_len (M 1) k9
          refine z_topi (y := nI k9) (by rw [mWl_1]; show oI (pla (M 1) a1 (nI i)) = _; rw [hk9]; rfl) ?_
          refine z_cv (wr := []) (va_runV (As := [.int (nI k9)]) (rest := []) ⟨hx, hb, hml, hown, hts⟩ (metX2_writesJoke l G dA dS B0 H.size q (mWl (mu M 0 15 0) ([48 + a1] ++ [117] ++ [48 + M 1 (14 + a1)] ++ wTx (M 1) a1 i)) k9 (by rw [mWl_1]; exact hk91) (by first | omega | (simp only [mWl_15, mu_ss, List.length_append, List.length_cons, List.length_nil]; omega)) B (by rw [mWl_1]; exact hrb) (by first | exact hBb | assumption | omega)) (cwV 1 hts (lw_V q2368 q2370 qs66 q91 q2371) rfl rfl rfl (by decide +kernel) ⟨Nat.le_of_ble_eq_true rfl, Nat.le_of_ble_eq_true rfl⟩) (zPV hX hH hB hAB (z_recv hX kX2 (hH.at 0 rfl)) [0, 1, 2, 3, 4, 5, 6, 7, 8] rfl rfl trivial) rfl rfl hl.1 rfl (lv_room (Nat.le_of_ble_eq_true rfl)) dX2_write_62 ⟨(Nat.le_of_ble_eq_true rfl), (Nat.le_of_ble_eq_true rfl)⟩) hH hA [0, 1, 2, 3, 4, 5, 6, 7, 8] [] rfl rfl (by decide) (by decide) (fun u_r_11 H locs hw_r_11 hH hR_r_11 hk_r_11 => ?_)
          have hH : zH G A s.heap (mW dA q (mWl (mWl (mu M 0 15 0) ([48 + a1] ++ [117] ++ [48 + M 1 (14 + a1)] ++ wTx (M 1) a1 i)) (jTx ((mWl (mu M 0 15 0) ([48 + a1] ++ [117] ++ [48 + M 1 (14 + a1)] ++ wTx (M 1) a1 i)) 1) k9))) H locs := hH
          rw [mWl_app] at hH
          refine lv_iinc (v := nI (i + 1)) (lv' := [(2, .int (nI (i + 1))), (0, .ref (q 0)), (1, .int (nI a1))]) hx hb dX2_write_65 hl (k := 2) rfl (nI_1 _) (by decide) rfl (fun ls hl => ?_)
          refine lv_goto (tgt := 46) hx hb dX2_write_68 (by decide) ?_
          have eL : mWl (mu M 0 15 0) ([48 + a1] ++ [117] ++ [48 + M 1 (14 + a1)] ++ wTx (M 1) a1 i ++ (jTx ((mWl (mu M 0 15 0) ([48 + a1] ++ [117] ++ [48 + M 1 (14 + a1)] ++ wTx (M 1) a1 i)) 1) k9)) = mWl (mu M 0 15 0) ([48 + a1] ++ [117] ++ [48 + M 1 (14 + a1)] ++ wTx (M 1) a1 (i + 1)) := by rw [← mWl_app (mu M 0 15 0) _ (wTx (M 1) a1 (i + 1))]; simp only [wTx, hk9, List.append_assoc, mWl_app, mWl_1]; rfl
          rw [eL] at hH
          exact ih46 (i + 1) (by omega) (by omega) _ _ hH ls (lv_sub hl [1, 2, 0] rfl)
    have eL : mWl (mu M 0 15 0) ([] ++ [(48 + a1)] ++ [117] ++ [(48 + M 1 (14 + a1))]) = mWl (mu M 0 15 0) ([48 + a1] ++ [117] ++ [48 + M 1 (14 + a1)] ++ wTx (M 1) a1 0) := by rfl
    rw [eL] at hH
    exact LP46_6 ((jin (M 1) a1 - 0) + 1) 0 (Nat.lt_succ_self _) (by omega) _ _ hH ls (lv_sub hl [1, 2, 0] rfl)
  · skip
    refine lv_iconst (v := (-1)) hx hb dX2_write_7 (by decide) ?_
    have eM : M = (if inR a (nI 0) (nI 3) = true then mLine M (lTx (M 1) (cl a)) else M) := by rw [if_neg (t_nt c_4_2)]
    rw [eM] at hH
    exact z_iret hx hb hr hlocks hH (u := ()) (by rw [if_neg (t_nt c_4_2)]) ⟨hH.1, hH.2.1⟩ trivial (Nat.le_of_ble_eq_true rfl) (Nat.le_of_ble_eq_true rfl) dX2_write_8

set_option maxHeartbeats 4000000 in
set_option maxRecDepth 100000 in
theorem metX2_writePump (l : Launch) (G : va_G) (dA : Nat → ClassId) (dS : Nat → Nat) (B0 sz : Nat) (q : Nat → Nat) (M : mS) (B : Nat) (hrb : rB (M 1) B) (hBb : B + 20 < 2 ^ 30) : Met l yX2_writePump (ws_ yX2_writePump cX2_writePump 1 (some FieldType.int)) ({ frames := 2, cells := 0, slots := 0, locals := 42 }) (zP G dA dS B0 [.ref (q 0)] sz (mW dA q M) (fun H => True)) (zQi G (fun (r : Int32) (u : Unit) => r = nI (pTx (M 1)).length) (fun (u : Unit) => mW dA q (mLine M (pTx (M 1)))) (fun (u : Unit) (H : Heap) => True) (va_A (mW dA q M) sz)) 0 0 (va_A (mW dA q M) sz) := by
  refine zM (by decide) (Nat.le_of_ble_eq_true rfl) ?_
  intro p e s m below meth c ls A H locs hHe hx hb hr hlocks hml hown hname hts hX hsz hB hAe hA hAB hH hRo hl
  have hl : lv_has ls 1 [(0, .ref (q 0))] := hl
  have hbw := hrb.lt (by omega)
  have h12 := hrb.1
  have hw2 := hrb.2.2.2.2.1
  have hw2' := hrb.2.2.2.2.2.1
  have hw3 := hrb.2.2.2.2.2.2.1
  have hw1 := hrb.2.2.2.1
  have hw4 := hrb.2.2.2.2.2.2.2.1
  have hw5 := hrb.2.2.2.2.2.2.2.2.1
  have hg2 := dg_len (M 1 2)
  have hg3 := dg_len (M 1 3)
  have hg4 := dg_len (M 1 4)
  refine lv_aload_n hx hb dX2_writePump_0 rfl (lv_at hl 0 rfl) ?_
  refine lv_iconst (v := nI 0) hx hb dX2_writePump_1 (by decide) ?_
  refine z_put hx hb hts hown hX kX2 15 (by decide) hH 0 rfl q2025 (fun _ h9 => h9) rfl rfl rfl (Nat.le_of_ble_eq_true rfl) dX2_writePump_2 (fun H locs hH => ?_)
  have hH : zH G A s.heap (mW dA q (mu M 0 15 0)) H locs := hH
  have hH : zH G A s.heap (mW dA q (mWl (mu M 0 15 0) [])) H locs := hH
  refine lv_aload_n hx hb dX2_writePump_5 rfl (lv_at hl 0 rfl) ?_
  refine lv_bipush (v := nI 64) hx hb dX2_writePump_6 (by decide) ?_
  refine z_cv (wr := []) (va_runV (As := [.int (nI 64)]) (rest := []) ⟨hx, hb, hml, hown, hts⟩ (metX2_writes l G dA dS B0 H.size q (mWl (mu M 0 15 0) []) 64 (by first | omega | (simp only [mWl_15, mu_ss, List.length_append, List.length_cons, List.length_nil]; omega)) (by first | exact hc9 | assumption | omega)) (cwV 1 hts (lw_V q2364 q2366 qs65 q91 q2367) rfl rfl rfl (by decide +kernel) ⟨Nat.le_of_ble_eq_true rfl, Nat.le_of_ble_eq_true rfl⟩) (zPV hX hH hB hAB (z_recv hX kX2 (hH.at 0 rfl)) [0, 1, 2, 3, 4, 5, 6, 7, 8] rfl rfl trivial) rfl rfl hl.1 rfl (lv_room (Nat.le_of_ble_eq_true rfl)) dX2_writePump_8 ⟨(Nat.le_of_ble_eq_true rfl), (Nat.le_of_ble_eq_true rfl)⟩) hH hA [0, 1, 2, 3, 4, 5, 6, 7, 8] [] rfl rfl (by decide) (by decide) (fun u_r_1 H locs hw_r_1 hH hR_r_1 hk_r_1 => ?_)
  have hH : zH G A s.heap (mW dA q (mWl (mWl (mu M 0 15 0) []) [64])) H locs := hH
  rw [mWl_app] at hH
  refine lv_aload_n hx hb dX2_writePump_11 rfl (lv_at hl 0 rfl) ?_
  refine lv_bipush (v := nI 48) hx hb dX2_writePump_12 (by decide) ?_
  refine lv_aload_n hx hb dX2_writePump_14 rfl (lv_at hl 0 rfl) ?_
  refine z_get (v := .ref (q 1)) hx hb hts hown hX kX2 6 (by decide) (hH.at 0 rfl) rfl q2016 (fun _ h9 => h9) dX2_writePump_15 ?_
  refine lv_iconst (v := nI 1) hx hb dX2_writePump_18 (by decide) ?_
  refine z_iald (x := nI (M 1 1)) hx hb hX (k := 1)  (hH.at 1 rfl) rfl (by omega) (by omega) (by show nI _ = nI _; rw [mWl_n _ _ (by decide) (by decide)]; try rfl) dX2_writePump_19 ?_
  have hbd_2 := hbw 1 (by omega) (by omega)
  refine lv_iadd hx hb dX2_writePump_20 ?_
  refine z_topi (y := nI (48 + M 1 1)) (nI_add _ _) ?_
  refine z_cv (wr := []) (va_runV (As := [.int (nI (48 + M 1 1))]) (rest := []) ⟨hx, hb, hml, hown, hts⟩ (metX2_writes l G dA dS B0 H.size q (mWl (mu M 0 15 0) ([] ++ [64])) (48 + M 1 1) (by first | omega | (simp only [mWl_15, mu_ss, List.length_append, List.length_cons, List.length_nil]; omega)) (by first | exact hc9 | assumption | omega)) (cwV 1 hts (lw_V q2364 q2366 qs65 q91 q2367) rfl rfl rfl (by decide +kernel) ⟨Nat.le_of_ble_eq_true rfl, Nat.le_of_ble_eq_true rfl⟩) (zPV hX hH hB hAB (z_recv hX kX2 (hH.at 0 rfl)) [0, 1, 2, 3, 4, 5, 6, 7, 8] rfl rfl trivial) rfl rfl hl.1 rfl (lv_room (Nat.le_of_ble_eq_true rfl)) dX2_writePump_21 ⟨(Nat.le_of_ble_eq_true rfl), (Nat.le_of_ble_eq_true rfl)⟩) hH hA [0, 1, 2, 3, 4, 5, 6, 7, 8] [] rfl rfl (by decide) (by decide) (fun u_r_3 H locs hw_r_3 hH hR_r_3 hk_r_3 => ?_)
  have hH : zH G A s.heap (mW dA q (mWl (mWl (mu M 0 15 0) ([] ++ [64])) [(48 + M 1 1)])) H locs := hH
  rw [mWl_app] at hH
  refine lv_aload_n hx hb dX2_writePump_24 rfl (lv_at hl 0 rfl) ?_
  refine lv_bipush (v := nI 94) hx hb dX2_writePump_25 (by decide) ?_
  refine z_cv (wr := []) (va_runV (As := [.int (nI 94)]) (rest := []) ⟨hx, hb, hml, hown, hts⟩ (metX2_writes l G dA dS B0 H.size q (mWl (mu M 0 15 0) ([] ++ [64] ++ [(48 + M 1 1)])) 94 (by first | omega | (simp only [mWl_15, mu_ss, List.length_append, List.length_cons, List.length_nil]; omega)) (by first | exact hc9 | assumption | omega)) (cwV 1 hts (lw_V q2364 q2366 qs65 q91 q2367) rfl rfl rfl (by decide +kernel) ⟨Nat.le_of_ble_eq_true rfl, Nat.le_of_ble_eq_true rfl⟩) (zPV hX hH hB hAB (z_recv hX kX2 (hH.at 0 rfl)) [0, 1, 2, 3, 4, 5, 6, 7, 8] rfl rfl trivial) rfl rfl hl.1 rfl (lv_room (Nat.le_of_ble_eq_true rfl)) dX2_writePump_27 ⟨(Nat.le_of_ble_eq_true rfl), (Nat.le_of_ble_eq_true rfl)⟩) hH hA [0, 1, 2, 3, 4, 5, 6, 7, 8] [] rfl rfl (by decide) (by decide) (fun u_r_4 H locs hw_r_4 hH hR_r_4 hk_r_4 => ?_)
  have hH : zH G A s.heap (mW dA q (mWl (mWl (mu M 0 15 0) ([] ++ [64] ++ [(48 + M 1 1)])) [94])) H locs := hH
  rw [mWl_app] at hH
  refine lv_aload_n hx hb dX2_writePump_30 rfl (lv_at hl 0 rfl) ?_
  refine lv_aload_n hx hb dX2_writePump_31 rfl (lv_at hl 0 rfl) ?_
  refine z_get (v := .ref (q 1)) hx hb hts hown hX kX2 6 (by decide) (hH.at 0 rfl) rfl q2016 (fun _ h9 => h9) dX2_writePump_32 ?_
  refine lv_iconst (v := nI 2) hx hb dX2_writePump_35 (by decide) ?_
  refine z_iald (x := nI (M 1 2)) hx hb hX (k := 2)  (hH.at 1 rfl) rfl (by omega) (by omega) (by show nI _ = nI _; rw [mWl_n _ _ (by decide) (by decide)]; try rfl) dX2_writePump_36 ?_
  have hbd_5 := hbw 2 (by omega) (by omega)
  refine z_cv (wr := []) (va_runV (As := [.int (nI (M 1 2))]) (rest := []) ⟨hx, hb, hml, hown, hts⟩ (metX2_writesNumber l G dA dS B0 H.size q (mWl (mu M 0 15 0) ([] ++ [64] ++ [(48 + M 1 1)] ++ [94])) (M 1 2) (by first | omega | (simp only [mWl_15, mu_ss, List.length_append, List.length_cons, List.length_nil]; omega)) (by first | exact hv | assumption | omega)) (cwV 1 hts (lw_V q2372 q2374 qs67 q91 q2375) rfl rfl rfl (by decide +kernel) ⟨Nat.le_of_ble_eq_true rfl, Nat.le_of_ble_eq_true rfl⟩) (zPV hX hH hB hAB (z_recv hX kX2 (hH.at 0 rfl)) [0, 1, 2, 3, 4, 5, 6, 7, 8] rfl rfl trivial) rfl rfl hl.1 rfl (lv_room (Nat.le_of_ble_eq_true rfl)) dX2_writePump_37 ⟨(Nat.le_of_ble_eq_true rfl), (Nat.le_of_ble_eq_true rfl)⟩) hH hA [0, 1, 2, 3, 4, 5, 6, 7, 8] [] rfl rfl (by decide) (by decide) (fun u_r_6 H locs hw_r_6 hH hR_r_6 hk_r_6 => ?_)
  have hH : zH G A s.heap (mW dA q (mWl (mWl (mu M 0 15 0) ([] ++ [64] ++ [(48 + M 1 1)] ++ [94])) (dg (M 1 2)))) H locs := hH
  rw [mWl_app] at hH
  refine lv_aload_n hx hb dX2_writePump_40 rfl (lv_at hl 0 rfl) ?_
  refine lv_bipush (v := nI 126) hx hb dX2_writePump_41 (by decide) ?_
  refine z_cv (wr := []) (va_runV (As := [.int (nI 126)]) (rest := []) ⟨hx, hb, hml, hown, hts⟩ (metX2_writes l G dA dS B0 H.size q (mWl (mu M 0 15 0) ([] ++ [64] ++ [(48 + M 1 1)] ++ [94] ++ (dg (M 1 2)))) 126 (by first | omega | (simp only [mWl_15, mu_ss, List.length_append, List.length_cons, List.length_nil]; omega)) (by first | exact hc9 | assumption | omega)) (cwV 1 hts (lw_V q2364 q2366 qs65 q91 q2367) rfl rfl rfl (by decide +kernel) ⟨Nat.le_of_ble_eq_true rfl, Nat.le_of_ble_eq_true rfl⟩) (zPV hX hH hB hAB (z_recv hX kX2 (hH.at 0 rfl)) [0, 1, 2, 3, 4, 5, 6, 7, 8] rfl rfl trivial) rfl rfl hl.1 rfl (lv_room (Nat.le_of_ble_eq_true rfl)) dX2_writePump_43 ⟨(Nat.le_of_ble_eq_true rfl), (Nat.le_of_ble_eq_true rfl)⟩) hH hA [0, 1, 2, 3, 4, 5, 6, 7, 8] [] rfl rfl (by decide) (by decide) (fun u_r_7 H locs hw_r_7 hH hR_r_7 hk_r_7 => ?_)
  have hH : zH G A s.heap (mW dA q (mWl (mWl (mu M 0 15 0) ([] ++ [64] ++ [(48 + M 1 1)] ++ [94] ++ (dg (M 1 2)))) [126])) H locs := hH
  rw [mWl_app] at hH
  refine lv_aload_n hx hb dX2_writePump_46 rfl (lv_at hl 0 rfl) ?_
  refine lv_aload_n hx hb dX2_writePump_47 rfl (lv_at hl 0 rfl) ?_
  refine z_get (v := .ref (q 1)) hx hb hts hown hX kX2 6 (by decide) (hH.at 0 rfl) rfl q2016 (fun _ h9 => h9) dX2_writePump_48 ?_
  refine lv_iconst (v := nI 3) hx hb dX2_writePump_51 (by decide) ?_
  refine z_iald (x := nI (M 1 3)) hx hb hX (k := 3)  (hH.at 1 rfl) rfl (by omega) (by omega) (by show nI _ = nI _; rw [mWl_n _ _ (by decide) (by decide)]; try rfl) dX2_writePump_52 ?_
  have hbd_8 := hbw 3 (by omega) (by omega)
  refine z_cv (wr := []) (va_runV (As := [.int (nI (M 1 3))]) (rest := []) ⟨hx, hb, hml, hown, hts⟩ (metX2_writesNumber l G dA dS B0 H.size q (mWl (mu M 0 15 0) ([] ++ [64] ++ [(48 + M 1 1)] ++ [94] ++ (dg (M 1 2)) ++ [126])) (M 1 3) (by first | omega | (simp only [mWl_15, mu_ss, List.length_append, List.length_cons, List.length_nil]; omega)) (by first | exact hv | assumption | omega)) (cwV 1 hts (lw_V q2372 q2374 qs67 q91 q2375) rfl rfl rfl (by decide +kernel) ⟨Nat.le_of_ble_eq_true rfl, Nat.le_of_ble_eq_true rfl⟩) (zPV hX hH hB hAB (z_recv hX kX2 (hH.at 0 rfl)) [0, 1, 2, 3, 4, 5, 6, 7, 8] rfl rfl trivial) rfl rfl hl.1 rfl (lv_room (Nat.le_of_ble_eq_true rfl)) dX2_writePump_53 ⟨(Nat.le_of_ble_eq_true rfl), (Nat.le_of_ble_eq_true rfl)⟩) hH hA [0, 1, 2, 3, 4, 5, 6, 7, 8] [] rfl rfl (by decide) (by decide) (fun u_r_9 H locs hw_r_9 hH hR_r_9 hk_r_9 => ?_)
  have hH : zH G A s.heap (mW dA q (mWl (mWl (mu M 0 15 0) ([] ++ [64] ++ [(48 + M 1 1)] ++ [94] ++ (dg (M 1 2)) ++ [126])) (dg (M 1 3)))) H locs := hH
  rw [mWl_app] at hH
  refine lv_aload_n hx hb dX2_writePump_56 rfl (lv_at hl 0 rfl) ?_
  refine lv_bipush (v := nI 111) hx hb dX2_writePump_57 (by decide) ?_
  refine z_cv (wr := []) (va_runV (As := [.int (nI 111)]) (rest := []) ⟨hx, hb, hml, hown, hts⟩ (metX2_writes l G dA dS B0 H.size q (mWl (mu M 0 15 0) ([] ++ [64] ++ [(48 + M 1 1)] ++ [94] ++ (dg (M 1 2)) ++ [126] ++ (dg (M 1 3)))) 111 (by first | omega | (simp only [mWl_15, mu_ss, List.length_append, List.length_cons, List.length_nil]; omega)) (by first | exact hc9 | assumption | omega)) (cwV 1 hts (lw_V q2364 q2366 qs65 q91 q2367) rfl rfl rfl (by decide +kernel) ⟨Nat.le_of_ble_eq_true rfl, Nat.le_of_ble_eq_true rfl⟩) (zPV hX hH hB hAB (z_recv hX kX2 (hH.at 0 rfl)) [0, 1, 2, 3, 4, 5, 6, 7, 8] rfl rfl trivial) rfl rfl hl.1 rfl (lv_room (Nat.le_of_ble_eq_true rfl)) dX2_writePump_59 ⟨(Nat.le_of_ble_eq_true rfl), (Nat.le_of_ble_eq_true rfl)⟩) hH hA [0, 1, 2, 3, 4, 5, 6, 7, 8] [] rfl rfl (by decide) (by decide) (fun u_r_10 H locs hw_r_10 hH hR_r_10 hk_r_10 => ?_)
  have hH : zH G A s.heap (mW dA q (mWl (mWl (mu M 0 15 0) ([] ++ [64] ++ [(48 + M 1 1)] ++ [94] ++ (dg (M 1 2)) ++ [126] ++ (dg (M 1 3)))) [111])) H locs := hH
  rw [mWl_app] at hH
  refine lv_aload_n hx hb dX2_writePump_62 rfl (lv_at hl 0 rfl) ?_
  refine lv_aload_n hx hb dX2_writePump_63 rfl (lv_at hl 0 rfl) ?_
  refine z_get (v := .ref (q 1)) hx hb hts hown hX kX2 6 (by decide) (hH.at 0 rfl) rfl q2016 (fun _ h9 => h9) dX2_writePump_64 ?_
  refine lv_iconst (v := nI 4) hx hb dX2_writePump_67 (by decide) ?_
  refine z_iald (x := nI (M 1 4)) hx hb hX (k := 4)  (hH.at 1 rfl) rfl (by omega) (by omega) (by show nI _ = nI _; rw [mWl_n _ _ (by decide) (by decide)]; try rfl) dX2_writePump_68 ?_
  have hbd_11 := hbw 4 (by omega) (by omega)
  refine z_cv (wr := []) (va_runV (As := [.int (nI (M 1 4))]) (rest := []) ⟨hx, hb, hml, hown, hts⟩ (metX2_writesNumber l G dA dS B0 H.size q (mWl (mu M 0 15 0) ([] ++ [64] ++ [(48 + M 1 1)] ++ [94] ++ (dg (M 1 2)) ++ [126] ++ (dg (M 1 3)) ++ [111])) (M 1 4) (by first | omega | (simp only [mWl_15, mu_ss, List.length_append, List.length_cons, List.length_nil]; omega)) (by first | exact hv | assumption | omega)) (cwV 1 hts (lw_V q2372 q2374 qs67 q91 q2375) rfl rfl rfl (by decide +kernel) ⟨Nat.le_of_ble_eq_true rfl, Nat.le_of_ble_eq_true rfl⟩) (zPV hX hH hB hAB (z_recv hX kX2 (hH.at 0 rfl)) [0, 1, 2, 3, 4, 5, 6, 7, 8] rfl rfl trivial) rfl rfl hl.1 rfl (lv_room (Nat.le_of_ble_eq_true rfl)) dX2_writePump_69 ⟨(Nat.le_of_ble_eq_true rfl), (Nat.le_of_ble_eq_true rfl)⟩) hH hA [0, 1, 2, 3, 4, 5, 6, 7, 8] [] rfl rfl (by decide) (by decide) (fun u_r_12 H locs hw_r_12 hH hR_r_12 hk_r_12 => ?_)
  have hH : zH G A s.heap (mW dA q (mWl (mWl (mu M 0 15 0) ([] ++ [64] ++ [(48 + M 1 1)] ++ [94] ++ (dg (M 1 2)) ++ [126] ++ (dg (M 1 3)) ++ [111])) (dg (M 1 4)))) H locs := hH
  rw [mWl_app] at hH
  refine lv_aload_n hx hb dX2_writePump_72 rfl (lv_at hl 0 rfl) ?_
  refine lv_bipush (v := nI 42) hx hb dX2_writePump_73 (by decide) ?_
  refine z_cv (wr := []) (va_runV (As := [.int (nI 42)]) (rest := []) ⟨hx, hb, hml, hown, hts⟩ (metX2_writes l G dA dS B0 H.size q (mWl (mu M 0 15 0) ([] ++ [64] ++ [(48 + M 1 1)] ++ [94] ++ (dg (M 1 2)) ++ [126] ++ (dg (M 1 3)) ++ [111] ++ (dg (M 1 4)))) 42 (by first | omega | (simp only [mWl_15, mu_ss, List.length_append, List.length_cons, List.length_nil]; omega)) (by first | exact hc9 | assumption | omega)) (cwV 1 hts (lw_V q2364 q2366 qs65 q91 q2367) rfl rfl rfl (by decide +kernel) ⟨Nat.le_of_ble_eq_true rfl, Nat.le_of_ble_eq_true rfl⟩) (zPV hX hH hB hAB (z_recv hX kX2 (hH.at 0 rfl)) [0, 1, 2, 3, 4, 5, 6, 7, 8] rfl rfl trivial) rfl rfl hl.1 rfl (lv_room (Nat.le_of_ble_eq_true rfl)) dX2_writePump_75 ⟨(Nat.le_of_ble_eq_true rfl), (Nat.le_of_ble_eq_true rfl)⟩) hH hA [0, 1, 2, 3, 4, 5, 6, 7, 8] [] rfl rfl (by decide) (by decide) (fun u_r_13 H locs hw_r_13 hH hR_r_13 hk_r_13 => ?_)
  have hH : zH G A s.heap (mW dA q (mWl (mWl (mu M 0 15 0) ([] ++ [64] ++ [(48 + M 1 1)] ++ [94] ++ (dg (M 1 2)) ++ [126] ++ (dg (M 1 3)) ++ [111] ++ (dg (M 1 4)))) [42])) H locs := hH
  rw [mWl_app] at hH
  refine lv_aload_n hx hb dX2_writePump_78 rfl (lv_at hl 0 rfl) ?_
  refine lv_bipush (v := nI 48) hx hb dX2_writePump_79 (by decide) ?_
  refine lv_aload_n hx hb dX2_writePump_81 rfl (lv_at hl 0 rfl) ?_
  refine z_get (v := .ref (q 1)) hx hb hts hown hX kX2 6 (by decide) (hH.at 0 rfl) rfl q2016 (fun _ h9 => h9) dX2_writePump_82 ?_
  refine lv_iconst (v := nI 5) hx hb dX2_writePump_85 (by decide) ?_
  refine z_iald (x := nI (M 1 5)) hx hb hX (k := 5)  (hH.at 1 rfl) rfl (by omega) (by omega) (by show nI _ = nI _; rw [mWl_n _ _ (by decide) (by decide)]; try rfl) dX2_writePump_86 ?_
  have hbd_14 := hbw 5 (by omega) (by omega)
  refine lv_iadd hx hb dX2_writePump_87 ?_
  refine z_topi (y := nI (48 + M 1 5)) (nI_add _ _) ?_
  refine z_cv (wr := []) (va_runV (As := [.int (nI (48 + M 1 5))]) (rest := []) ⟨hx, hb, hml, hown, hts⟩ (metX2_writes l G dA dS B0 H.size q (mWl (mu M 0 15 0) ([] ++ [64] ++ [(48 + M 1 1)] ++ [94] ++ (dg (M 1 2)) ++ [126] ++ (dg (M 1 3)) ++ [111] ++ (dg (M 1 4)) ++ [42])) (48 + M 1 5) (by first | omega | (simp only [mWl_15, mu_ss, List.length_append, List.length_cons, List.length_nil]; omega)) (by first | exact hc9 | assumption | omega)) (cwV 1 hts (lw_V q2364 q2366 qs65 q91 q2367) rfl rfl rfl (by decide +kernel) ⟨Nat.le_of_ble_eq_true rfl, Nat.le_of_ble_eq_true rfl⟩) (zPV hX hH hB hAB (z_recv hX kX2 (hH.at 0 rfl)) [0, 1, 2, 3, 4, 5, 6, 7, 8] rfl rfl trivial) rfl rfl hl.1 rfl (lv_room (Nat.le_of_ble_eq_true rfl)) dX2_writePump_88 ⟨(Nat.le_of_ble_eq_true rfl), (Nat.le_of_ble_eq_true rfl)⟩) hH hA [0, 1, 2, 3, 4, 5, 6, 7, 8] [] rfl rfl (by decide) (by decide) (fun u_r_15 H locs hw_r_15 hH hR_r_15 hk_r_15 => ?_)
  have hH : zH G A s.heap (mW dA q (mWl (mWl (mu M 0 15 0) ([] ++ [64] ++ [(48 + M 1 1)] ++ [94] ++ (dg (M 1 2)) ++ [126] ++ (dg (M 1 3)) ++ [111] ++ (dg (M 1 4)) ++ [42])) [(48 + M 1 5)])) H locs := hH
  rw [mWl_app] at hH
  refine lv_aload_n hx hb dX2_writePump_91 rfl (lv_at hl 0 rfl) ?_
  refine z_get (v := .int (nI ((mWl (mu M 0 15 0) ([] ++ [64] ++ [(48 + M 1 1)] ++ [94] ++ (dg (M 1 2)) ++ [126] ++ (dg (M 1 3)) ++ [111] ++ (dg (M 1 4)) ++ [42] ++ [(48 + M 1 5)])) 0 15))) hx hb hts hown hX kX2 15 (by decide) (hH.at 0 rfl) rfl q2025 (fun _ h9 => h9) dX2_writePump_92 ?_
  have eM : mWl (mu M 0 15 0) ([] ++ [64] ++ [(48 + M 1 1)] ++ [94] ++ (dg (M 1 2)) ++ [126] ++ (dg (M 1 3)) ++ [111] ++ (dg (M 1 4)) ++ [42] ++ [(48 + M 1 5)]) = mLine M (pTx (M 1)) := by rfl
  rw [eM] at hH
  exact z_iret hx hb hr hlocks hH (u := ()) (by rw [mWl_15, mu_ss, Nat.zero_add]; rfl) ⟨hH.1, hH.2.1⟩ trivial (Nat.le_of_ble_eq_true rfl) (Nat.le_of_ble_eq_true rfl) dX2_writePump_95

set_option maxHeartbeats 4000000 in
set_option maxRecDepth 100000 in
theorem metX2_written (l : Launch) (G : va_G) (dA : Nat → ClassId) (dS : Nat → Nat) (B0 sz : Nat) (q : Nat → Nat) (M : mS) (a : Int32) (hl9 : M 0 15 ≤ 60) : Met l yX2_written (ws_ yX2_written cX2_written 2 (some FieldType.int)) ({ frames := 1, cells := 0, slots := 0, locals := 22 }) (zP G dA dS B0 [.ref (q 0), .int (a)] sz (mW dA q M) (fun H => True)) (zQi G (fun (r : Int32) (u : Unit) => r = aWritten M a) (fun (u : Unit) => mW dA q M) (fun (u : Unit) (H : Heap) => True) (va_A (mW dA q M) sz)) 0 0 (va_A (mW dA q M) sz) := by
  refine zM (by decide) (Nat.le_of_ble_eq_true rfl) ?_
  intro p e s m below meth c ls A H locs hHe hx hb hr hlocks hml hown hname hts hX hsz hB hAe hA hAB hH hRo hl
  have hl : lv_has ls 2 [(0, .ref (q 0)), (1, .int (a))] := hl
  refine lv_iload_n hx hb dX2_written_0 rfl (lv_at hl 1 rfl) ?_
  refine lv_iconst (v := nI 0) hx hb dX2_written_1 (by decide) ?_
  refine lv_aload_n hx hb dX2_written_2 rfl (lv_at hl 0 rfl) ?_
  refine z_get (v := .int (nI (M 0 15))) hx hb hts hown hX kX2 15 (by decide) (hH.at 0 rfl) rfl q2025 (fun _ h9 => h9) dX2_written_3 ?_
  refine lv_iconst (v := nI 1) hx hb dX2_written_6 (by decide) ?_
  refine lv_isub hx hb dX2_written_7 ?_
  refine z_ci (wr := mW dA q M) (va_runS (As := [.int (a), .int (nI 0), .int ((nI (M 0 15)) - (nI 1))]) (rest := []) ⟨hx, hb, hml, hown, hts⟩ (metX2_isBetween l G dA dS B0 H.size a (nI 0) ((nI (M 0 15)) - (nI 1))) (va_cwS 3 hts (lw_S q2001 q2002 q91 q2003) rfl rfl rfl (by decide +kernel) ⟨Nat.le_of_ble_eq_true rfl, Nat.le_of_ble_eq_true rfl⟩) (zPS hX hH hB hAB [] rfl rfl trivial) rfl rfl hl.1 rfl (lv_room (Nat.le_of_ble_eq_true rfl)) dX2_written_8 ⟨(Nat.le_of_ble_eq_true rfl), (Nat.le_of_ble_eq_true rfl)⟩) hH hA [] [0, 1, 2, 3, 4, 5, 6, 7, 8] rfl rfl (by decide) (by decide) (fun r_1 u_r_1 H locs hw_r_1 hH hR_r_1 hk_r_1 => ?_)
  obtain rfl := hw_r_1
  have hH : zH G A s.heap (mW dA q M) H locs := hH
  refine z_ifeqB (b := inR a (nI 0) ((nI (M 0 15)) - (nI 1))) (tgt := 23) hx hb dX2_written_11 (by decide) (fun c_11_2 => ?_) (fun c_11_2 => ?_)
  · skip
    refine lv_iconst (v := (-1)) hx hb dX2_written_23 (by decide) ?_
    exact z_iret hx hb hr hlocks hH (u := ()) (by simp only [aWritten, cl, if_pos c_11_2, if_neg (t_nt c_11_2)]; first | done | rfl) ⟨hH.1, hH.2.1⟩ trivial (Nat.le_of_ble_eq_true rfl) (Nat.le_of_ble_eq_true rfl) dX2_written_24
  · skip
    obtain ⟨a1, rfl, hja1⟩ := isl_n (by omega) c_11_2
    refine lv_aload_n hx hb dX2_written_14 rfl (lv_at hl 0 rfl) ?_
    refine z_get (v := .ref (q 6)) hx hb hts hown hX kX2 14 (by decide) (hH.at 0 rfl) rfl q2024 (fun _ h9 => h9) dX2_written_15 ?_
    refine lv_iload_n hx hb dX2_written_18 rfl (lv_at hl 1 rfl) ?_
    refine z_cald (x := nI (M 6 a1)) hx hb hX (k := a1)  (hH.at 6 rfl) rfl (by omega) (by omega) rfl dX2_written_19 ?_
    refine lv_goto (tgt := 24) hx hb dX2_written_20 (by decide) ?_
    exact z_iret hx hb hr hlocks hH (u := ()) (by simp only [aWritten, cl, nI_clamp (show a1 < 2 ^ 31 by omega), if_pos c_11_2, if_neg (t_nf c_11_2)]; first | done | rfl) ⟨hH.1, hH.2.1⟩ trivial (Nat.le_of_ble_eq_true rfl) (Nat.le_of_ble_eq_true rfl) dX2_written_24

set_option maxHeartbeats 4000000 in
set_option maxRecDepth 100000 in
theorem metX2_append (l : Launch) (G : va_G) (dA : Nat → ClassId) (dS : Nat → Nat) (B0 sz : Nat) (q : Nat → Nat) (M : mS) (a : Int32) (h17 : M 0 17 ≤ 60) : Met l yX2_append (ws_ yX2_append cX2_append 2 (some FieldType.int)) ({ frames := 1, cells := 0, slots := 0, locals := 22 }) (zP G dA dS B0 [.ref (q 0), .int (a)] sz (mW dA q M) (fun H => True)) (zQi G (fun (r : Int32) (u : Unit) => r = (mAppend M a).1) (fun (u : Unit) => mW dA q ((mAppend M a).2)) (fun (u : Unit) (H : Heap) => True) (va_A (mW dA q M) sz)) 0 0 (va_A (mW dA q M) sz) := by
  refine zM (by decide) (Nat.le_of_ble_eq_true rfl) ?_
  intro p e s m below meth c ls A H locs hHe hx hb hr hlocks hml hown hname hts hX hsz hB hAe hA hAB hH hRo hl
  have hl : lv_has ls 2 [(0, .ref (q 0)), (1, .int (a))] := hl
  refine lv_iload_n hx hb dX2_append_0 rfl (lv_at hl 1 rfl) ?_
  refine lv_bipush (v := nI 32) hx hb dX2_append_1 (by decide) ?_
  refine lv_bipush (v := nI 126) hx hb dX2_append_3 (by decide) ?_
  refine z_ci (wr := mW dA q M) (va_runS (As := [.int (a), .int (nI 32), .int (nI 126)]) (rest := []) ⟨hx, hb, hml, hown, hts⟩ (metX2_isBetween l G dA dS B0 H.size a (nI 32) (nI 126)) (va_cwS 3 hts (lw_S q2001 q2002 q91 q2003) rfl rfl rfl (by decide +kernel) ⟨Nat.le_of_ble_eq_true rfl, Nat.le_of_ble_eq_true rfl⟩) (zPS hX hH hB hAB [] rfl rfl trivial) rfl rfl hl.1 rfl (lv_room (Nat.le_of_ble_eq_true rfl)) dX2_append_5 ⟨(Nat.le_of_ble_eq_true rfl), (Nat.le_of_ble_eq_true rfl)⟩) hH hA [] [0, 1, 2, 3, 4, 5, 6, 7, 8] rfl rfl (by decide) (by decide) (fun r_1 u_r_1 H locs hw_r_1 hH hR_r_1 hk_r_1 => ?_)
  obtain rfl := hw_r_1
  have hH : zH G A s.heap (mW dA q M) H locs := hH
  refine z_ifneB (b := inR a (nI 32) (nI 126)) (tgt := 14) hx hb dX2_append_8 (by decide) (fun c_8_2 => ?_) (fun c_8_2 => ?_)
  · skip
    obtain ⟨a1, rfl, hl1, hu1⟩ := inR_n (a := 32) (b := 126) (by decide) (by decide) c_8_2
    refine lv_aload_n hx hb dX2_append_14 rfl (lv_at hl 0 rfl) ?_
    refine z_get (v := .int (nI (M 0 17))) hx hb hts hown hX kX2 17 (by decide) (hH.at 0 rfl) rfl q2027 (fun _ h9 => h9) dX2_append_15 ?_
    refine lv_bipush (v := nI 60) hx hb dX2_append_18 (by decide) ?_
    refine z_icmp_ne (tgt := 26) hx hb dX2_append_20 (by decide) (by omega) (by omega) (fun c_20_3 => ?_) (fun c_20_3 => ?_)
    · skip
      refine lv_aload_n hx hb dX2_append_26 rfl (lv_at hl 0 rfl) ?_
      refine z_get (v := .ref (q 7)) hx hb hts hown hX kX2 16 (by decide) (hH.at 0 rfl) rfl q2026 (fun _ h9 => h9) dX2_append_27 ?_
      refine lv_aload_n hx hb dX2_append_30 rfl (lv_at hl 0 rfl) ?_
      refine z_get (v := .int (nI (M 0 17))) hx hb hts hown hX kX2 17 (by decide) (hH.at 0 rfl) rfl q2027 (fun _ h9 => h9) dX2_append_31 ?_
      refine lv_iload_n hx hb dX2_append_34 rfl (lv_at hl 1 rfl) ?_
      refine z_castN hx hb hX (k := (M 0 17)) hH 7 rfl rfl (by omega) (by omega) (by omega) dX2_append_35 (fun H locs hH => ?_)
      have hH : zH G A s.heap (mW dA q (mu M 7 (M 0 17) a1)) H locs := hH
      refine lv_aload_n hx hb dX2_append_36 rfl (lv_at hl 0 rfl) ?_
      refine lv_dup hx hb dX2_append_37 rfl ?_
      refine z_get (v := .int (nI (M 0 17))) hx hb hts hown hX kX2 17 (by decide) (hH.at 0 rfl) rfl q2027 (fun _ h9 => h9) dX2_append_38 ?_
      refine lv_iconst (v := nI 1) hx hb dX2_append_41 (by decide) ?_
      refine lv_iadd hx hb dX2_append_42 ?_
      refine z_topi (y := nI (M 0 17 + 1)) (nI_add _ _) ?_
      refine z_put hx hb hts hown hX kX2 17 (by decide) hH 0 rfl q2027 (fun _ h9 => h9) rfl rfl rfl (Nat.le_of_ble_eq_true rfl) dX2_append_43 (fun H locs hH => ?_)
      have hH : zH G A s.heap (mW dA q (mu (mu M 7 (M 0 17) a1) 0 17 (M 0 17 + 1))) H locs := hH
      refine lv_aload_n hx hb dX2_append_46 rfl (lv_at hl 0 rfl) ?_
      refine z_get (v := .int (nI (M 0 17 + 1))) hx hb hts hown hX kX2 17 (by decide) (hH.at 0 rfl) rfl q2027 (fun _ h9 => h9) dX2_append_47 ?_
      have eM : mu (mu M 7 (M 0 17) a1) 0 17 (M 0 17 + 1) = (mAppend M (nI a1)).2 := by simp only [mAppend, cl, nI_clamp (show a1 < 2 ^ 31 by omega), if_pos c_8_2, if_neg (t_nf c_8_2), if_neg c_20_3]; first | done | rfl
      rw [eM] at hH
      exact z_iret hx hb hr hlocks hH (u := ()) (by simp only [mAppend, cl, nI_clamp (show a1 < 2 ^ 31 by omega), if_pos c_8_2, if_neg (t_nf c_8_2), if_neg c_20_3]; first | done | rfl) ⟨hH.1, hH.2.1⟩ trivial (Nat.le_of_ble_eq_true rfl) (Nat.le_of_ble_eq_true rfl) dX2_append_50
    · skip
      refine lv_bipush (v := (-4)) hx hb dX2_append_23 (by decide) ?_
      have eM : M = (mAppend M (nI a1)).2 := by simp only [mAppend, cl, nI_clamp (show a1 < 2 ^ 31 by omega), if_pos c_8_2, if_neg (t_nf c_8_2), if_pos c_20_3]; first | done | rfl
      rw [eM] at hH
      exact z_iret hx hb hr hlocks hH (u := ()) (by simp only [mAppend, cl, nI_clamp (show a1 < 2 ^ 31 by omega), if_pos c_8_2, if_neg (t_nf c_8_2), if_pos c_20_3]; first | done | rfl) ⟨hH.1, hH.2.1⟩ trivial (Nat.le_of_ble_eq_true rfl) (Nat.le_of_ble_eq_true rfl) dX2_append_25
  · skip
    refine lv_bipush (v := (-2)) hx hb dX2_append_11 (by decide) ?_
    have eM : M = (mAppend M a).2 := by simp only [mAppend, cl, if_pos c_8_2, if_neg (t_nt c_8_2)]; first | done | rfl
    rw [eM] at hH
    exact z_iret hx hb hr hlocks hH (u := ()) (by simp only [mAppend, cl, if_pos c_8_2, if_neg (t_nt c_8_2)]; first | done | rfl) ⟨hH.1, hH.2.1⟩ trivial (Nat.le_of_ble_eq_true rfl) (Nat.le_of_ble_eq_true rfl) dX2_append_13

set_option maxHeartbeats 4000000 in
set_option maxRecDepth 100000 in
theorem metX2_fault (l : Launch) (G : va_G) (dA : Nat → ClassId) (dS : Nat → Nat) (B0 sz : Nat) (q : Nat → Nat) (M : mS) : Met l yX2_fault (ws_ yX2_fault cX2_fault 1 (some FieldType.int)) ({ frames := 0, cells := 0, slots := 0, locals := 0 }) (zP G dA dS B0 [.ref (q 0)] sz (mW dA q M) (fun H => True)) (zQi G (fun (r : Int32) (u : Unit) => r = aFault M) (fun (u : Unit) => mW dA q M) (fun (u : Unit) (H : Heap) => True) (va_A (mW dA q M) sz)) 0 0 (va_A (mW dA q M) sz) := by
  refine zM (by decide) (Nat.le_of_ble_eq_true rfl) ?_
  intro p e s m below meth c ls A H locs hHe hx hb hr hlocks hml hown hname hts hX hsz hB hAe hA hAB hH hRo hl
  have hl : lv_has ls 1 [(0, .ref (q 0))] := hl
  refine lv_aload_n hx hb dX2_fault_0 rfl (lv_at hl 0 rfl) ?_
  refine z_get (v := .int (nI (M 0 19))) hx hb hts hown hX kX2 19 (by decide) (hH.at 0 rfl) rfl q2029 (fun _ h9 => h9) dX2_fault_1 ?_
  refine lv_if_ge (tgt := 12) hx hb dX2_fault_4 (by decide) (fun c_4_1 => ?_) (fun c_4_1 => ?_)
  · skip
    refine lv_aload_n hx hb dX2_fault_12 rfl (lv_at hl 0 rfl) ?_
    refine z_get (v := .int (nI (M 0 19))) hx hb hts hown hX kX2 19 (by decide) (hH.at 0 rfl) rfl q2029 (fun _ h9 => h9) dX2_fault_13 ?_
    exact z_iret hx hb hr hlocks hH (u := ()) (by simp only [aFault, if_pos c_4_1]) ⟨hH.1, hH.2.1⟩ trivial (Nat.le_of_ble_eq_true rfl) (Nat.le_of_ble_eq_true rfl) dX2_fault_16
  · skip
    refine lv_bipush (v := (-3)) hx hb dX2_fault_7 (by decide) ?_
    refine lv_goto (tgt := 16) hx hb dX2_fault_9 (by decide) ?_
    exact z_iret hx hb hr hlocks hH (u := ()) (by simp only [aFault, if_neg c_4_1]) ⟨hH.1, hH.2.1⟩ trivial (Nat.le_of_ble_eq_true rfl) (Nat.le_of_ble_eq_true rfl) dX2_fault_16

set_option maxHeartbeats 4000000 in
set_option maxRecDepth 100000 in
theorem metX2_undo (l : Launch) (G : va_G) (dA : Nat → ClassId) (dS : Nat → Nat) (B0 sz : Nat) (q : Nat → Nat) (M : mS) (hch : M 0 11 ≤ 8) (hfc : M 0 12 < 8) : Met l yX2_undo (ws_ yX2_undo cX2_undo 3 (some FieldType.int)) ({ frames := 0, cells := 0, slots := 0, locals := 0 }) (zP G dA dS B0 [.ref (q 0)] sz (mW dA q M) (fun H => True)) (zQi G (fun (r : Int32) (u : Unit) => r = (mUndo M).1) (fun (u : Unit) => mW dA q ((mUndo M).2)) (fun (u : Unit) (H : Heap) => True) (va_A (mW dA q M) sz)) 0 0 (va_A (mW dA q M) sz) := by
  refine zM (by decide) (Nat.le_of_ble_eq_true rfl) ?_
  intro p e s m below meth c ls A H locs hHe hx hb hr hlocks hml hown hname hts hX hsz hB hAe hA hAB hH hRo hl
  have hl : lv_has ls 3 [(0, .ref (q 0))] := hl
  refine lv_aload_n hx hb dX2_undo_0 rfl (lv_at hl 0 rfl) ?_
  refine z_get (v := .int (nI (M 0 11))) hx hb hts hown hX kX2 11 (by decide) (hH.at 0 rfl) rfl q2021 (fun _ h9 => h9) dX2_undo_1 ?_
  refine z_ifneN (tgt := 10) hx hb dX2_undo_4 (by decide) (by omega) (fun c_4_1 => ?_) (fun c_4_1 => ?_)
  · skip
    refine lv_aload_n hx hb dX2_undo_10 rfl (lv_at hl 0 rfl) ?_
    refine lv_dup hx hb dX2_undo_11 rfl ?_
    refine z_get (v := .int (nI (M 0 11))) hx hb hts hown hX kX2 11 (by decide) (hH.at 0 rfl) rfl q2021 (fun _ h9 => h9) dX2_undo_12 ?_
    refine lv_iconst (v := nI 1) hx hb dX2_undo_15 (by decide) ?_
    refine lv_isub hx hb dX2_undo_16 ?_
    refine z_topi (y := nI ((M 0 11) - 1)) (pk_sub (by omega)) ?_
    refine z_put hx hb hts hown hX kX2 11 (by decide) hH 0 rfl q2021 (fun _ h9 => h9) rfl rfl rfl (Nat.le_of_ble_eq_true rfl) dX2_undo_17 (fun H locs hH => ?_)
    have hH : zH G A s.heap (mW dA q (mu M 0 11 ((M 0 11) - 1))) H locs := hH
    refine lv_aload_n hx hb dX2_undo_20 rfl (lv_at hl 0 rfl) ?_
    refine z_get (v := .int (nI (M 0 12))) hx hb hts hown hX kX2 12 (by decide) (hH.at 0 rfl) rfl q2022 (fun _ h9 => h9) dX2_undo_21 ?_
    refine lv_aload_n hx hb dX2_undo_24 rfl (lv_at hl 0 rfl) ?_
    refine z_get (v := .int (nI ((M 0 11) - 1))) hx hb hts hown hX kX2 11 (by decide) (hH.at 0 rfl) rfl q2021 (fun _ h9 => h9) dX2_undo_25 ?_
    refine lv_iadd hx hb dX2_undo_28 ?_
    refine z_topi (y := nI (M 0 12 + ((M 0 11) - 1))) (nI_add _ _) ?_
    refine lv_bipush (v := nI 8) hx hb dX2_undo_29 (by decide) ?_
    refine lv_irem hx hb dX2_undo_31 (by decide) ?_
    refine z_topi (y := nI ((M 0 12 + ((M 0 11) - 1)) % 8)) (pk_rem (by omega) (by omega) (by omega)) ?_
    refine lv_istore_n (lv' := [(1, .int (nI ((M 0 12 + ((M 0 11) - 1)) % 8))), (0, .ref (q 0))]) hx hb dX2_undo_32 rfl hl (by decide) rfl (fun ls hl => ?_)
    refine lv_iconst (v := nI 0) hx hb dX2_undo_33 (by decide) ?_
    refine lv_istore_n (lv' := [(2, .int (nI 0)), (1, .int (nI ((M 0 12 + ((M 0 11) - 1)) % 8))), (0, .ref (q 0))]) hx hb dX2_undo_34 rfl hl (by decide) rfl (fun ls hl => ?_)
    have LP35_1 : ∀ (fuel : Nat) (i : Nat) (hfu : (274 - i) < fuel) (hi : i ≤ 274) (H : Heap) (locs : List Loc), zH G A s.heap (mW dA q (ms (mu M 0 11 (M 0 11 - 1)) 1 (cpu ((mu M 0 11 (M 0 11 - 1)) 1) ((mu M 0 11 (M 0 11 - 1)) 2) (274 * ((M 0 12 + (M 0 11 - 1)) % 8)) i))) H locs → ∀ (ls : Array Slot), lv_has ls 3 [(0, .ref (q 0)), (1, .int (nI ((M 0 12 + (M 0 11 - 1)) % 8))), (2, .int (nI i))] → W p l e (headSpec (ws_ yX2_undo cX2_undo 3 (some FieldType.int)) ({ frames := 0, cells := 0, slots := 0, locals := 0 })).room s m ([.ref (q 0)] : List Value).toArray below meth c H locs 0 0 (MQ below (zQi G (fun (r : Int32) (u : Unit) => r = (mUndo M).1) (fun (u : Unit) => mW dA q ((mUndo M).2)) (fun (u : Unit) (H : Heap) => True) A) ([.ref (q 0)] : List Value).toArray s 0 0 A) (F0 m 35 ls []) := by
      intro fuel
      induction fuel with
      | zero => intro i hfu; exact absurd hfu (Nat.not_lt_zero _)
      | succ fuel ih35 =>
        intro i hfu hi H locs hH ls hl
        refine lv_iload_n hx hb dX2_undo_35 rfl (lv_at hl 2 rfl) ?_
        refine lv_sipush (v := nI 274) hx hb dX2_undo_36 (by decide) ?_
        refine z_icmp_ge (tgt := 66) hx hb dX2_undo_39 (by decide) (by omega) (by omega) (fun c_39_3 => ?_) (fun c_39_3 => ?_)
        · skip
          have dc_39_3 := Nat.not_lt.mp c_39_3
          refine lv_aload_n hx hb dX2_undo_66 rfl (lv_at hl 0 rfl) ?_
          refine z_get (v := .int (nI ((mu M 0 11 (M 0 11 - 1)) 0 11))) hx hb hts hown hX kX2 11 (by decide) (hH.at 0 rfl) rfl q2021 (fun _ h9 => h9) dX2_undo_67 ?_
          have eM : ms (mu M 0 11 (M 0 11 - 1)) 1 (cpu ((mu M 0 11 (M 0 11 - 1)) 1) ((mu M 0 11 (M 0 11 - 1)) 2) (274 * ((M 0 12 + (M 0 11 - 1)) % 8)) i) = (mUndo M).2 := by simp only [mUndo, if_neg c_4_1, if_neg c_39_3]; first | done | ((have e9 : i = 274 := (by omega)); subst e9; rfl)
          rw [eM] at hH
          exact z_iret hx hb hr hlocks hH (u := ()) (by simp only [mUndo, if_neg c_4_1, if_neg c_39_3]; first | done | rfl) ⟨hH.1, hH.2.1⟩ trivial (Nat.le_of_ble_eq_true rfl) (Nat.le_of_ble_eq_true rfl) dX2_undo_70
        · skip
          refine lv_aload_n hx hb dX2_undo_42 rfl (lv_at hl 0 rfl) ?_
          refine z_get (v := .ref (q 1)) hx hb hts hown hX kX2 6 (by decide) (hH.at 0 rfl) rfl q2016 (fun _ h9 => h9) dX2_undo_43 ?_
          refine lv_iload_n hx hb dX2_undo_46 rfl (lv_at hl 2 rfl) ?_
          refine lv_aload_n hx hb dX2_undo_47 rfl (lv_at hl 0 rfl) ?_
          refine z_get (v := .ref (q 2)) hx hb hts hown hX kX2 7 (by decide) (hH.at 0 rfl) rfl q2017 (fun _ h9 => h9) dX2_undo_48 ?_
          refine lv_sipush (v := nI 274) hx hb dX2_undo_51 (by decide) ?_
          refine lv_iload_n hx hb dX2_undo_54 rfl (lv_at hl 1 rfl) ?_
          refine lv_imul hx hb dX2_undo_55 ?_
          refine z_topi (y := nI (274 * ((M 0 12 + (M 0 11 - 1)) % 8))) (pk_mul _ _) ?_
          refine lv_iload_n hx hb dX2_undo_56 rfl (lv_at hl 2 rfl) ?_
          refine lv_iadd hx hb dX2_undo_57 ?_
          refine z_topi (y := nI ((274 * ((M 0 12 + (M 0 11 - 1)) % 8)) + i)) (nI_add _ _) ?_
          refine z_iald (x := nI ((mu M 0 11 (M 0 11 - 1)) 2 ((274 * ((M 0 12 + (M 0 11 - 1)) % 8)) + i))) hx hb hX (k := ((274 * ((M 0 12 + (M 0 11 - 1)) % 8)) + i))  (hH.at 2 rfl) rfl (by omega) (by omega) rfl dX2_undo_58 ?_
          refine z_iastN hx hb hX (k := i) hH 1 rfl rfl (by omega) (by omega) dX2_undo_59 (fun H locs hH => ?_)
          have hH : zH G A s.heap (mW dA q (mu (ms (mu M 0 11 (M 0 11 - 1)) 1 (cpu ((mu M 0 11 (M 0 11 - 1)) 1) ((mu M 0 11 (M 0 11 - 1)) 2) (274 * ((M 0 12 + (M 0 11 - 1)) % 8)) i)) 1 i ((mu M 0 11 (M 0 11 - 1)) 2 ((274 * ((M 0 12 + (M 0 11 - 1)) % 8)) + i)))) H locs := hH
          refine lv_iinc (v := nI (i + 1)) (lv' := [(2, .int (nI (i + 1))), (0, .ref (q 0)), (1, .int (nI ((M 0 12 + (M 0 11 - 1)) % 8)))]) hx hb dX2_undo_60 hl (k := 2) rfl (nI_1 _) (by decide) rfl (fun ls hl => ?_)
          refine lv_goto (tgt := 35) hx hb dX2_undo_63 (by decide) ?_
          have eL : mu (ms (mu M 0 11 (M 0 11 - 1)) 1 (cpu ((mu M 0 11 (M 0 11 - 1)) 1) ((mu M 0 11 (M 0 11 - 1)) 2) (274 * ((M 0 12 + (M 0 11 - 1)) % 8)) i)) 1 i ((mu M 0 11 (M 0 11 - 1)) 2 ((274 * ((M 0 12 + (M 0 11 - 1)) % 8)) + i)) = ms (mu M 0 11 (M 0 11 - 1)) 1 (cpu ((mu M 0 11 (M 0 11 - 1)) 1) ((mu M 0 11 (M 0 11 - 1)) 2) (274 * ((M 0 12 + (M 0 11 - 1)) % 8)) (i + 1)) := by exact cpu_s (mu M 0 11 (M 0 11 - 1)) _ i (by decide)
          rw [eL] at hH
          exact ih35 (i + 1) (by omega) (by omega) _ _ hH ls (lv_sub hl [1, 2, 0] rfl)
    have eL : mu M 0 11 ((M 0 11) - 1) = ms (mu M 0 11 (M 0 11 - 1)) 1 (cpu ((mu M 0 11 (M 0 11 - 1)) 1) ((mu M 0 11 (M 0 11 - 1)) 2) (274 * ((M 0 12 + (M 0 11 - 1)) % 8)) 0) := by exact cpu_0 _ 1 _ _
    rw [eL] at hH
    have ev_4 : nI ((M 0 12 + ((M 0 11) - 1)) % 8) = nI ((M 0 12 + (M 0 11 - 1)) % 8) := by first | rfl | (congr 1; done) | (congr 1; simp [cN, bN, c_4_1]; done) | (congr 1; simp [cN, bN, c_4_1]; omega)
    have hl : lv_has ls 3 [(0, .ref (q 0)), (1, .int (nI ((M 0 12 + (M 0 11 - 1)) % 8))), (2, .int (nI 0))] := z_lv (lv_sub hl [2, 1, 0] rfl) (by rw [ev_4] <;> rfl)
    exact LP35_1 ((274 - 0) + 1) 0 (Nat.lt_succ_self _) (by omega) _ _ hH ls (lv_sub hl [0, 1, 2] rfl)
  · skip
    refine lv_bipush (v := (-3)) hx hb dX2_undo_7 (by decide) ?_
    have eM : M = (mUndo M).2 := by simp only [mUndo, if_pos c_4_1]; first | done | ((have e9 : i = 274 := (by omega)); subst e9; rfl)
    rw [eM] at hH
    exact z_iret hx hb hr hlocks hH (u := ()) (by simp only [mUndo, if_pos c_4_1]; first | done | rfl) ⟨hH.1, hH.2.1⟩ trivial (Nat.le_of_ble_eq_true rfl) (Nat.le_of_ble_eq_true rfl) dX2_undo_9

set_option maxHeartbeats 4000000 in
set_option maxRecDepth 100000 in
theorem metX2_save (l : Launch) (G : va_G) (dA : Nat → ClassId) (dS : Nat → Nat) (B0 sz : Nat) (q : Nat → Nat) (M : mS) : Met l yX2_save (ws_ yX2_save cX2_save 2 (some FieldType.int)) ({ frames := 0, cells := 0, slots := 0, locals := 0 }) (zP G dA dS B0 [.ref (q 0)] sz (mW dA q M) (fun H => True)) (zQi G (fun (r : Int32) (u : Unit) => r = nI (M 1 0)) (fun (u : Unit) => mW dA q (mSave M)) (fun (u : Unit) (H : Heap) => True) (va_A (mW dA q M) sz)) 0 0 (va_A (mW dA q M) sz) := by
  refine zM (by decide) (Nat.le_of_ble_eq_true rfl) ?_
  intro p e s m below meth c ls A H locs hHe hx hb hr hlocks hml hown hname hts hX hsz hB hAe hA hAB hH hRo hl
  have hl : lv_has ls 2 [(0, .ref (q 0))] := hl
  refine lv_iconst (v := nI 0) hx hb dX2_save_0 (by decide) ?_
  refine lv_istore_n (lv' := [(1, .int (nI 0)), (0, .ref (q 0))]) hx hb dX2_save_1 rfl hl (by decide) rfl (fun ls hl => ?_)
  have LP2_0 : ∀ (fuel : Nat) (i : Nat) (hfu : (274 - i) < fuel) (hi : i ≤ 274) (H : Heap) (locs : List Loc), zH G A s.heap (mW dA q (ms M 3 (cp (M 3) (M 1) i))) H locs → ∀ (ls : Array Slot), lv_has ls 2 [(0, .ref (q 0)), (1, .int (nI i))] → W p l e (headSpec (ws_ yX2_save cX2_save 2 (some FieldType.int)) ({ frames := 0, cells := 0, slots := 0, locals := 0 })).room s m ([.ref (q 0)] : List Value).toArray below meth c H locs 0 0 (MQ below (zQi G (fun (r : Int32) (u : Unit) => r = nI (M 1 0)) (fun (u : Unit) => mW dA q (mSave M)) (fun (u : Unit) (H : Heap) => True) A) ([.ref (q 0)] : List Value).toArray s 0 0 A) (F0 m 2 ls []) := by
    intro fuel
    induction fuel with
    | zero => intro i hfu; exact absurd hfu (Nat.not_lt_zero _)
    | succ fuel ih2 =>
      intro i hfu hi H locs hH ls hl
      refine lv_iload_n hx hb dX2_save_2 rfl (lv_at hl 1 rfl) ?_
      refine lv_sipush (v := nI 274) hx hb dX2_save_3 (by decide) ?_
      refine z_icmp_ge (tgt := 27) hx hb dX2_save_6 (by decide) (by omega) (by omega) (fun c_6_2 => ?_) (fun c_6_2 => ?_)
      · skip
        have dc_6_2 := Nat.not_lt.mp c_6_2
        refine lv_aload_n hx hb dX2_save_27 rfl (lv_at hl 0 rfl) ?_
        refine lv_iconst (v := nI 1) hx hb dX2_save_28 (by decide) ?_
        refine z_put hx hb hts hown hX kX2 13 (by decide) hH 0 rfl q2023 (fun _ h9 => h9) rfl rfl rfl (Nat.le_of_ble_eq_true rfl) dX2_save_29 (fun H locs hH => ?_)
        have hH : zH G A s.heap (mW dA q (mu (ms M 3 (cp (M 3) (M 1) i)) 0 13 1)) H locs := hH
        refine lv_aload_n hx hb dX2_save_32 rfl (lv_at hl 0 rfl) ?_
        refine z_get (v := .ref (q 1)) hx hb hts hown hX kX2 6 (by decide) (hH.at 0 rfl) rfl q2016 (fun _ h9 => h9) dX2_save_33 ?_
        refine lv_iconst (v := nI 0) hx hb dX2_save_36 (by decide) ?_
        refine z_iald (x := nI (M 1 0)) hx hb hX (k := 0)  (hH.at 1 rfl) rfl (by omega) (by omega) rfl dX2_save_37 ?_
        have eM : mu (ms M 3 (cp (M 3) (M 1) i)) 0 13 1 = mSave M := by have e : i = 274 := (by omega); subst e; rfl
        rw [eM] at hH
        exact z_iret hx hb hr hlocks hH (u := ()) (by rfl) ⟨hH.1, hH.2.1⟩ trivial (Nat.le_of_ble_eq_true rfl) (Nat.le_of_ble_eq_true rfl) dX2_save_38
      · skip
        refine lv_aload_n hx hb dX2_save_9 rfl (lv_at hl 0 rfl) ?_
        refine z_get (v := .ref (q 3)) hx hb hts hown hX kX2 8 (by decide) (hH.at 0 rfl) rfl q2018 (fun _ h9 => h9) dX2_save_10 ?_
        refine lv_iload_n hx hb dX2_save_13 rfl (lv_at hl 1 rfl) ?_
        refine lv_aload_n hx hb dX2_save_14 rfl (lv_at hl 0 rfl) ?_
        refine z_get (v := .ref (q 1)) hx hb hts hown hX kX2 6 (by decide) (hH.at 0 rfl) rfl q2016 (fun _ h9 => h9) dX2_save_15 ?_
        refine lv_iload_n hx hb dX2_save_18 rfl (lv_at hl 1 rfl) ?_
        refine z_iald (x := nI (M 1 i)) hx hb hX (k := i)  (hH.at 1 rfl) rfl (by omega) (by omega) rfl dX2_save_19 ?_
        refine z_iastN hx hb hX (k := i) hH 3 rfl rfl (by omega) (by omega) dX2_save_20 (fun H locs hH => ?_)
        have hH : zH G A s.heap (mW dA q (mu (ms M 3 (cp (M 3) (M 1) i)) 3 i (M 1 i))) H locs := hH
        refine lv_iinc (v := nI (i + 1)) (lv' := [(1, .int (nI (i + 1))), (0, .ref (q 0))]) hx hb dX2_save_21 hl (k := 1) rfl (nI_1 _) (by decide) rfl (fun ls hl => ?_)
        refine lv_goto (tgt := 2) hx hb dX2_save_24 (by decide) ?_
        have eL : mu (ms M 3 (cp (M 3) (M 1) i)) 3 i (M 1 i) = ms M 3 (cp (M 3) (M 1) (i + 1)) := by exact cp_step M i (by decide)
        rw [eL] at hH
        exact ih2 (i + 1) (by omega) (by omega) _ _ hH ls (lv_sub hl [1, 0] rfl)
  have eL : M = ms M 3 (cp (M 3) (M 1) 0) := by exact ms_0 M 3 _
  rw [eL] at hH
  exact LP2_0 ((274 - 0) + 1) 0 (Nat.lt_succ_self _) (by omega) _ _ hH ls (lv_sub hl [1, 0] rfl)

set_option maxHeartbeats 4000000 in
set_option maxRecDepth 100000 in
theorem metX2_restore (l : Launch) (G : va_G) (dA : Nat → ClassId) (dS : Nat → Nat) (B0 sz : Nat) (q : Nat → Nat) (M : mS) (h13 : M 0 13 ≤ 1) : Met l yX2_restore (ws_ yX2_restore cX2_restore 2 (some FieldType.int)) ({ frames := 0, cells := 0, slots := 0, locals := 0 }) (zP G dA dS B0 [.ref (q 0)] sz (mW dA q M) (fun H => True)) (zQi G (fun (r : Int32) (u : Unit) => r = (mRestore M).1) (fun (u : Unit) => mW dA q ((mRestore M).2)) (fun (u : Unit) (H : Heap) => True) (va_A (mW dA q M) sz)) 0 0 (va_A (mW dA q M) sz) := by
  refine zM (by decide) (Nat.le_of_ble_eq_true rfl) ?_
  intro p e s m below meth c ls A H locs hHe hx hb hr hlocks hml hown hname hts hX hsz hB hAe hA hAB hH hRo hl
  have hl : lv_has ls 2 [(0, .ref (q 0))] := hl
  refine lv_aload_n hx hb dX2_restore_0 rfl (lv_at hl 0 rfl) ?_
  refine z_get (v := .int (nI (M 0 13))) hx hb hts hown hX kX2 13 (by decide) (hH.at 0 rfl) rfl q2023 (fun _ h9 => h9) dX2_restore_1 ?_
  refine z_ifneN (tgt := 10) hx hb dX2_restore_4 (by decide) (by omega) (fun c_4_1 => ?_) (fun c_4_1 => ?_)
  · skip
    refine lv_iconst (v := nI 0) hx hb dX2_restore_10 (by decide) ?_
    refine lv_istore_n (lv' := [(1, .int (nI 0)), (0, .ref (q 0))]) hx hb dX2_restore_11 rfl hl (by decide) rfl (fun ls hl => ?_)
    have LP12_1 : ∀ (fuel : Nat) (i : Nat) (hfu : (274 - i) < fuel) (hi : i ≤ 274) (H : Heap) (locs : List Loc), zH G A s.heap (mW dA q (ms M 1 (cp (M 1) (M 3) i))) H locs → ∀ (ls : Array Slot), lv_has ls 2 [(0, .ref (q 0)), (1, .int (nI i))] → W p l e (headSpec (ws_ yX2_restore cX2_restore 2 (some FieldType.int)) ({ frames := 0, cells := 0, slots := 0, locals := 0 })).room s m ([.ref (q 0)] : List Value).toArray below meth c H locs 0 0 (MQ below (zQi G (fun (r : Int32) (u : Unit) => r = (mRestore M).1) (fun (u : Unit) => mW dA q ((mRestore M).2)) (fun (u : Unit) (H : Heap) => True) A) ([.ref (q 0)] : List Value).toArray s 0 0 A) (F0 m 12 ls []) := by
      intro fuel
      induction fuel with
      | zero => intro i hfu; exact absurd hfu (Nat.not_lt_zero _)
      | succ fuel ih12 =>
        intro i hfu hi H locs hH ls hl
        refine lv_iload_n hx hb dX2_restore_12 rfl (lv_at hl 1 rfl) ?_
        refine lv_sipush (v := nI 274) hx hb dX2_restore_13 (by decide) ?_
        refine z_icmp_ge (tgt := 37) hx hb dX2_restore_16 (by decide) (by omega) (by omega) (fun c_16_3 => ?_) (fun c_16_3 => ?_)
        · skip
          have dc_16_3 := Nat.not_lt.mp c_16_3
          refine lv_aload_n hx hb dX2_restore_37 rfl (lv_at hl 0 rfl) ?_
          refine lv_iconst (v := nI 0) hx hb dX2_restore_38 (by decide) ?_
          refine z_put hx hb hts hown hX kX2 11 (by decide) hH 0 rfl q2021 (fun _ h9 => h9) rfl rfl rfl (Nat.le_of_ble_eq_true rfl) dX2_restore_39 (fun H locs hH => ?_)
          have hH : zH G A s.heap (mW dA q (mu (ms M 1 (cp (M 1) (M 3) i)) 0 11 0)) H locs := hH
          refine lv_aload_n hx hb dX2_restore_42 rfl (lv_at hl 0 rfl) ?_
          refine lv_iconst (v := nI 0) hx hb dX2_restore_43 (by decide) ?_
          refine z_put hx hb hts hown hX kX2 12 (by decide) hH 0 rfl q2022 (fun _ h9 => h9) rfl rfl rfl (Nat.le_of_ble_eq_true rfl) dX2_restore_44 (fun H locs hH => ?_)
          have hH : zH G A s.heap (mW dA q (mu (mu (ms M 1 (cp (M 1) (M 3) i)) 0 11 0) 0 12 0)) H locs := hH
          refine lv_aload_n hx hb dX2_restore_47 rfl (lv_at hl 0 rfl) ?_
          refine z_get (v := .ref (q 1)) hx hb hts hown hX kX2 6 (by decide) (hH.at 0 rfl) rfl q2016 (fun _ h9 => h9) dX2_restore_48 ?_
          refine lv_iconst (v := nI 0) hx hb dX2_restore_51 (by decide) ?_
          refine z_iald (x := nI ((cp (M 1) (M 3) i) 0)) hx hb hX (k := 0)  (hH.at 1 rfl) rfl (by omega) (by omega) rfl dX2_restore_52 ?_
          have eM : mu (mu (ms M 1 (cp (M 1) (M 3) i)) 0 11 0) 0 12 0 = (mRestore M).2 := by simp only [mRestore, if_neg c_4_1, if_neg c_16_3]; first | done | ((have e9 : i = 274 := (by omega)); subst e9; rfl)
          rw [eM] at hH
          exact z_iret hx hb hr hlocks hH (u := ()) (by simp only [mRestore, if_neg c_4_1, if_neg c_16_3]; first | done | ((have e9 : i = 274 := (by omega)); subst e9; rfl)) ⟨hH.1, hH.2.1⟩ trivial (Nat.le_of_ble_eq_true rfl) (Nat.le_of_ble_eq_true rfl) dX2_restore_53
        · skip
          refine lv_aload_n hx hb dX2_restore_19 rfl (lv_at hl 0 rfl) ?_
          refine z_get (v := .ref (q 1)) hx hb hts hown hX kX2 6 (by decide) (hH.at 0 rfl) rfl q2016 (fun _ h9 => h9) dX2_restore_20 ?_
          refine lv_iload_n hx hb dX2_restore_23 rfl (lv_at hl 1 rfl) ?_
          refine lv_aload_n hx hb dX2_restore_24 rfl (lv_at hl 0 rfl) ?_
          refine z_get (v := .ref (q 3)) hx hb hts hown hX kX2 8 (by decide) (hH.at 0 rfl) rfl q2018 (fun _ h9 => h9) dX2_restore_25 ?_
          refine lv_iload_n hx hb dX2_restore_28 rfl (lv_at hl 1 rfl) ?_
          refine z_iald (x := nI (M 3 i)) hx hb hX (k := i)  (hH.at 3 rfl) rfl (by omega) (by omega) rfl dX2_restore_29 ?_
          refine z_iastN hx hb hX (k := i) hH 1 rfl rfl (by omega) (by omega) dX2_restore_30 (fun H locs hH => ?_)
          have hH : zH G A s.heap (mW dA q (mu (ms M 1 (cp (M 1) (M 3) i)) 1 i (M 3 i))) H locs := hH
          refine lv_iinc (v := nI (i + 1)) (lv' := [(1, .int (nI (i + 1))), (0, .ref (q 0))]) hx hb dX2_restore_31 hl (k := 1) rfl (nI_1 _) (by decide) rfl (fun ls hl => ?_)
          refine lv_goto (tgt := 12) hx hb dX2_restore_34 (by decide) ?_
          have eL : mu (ms M 1 (cp (M 1) (M 3) i)) 1 i (M 3 i) = ms M 1 (cp (M 1) (M 3) (i + 1)) := by exact cp_step M i (by decide)
          rw [eL] at hH
          exact ih12 (i + 1) (by omega) (by omega) _ _ hH ls (lv_sub hl [1, 0] rfl)
    have eL : M = ms M 1 (cp (M 1) (M 3) 0) := by exact ms_0 M 1 _
    rw [eL] at hH
    exact LP12_1 ((274 - 0) + 1) 0 (Nat.lt_succ_self _) (by omega) _ _ hH ls (lv_sub hl [1, 0] rfl)
  · skip
    refine lv_bipush (v := (-3)) hx hb dX2_restore_7 (by decide) ?_
    have eM : M = (mRestore M).2 := by simp only [mRestore, if_pos c_4_1]; first | done | ((have e9 : i = 274 := (by omega)); subst e9; rfl)
    rw [eM] at hH
    exact z_iret hx hb hr hlocks hH (u := ()) (by simp only [mRestore, if_pos c_4_1]; first | done | ((have e9 : i = 274 := (by omega)); subst e9; rfl)) ⟨hH.1, hH.2.1⟩ trivial (Nat.le_of_ble_eq_true rfl) (Nat.le_of_ble_eq_true rfl) dX2_restore_9

