/-! changes of the model's state -/
abbrev cl (x : Int32) : Nat := x.toNatClampNeg
def ms (M : mS) (a : Nat) (f : Nat → Nat) : mS := fun b => bif b == a then f else M b
def cp (f g : Nat → Nat) (n : Nat) : Nat → Nat := fun j => if j < n then g j else f j
def cpo (f : Nat → Nat) (o : Nat) (g : Nat → Nat) (n : Nat) : Nat → Nat := fun j => if o ≤ j ∧ j < o + n then g (j - o) else f j
def mCp (M : mS) (a b : Nat) : mS := ms M a (cp (M a) (M b) 274)
theorem ms_s (M : mS) (a : Nat) (f : Nat → Nat) : ms M a f a = f := by simp [ms]
theorem ms_n (M : mS) {a b : Nat} (f : Nat → Nat) (h : b ≠ a) : ms M a f b = M b := by
  have e : (b == a) = false := by simpa using h
  simp [ms, e]
theorem ms_id (M : mS) (a : Nat) : ms M a (M a) = M := by
  funext b
  by_cases h : b = a
  · subst h; rw [ms_s]
  · rw [ms_n M _ h]
theorem mu_ms (M : mS) (a k x : Nat) (f : Nat → Nat) : mu (ms M a f) a k x = ms M a (uP f k x) := by
  funext b
  by_cases h : b = a
  · subst h; rw [mu_s, ms_s, ms_s]
  · rw [mu_n _ _ _ h, ms_n _ _ h, ms_n _ _ h]
theorem ms_ms (M : mS) (a : Nat) (f g : Nat → Nat) : ms (ms M a f) a g = ms M a g := by
  funext b
  by_cases h : b = a
  · subst h; rw [ms_s, ms_s]
  · rw [ms_n _ _ h, ms_n _ _ h, ms_n _ _ h]
theorem mu_as_ms (M : mS) (a k x : Nat) : mu M a k x = ms M a (uP (M a) k x) := by
  conv => lhs; rw [← ms_id M a]
  rw [mu_ms]
theorem ms_0 (M : mS) (a : Nat) (g : Nat → Nat) : M = ms M a (cp (M a) g 0) := by
  have e : cp (M a) g 0 = M a := by funext j; simp [cp]
  rw [e, ms_id]
theorem ms_o (M : mS) (a o : Nat) {g : Nat → Nat} : M = ms M a (cpo (M a) o g 0) := by
  have e : cpo (M a) o g 0 = M a := by funext j; simp [cpo]; intro h1 h2; omega
  rw [e, ms_id]
theorem cp_step (M : mS) {a b : Nat} (i : Nat) (h : b ≠ a) : mu (ms M a (cp (M a) (M b) i)) a i (ms M a (cp (M a) (M b) i) b i) = ms M a (cp (M a) (M b) (i + 1)) := by
  rw [mu_ms, ms_n _ _ h]
  congr 1
  funext j
  simp only [uP, cp]
  by_cases h1 : j = i
  · subst h1; simp
  · by_cases h2 : j < i
    · simp [h1, h2, show j < i + 1 by omega]
    · simp [h1, h2, show ¬ j < i + 1 by omega]
theorem cpo_step (M : mS) {a b : Nat} (o i : Nat) (h : b ≠ a) : mu (ms M a (cpo (M a) o (M b) i)) a (o + i) (ms M a (cpo (M a) o (M b) i) b i) = ms M a (cpo (M a) o (M b) (i + 1)) := by
  rw [mu_ms, ms_n _ _ h]
  congr 1
  funext j
  simp only [uP, cpo]
  by_cases h1 : j = o + i
  · subst h1; simp
  · by_cases h2 : o ≤ j ∧ j < o + i
    · rw [if_neg h1, if_pos h2, if_pos (by omega)]
    · rw [if_neg h1, if_neg h2, if_neg (by omega)]
def mKeep1 (M : mS) : mS := mu (ms M 2 (cpo (M 2) (274 * ((M 0 12 + M 0 11) % 8)) (M 4) 274)) 0 11 (M 0 11 + 1)
def mKeep (M : mS) : mS := if M 0 11 = 8 then mKeep1 (mu (mu M 0 12 ((M 0 12 + 1) % 8)) 0 11 (M 0 11 - 1)) else mKeep1 M
def notJ (M : mS) (a d sg : Nat) : Int32 × mS := if kn (M 1) sg = true then (-5, mNot M 3 sg) else match jwith (M 1) sg with
  | some k => (-5, mNot M 4 k)
  | none => match jat (M 1) a d with
    | some k => (-5, mNot M 2 k)
    | none => if M 1 0 = 12 then (-5, mNot M 1 12) else if jin (M 1) a = 6 then (-5, mNot M 1 6) else (nI 0, M)
def mNotJoke (M : mS) (well depth sign wit : Int32) : Int32 × mS := if inR well (nI 0) (nI 3) = false then (-1, M) else if inR depth (nI 1) (nI 30) = false then (-2, M) else if inR sign (nI 0) (nI 63) = false then (-2, M) else if inR wit (nI 1) (nI 9) = false then (-2, M) else notJ M (cl well) (cl depth) (cl sign)
def mComes (M : mS) (a b c d : Nat) : mS := mu (mu (mu (mu (mu (mu (mu M 1 (22 + 5 * M 1 0) a) 1 (22 + 5 * M 1 0 + 1) b) 1 (22 + 5 * M 1 0 + 2) c) 1 (22 + 5 * M 1 0 + 3) d) 1 (22 + 5 * M 1 0 + 4) 0) 1 7 (M 1 7 + 1)) 1 0 (M 1 0 + 1)
theorem isj_n {a : Int32} {n : Nat} (hn : n ≤ 12) (h : inR a (nI 0) (nI n - nI 1) = true) : ∃ k : Nat, a = nI k ∧ k < n := by
  by_cases h0 : n = 0
  · subst h0
    exfalso
    rw [inR_iff] at h
    have h1 := Int32.le_iff_toInt_le.mp h.1
    have h2 := Int32.le_iff_toInt_le.mp h.2
    have h3 : (nI 0).toInt = 0 := by decide
    have h4 : (nI 0 - nI 1).toInt = -1 := by decide
    omega
  · rw [pk_sub (by omega)] at h
    obtain ⟨k, rfl, -, h2⟩ := inR_n (by decide) (by omega) h
    exact ⟨k, rfl, by omega⟩
def mNotPrime (M : mS) (a : Int32) : Int32 × mS := if inR a (nI 0) (nI (M 1 0) - nI 1) = false then (-1, M) else if jk (M 1) (cl a) 4 = 1 then (-5, mNot M 5 (cl a)) else if M 1 5 = 0 then (-5, mNot M 6 (M 1 4)) else (nI 0, M)
def go1 (w : Nat → Nat) (j k : Nat) : Nat → Nat := fun i => if i = 0 then w 0 - 1 else if 22 + 5 * j ≤ i ∧ i < k then w (i + 5) else w i
def go2 (w : Nat → Nat) (j i : Nat) : Nat → Nat := fun x => if 22 + 5 * (w 0 - 1) ≤ x ∧ x < 22 + 5 * (w 0 - 1) + i then 0 else go1 w j (22 + 5 * (w 0 - 1)) x
def gone (w : Nat → Nat) (j : Nat) : Nat → Nat := go2 w j 5
theorem gone_0 (w : Nat → Nat) (j : Nat) : gone w j 0 = w 0 - 1 := by
  unfold gone go2 go1
  rw [if_neg (by omega), if_pos rfl]
theorem go1_0 (M : mS) (j : Nat) : mu M 1 0 (M 1 0 - 1) = ms M 1 (go1 (M 1) j (22 + 5 * j)) := by
  rw [mu_as_ms]
  congr 1
  funext i
  simp only [uP, go1]
  by_cases h : i = 0
  · simp [h]
  · rw [if_neg h, if_neg h, if_neg (by omega)]
theorem go1_s (M : mS) (j k : Nat) (h : 22 + 5 * j ≤ k) : mu (ms M 1 (go1 (M 1) j k)) 1 k (ms M 1 (go1 (M 1) j k) 1 (k + 5)) = ms M 1 (go1 (M 1) j (k + 1)) := by
  rw [mu_ms, ms_s]
  congr 1
  funext i
  simp only [uP, go1]
  by_cases h1 : i = k
  · subst h1
    rw [if_pos rfl, if_neg (by omega), if_neg (by omega), if_neg (by omega), if_pos (by omega)]
  · rw [if_neg h1]
    by_cases h0 : i = 0
    · rw [if_pos h0, if_pos h0]
    · rw [if_neg h0, if_neg h0]
      by_cases h2 : 22 + 5 * j ≤ i ∧ i < k
      · rw [if_pos h2, if_pos (by omega)]
      · rw [if_neg h2, if_neg (by omega)]
theorem go2_0 (M : mS) (j : Nat) : ms M 1 (go1 (M 1) j (22 + 5 * (M 1 0 - 1))) = ms M 1 (go2 (M 1) j 0) := by
  congr 1
  funext x
  simp only [go2]
  rw [if_neg (by omega)]
theorem go2_s (M : mS) (j i : Nat) : mu (ms M 1 (go2 (M 1) j i)) 1 (22 + 5 * (M 1 0 - 1) + i) 0 = ms M 1 (go2 (M 1) j (i + 1)) := by
  rw [mu_ms]
  congr 1
  funext x
  simp only [uP, go2]
  by_cases h1 : x = 22 + 5 * (M 1 0 - 1) + i
  · rw [if_pos h1, if_pos (by omega)]
  · rw [if_neg h1]
    by_cases h2 : 22 + 5 * (M 1 0 - 1) ≤ x ∧ x < 22 + 5 * (M 1 0 - 1) + i
    · rw [if_pos h2, if_pos (by omega)]
    · rw [if_neg h2, if_neg (by omega)]
def mNotDrop (M : mS) (a : Int32) : Int32 := if inR a (nI 0) (nI (M 1 0) - nI 1) = true then nI 0 else -1
def mDrops (M : mS) (j : Nat) : mS := mu (ms M 1 (gone (M 1) j)) 1 8 (gone (M 1) j 8 + 1)
def mNotDrain (M : mS) (a : Int32) : Int32 × mS := if inR a (nI 1) (nI 50) = false then (-2, M) else if M 1 4 < cl a then (-5, mNot M 7 (M 1 4)) else (nI 0, M)
def drp (M : mS) (g : Nat) : Nat := if 9 < M 1 5 + g / 10 then 9 else M 1 5 + g / 10
def mDrains (M : mS) (g : Nat) : mS := if 9 < M 1 5 + g / 10 then mu (mu (mu (mu M 1 4 (M 1 4 - g)) 1 10 (M 1 10 + g)) 1 5 (M 1 5 + g / 10)) 1 5 9 else mu (mu (mu M 1 4 (M 1 4 - g)) 1 10 (M 1 10 + g)) 1 5 (M 1 5 + g / 10)
def mNotStroke (M : mS) (a : Int32) : Int32 × mS := if inR a (nI 1) (nI 10) = false then (-2, M) else if M 1 2 = cl a then (-5, mNot M 5 (cl a)) else (nI 0, M)
def mNotBucket (M : mS) (a b : Int32) : Int32 × mS := if inR a (nI 0) (nI 3) = false then (-1, M) else if inR b (nI 1) (nI 5) = false then (-2, M) else if M 1 (14 + cl a) = cl b then (-5, mNot M 5 (cl a)) else (nI 0, M)
def mNotGo (M : mS) (a : Int32) : Int32 × mS := if inR a (nI 0) (nI 3) = false then (-1, M) else if M 1 1 = cl a then (-5, mNot M 5 (cl a)) else (nI 0, M)
def nR (a b : Nat) : Nat := if a + b < 30 then a + b else 30
theorem nR_le {a b : Nat} : nR a b ≤ 30 := by unfold nR; split <;> omega
set_option maxHeartbeats 4000000 in
set_option maxRecDepth 100000 in
theorem metX2_notJoke (l : Launch) (G : va_G) (dA : Nat → ClassId) (dS : Nat → Nat) (B0 sz : Nat) (q : Nat → Nat) (M : mS) (well : Int32) (depth : Int32) (sign : Int32) (wit : Int32) (hbw : ∀ k, k ≠ 12 → k ≠ 13 → M 1 k < 2 ^ 31) (h12 : M 1 0 ≤ 12) (hkn : ∀ i, M 1 i < 2 ^ 32) : Met l yX2_notJoke (ws_ yX2_notJoke cX2_notJoke 5 (some FieldType.int)) ({ frames := 2, cells := 0, slots := 0, locals := 45 }) (zP G dA dS B0 [.ref (q 0), .int (well), .int (depth), .int (sign), .int (wit)] sz (mW dA q M) (fun H => True)) (zQi G (fun (r : Int32) (u : Unit) => r = (mNotJoke M well depth sign wit).1) (fun (u : Unit) => mW dA q ((mNotJoke M well depth sign wit).2)) (fun (u : Unit) (H : Heap) => True) (va_A (mW dA q M) sz)) 0 0 (va_A (mW dA q M) sz) := by
  refine zM (by decide) (Nat.le_of_ble_eq_true rfl) ?_
  intro p e s m below meth c ls A H locs hHe hx hb hr hlocks hml hown hname hts hX hsz hB hAe hA hAB hH hRo hl
  have hl : lv_has ls 5 [(0, .ref (q 0)), (1, .int (well)), (2, .int (depth)), (3, .int (sign)), (4, .int (wit))] := hl
  refine lv_iload_n hx hb dX2_notJoke_0 rfl (lv_at hl 1 rfl) ?_
  refine z_ci (wr := mW dA q M) (va_runS (As := [.int (well)]) (rest := []) ⟨hx, hb, hml, hown, hts⟩ (metX2_isWell l G dA dS B0 H.size well) (va_cwS 1 hts (lw_S q2088 q2089 q91 q2090) rfl rfl rfl (by decide +kernel) ⟨Nat.le_of_ble_eq_true rfl, Nat.le_of_ble_eq_true rfl⟩) (zPS hX hH hB hAB [] rfl rfl trivial) rfl rfl hl.1 rfl (lv_room (Nat.le_of_ble_eq_true rfl)) dX2_notJoke_1 ⟨(Nat.le_of_ble_eq_true rfl), (Nat.le_of_ble_eq_true rfl)⟩) hH hA [] [0, 1, 2, 3, 4, 5, 6, 7, 8] rfl rfl (by decide) (by decide) (fun r_1 u_r_1 H locs hw_r_1 hH hR_r_1 hk_r_1 => ?_)
  obtain rfl := hw_r_1
  have hH : zH G A s.heap (mW dA q M) H locs := hH
  refine z_ifneB (b := inR well (nI 0) (nI 3)) (tgt := 9) hx hb dX2_notJoke_4 (by decide) (fun c_4_2 => ?_) (fun c_4_2 => ?_)
  · skip
    obtain ⟨a1, rfl, hl1, hu1⟩ := inR_n (a := 0) (b := 3) (by decide) (by decide) c_4_2
    refine lv_iload_n hx hb dX2_notJoke_9 rfl (lv_at hl 2 rfl) ?_
    refine lv_iconst (v := nI 1) hx hb dX2_notJoke_10 (by decide) ?_
    refine lv_bipush (v := nI 30) hx hb dX2_notJoke_11 (by decide) ?_
    refine z_ci (wr := mW dA q M) (va_runS (As := [.int (depth), .int (nI 1), .int (nI 30)]) (rest := []) ⟨hx, hb, hml, hown, hts⟩ (metX2_isBetween l G dA dS B0 H.size depth (nI 1) (nI 30)) (va_cwS 3 hts (lw_S q2001 q2002 q91 q2003) rfl rfl rfl (by decide +kernel) ⟨Nat.le_of_ble_eq_true rfl, Nat.le_of_ble_eq_true rfl⟩) (zPS hX hH hB hAB [] rfl rfl trivial) rfl rfl hl.1 rfl (lv_room (Nat.le_of_ble_eq_true rfl)) dX2_notJoke_13 ⟨(Nat.le_of_ble_eq_true rfl), (Nat.le_of_ble_eq_true rfl)⟩) hH hA [] [0, 1, 2, 3, 4, 5, 6, 7, 8] rfl rfl (by decide) (by decide) (fun r_3 u_r_3 H locs hw_r_3 hH hR_r_3 hk_r_3 => ?_)
    obtain rfl := hw_r_3
    have hH : zH G A s.heap (mW dA q M) H locs := hH
    refine z_ifeqB (b := inR depth (nI 1) (nI 30)) (tgt := 40) hx hb dX2_notJoke_16 (by decide) (fun c_16_4 => ?_) (fun c_16_4 => ?_)
    · skip
      refine lv_bipush (v := (-2)) hx hb dX2_notJoke_40 (by decide) ?_
      have eM : M = (mNotJoke M (nI a1) depth sign wit).2 := by simp [mNotJoke, notJ, nI_clamp (show a1 < 2 ^ 31 by omega), c_4_2, c_16_4]
      rw [eM] at hH
      exact z_iret hx hb hr hlocks hH (u := ()) (by simp [mNotJoke, notJ, nI_clamp (show a1 < 2 ^ 31 by omega), c_4_2, c_16_4]) ⟨hH.1, hH.2.1⟩ trivial (Nat.le_of_ble_eq_true rfl) (Nat.le_of_ble_eq_true rfl) dX2_notJoke_42
    · skip
      obtain ⟨a2, rfl, hl2, hu2⟩ := inR_n (a := 1) (b := 30) (by decide) (by decide) c_16_4
      refine lv_iload_n hx hb dX2_notJoke_19 rfl (lv_at hl 3 rfl) ?_
      refine lv_iconst (v := nI 0) hx hb dX2_notJoke_20 (by decide) ?_
      refine lv_bipush (v := nI 63) hx hb dX2_notJoke_21 (by decide) ?_
      refine z_ci (wr := mW dA q M) (va_runS (As := [.int (sign), .int (nI 0), .int (nI 63)]) (rest := []) ⟨hx, hb, hml, hown, hts⟩ (metX2_isBetween l G dA dS B0 H.size sign (nI 0) (nI 63)) (va_cwS 3 hts (lw_S q2001 q2002 q91 q2003) rfl rfl rfl (by decide +kernel) ⟨Nat.le_of_ble_eq_true rfl, Nat.le_of_ble_eq_true rfl⟩) (zPS hX hH hB hAB [] rfl rfl trivial) rfl rfl hl.1 rfl (lv_room (Nat.le_of_ble_eq_true rfl)) dX2_notJoke_23 ⟨(Nat.le_of_ble_eq_true rfl), (Nat.le_of_ble_eq_true rfl)⟩) hH hA [] [0, 1, 2, 3, 4, 5, 6, 7, 8] rfl rfl (by decide) (by decide) (fun r_5 u_r_5 H locs hw_r_5 hH hR_r_5 hk_r_5 => ?_)
      obtain rfl := hw_r_5
      have hH : zH G A s.heap (mW dA q M) H locs := hH
      refine z_ifeqB (b := inR sign (nI 0) (nI 63)) (tgt := 40) hx hb dX2_notJoke_26 (by decide) (fun c_26_6 => ?_) (fun c_26_6 => ?_)
      · skip
        refine lv_bipush (v := (-2)) hx hb dX2_notJoke_40 (by decide) ?_
        have eM : M = (mNotJoke M (nI a1) (nI a2) sign wit).2 := by simp [mNotJoke, notJ, nI_clamp (show a1 < 2 ^ 31 by omega), nI_clamp (show a2 < 2 ^ 31 by omega), c_4_2, c_16_4, c_26_6]
        rw [eM] at hH
        exact z_iret hx hb hr hlocks hH (u := ()) (by simp [mNotJoke, notJ, nI_clamp (show a1 < 2 ^ 31 by omega), nI_clamp (show a2 < 2 ^ 31 by omega), c_4_2, c_16_4, c_26_6]) ⟨hH.1, hH.2.1⟩ trivial (Nat.le_of_ble_eq_true rfl) (Nat.le_of_ble_eq_true rfl) dX2_notJoke_42
      · skip
        obtain ⟨a3, rfl, hl3, hu3⟩ := inR_n (a := 0) (b := 63) (by decide) (by decide) c_26_6
        refine lv_iload hx hb dX2_notJoke_29 (lv_at hl 4 rfl) ?_
        refine lv_iconst (v := nI 1) hx hb dX2_notJoke_31 (by decide) ?_
        refine lv_bipush (v := nI 9) hx hb dX2_notJoke_32 (by decide) ?_
        refine z_ci (wr := mW dA q M) (va_runS (As := [.int (wit), .int (nI 1), .int (nI 9)]) (rest := []) ⟨hx, hb, hml, hown, hts⟩ (metX2_isBetween l G dA dS B0 H.size wit (nI 1) (nI 9)) (va_cwS 3 hts (lw_S q2001 q2002 q91 q2003) rfl rfl rfl (by decide +kernel) ⟨Nat.le_of_ble_eq_true rfl, Nat.le_of_ble_eq_true rfl⟩) (zPS hX hH hB hAB [] rfl rfl trivial) rfl rfl hl.1 rfl (lv_room (Nat.le_of_ble_eq_true rfl)) dX2_notJoke_34 ⟨(Nat.le_of_ble_eq_true rfl), (Nat.le_of_ble_eq_true rfl)⟩) hH hA [] [0, 1, 2, 3, 4, 5, 6, 7, 8] rfl rfl (by decide) (by decide) (fun r_7 u_r_7 H locs hw_r_7 hH hR_r_7 hk_r_7 => ?_)
        obtain rfl := hw_r_7
        have hH : zH G A s.heap (mW dA q M) H locs := hH
        refine z_ifneB (b := inR wit (nI 1) (nI 9)) (tgt := 43) hx hb dX2_notJoke_37 (by decide) (fun c_37_8 => ?_) (fun c_37_8 => ?_)
        · skip
          obtain ⟨a4, rfl, hl4, hu4⟩ := inR_n (a := 1) (b := 9) (by decide) (by decide) c_37_8
          refine lv_aload_n hx hb dX2_notJoke_43 rfl (lv_at hl 0 rfl) ?_
          refine lv_iload_n hx hb dX2_notJoke_44 rfl (lv_at hl 3 rfl) ?_
          refine z_ci (wr := []) (va_runV (As := [.int (nI a3)]) (rest := []) ⟨hx, hb, hml, hown, hts⟩ (metX2_isKnownSign l G dA dS B0 H.size q M a3 (by first | exact hsg | assumption | omega) (hkn _)) (cwV 1 hts (lw_V q2091 q2093 qs28 q91 q2094) rfl rfl rfl (by decide +kernel) ⟨Nat.le_of_ble_eq_true rfl, Nat.le_of_ble_eq_true rfl⟩) (zPV hX hH hB hAB (z_recv hX kX2 (hH.at 0 rfl)) [0, 1, 2, 3, 4, 5, 6, 7, 8] rfl rfl trivial) rfl rfl hl.1 rfl (lv_room (Nat.le_of_ble_eq_true rfl)) dX2_notJoke_45 ⟨(Nat.le_of_ble_eq_true rfl), (Nat.le_of_ble_eq_true rfl)⟩) hH hA [0, 1, 2, 3, 4, 5, 6, 7, 8] [] rfl rfl (by decide) (by decide) (fun r_9 u_r_9 H locs hw_r_9 hH hR_r_9 hk_r_9 => ?_)
          obtain rfl := hw_r_9
          have hH : zH G A s.heap (mW dA q M) H locs := hH
          refine z_ifeqB (b := kn (M 1) a3) (tgt := 58) hx hb dX2_notJoke_48 (by decide) (fun c_48_10 => ?_) (fun c_48_10 => ?_)
          · skip
            refine lv_aload_n hx hb dX2_notJoke_58 rfl (lv_at hl 0 rfl) ?_
            refine lv_iload_n hx hb dX2_notJoke_59 rfl (lv_at hl 3 rfl) ?_
            refine z_ci (wr := []) (va_runV (As := [.int (nI a3)]) (rest := []) ⟨hx, hb, hml, hown, hts⟩ (metX2_jokeWith l G dA dS B0 H.size q M a3 (by first | exact ha | assumption | omega) (by first | exact hbw | assumption | omega) (by first | exact h12 | assumption | omega)) (cwV 1 hts (lw_V q2099 q2101 qs30 q91 q2102) rfl rfl rfl (by decide +kernel) ⟨Nat.le_of_ble_eq_true rfl, Nat.le_of_ble_eq_true rfl⟩) (zPV hX hH hB hAB (z_recv hX kX2 (hH.at 0 rfl)) [0, 1, 2, 3, 4, 5, 6, 7, 8] rfl rfl trivial) rfl rfl hl.1 rfl (lv_room (Nat.le_of_ble_eq_true rfl)) dX2_notJoke_60 ⟨(Nat.le_of_ble_eq_true rfl), (Nat.le_of_ble_eq_true rfl)⟩) hH hA [0, 1, 2, 3, 4, 5, 6, 7, 8] [] rfl rfl (by decide) (by decide) (fun r_11 u_r_11 H locs hw_r_11 hH hR_r_11 hk_r_11 => ?_)
            obtain rfl := hw_r_11
            have hH : zH G A s.heap (mW dA q M) H locs := hH
            rcases ho_63 : jwith (M 1) a3 with _ | k3
            · skip
              refine z_topi (y := (-1)) rfl ?_
              refine lv_if_lt (tgt := 77) hx hb dX2_notJoke_63 (by decide) (fun _ => ?_) (fun h => absurd h (by decide))
              refine lv_aload_n hx hb dX2_notJoke_77 rfl (lv_at hl 0 rfl) ?_
              refine lv_iload_n hx hb dX2_notJoke_78 rfl (lv_at hl 1 rfl) ?_
              refine lv_iload_n hx hb dX2_notJoke_79 rfl (lv_at hl 2 rfl) ?_
              refine z_ci (wr := []) (va_runV (As := [.int (nI a1), .int (nI a2)]) (rest := []) ⟨hx, hb, hml, hown, hts⟩ (metX2_jokeAt l G dA dS B0 H.size q M a1 a2 (by first | exact ha | assumption | omega) (by first | exact hb2 | assumption | omega) (by first | exact hbw | assumption | omega) (by first | exact h12 | assumption | omega)) (cwV 2 hts (lw_V q2107 q2109 qs32 q91 q2110) rfl rfl rfl (by decide +kernel) ⟨Nat.le_of_ble_eq_true rfl, Nat.le_of_ble_eq_true rfl⟩) (zPV hX hH hB hAB (z_recv hX kX2 (hH.at 0 rfl)) [0, 1, 2, 3, 4, 5, 6, 7, 8] rfl rfl trivial) rfl rfl hl.1 rfl (lv_room (Nat.le_of_ble_eq_true rfl)) dX2_notJoke_80 ⟨(Nat.le_of_ble_eq_true rfl), (Nat.le_of_ble_eq_true rfl)⟩) hH hA [0, 1, 2, 3, 4, 5, 6, 7, 8] [] rfl rfl (by decide) (by decide) (fun r_13 u_r_13 H locs hw_r_13 hH hR_r_13 hk_r_13 => ?_)
              obtain rfl := hw_r_13
              have hH : zH G A s.heap (mW dA q M) H locs := hH
              rcases ho_83 : jat (M 1) a1 a2 with _ | k2
              · skip
                refine z_topi (y := (-1)) rfl ?_
                refine lv_if_lt (tgt := 98) hx hb dX2_notJoke_83 (by decide) (fun _ => ?_) (fun h => absurd h (by decide))
                refine lv_aload_n hx hb dX2_notJoke_98 rfl (lv_at hl 0 rfl) ?_
                refine z_get (v := .ref (q 1)) hx hb hts hown hX kX2 6 (by decide) (hH.at 0 rfl) rfl q2016 (fun _ h9 => h9) dX2_notJoke_99 ?_
                refine lv_iconst (v := nI 0) hx hb dX2_notJoke_102 (by decide) ?_
                refine z_iald (x := nI (M 1 0)) hx hb hX (k := 0)  (hH.at 1 rfl) rfl (by omega) (by omega) rfl dX2_notJoke_103 ?_
                have hbd_15 := hbw 0 (by omega) (by omega)
                refine lv_bipush (v := nI 12) hx hb dX2_notJoke_104 (by decide) ?_
                refine z_icmp_ne (tgt := 117) hx hb dX2_notJoke_106 (by decide) (by omega) (by omega) (fun c_106_16 => ?_) (fun c_106_16 => ?_)
                · skip
                  refine lv_aload_n hx hb dX2_notJoke_117 rfl (lv_at hl 0 rfl) ?_
                  refine lv_iload_n hx hb dX2_notJoke_118 rfl (lv_at hl 1 rfl) ?_
                  refine z_ci (wr := []) (va_runV (As := [.int (nI a1)]) (rest := []) ⟨hx, hb, hml, hown, hts⟩ (metX2_jokesIn l G dA dS B0 H.size q M a1 (by first | exact ha | assumption | omega) (by first | exact hbw | assumption | omega) (by first | exact h12 | assumption | omega)) (cwV 1 hts (lw_V q2111 q2113 qs33 q91 q2114) rfl rfl rfl (by decide +kernel) ⟨Nat.le_of_ble_eq_true rfl, Nat.le_of_ble_eq_true rfl⟩) (zPV hX hH hB hAB (z_recv hX kX2 (hH.at 0 rfl)) [0, 1, 2, 3, 4, 5, 6, 7, 8] rfl rfl trivial) rfl rfl hl.1 rfl (lv_room (Nat.le_of_ble_eq_true rfl)) dX2_notJoke_119 ⟨(Nat.le_of_ble_eq_true rfl), (Nat.le_of_ble_eq_true rfl)⟩) hH hA [0, 1, 2, 3, 4, 5, 6, 7, 8] [] rfl rfl (by decide) (by decide) (fun r_17 u_r_17 H locs hw_r_17 hH hR_r_17 hk_r_17 => ?_)
                  obtain rfl := hw_r_17
                  have hH : zH G A s.heap (mW dA q M) H locs := hH
                  have hjl_18 := jin_le (M 1) a1
                  refine lv_bipush (v := nI 6) hx hb dX2_notJoke_122 (by decide) ?_
                  refine z_icmp_ne (tgt := 137) hx hb dX2_notJoke_124 (by decide) (by omega) (by omega) (fun c_124_19 => ?_) (fun c_124_19 => ?_)
                  · skip
                    refine lv_iconst (v := nI 0) hx hb dX2_notJoke_137 (by decide) ?_
                    have eM : M = (mNotJoke M (nI a1) (nI a2) (nI a3) (nI a4)).2 := by simp [mNotJoke, notJ, nI_clamp (show a1 < 2 ^ 31 by omega), nI_clamp (show a2 < 2 ^ 31 by omega), nI_clamp (show a3 < 2 ^ 31 by omega), nI_clamp (show a4 < 2 ^ 31 by omega), c_4_2, c_16_4, c_26_6, c_37_8, c_48_10, ho_63, ho_83, c_106_16, c_124_19]
                    rw [eM] at hH
                    exact z_iret hx hb hr hlocks hH (u := ()) (by simp [mNotJoke, notJ, nI_clamp (show a1 < 2 ^ 31 by omega), nI_clamp (show a2 < 2 ^ 31 by omega), nI_clamp (show a3 < 2 ^ 31 by omega), nI_clamp (show a4 < 2 ^ 31 by omega), c_4_2, c_16_4, c_26_6, c_37_8, c_48_10, ho_63, ho_83, c_106_16, c_124_19]) ⟨hH.1, hH.2.1⟩ trivial (Nat.le_of_ble_eq_true rfl) (Nat.le_of_ble_eq_true rfl) dX2_notJoke_138
                  · skip
                    refine lv_aload_n hx hb dX2_notJoke_127 rfl (lv_at hl 0 rfl) ?_
                    refine lv_iconst (v := nI 1) hx hb dX2_notJoke_128 (by decide) ?_
                    refine lv_bipush (v := nI 6) hx hb dX2_notJoke_129 (by decide) ?_
                    refine z_ci (wr := []) (va_runV (As := [.int (nI 1), .int (nI 6)]) (rest := []) ⟨hx, hb, hml, hown, hts⟩ (metX2_isNot l G dA dS B0 H.size q M 1 6) (cwV 2 hts (lw_V q2095 q2097 qs29 q91 q2098) rfl rfl rfl (by decide +kernel) ⟨Nat.le_of_ble_eq_true rfl, Nat.le_of_ble_eq_true rfl⟩) (zPV hX hH hB hAB (z_recv hX kX2 (hH.at 0 rfl)) [0, 1, 2, 3, 4, 5, 6, 7, 8] rfl rfl trivial) rfl rfl hl.1 rfl (lv_room (Nat.le_of_ble_eq_true rfl)) dX2_notJoke_131 ⟨(Nat.le_of_ble_eq_true rfl), (Nat.le_of_ble_eq_true rfl)⟩) hH hA [0, 1, 2, 3, 4, 5, 6, 7, 8] [] rfl rfl (by decide) (by decide) (fun r_20 u_r_20 H locs hw_r_20 hH hR_r_20 hk_r_20 => ?_)
                    obtain rfl := hw_r_20
                    have hH : zH G A s.heap (mW dA q (mNot M 1 6)) H locs := hH
                    refine lv_goto (tgt := 138) hx hb dX2_notJoke_134 (by decide) ?_
                    have eM : mNot M 1 6 = (mNotJoke M (nI a1) (nI a2) (nI a3) (nI a4)).2 := by simp [mNotJoke, notJ, nI_clamp (show a1 < 2 ^ 31 by omega), nI_clamp (show a2 < 2 ^ 31 by omega), nI_clamp (show a3 < 2 ^ 31 by omega), nI_clamp (show a4 < 2 ^ 31 by omega), c_4_2, c_16_4, c_26_6, c_37_8, c_48_10, ho_63, ho_83, c_106_16, c_124_19]
                    rw [eM] at hH
                    exact z_iret hx hb hr hlocks hH (u := ()) (by simp [mNotJoke, notJ, nI_clamp (show a1 < 2 ^ 31 by omega), nI_clamp (show a2 < 2 ^ 31 by omega), nI_clamp (show a3 < 2 ^ 31 by omega), nI_clamp (show a4 < 2 ^ 31 by omega), c_4_2, c_16_4, c_26_6, c_37_8, c_48_10, ho_63, ho_83, c_106_16, c_124_19]) ⟨hH.1, hH.2.1⟩ trivial (Nat.le_of_ble_eq_true rfl) (Nat.le_of_ble_eq_true rfl) dX2_notJoke_138
                · skip
                  refine lv_aload_n hx hb dX2_notJoke_109 rfl (lv_at hl 0 rfl) ?_
                  refine lv_iconst (v := nI 1) hx hb dX2_notJoke_110 (by decide) ?_
                  refine lv_bipush (v := nI 12) hx hb dX2_notJoke_111 (by decide) ?_
                  refine z_ci (wr := []) (va_runV (As := [.int (nI 1), .int (nI 12)]) (rest := []) ⟨hx, hb, hml, hown, hts⟩ (metX2_isNot l G dA dS B0 H.size q M 1 12) (cwV 2 hts (lw_V q2095 q2097 qs29 q91 q2098) rfl rfl rfl (by decide +kernel) ⟨Nat.le_of_ble_eq_true rfl, Nat.le_of_ble_eq_true rfl⟩) (zPV hX hH hB hAB (z_recv hX kX2 (hH.at 0 rfl)) [0, 1, 2, 3, 4, 5, 6, 7, 8] rfl rfl trivial) rfl rfl hl.1 rfl (lv_room (Nat.le_of_ble_eq_true rfl)) dX2_notJoke_113 ⟨(Nat.le_of_ble_eq_true rfl), (Nat.le_of_ble_eq_true rfl)⟩) hH hA [0, 1, 2, 3, 4, 5, 6, 7, 8] [] rfl rfl (by decide) (by decide) (fun r_21 u_r_21 H locs hw_r_21 hH hR_r_21 hk_r_21 => ?_)
                  obtain rfl := hw_r_21
                  have hH : zH G A s.heap (mW dA q (mNot M 1 12)) H locs := hH
                  have eM : mNot M 1 12 = (mNotJoke M (nI a1) (nI a2) (nI a3) (nI a4)).2 := by simp [mNotJoke, notJ, nI_clamp (show a1 < 2 ^ 31 by omega), nI_clamp (show a2 < 2 ^ 31 by omega), nI_clamp (show a3 < 2 ^ 31 by omega), nI_clamp (show a4 < 2 ^ 31 by omega), c_4_2, c_16_4, c_26_6, c_37_8, c_48_10, ho_63, ho_83, c_106_16]
                  rw [eM] at hH
                  exact z_iret hx hb hr hlocks hH (u := ()) (by simp [mNotJoke, notJ, nI_clamp (show a1 < 2 ^ 31 by omega), nI_clamp (show a2 < 2 ^ 31 by omega), nI_clamp (show a3 < 2 ^ 31 by omega), nI_clamp (show a4 < 2 ^ 31 by omega), c_4_2, c_16_4, c_26_6, c_37_8, c_48_10, ho_63, ho_83, c_106_16]) ⟨hH.1, hH.2.1⟩ trivial (Nat.le_of_ble_eq_true rfl) (Nat.le_of_ble_eq_true rfl) dX2_notJoke_116
              · skip
                refine z_topi (y := nI k2) rfl ?_
                have hs_83 := fO_spec ho_83
                have hs1_83 := hs_83.1
                refine z_ifltN (tgt := 98) hx hb dX2_notJoke_83 (by decide) (by omega) (fun c_83_22 => ?_) (fun c_83_22 => ?_)
                · skip
                  exact c_83_22.elim
                · skip
                  refine lv_aload_n hx hb dX2_notJoke_86 rfl (lv_at hl 0 rfl) ?_
                  refine lv_iconst (v := nI 2) hx hb dX2_notJoke_87 (by decide) ?_
                  refine lv_aload_n hx hb dX2_notJoke_88 rfl (lv_at hl 0 rfl) ?_
                  refine lv_iload_n hx hb dX2_notJoke_89 rfl (lv_at hl 1 rfl) ?_
                  refine lv_iload_n hx hb dX2_notJoke_90 rfl (lv_at hl 2 rfl) ?_
                  refine z_ci (wr := []) (va_runV (As := [.int (nI a1), .int (nI a2)]) (rest := [.int (nI 2), .ref (q 0)]) ⟨hx, hb, hml, hown, hts⟩ (metX2_jokeAt l G dA dS B0 H.size q M a1 a2 (by first | exact ha | assumption | omega) (by first | exact hb2 | assumption | omega) (by first | exact hbw | assumption | omega) (by first | exact h12 | assumption | omega)) (cwV 2 hts (lw_V q2107 q2109 qs32 q91 q2110) rfl rfl rfl (by decide +kernel) ⟨Nat.le_of_ble_eq_true rfl, Nat.le_of_ble_eq_true rfl⟩) (zPV hX hH hB hAB (z_recv hX kX2 (hH.at 0 rfl)) [0, 1, 2, 3, 4, 5, 6, 7, 8] rfl rfl trivial) rfl rfl hl.1 rfl (lv_room (Nat.le_of_ble_eq_true rfl)) dX2_notJoke_91 ⟨(Nat.le_of_ble_eq_true rfl), (Nat.le_of_ble_eq_true rfl)⟩) hH hA [0, 1, 2, 3, 4, 5, 6, 7, 8] [] rfl rfl (by decide) (by decide) (fun r_23 u_r_23 H locs hw_r_23 hH hR_r_23 hk_r_23 => ?_)
                  obtain rfl := hw_r_23
                  have hH : zH G A s.heap (mW dA q M) H locs := hH
                  refine z_topi (y := nI k2) (by rw [ho_83]; rfl) ?_
                  refine z_ci (wr := []) (va_runV (As := [.int (nI 2), .int (nI k2)]) (rest := []) ⟨hx, hb, hml, hown, hts⟩ (metX2_isNot l G dA dS B0 H.size q M 2 k2) (cwV 2 hts (lw_V q2095 q2097 qs29 q91 q2098) rfl rfl rfl (by decide +kernel) ⟨Nat.le_of_ble_eq_true rfl, Nat.le_of_ble_eq_true rfl⟩) (zPV hX hH hB hAB (z_recv hX kX2 (hH.at 0 rfl)) [0, 1, 2, 3, 4, 5, 6, 7, 8] rfl rfl trivial) rfl rfl hl.1 rfl (lv_room (Nat.le_of_ble_eq_true rfl)) dX2_notJoke_94 ⟨(Nat.le_of_ble_eq_true rfl), (Nat.le_of_ble_eq_true rfl)⟩) hH hA [0, 1, 2, 3, 4, 5, 6, 7, 8] [] rfl rfl (by decide) (by decide) (fun r_24 u_r_24 H locs hw_r_24 hH hR_r_24 hk_r_24 => ?_)
                  obtain rfl := hw_r_24
                  have hH : zH G A s.heap (mW dA q (mNot M 2 k2)) H locs := hH
                  have eM : mNot M 2 k2 = (mNotJoke M (nI a1) (nI a2) (nI a3) (nI a4)).2 := by simp [mNotJoke, notJ, nI_clamp (show a1 < 2 ^ 31 by omega), nI_clamp (show a2 < 2 ^ 31 by omega), nI_clamp (show a3 < 2 ^ 31 by omega), nI_clamp (show a4 < 2 ^ 31 by omega), c_4_2, c_16_4, c_26_6, c_37_8, c_48_10, ho_63, ho_83, c_83_22]
                  rw [eM] at hH
                  exact z_iret hx hb hr hlocks hH (u := ()) (by simp [mNotJoke, notJ, nI_clamp (show a1 < 2 ^ 31 by omega), nI_clamp (show a2 < 2 ^ 31 by omega), nI_clamp (show a3 < 2 ^ 31 by omega), nI_clamp (show a4 < 2 ^ 31 by omega), c_4_2, c_16_4, c_26_6, c_37_8, c_48_10, ho_63, ho_83, c_83_22]) ⟨hH.1, hH.2.1⟩ trivial (Nat.le_of_ble_eq_true rfl) (Nat.le_of_ble_eq_true rfl) dX2_notJoke_97
            · skip
              refine z_topi (y := nI k3) rfl ?_
              have hs_63 := fO_spec ho_63
              have hs1_63 := hs_63.1
              refine z_ifltN (tgt := 77) hx hb dX2_notJoke_63 (by decide) (by omega) (fun c_63_25 => ?_) (fun c_63_25 => ?_)
              · skip
                exact c_63_25.elim
              · skip
                refine lv_aload_n hx hb dX2_notJoke_66 rfl (lv_at hl 0 rfl) ?_
                refine lv_iconst (v := nI 4) hx hb dX2_notJoke_67 (by decide) ?_
                refine lv_aload_n hx hb dX2_notJoke_68 rfl (lv_at hl 0 rfl) ?_
                refine lv_iload_n hx hb dX2_notJoke_69 rfl (lv_at hl 3 rfl) ?_
                refine z_ci (wr := []) (va_runV (As := [.int (nI a3)]) (rest := [.int (nI 4), .ref (q 0)]) ⟨hx, hb, hml, hown, hts⟩ (metX2_jokeWith l G dA dS B0 H.size q M a3 (by first | exact ha | assumption | omega) (by first | exact hbw | assumption | omega) (by first | exact h12 | assumption | omega)) (cwV 1 hts (lw_V q2099 q2101 qs30 q91 q2102) rfl rfl rfl (by decide +kernel) ⟨Nat.le_of_ble_eq_true rfl, Nat.le_of_ble_eq_true rfl⟩) (zPV hX hH hB hAB (z_recv hX kX2 (hH.at 0 rfl)) [0, 1, 2, 3, 4, 5, 6, 7, 8] rfl rfl trivial) rfl rfl hl.1 rfl (lv_room (Nat.le_of_ble_eq_true rfl)) dX2_notJoke_70 ⟨(Nat.le_of_ble_eq_true rfl), (Nat.le_of_ble_eq_true rfl)⟩) hH hA [0, 1, 2, 3, 4, 5, 6, 7, 8] [] rfl rfl (by decide) (by decide) (fun r_26 u_r_26 H locs hw_r_26 hH hR_r_26 hk_r_26 => ?_)
                obtain rfl := hw_r_26
                have hH : zH G A s.heap (mW dA q M) H locs := hH
                refine z_topi (y := nI k3) (by rw [ho_63]; rfl) ?_
                refine z_ci (wr := []) (va_runV (As := [.int (nI 4), .int (nI k3)]) (rest := []) ⟨hx, hb, hml, hown, hts⟩ (metX2_isNot l G dA dS B0 H.size q M 4 k3) (cwV 2 hts (lw_V q2095 q2097 qs29 q91 q2098) rfl rfl rfl (by decide +kernel) ⟨Nat.le_of_ble_eq_true rfl, Nat.le_of_ble_eq_true rfl⟩) (zPV hX hH hB hAB (z_recv hX kX2 (hH.at 0 rfl)) [0, 1, 2, 3, 4, 5, 6, 7, 8] rfl rfl trivial) rfl rfl hl.1 rfl (lv_room (Nat.le_of_ble_eq_true rfl)) dX2_notJoke_73 ⟨(Nat.le_of_ble_eq_true rfl), (Nat.le_of_ble_eq_true rfl)⟩) hH hA [0, 1, 2, 3, 4, 5, 6, 7, 8] [] rfl rfl (by decide) (by decide) (fun r_27 u_r_27 H locs hw_r_27 hH hR_r_27 hk_r_27 => ?_)
                obtain rfl := hw_r_27
                have hH : zH G A s.heap (mW dA q (mNot M 4 k3)) H locs := hH
                have eM : mNot M 4 k3 = (mNotJoke M (nI a1) (nI a2) (nI a3) (nI a4)).2 := by simp [mNotJoke, notJ, nI_clamp (show a1 < 2 ^ 31 by omega), nI_clamp (show a2 < 2 ^ 31 by omega), nI_clamp (show a3 < 2 ^ 31 by omega), nI_clamp (show a4 < 2 ^ 31 by omega), c_4_2, c_16_4, c_26_6, c_37_8, c_48_10, ho_63, c_63_25]
                rw [eM] at hH
                exact z_iret hx hb hr hlocks hH (u := ()) (by simp [mNotJoke, notJ, nI_clamp (show a1 < 2 ^ 31 by omega), nI_clamp (show a2 < 2 ^ 31 by omega), nI_clamp (show a3 < 2 ^ 31 by omega), nI_clamp (show a4 < 2 ^ 31 by omega), c_4_2, c_16_4, c_26_6, c_37_8, c_48_10, ho_63, c_63_25]) ⟨hH.1, hH.2.1⟩ trivial (Nat.le_of_ble_eq_true rfl) (Nat.le_of_ble_eq_true rfl) dX2_notJoke_76
          · skip
            refine lv_aload_n hx hb dX2_notJoke_51 rfl (lv_at hl 0 rfl) ?_
            refine lv_iconst (v := nI 3) hx hb dX2_notJoke_52 (by decide) ?_
            refine lv_iload_n hx hb dX2_notJoke_53 rfl (lv_at hl 3 rfl) ?_
            refine z_ci (wr := []) (va_runV (As := [.int (nI 3), .int (nI a3)]) (rest := []) ⟨hx, hb, hml, hown, hts⟩ (metX2_isNot l G dA dS B0 H.size q M 3 a3) (cwV 2 hts (lw_V q2095 q2097 qs29 q91 q2098) rfl rfl rfl (by decide +kernel) ⟨Nat.le_of_ble_eq_true rfl, Nat.le_of_ble_eq_true rfl⟩) (zPV hX hH hB hAB (z_recv hX kX2 (hH.at 0 rfl)) [0, 1, 2, 3, 4, 5, 6, 7, 8] rfl rfl trivial) rfl rfl hl.1 rfl (lv_room (Nat.le_of_ble_eq_true rfl)) dX2_notJoke_54 ⟨(Nat.le_of_ble_eq_true rfl), (Nat.le_of_ble_eq_true rfl)⟩) hH hA [0, 1, 2, 3, 4, 5, 6, 7, 8] [] rfl rfl (by decide) (by decide) (fun r_28 u_r_28 H locs hw_r_28 hH hR_r_28 hk_r_28 => ?_)
            obtain rfl := hw_r_28
            have hH : zH G A s.heap (mW dA q (mNot M 3 a3)) H locs := hH
            have eM : mNot M 3 a3 = (mNotJoke M (nI a1) (nI a2) (nI a3) (nI a4)).2 := by simp [mNotJoke, notJ, nI_clamp (show a1 < 2 ^ 31 by omega), nI_clamp (show a2 < 2 ^ 31 by omega), nI_clamp (show a3 < 2 ^ 31 by omega), nI_clamp (show a4 < 2 ^ 31 by omega), c_4_2, c_16_4, c_26_6, c_37_8, c_48_10]
            rw [eM] at hH
            exact z_iret hx hb hr hlocks hH (u := ()) (by simp [mNotJoke, notJ, nI_clamp (show a1 < 2 ^ 31 by omega), nI_clamp (show a2 < 2 ^ 31 by omega), nI_clamp (show a3 < 2 ^ 31 by omega), nI_clamp (show a4 < 2 ^ 31 by omega), c_4_2, c_16_4, c_26_6, c_37_8, c_48_10]) ⟨hH.1, hH.2.1⟩ trivial (Nat.le_of_ble_eq_true rfl) (Nat.le_of_ble_eq_true rfl) dX2_notJoke_57
        · skip
          refine lv_bipush (v := (-2)) hx hb dX2_notJoke_40 (by decide) ?_
          have eM : M = (mNotJoke M (nI a1) (nI a2) (nI a3) wit).2 := by simp [mNotJoke, notJ, nI_clamp (show a1 < 2 ^ 31 by omega), nI_clamp (show a2 < 2 ^ 31 by omega), nI_clamp (show a3 < 2 ^ 31 by omega), c_4_2, c_16_4, c_26_6, c_37_8]
          rw [eM] at hH
          exact z_iret hx hb hr hlocks hH (u := ()) (by simp [mNotJoke, notJ, nI_clamp (show a1 < 2 ^ 31 by omega), nI_clamp (show a2 < 2 ^ 31 by omega), nI_clamp (show a3 < 2 ^ 31 by omega), c_4_2, c_16_4, c_26_6, c_37_8]) ⟨hH.1, hH.2.1⟩ trivial (Nat.le_of_ble_eq_true rfl) (Nat.le_of_ble_eq_true rfl) dX2_notJoke_42
  · skip
    refine lv_iconst (v := (-1)) hx hb dX2_notJoke_7 (by decide) ?_
    have eM : M = (mNotJoke M well depth sign wit).2 := by simp [mNotJoke, notJ, c_4_2]
    rw [eM] at hH
    exact z_iret hx hb hr hlocks hH (u := ()) (by simp [mNotJoke, notJ, c_4_2]) ⟨hH.1, hH.2.1⟩ trivial (Nat.le_of_ble_eq_true rfl) (Nat.le_of_ble_eq_true rfl) dX2_notJoke_8

set_option maxHeartbeats 4000000 in
set_option maxRecDepth 100000 in
theorem metX2_thinks (l : Launch) (G : va_G) (dA : Nat → ClassId) (dS : Nat → Nat) (B0 sz : Nat) (q : Nat → Nat) (M : mS) : Met l yX2_thinks (ws_ yX2_thinks cX2_thinks 2 (none)) ({ frames := 0, cells := 0, slots := 0, locals := 0 }) (zP G dA dS B0 [.ref (q 0)] sz (mW dA q M) (fun H => True)) (zQv G (fun (u : Unit) => True) (fun (u : Unit) => mW dA q (mCp M 4 1)) (fun (u : Unit) (H : Heap) => True) (va_A (mW dA q M) sz)) 0 0 (va_A (mW dA q M) sz) := by
  refine zM (by decide) (Nat.le_of_ble_eq_true rfl) ?_
  intro p e s m below meth c ls A H locs hHe hx hb hr hlocks hml hown hname hts hX hsz hB hAe hA hAB hH hRo hl
  have hl : lv_has ls 2 [(0, .ref (q 0))] := hl
  refine lv_iconst (v := nI 0) hx hb dX2_thinks_0 (by decide) ?_
  refine lv_istore_n (lv' := [(1, .int (nI 0)), (0, .ref (q 0))]) hx hb dX2_thinks_1 rfl hl (by decide) rfl (fun ls hl => ?_)
  have LP2_0 : ∀ (fuel : Nat) (i : Nat) (hfu : (274 - i) < fuel) (hi : i ≤ 274) (H : Heap) (locs : List Loc), zH G A s.heap (mW dA q (ms M 4 (cp (M 4) (M 1) i))) H locs → ∀ (ls : Array Slot), lv_has ls 2 [(0, .ref (q 0)), (1, .int (nI i))] → W p l e (headSpec (ws_ yX2_thinks cX2_thinks 2 (none)) ({ frames := 0, cells := 0, slots := 0, locals := 0 })).room s m ([.ref (q 0)] : List Value).toArray below meth c H locs 0 0 (MQ below (zQv G (fun (u : Unit) => True) (fun (u : Unit) => mW dA q (mCp M 4 1)) (fun (u : Unit) (H : Heap) => True) A) ([.ref (q 0)] : List Value).toArray s 0 0 A) (F0 m 2 ls []) := by
    intro fuel
    induction fuel with
    | zero => intro i hfu; exact absurd hfu (Nat.not_lt_zero _)
    | succ fuel ih =>
      intro i hfu hi H locs hH ls hl
      refine lv_iload_n hx hb dX2_thinks_2 rfl (lv_at hl 1 rfl) ?_
      refine lv_sipush (v := nI 274) hx hb dX2_thinks_3 (by decide) ?_
      refine z_icmp_ge (tgt := 27) hx hb dX2_thinks_6 (by decide) (by omega) (by omega) (fun c_6_2 => ?_) (fun c_6_2 => ?_)
      · skip
        have dc_6_2 := Nat.not_lt.mp c_6_2
        have eM : ms M 4 (cp (M 4) (M 1) i) = mCp M 4 1 := by have e : i = 274 := (by omega); subst e; rfl
        rw [eM] at hH
        exact z_vret hx hb hr hlocks hH (u := ()) trivial ⟨hH.1, hH.2.1⟩ trivial (Nat.le_of_ble_eq_true rfl) (Nat.le_of_ble_eq_true rfl) dX2_thinks_27
      · skip
        refine lv_aload_n hx hb dX2_thinks_9 rfl (lv_at hl 0 rfl) ?_
        refine z_get (v := .ref (q 4)) hx hb hts hown hX kX2 9 (by decide) (hH.at 0 rfl) rfl q2019 (fun _ h9 => h9) dX2_thinks_10 ?_
        refine lv_iload_n hx hb dX2_thinks_13 rfl (lv_at hl 1 rfl) ?_
        refine lv_aload_n hx hb dX2_thinks_14 rfl (lv_at hl 0 rfl) ?_
        refine z_get (v := .ref (q 1)) hx hb hts hown hX kX2 6 (by decide) (hH.at 0 rfl) rfl q2016 (fun _ h9 => h9) dX2_thinks_15 ?_
        refine lv_iload_n hx hb dX2_thinks_18 rfl (lv_at hl 1 rfl) ?_
        refine z_iald (x := nI (M 1 i)) hx hb hX (k := i)  (hH.at 1 rfl) rfl (by omega) (by omega) rfl dX2_thinks_19 ?_
        refine z_iastN hx hb hX (k := i) hH 4 rfl rfl (by omega) (by omega) dX2_thinks_20 (fun H locs hH => ?_)
        have hH : zH G A s.heap (mW dA q (mu (ms M 4 (cp (M 4) (M 1) i)) 4 i (M 1 i))) H locs := hH
        refine lv_iinc (v := nI (i + 1)) (lv' := [(1, .int (nI (i + 1))), (0, .ref (q 0))]) hx hb dX2_thinks_21 hl (k := 1) rfl (nI_1 _) (by decide) rfl (fun ls hl => ?_)
        refine lv_goto (tgt := 2) hx hb dX2_thinks_24 (by decide) ?_
        have eL : mu (ms M 4 (cp (M 4) (M 1) i)) 4 i (M 1 i) = ms M 4 (cp (M 4) (M 1) (i + 1)) := by exact cp_step M i (by decide)
        rw [eL] at hH
        exact ih (i + 1) (by omega) (by omega) _ _ hH ls (lv_sub hl [1, 0] rfl)
  have eL : M = ms M 4 (cp (M 4) (M 1) 0) := by exact ms_0 M 4 _
  rw [eL] at hH
  exact LP2_0 ((274 - 0) + 1) 0 (Nat.lt_succ_self _) (by omega) _ _ hH ls (lv_sub hl [1, 0] rfl)

set_option maxHeartbeats 4000000 in
set_option maxRecDepth 100000 in
theorem metX2_forgets (l : Launch) (G : va_G) (dA : Nat → ClassId) (dS : Nat → Nat) (B0 sz : Nat) (q : Nat → Nat) (M : mS) : Met l yX2_forgets (ws_ yX2_forgets cX2_forgets 2 (none)) ({ frames := 0, cells := 0, slots := 0, locals := 0 }) (zP G dA dS B0 [.ref (q 0)] sz (mW dA q M) (fun H => True)) (zQv G (fun (u : Unit) => True) (fun (u : Unit) => mW dA q (mCp M 1 4)) (fun (u : Unit) (H : Heap) => True) (va_A (mW dA q M) sz)) 0 0 (va_A (mW dA q M) sz) := by
  refine zM (by decide) (Nat.le_of_ble_eq_true rfl) ?_
  intro p e s m below meth c ls A H locs hHe hx hb hr hlocks hml hown hname hts hX hsz hB hAe hA hAB hH hRo hl
  have hl : lv_has ls 2 [(0, .ref (q 0))] := hl
  refine lv_iconst (v := nI 0) hx hb dX2_forgets_0 (by decide) ?_
  refine lv_istore_n (lv' := [(1, .int (nI 0)), (0, .ref (q 0))]) hx hb dX2_forgets_1 rfl hl (by decide) rfl (fun ls hl => ?_)
  have LP2_0 : ∀ (fuel : Nat) (i : Nat) (hfu : (274 - i) < fuel) (hi : i ≤ 274) (H : Heap) (locs : List Loc), zH G A s.heap (mW dA q (ms M 1 (cp (M 1) (M 4) i))) H locs → ∀ (ls : Array Slot), lv_has ls 2 [(0, .ref (q 0)), (1, .int (nI i))] → W p l e (headSpec (ws_ yX2_forgets cX2_forgets 2 (none)) ({ frames := 0, cells := 0, slots := 0, locals := 0 })).room s m ([.ref (q 0)] : List Value).toArray below meth c H locs 0 0 (MQ below (zQv G (fun (u : Unit) => True) (fun (u : Unit) => mW dA q (mCp M 1 4)) (fun (u : Unit) (H : Heap) => True) A) ([.ref (q 0)] : List Value).toArray s 0 0 A) (F0 m 2 ls []) := by
    intro fuel
    induction fuel with
    | zero => intro i hfu; exact absurd hfu (Nat.not_lt_zero _)
    | succ fuel ih =>
      intro i hfu hi H locs hH ls hl
      refine lv_iload_n hx hb dX2_forgets_2 rfl (lv_at hl 1 rfl) ?_
      refine lv_sipush (v := nI 274) hx hb dX2_forgets_3 (by decide) ?_
      refine z_icmp_ge (tgt := 27) hx hb dX2_forgets_6 (by decide) (by omega) (by omega) (fun c_6_2 => ?_) (fun c_6_2 => ?_)
      · skip
        have dc_6_2 := Nat.not_lt.mp c_6_2
        have eM : ms M 1 (cp (M 1) (M 4) i) = mCp M 1 4 := by have e : i = 274 := (by omega); subst e; rfl
        rw [eM] at hH
        exact z_vret hx hb hr hlocks hH (u := ()) trivial ⟨hH.1, hH.2.1⟩ trivial (Nat.le_of_ble_eq_true rfl) (Nat.le_of_ble_eq_true rfl) dX2_forgets_27
      · skip
        refine lv_aload_n hx hb dX2_forgets_9 rfl (lv_at hl 0 rfl) ?_
        refine z_get (v := .ref (q 1)) hx hb hts hown hX kX2 6 (by decide) (hH.at 0 rfl) rfl q2016 (fun _ h9 => h9) dX2_forgets_10 ?_
        refine lv_iload_n hx hb dX2_forgets_13 rfl (lv_at hl 1 rfl) ?_
        refine lv_aload_n hx hb dX2_forgets_14 rfl (lv_at hl 0 rfl) ?_
        refine z_get (v := .ref (q 4)) hx hb hts hown hX kX2 9 (by decide) (hH.at 0 rfl) rfl q2019 (fun _ h9 => h9) dX2_forgets_15 ?_
        refine lv_iload_n hx hb dX2_forgets_18 rfl (lv_at hl 1 rfl) ?_
        refine z_iald (x := nI (M 4 i)) hx hb hX (k := i)  (hH.at 4 rfl) rfl (by omega) (by omega) rfl dX2_forgets_19 ?_
        refine z_iastN hx hb hX (k := i) hH 1 rfl rfl (by omega) (by omega) dX2_forgets_20 (fun H locs hH => ?_)
        have hH : zH G A s.heap (mW dA q (mu (ms M 1 (cp (M 1) (M 4) i)) 1 i (M 4 i))) H locs := hH
        refine lv_iinc (v := nI (i + 1)) (lv' := [(1, .int (nI (i + 1))), (0, .ref (q 0))]) hx hb dX2_forgets_21 hl (k := 1) rfl (nI_1 _) (by decide) rfl (fun ls hl => ?_)
        refine lv_goto (tgt := 2) hx hb dX2_forgets_24 (by decide) ?_
        have eL : mu (ms M 1 (cp (M 1) (M 4) i)) 1 i (M 4 i) = ms M 1 (cp (M 1) (M 4) (i + 1)) := by exact cp_step M i (by decide)
        rw [eL] at hH
        exact ih (i + 1) (by omega) (by omega) _ _ hH ls (lv_sub hl [1, 0] rfl)
  have eL : M = ms M 1 (cp (M 1) (M 4) 0) := by exact ms_0 M 1 _
  rw [eL] at hH
  exact LP2_0 ((274 - 0) + 1) 0 (Nat.lt_succ_self _) (by omega) _ _ hH ls (lv_sub hl [1, 0] rfl)

set_option maxHeartbeats 4000000 in
set_option maxRecDepth 100000 in
theorem metX2_looksAhead (l : Launch) (G : va_G) (dA : Nat → ClassId) (dS : Nat → Nat) (B0 sz : Nat) (q : Nat → Nat) (M : mS) : Met l yX2_looksAhead (ws_ yX2_looksAhead cX2_looksAhead 2 (none)) ({ frames := 0, cells := 0, slots := 0, locals := 0 }) (zP G dA dS B0 [.ref (q 0)] sz (mW dA q M) (fun H => True)) (zQv G (fun (u : Unit) => True) (fun (u : Unit) => mW dA q (mCp M 5 1)) (fun (u : Unit) (H : Heap) => True) (va_A (mW dA q M) sz)) 0 0 (va_A (mW dA q M) sz) := by
  refine zM (by decide) (Nat.le_of_ble_eq_true rfl) ?_
  intro p e s m below meth c ls A H locs hHe hx hb hr hlocks hml hown hname hts hX hsz hB hAe hA hAB hH hRo hl
  have hl : lv_has ls 2 [(0, .ref (q 0))] := hl
  refine lv_iconst (v := nI 0) hx hb dX2_looksAhead_0 (by decide) ?_
  refine lv_istore_n (lv' := [(1, .int (nI 0)), (0, .ref (q 0))]) hx hb dX2_looksAhead_1 rfl hl (by decide) rfl (fun ls hl => ?_)
  have LP2_0 : ∀ (fuel : Nat) (i : Nat) (hfu : (274 - i) < fuel) (hi : i ≤ 274) (H : Heap) (locs : List Loc), zH G A s.heap (mW dA q (ms M 5 (cp (M 5) (M 1) i))) H locs → ∀ (ls : Array Slot), lv_has ls 2 [(0, .ref (q 0)), (1, .int (nI i))] → W p l e (headSpec (ws_ yX2_looksAhead cX2_looksAhead 2 (none)) ({ frames := 0, cells := 0, slots := 0, locals := 0 })).room s m ([.ref (q 0)] : List Value).toArray below meth c H locs 0 0 (MQ below (zQv G (fun (u : Unit) => True) (fun (u : Unit) => mW dA q (mCp M 5 1)) (fun (u : Unit) (H : Heap) => True) A) ([.ref (q 0)] : List Value).toArray s 0 0 A) (F0 m 2 ls []) := by
    intro fuel
    induction fuel with
    | zero => intro i hfu; exact absurd hfu (Nat.not_lt_zero _)
    | succ fuel ih =>
      intro i hfu hi H locs hH ls hl
      refine lv_iload_n hx hb dX2_looksAhead_2 rfl (lv_at hl 1 rfl) ?_
      refine lv_sipush (v := nI 274) hx hb dX2_looksAhead_3 (by decide) ?_
      refine z_icmp_ge (tgt := 27) hx hb dX2_looksAhead_6 (by decide) (by omega) (by omega) (fun c_6_2 => ?_) (fun c_6_2 => ?_)
      · skip
        have dc_6_2 := Nat.not_lt.mp c_6_2
        have eM : ms M 5 (cp (M 5) (M 1) i) = mCp M 5 1 := by have e : i = 274 := (by omega); subst e; rfl
        rw [eM] at hH
        exact z_vret hx hb hr hlocks hH (u := ()) trivial ⟨hH.1, hH.2.1⟩ trivial (Nat.le_of_ble_eq_true rfl) (Nat.le_of_ble_eq_true rfl) dX2_looksAhead_27
      · skip
        refine lv_aload_n hx hb dX2_looksAhead_9 rfl (lv_at hl 0 rfl) ?_
        refine z_get (v := .ref (q 5)) hx hb hts hown hX kX2 10 (by decide) (hH.at 0 rfl) rfl q2020 (fun _ h9 => h9) dX2_looksAhead_10 ?_
        refine lv_iload_n hx hb dX2_looksAhead_13 rfl (lv_at hl 1 rfl) ?_
        refine lv_aload_n hx hb dX2_looksAhead_14 rfl (lv_at hl 0 rfl) ?_
        refine z_get (v := .ref (q 1)) hx hb hts hown hX kX2 6 (by decide) (hH.at 0 rfl) rfl q2016 (fun _ h9 => h9) dX2_looksAhead_15 ?_
        refine lv_iload_n hx hb dX2_looksAhead_18 rfl (lv_at hl 1 rfl) ?_
        refine z_iald (x := nI (M 1 i)) hx hb hX (k := i)  (hH.at 1 rfl) rfl (by omega) (by omega) rfl dX2_looksAhead_19 ?_
        refine z_iastN hx hb hX (k := i) hH 5 rfl rfl (by omega) (by omega) dX2_looksAhead_20 (fun H locs hH => ?_)
        have hH : zH G A s.heap (mW dA q (mu (ms M 5 (cp (M 5) (M 1) i)) 5 i (M 1 i))) H locs := hH
        refine lv_iinc (v := nI (i + 1)) (lv' := [(1, .int (nI (i + 1))), (0, .ref (q 0))]) hx hb dX2_looksAhead_21 hl (k := 1) rfl (nI_1 _) (by decide) rfl (fun ls hl => ?_)
        refine lv_goto (tgt := 2) hx hb dX2_looksAhead_24 (by decide) ?_
        have eL : mu (ms M 5 (cp (M 5) (M 1) i)) 5 i (M 1 i) = ms M 5 (cp (M 5) (M 1) (i + 1)) := by exact cp_step M i (by decide)
        rw [eL] at hH
        exact ih (i + 1) (by omega) (by omega) _ _ hH ls (lv_sub hl [1, 0] rfl)
  have eL : M = ms M 5 (cp (M 5) (M 1) 0) := by exact ms_0 M 5 _
  rw [eL] at hH
  exact LP2_0 ((274 - 0) + 1) 0 (Nat.lt_succ_self _) (by omega) _ _ hH ls (lv_sub hl [1, 0] rfl)

set_option maxHeartbeats 4000000 in
set_option maxRecDepth 100000 in
theorem metX2_comesBack (l : Launch) (G : va_G) (dA : Nat → ClassId) (dS : Nat → Nat) (B0 sz : Nat) (q : Nat → Nat) (M : mS) : Met l yX2_comesBack (ws_ yX2_comesBack cX2_comesBack 2 (none)) ({ frames := 0, cells := 0, slots := 0, locals := 0 }) (zP G dA dS B0 [.ref (q 0)] sz (mW dA q M) (fun H => True)) (zQv G (fun (u : Unit) => True) (fun (u : Unit) => mW dA q (mCp M 1 5)) (fun (u : Unit) (H : Heap) => True) (va_A (mW dA q M) sz)) 0 0 (va_A (mW dA q M) sz) := by
  refine zM (by decide) (Nat.le_of_ble_eq_true rfl) ?_
  intro p e s m below meth c ls A H locs hHe hx hb hr hlocks hml hown hname hts hX hsz hB hAe hA hAB hH hRo hl
  have hl : lv_has ls 2 [(0, .ref (q 0))] := hl
  refine lv_iconst (v := nI 0) hx hb dX2_comesBack_0 (by decide) ?_
  refine lv_istore_n (lv' := [(1, .int (nI 0)), (0, .ref (q 0))]) hx hb dX2_comesBack_1 rfl hl (by decide) rfl (fun ls hl => ?_)
  have LP2_0 : ∀ (fuel : Nat) (i : Nat) (hfu : (274 - i) < fuel) (hi : i ≤ 274) (H : Heap) (locs : List Loc), zH G A s.heap (mW dA q (ms M 1 (cp (M 1) (M 5) i))) H locs → ∀ (ls : Array Slot), lv_has ls 2 [(0, .ref (q 0)), (1, .int (nI i))] → W p l e (headSpec (ws_ yX2_comesBack cX2_comesBack 2 (none)) ({ frames := 0, cells := 0, slots := 0, locals := 0 })).room s m ([.ref (q 0)] : List Value).toArray below meth c H locs 0 0 (MQ below (zQv G (fun (u : Unit) => True) (fun (u : Unit) => mW dA q (mCp M 1 5)) (fun (u : Unit) (H : Heap) => True) A) ([.ref (q 0)] : List Value).toArray s 0 0 A) (F0 m 2 ls []) := by
    intro fuel
    induction fuel with
    | zero => intro i hfu; exact absurd hfu (Nat.not_lt_zero _)
    | succ fuel ih =>
      intro i hfu hi H locs hH ls hl
      refine lv_iload_n hx hb dX2_comesBack_2 rfl (lv_at hl 1 rfl) ?_
      refine lv_sipush (v := nI 274) hx hb dX2_comesBack_3 (by decide) ?_
      refine z_icmp_ge (tgt := 27) hx hb dX2_comesBack_6 (by decide) (by omega) (by omega) (fun c_6_2 => ?_) (fun c_6_2 => ?_)
      · skip
        have dc_6_2 := Nat.not_lt.mp c_6_2
        have eM : ms M 1 (cp (M 1) (M 5) i) = mCp M 1 5 := by have e : i = 274 := (by omega); subst e; rfl
        rw [eM] at hH
        exact z_vret hx hb hr hlocks hH (u := ()) trivial ⟨hH.1, hH.2.1⟩ trivial (Nat.le_of_ble_eq_true rfl) (Nat.le_of_ble_eq_true rfl) dX2_comesBack_27
      · skip
        refine lv_aload_n hx hb dX2_comesBack_9 rfl (lv_at hl 0 rfl) ?_
        refine z_get (v := .ref (q 1)) hx hb hts hown hX kX2 6 (by decide) (hH.at 0 rfl) rfl q2016 (fun _ h9 => h9) dX2_comesBack_10 ?_
        refine lv_iload_n hx hb dX2_comesBack_13 rfl (lv_at hl 1 rfl) ?_
        refine lv_aload_n hx hb dX2_comesBack_14 rfl (lv_at hl 0 rfl) ?_
        refine z_get (v := .ref (q 5)) hx hb hts hown hX kX2 10 (by decide) (hH.at 0 rfl) rfl q2020 (fun _ h9 => h9) dX2_comesBack_15 ?_
        refine lv_iload_n hx hb dX2_comesBack_18 rfl (lv_at hl 1 rfl) ?_
        refine z_iald (x := nI (M 5 i)) hx hb hX (k := i)  (hH.at 5 rfl) rfl (by omega) (by omega) rfl dX2_comesBack_19 ?_
        refine z_iastN hx hb hX (k := i) hH 1 rfl rfl (by omega) (by omega) dX2_comesBack_20 (fun H locs hH => ?_)
        have hH : zH G A s.heap (mW dA q (mu (ms M 1 (cp (M 1) (M 5) i)) 1 i (M 5 i))) H locs := hH
        refine lv_iinc (v := nI (i + 1)) (lv' := [(1, .int (nI (i + 1))), (0, .ref (q 0))]) hx hb dX2_comesBack_21 hl (k := 1) rfl (nI_1 _) (by decide) rfl (fun ls hl => ?_)
        refine lv_goto (tgt := 2) hx hb dX2_comesBack_24 (by decide) ?_
        have eL : mu (ms M 1 (cp (M 1) (M 5) i)) 1 i (M 5 i) = ms M 1 (cp (M 1) (M 5) (i + 1)) := by exact cp_step M i (by decide)
        rw [eL] at hH
        exact ih (i + 1) (by omega) (by omega) _ _ hH ls (lv_sub hl [1, 0] rfl)
  have eL : M = ms M 1 (cp (M 1) (M 5) 0) := by exact ms_0 M 1 _
  rw [eL] at hH
  exact LP2_0 ((274 - 0) + 1) 0 (Nat.lt_succ_self _) (by omega) _ _ hH ls (lv_sub hl [1, 0] rfl)

set_option maxHeartbeats 4000000 in
set_option maxRecDepth 100000 in
theorem metX2_keepsMind (l : Launch) (G : va_G) (dA : Nat → ClassId) (dS : Nat → Nat) (B0 sz : Nat) (q : Nat → Nat) (M : mS) (hch : M 0 11 ≤ 8) (hfc : M 0 12 < 8) : Met l yX2_keepsMind (ws_ yX2_keepsMind cX2_keepsMind 3 (none)) ({ frames := 0, cells := 0, slots := 0, locals := 0 }) (zP G dA dS B0 [.ref (q 0)] sz (mW dA q M) (fun H => True)) (zQv G (fun (u : Unit) => True) (fun (u : Unit) => mW dA q (mKeep M)) (fun (u : Unit) (H : Heap) => True) (va_A (mW dA q M) sz)) 0 0 (va_A (mW dA q M) sz) := by
  refine zM (by decide) (Nat.le_of_ble_eq_true rfl) ?_
  intro p e s m below meth c ls A H locs hHe hx hb hr hlocks hml hown hname hts hX hsz hB hAe hA hAB hH hRo hl
  have hl : lv_has ls 3 [(0, .ref (q 0))] := hl
  refine lv_aload_n hx hb dX2_keepsMind_0 rfl (lv_at hl 0 rfl) ?_
  refine z_get (v := .int (nI (M 0 11))) hx hb hts hown hX kX2 11 (by decide) (hH.at 0 rfl) rfl q2021 (fun _ h9 => h9) dX2_keepsMind_1 ?_
  refine lv_bipush (v := nI 8) hx hb dX2_keepsMind_4 (by decide) ?_
  refine z_icmp_ne (tgt := 32) hx hb dX2_keepsMind_6 (by decide) (by omega) (by omega) (fun c_6_1 => ?_) (fun c_6_1 => ?_)
  · skip
    refine lv_aload_n hx hb dX2_keepsMind_32 rfl (lv_at hl 0 rfl) ?_
    refine z_get (v := .int (nI (M 0 12))) hx hb hts hown hX kX2 12 (by decide) (hH.at 0 rfl) rfl q2022 (fun _ h9 => h9) dX2_keepsMind_33 ?_
    refine lv_aload_n hx hb dX2_keepsMind_36 rfl (lv_at hl 0 rfl) ?_
    refine z_get (v := .int (nI (M 0 11))) hx hb hts hown hX kX2 11 (by decide) (hH.at 0 rfl) rfl q2021 (fun _ h9 => h9) dX2_keepsMind_37 ?_
    refine lv_iadd hx hb dX2_keepsMind_40 ?_
    refine z_topi (y := nI (M 0 12 + M 0 11)) (nI_add _ _) ?_
    refine lv_bipush (v := nI 8) hx hb dX2_keepsMind_41 (by decide) ?_
    refine lv_irem hx hb dX2_keepsMind_43 (by decide) ?_
    refine z_topi (y := nI ((M 0 12 + M 0 11) % 8)) (pk_rem (by omega) (by omega) (by omega)) ?_
    refine lv_istore_n (lv' := [(1, .int (nI ((M 0 12 + M 0 11) % 8))), (0, .ref (q 0))]) hx hb dX2_keepsMind_44 rfl hl (by decide) rfl (fun ls hl => ?_)
    refine lv_iconst (v := nI 0) hx hb dX2_keepsMind_45 (by decide) ?_
    refine lv_istore_n (lv' := [(2, .int (nI 0)), (1, .int (nI ((M 0 12 + M 0 11) % 8))), (0, .ref (q 0))]) hx hb dX2_keepsMind_46 rfl hl (by decide) rfl (fun ls hl => ?_)
    have LP47_1 : ∀ (fuel : Nat) (i : Nat) (hfu : (274 - i) < fuel) (hi : i ≤ 274) (H : Heap) (locs : List Loc), zH G A s.heap (mW dA q (ms M 2 (cpo (M 2) (274 * ((M 0 12 + M 0 11) % 8)) (M 4) i))) H locs → ∀ (ls : Array Slot), lv_has ls 3 [(0, .ref (q 0)), (1, .int (nI ((M 0 12 + M 0 11) % 8))), (2, .int (nI i))] → W p l e (headSpec (ws_ yX2_keepsMind cX2_keepsMind 3 (none)) ({ frames := 0, cells := 0, slots := 0, locals := 0 })).room s m ([.ref (q 0)] : List Value).toArray below meth c H locs 0 0 (MQ below (zQv G (fun (u : Unit) => True) (fun (u : Unit) => mW dA q (mKeep M)) (fun (u : Unit) (H : Heap) => True) A) ([.ref (q 0)] : List Value).toArray s 0 0 A) (F0 m 47 ls []) := by
      intro fuel
      induction fuel with
      | zero => intro i hfu; exact absurd hfu (Nat.not_lt_zero _)
      | succ fuel ih =>
        intro i hfu hi H locs hH ls hl
        refine lv_iload_n hx hb dX2_keepsMind_47 rfl (lv_at hl 2 rfl) ?_
        refine lv_sipush (v := nI 274) hx hb dX2_keepsMind_48 (by decide) ?_
        refine z_icmp_ge (tgt := 78) hx hb dX2_keepsMind_51 (by decide) (by omega) (by omega) (fun c_51_3 => ?_) (fun c_51_3 => ?_)
        · skip
          have dc_51_3 := Nat.not_lt.mp c_51_3
          refine lv_aload_n hx hb dX2_keepsMind_78 rfl (lv_at hl 0 rfl) ?_
          refine lv_dup hx hb dX2_keepsMind_79 rfl ?_
          refine z_get (v := .int (nI (M 0 11))) hx hb hts hown hX kX2 11 (by decide) (hH.at 0 rfl) rfl q2021 (fun _ h9 => h9) dX2_keepsMind_80 ?_
          refine lv_iconst (v := nI 1) hx hb dX2_keepsMind_83 (by decide) ?_
          refine lv_iadd hx hb dX2_keepsMind_84 ?_
          refine z_topi (y := nI (M 0 11 + 1)) (nI_add _ _) ?_
          refine z_put hx hb hts hown hX kX2 11 (by decide) hH 0 rfl q2021 (fun _ h9 => h9) rfl rfl rfl (Nat.le_of_ble_eq_true rfl) dX2_keepsMind_85 (fun H locs hH => ?_)
          have hH : zH G A s.heap (mW dA q (mu (ms M 2 (cpo (M 2) (274 * ((M 0 12 + M 0 11) % 8)) (M 4) i)) 0 11 (M 0 11 + 1))) H locs := hH
          have eM : mu (ms M 2 (cpo (M 2) (274 * ((M 0 12 + M 0 11) % 8)) (M 4) i)) 0 11 (M 0 11 + 1) = mKeep M := by have e : i = 274 := (by omega); subst e; first | (rw [mKeep, if_pos c_6_1]; rfl) | (rw [mKeep, if_neg c_6_1]; rfl)
          rw [eM] at hH
          exact z_vret hx hb hr hlocks hH (u := ()) trivial ⟨hH.1, hH.2.1⟩ trivial (Nat.le_of_ble_eq_true rfl) (Nat.le_of_ble_eq_true rfl) dX2_keepsMind_88
        · skip
          refine lv_aload_n hx hb dX2_keepsMind_54 rfl (lv_at hl 0 rfl) ?_
          refine z_get (v := .ref (q 2)) hx hb hts hown hX kX2 7 (by decide) (hH.at 0 rfl) rfl q2017 (fun _ h9 => h9) dX2_keepsMind_55 ?_
          refine lv_sipush (v := nI 274) hx hb dX2_keepsMind_58 (by decide) ?_
          refine lv_iload_n hx hb dX2_keepsMind_61 rfl (lv_at hl 1 rfl) ?_
          refine lv_imul hx hb dX2_keepsMind_62 ?_
          refine z_topi (y := nI (274 * ((M 0 12 + M 0 11) % 8))) (pk_mul _ _) ?_
          refine lv_iload_n hx hb dX2_keepsMind_63 rfl (lv_at hl 2 rfl) ?_
          refine lv_iadd hx hb dX2_keepsMind_64 ?_
          refine z_topi (y := nI ((274 * ((M 0 12 + M 0 11) % 8)) + i)) (nI_add _ _) ?_
          refine lv_aload_n hx hb dX2_keepsMind_65 rfl (lv_at hl 0 rfl) ?_
          refine z_get (v := .ref (q 4)) hx hb hts hown hX kX2 9 (by decide) (hH.at 0 rfl) rfl q2019 (fun _ h9 => h9) dX2_keepsMind_66 ?_
          refine lv_iload_n hx hb dX2_keepsMind_69 rfl (lv_at hl 2 rfl) ?_
          refine z_iald (x := nI (M 4 i)) hx hb hX (k := i)  (hH.at 4 rfl) rfl (by omega) (by omega) rfl dX2_keepsMind_70 ?_
          refine z_iastN hx hb hX (k := ((274 * ((M 0 12 + M 0 11) % 8)) + i)) hH 2 rfl rfl (by omega) (by omega) dX2_keepsMind_71 (fun H locs hH => ?_)
          have hH : zH G A s.heap (mW dA q (mu (ms M 2 (cpo (M 2) (274 * ((M 0 12 + M 0 11) % 8)) (M 4) i)) 2 ((274 * ((M 0 12 + M 0 11) % 8)) + i) (M 4 i))) H locs := hH
          refine lv_iinc (v := nI (i + 1)) (lv' := [(2, .int (nI (i + 1))), (0, .ref (q 0)), (1, .int (nI ((M 0 12 + M 0 11) % 8)))]) hx hb dX2_keepsMind_72 hl (k := 2) rfl (nI_1 _) (by decide) rfl (fun ls hl => ?_)
          refine lv_goto (tgt := 47) hx hb dX2_keepsMind_75 (by decide) ?_
          have eL : mu (ms M 2 (cpo (M 2) (274 * ((M 0 12 + M 0 11) % 8)) (M 4) i)) 2 ((274 * ((M 0 12 + M 0 11) % 8)) + i) (M 4 i) = ms M 2 (cpo (M 2) (274 * ((M 0 12 + M 0 11) % 8)) (M 4) (i + 1)) := by exact cpo_step M _ i (by decide)
          rw [eL] at hH
          exact ih (i + 1) (by omega) (by omega) _ _ hH ls (lv_sub hl [1, 2, 0] rfl)
    have eL : M = ms M 2 (cpo (M 2) (274 * ((M 0 12 + M 0 11) % 8)) (M 4) 0) := by exact ms_o _ 2 _
    rw [eL] at hH
    exact LP47_1 ((274 - 0) + 1) 0 (Nat.lt_succ_self _) (by omega) _ _ hH ls (lv_sub hl [2, 1, 0] rfl)
  · skip
    refine lv_aload_n hx hb dX2_keepsMind_9 rfl (lv_at hl 0 rfl) ?_
    refine lv_aload_n hx hb dX2_keepsMind_10 rfl (lv_at hl 0 rfl) ?_
    refine z_get (v := .int (nI (M 0 12))) hx hb hts hown hX kX2 12 (by decide) (hH.at 0 rfl) rfl q2022 (fun _ h9 => h9) dX2_keepsMind_11 ?_
    refine lv_iconst (v := nI 1) hx hb dX2_keepsMind_14 (by decide) ?_
    refine lv_iadd hx hb dX2_keepsMind_15 ?_
    refine z_topi (y := nI (M 0 12 + 1)) (nI_add _ _) ?_
    refine lv_bipush (v := nI 8) hx hb dX2_keepsMind_16 (by decide) ?_
    refine lv_irem hx hb dX2_keepsMind_18 (by decide) ?_
    refine z_topi (y := nI ((M 0 12 + 1) % 8)) (pk_rem (by omega) (by omega) (by omega)) ?_
    refine z_put hx hb hts hown hX kX2 12 (by decide) hH 0 rfl q2022 (fun _ h9 => h9) rfl rfl rfl (Nat.le_of_ble_eq_true rfl) dX2_keepsMind_19 (fun H locs hH => ?_)
    have hH : zH G A s.heap (mW dA q (mu M 0 12 ((M 0 12 + 1) % 8))) H locs := hH
    refine lv_aload_n hx hb dX2_keepsMind_22 rfl (lv_at hl 0 rfl) ?_
    refine lv_dup hx hb dX2_keepsMind_23 rfl ?_
    refine z_get (v := .int (nI (M 0 11))) hx hb hts hown hX kX2 11 (by decide) (hH.at 0 rfl) rfl q2021 (fun _ h9 => h9) dX2_keepsMind_24 ?_
    refine lv_iconst (v := nI 1) hx hb dX2_keepsMind_27 (by decide) ?_
    refine lv_isub hx hb dX2_keepsMind_28 ?_
    refine z_topi (y := nI ((M 0 11) - 1)) (pk_sub (by omega)) ?_
    refine z_put hx hb hts hown hX kX2 11 (by decide) hH 0 rfl q2021 (fun _ h9 => h9) rfl rfl rfl (Nat.le_of_ble_eq_true rfl) dX2_keepsMind_29 (fun H locs hH => ?_)
    have hH : zH G A s.heap (mW dA q (mu (mu M 0 12 ((M 0 12 + 1) % 8)) 0 11 ((M 0 11) - 1))) H locs := hH
    refine lv_aload_n hx hb dX2_keepsMind_32 rfl (lv_at hl 0 rfl) ?_
    refine z_get (v := .int (nI ((M 0 12 + 1) % 8))) hx hb hts hown hX kX2 12 (by decide) (hH.at 0 rfl) rfl q2022 (fun _ h9 => h9) dX2_keepsMind_33 ?_
    refine lv_aload_n hx hb dX2_keepsMind_36 rfl (lv_at hl 0 rfl) ?_
    refine z_get (v := .int (nI ((M 0 11) - 1))) hx hb hts hown hX kX2 11 (by decide) (hH.at 0 rfl) rfl q2021 (fun _ h9 => h9) dX2_keepsMind_37 ?_
    refine lv_iadd hx hb dX2_keepsMind_40 ?_
    refine z_topi (y := nI (((M 0 12 + 1) % 8) + ((M 0 11) - 1))) (nI_add _ _) ?_
    refine lv_bipush (v := nI 8) hx hb dX2_keepsMind_41 (by decide) ?_
    refine lv_irem hx hb dX2_keepsMind_43 (by decide) ?_
    refine z_topi (y := nI ((((M 0 12 + 1) % 8) + ((M 0 11) - 1)) % 8)) (pk_rem (by omega) (by omega) (by omega)) ?_
    refine lv_istore_n (lv' := [(1, .int (nI ((((M 0 12 + 1) % 8) + ((M 0 11) - 1)) % 8))), (0, .ref (q 0))]) hx hb dX2_keepsMind_44 rfl hl (by decide) rfl (fun ls hl => ?_)
    refine lv_iconst (v := nI 0) hx hb dX2_keepsMind_45 (by decide) ?_
    refine lv_istore_n (lv' := [(2, .int (nI 0)), (1, .int (nI ((((M 0 12 + 1) % 8) + ((M 0 11) - 1)) % 8))), (0, .ref (q 0))]) hx hb dX2_keepsMind_46 rfl hl (by decide) rfl (fun ls hl => ?_)
    have LP47_3 : ∀ (fuel : Nat) (i : Nat) (hfu : (274 - i) < fuel) (hi : i ≤ 274) (H : Heap) (locs : List Loc), zH G A s.heap (mW dA q (ms (mu (mu M 0 12 ((M 0 12 + 1) % 8)) 0 11 ((M 0 11) - 1)) 2 (cpo ((mu (mu M 0 12 ((M 0 12 + 1) % 8)) 0 11 ((M 0 11) - 1)) 2) (274 * ((((M 0 12 + 1) % 8) + ((M 0 11) - 1)) % 8)) ((mu (mu M 0 12 ((M 0 12 + 1) % 8)) 0 11 ((M 0 11) - 1)) 4) i))) H locs → ∀ (ls : Array Slot), lv_has ls 3 [(0, .ref (q 0)), (1, .int (nI ((((M 0 12 + 1) % 8) + ((M 0 11) - 1)) % 8))), (2, .int (nI i))] → W p l e (headSpec (ws_ yX2_keepsMind cX2_keepsMind 3 (none)) ({ frames := 0, cells := 0, slots := 0, locals := 0 })).room s m ([.ref (q 0)] : List Value).toArray below meth c H locs 0 0 (MQ below (zQv G (fun (u : Unit) => True) (fun (u : Unit) => mW dA q (mKeep M)) (fun (u : Unit) (H : Heap) => True) A) ([.ref (q 0)] : List Value).toArray s 0 0 A) (F0 m 47 ls []) := by
      intro fuel
      induction fuel with
      | zero => intro i hfu; exact absurd hfu (Nat.not_lt_zero _)
      | succ fuel ih =>
        intro i hfu hi H locs hH ls hl
        refine lv_iload_n hx hb dX2_keepsMind_47 rfl (lv_at hl 2 rfl) ?_
        refine lv_sipush (v := nI 274) hx hb dX2_keepsMind_48 (by decide) ?_
        refine z_icmp_ge (tgt := 78) hx hb dX2_keepsMind_51 (by decide) (by omega) (by omega) (fun c_51_5 => ?_) (fun c_51_5 => ?_)
        · skip
          have dc_51_5 := Nat.not_lt.mp c_51_5
          refine lv_aload_n hx hb dX2_keepsMind_78 rfl (lv_at hl 0 rfl) ?_
          refine lv_dup hx hb dX2_keepsMind_79 rfl ?_
          refine z_get (v := .int (nI ((mu (mu M 0 12 ((M 0 12 + 1) % 8)) 0 11 ((M 0 11) - 1)) 0 11))) hx hb hts hown hX kX2 11 (by decide) (hH.at 0 rfl) rfl q2021 (fun _ h9 => h9) dX2_keepsMind_80 ?_
          refine lv_iconst (v := nI 1) hx hb dX2_keepsMind_83 (by decide) ?_
          refine lv_iadd hx hb dX2_keepsMind_84 ?_
          refine z_topi (y := nI ((mu (mu M 0 12 ((M 0 12 + 1) % 8)) 0 11 ((M 0 11) - 1)) 0 11 + 1)) (nI_add _ _) ?_
          refine z_put hx hb hts hown hX kX2 11 (by decide) hH 0 rfl q2021 (fun _ h9 => h9) rfl rfl rfl (Nat.le_of_ble_eq_true rfl) dX2_keepsMind_85 (fun H locs hH => ?_)
          have hH : zH G A s.heap (mW dA q (mu (ms (mu (mu M 0 12 ((M 0 12 + 1) % 8)) 0 11 ((M 0 11) - 1)) 2 (cpo ((mu (mu M 0 12 ((M 0 12 + 1) % 8)) 0 11 ((M 0 11) - 1)) 2) (274 * ((((M 0 12 + 1) % 8) + ((M 0 11) - 1)) % 8)) ((mu (mu M 0 12 ((M 0 12 + 1) % 8)) 0 11 ((M 0 11) - 1)) 4) i)) 0 11 ((mu (mu M 0 12 ((M 0 12 + 1) % 8)) 0 11 ((M 0 11) - 1)) 0 11 + 1))) H locs := hH
          have eM : mu (ms (mu (mu M 0 12 ((M 0 12 + 1) % 8)) 0 11 ((M 0 11) - 1)) 2 (cpo ((mu (mu M 0 12 ((M 0 12 + 1) % 8)) 0 11 ((M 0 11) - 1)) 2) (274 * ((((M 0 12 + 1) % 8) + ((M 0 11) - 1)) % 8)) ((mu (mu M 0 12 ((M 0 12 + 1) % 8)) 0 11 ((M 0 11) - 1)) 4) i)) 0 11 ((mu (mu M 0 12 ((M 0 12 + 1) % 8)) 0 11 ((M 0 11) - 1)) 0 11 + 1) = mKeep M := by have e : i = 274 := (by omega); subst e; first | (rw [mKeep, if_pos c_6_1]; rfl) | (rw [mKeep, if_neg c_6_1]; rfl)
          rw [eM] at hH
          exact z_vret hx hb hr hlocks hH (u := ()) trivial ⟨hH.1, hH.2.1⟩ trivial (Nat.le_of_ble_eq_true rfl) (Nat.le_of_ble_eq_true rfl) dX2_keepsMind_88
        · skip
          refine lv_aload_n hx hb dX2_keepsMind_54 rfl (lv_at hl 0 rfl) ?_
          refine z_get (v := .ref (q 2)) hx hb hts hown hX kX2 7 (by decide) (hH.at 0 rfl) rfl q2017 (fun _ h9 => h9) dX2_keepsMind_55 ?_
          refine lv_sipush (v := nI 274) hx hb dX2_keepsMind_58 (by decide) ?_
          refine lv_iload_n hx hb dX2_keepsMind_61 rfl (lv_at hl 1 rfl) ?_
          refine lv_imul hx hb dX2_keepsMind_62 ?_
          refine z_topi (y := nI (274 * ((((M 0 12 + 1) % 8) + ((M 0 11) - 1)) % 8))) (pk_mul _ _) ?_
          refine lv_iload_n hx hb dX2_keepsMind_63 rfl (lv_at hl 2 rfl) ?_
          refine lv_iadd hx hb dX2_keepsMind_64 ?_
          refine z_topi (y := nI ((274 * ((((M 0 12 + 1) % 8) + ((M 0 11) - 1)) % 8)) + i)) (nI_add _ _) ?_
          refine lv_aload_n hx hb dX2_keepsMind_65 rfl (lv_at hl 0 rfl) ?_
          refine z_get (v := .ref (q 4)) hx hb hts hown hX kX2 9 (by decide) (hH.at 0 rfl) rfl q2019 (fun _ h9 => h9) dX2_keepsMind_66 ?_
          refine lv_iload_n hx hb dX2_keepsMind_69 rfl (lv_at hl 2 rfl) ?_
          refine z_iald (x := nI ((mu (mu M 0 12 ((M 0 12 + 1) % 8)) 0 11 ((M 0 11) - 1)) 4 i)) hx hb hX (k := i)  (hH.at 4 rfl) rfl (by omega) (by omega) rfl dX2_keepsMind_70 ?_
          refine z_iastN hx hb hX (k := ((274 * ((((M 0 12 + 1) % 8) + ((M 0 11) - 1)) % 8)) + i)) hH 2 rfl rfl (by omega) (by omega) dX2_keepsMind_71 (fun H locs hH => ?_)
          have hH : zH G A s.heap (mW dA q (mu (ms (mu (mu M 0 12 ((M 0 12 + 1) % 8)) 0 11 ((M 0 11) - 1)) 2 (cpo ((mu (mu M 0 12 ((M 0 12 + 1) % 8)) 0 11 ((M 0 11) - 1)) 2) (274 * ((((M 0 12 + 1) % 8) + ((M 0 11) - 1)) % 8)) ((mu (mu M 0 12 ((M 0 12 + 1) % 8)) 0 11 ((M 0 11) - 1)) 4) i)) 2 ((274 * ((((M 0 12 + 1) % 8) + ((M 0 11) - 1)) % 8)) + i) ((mu (mu M 0 12 ((M 0 12 + 1) % 8)) 0 11 ((M 0 11) - 1)) 4 i))) H locs := hH
          refine lv_iinc (v := nI (i + 1)) (lv' := [(2, .int (nI (i + 1))), (0, .ref (q 0)), (1, .int (nI ((((M 0 12 + 1) % 8) + ((M 0 11) - 1)) % 8)))]) hx hb dX2_keepsMind_72 hl (k := 2) rfl (nI_1 _) (by decide) rfl (fun ls hl => ?_)
          refine lv_goto (tgt := 47) hx hb dX2_keepsMind_75 (by decide) ?_
          have eL : mu (ms (mu (mu M 0 12 ((M 0 12 + 1) % 8)) 0 11 ((M 0 11) - 1)) 2 (cpo ((mu (mu M 0 12 ((M 0 12 + 1) % 8)) 0 11 ((M 0 11) - 1)) 2) (274 * ((((M 0 12 + 1) % 8) + ((M 0 11) - 1)) % 8)) ((mu (mu M 0 12 ((M 0 12 + 1) % 8)) 0 11 ((M 0 11) - 1)) 4) i)) 2 ((274 * ((((M 0 12 + 1) % 8) + ((M 0 11) - 1)) % 8)) + i) ((mu (mu M 0 12 ((M 0 12 + 1) % 8)) 0 11 ((M 0 11) - 1)) 4 i) = ms (mu (mu M 0 12 ((M 0 12 + 1) % 8)) 0 11 ((M 0 11) - 1)) 2 (cpo ((mu (mu M 0 12 ((M 0 12 + 1) % 8)) 0 11 ((M 0 11) - 1)) 2) (274 * ((((M 0 12 + 1) % 8) + ((M 0 11) - 1)) % 8)) ((mu (mu M 0 12 ((M 0 12 + 1) % 8)) 0 11 ((M 0 11) - 1)) 4) (i + 1)) := by exact cpo_step (mu (mu M 0 12 ((M 0 12 + 1) % 8)) 0 11 ((M 0 11) - 1)) _ i (by decide)
          rw [eL] at hH
          exact ih (i + 1) (by omega) (by omega) _ _ hH ls (lv_sub hl [1, 2, 0] rfl)
    have eL : mu (mu M 0 12 ((M 0 12 + 1) % 8)) 0 11 ((M 0 11) - 1) = ms (mu (mu M 0 12 ((M 0 12 + 1) % 8)) 0 11 ((M 0 11) - 1)) 2 (cpo ((mu (mu M 0 12 ((M 0 12 + 1) % 8)) 0 11 ((M 0 11) - 1)) 2) (274 * ((((M 0 12 + 1) % 8) + ((M 0 11) - 1)) % 8)) ((mu (mu M 0 12 ((M 0 12 + 1) % 8)) 0 11 ((M 0 11) - 1)) 4) 0) := by exact ms_o _ 2 _
    rw [eL] at hH
    exact LP47_3 ((274 - 0) + 1) 0 (Nat.lt_succ_self _) (by omega) _ _ hH ls (lv_sub hl [2, 1, 0] rfl)

set_option maxHeartbeats 4000000 in
set_option maxRecDepth 100000 in
theorem metX2_remembers (l : Launch) (G : va_G) (dA : Nat → ClassId) (dS : Nat → Nat) (B0 sz : Nat) (q : Nat → Nat) (M : mS) (hch : M 0 11 ≤ 8) (hfc : M 0 12 < 8) : Met l yX2_remembers (ws_ yX2_remembers cX2_remembers 1 (none)) ({ frames := 1, cells := 0, slots := 0, locals := 22 }) (zP G dA dS B0 [.ref (q 0)] sz (mW dA q M) (fun H => True)) (zQv G (fun (u : Unit) => True) (fun (u : Unit) => mW dA q (mKeep (mCp M 4 1))) (fun (u : Unit) (H : Heap) => True) (va_A (mW dA q M) sz)) 0 0 (va_A (mW dA q M) sz) := by
  refine zM (by decide) (Nat.le_of_ble_eq_true rfl) ?_
  intro p e s m below meth c ls A H locs hHe hx hb hr hlocks hml hown hname hts hX hsz hB hAe hA hAB hH hRo hl
  have hl : lv_has ls 1 [(0, .ref (q 0))] := hl
  refine lv_aload_n hx hb dX2_remembers_0 rfl (lv_at hl 0 rfl) ?_
  refine z_cv (wr := []) (va_runV (As := []) (rest := []) ⟨hx, hb, hml, hown, hts⟩ (metX2_thinks l G dA dS B0 H.size q M) (cwV 0 hts (lw_V q2123 q2125 qs36 q91 q2126) rfl rfl rfl (by decide +kernel) ⟨Nat.le_of_ble_eq_true rfl, Nat.le_of_ble_eq_true rfl⟩) (zPV hX hH hB hAB (z_recv hX kX2 (hH.at 0 rfl)) [0, 1, 2, 3, 4, 5, 6, 7, 8] rfl rfl trivial) rfl rfl hl.1 rfl (lv_room (Nat.le_of_ble_eq_true rfl)) dX2_remembers_1 ⟨(Nat.le_of_ble_eq_true rfl), (Nat.le_of_ble_eq_true rfl)⟩) hH hA [0, 1, 2, 3, 4, 5, 6, 7, 8] [] rfl rfl (by decide) (by decide) (fun u_r_1 H locs hw_r_1 hH hR_r_1 hk_r_1 => ?_)
  have hH : zH G A s.heap (mW dA q (mCp M 4 1)) H locs := hH
  refine lv_aload_n hx hb dX2_remembers_4 rfl (lv_at hl 0 rfl) ?_
  refine z_cv (wr := []) (va_runV (As := []) (rest := []) ⟨hx, hb, hml, hown, hts⟩ (metX2_keepsMind l G dA dS B0 H.size q (mCp M 4 1) (by first | exact hch | assumption | omega) (by first | exact hfc | assumption | omega)) (cwV 0 hts (lw_V q2127 q2129 qs37 q91 q2130) rfl rfl rfl (by decide +kernel) ⟨Nat.le_of_ble_eq_true rfl, Nat.le_of_ble_eq_true rfl⟩) (zPV hX hH hB hAB (z_recv hX kX2 (hH.at 0 rfl)) [0, 1, 2, 3, 4, 5, 6, 7, 8] rfl rfl trivial) rfl rfl hl.1 rfl (lv_room (Nat.le_of_ble_eq_true rfl)) dX2_remembers_5 ⟨(Nat.le_of_ble_eq_true rfl), (Nat.le_of_ble_eq_true rfl)⟩) hH hA [0, 1, 2, 3, 4, 5, 6, 7, 8] [] rfl rfl (by decide) (by decide) (fun u_r_2 H locs hw_r_2 hH hR_r_2 hk_r_2 => ?_)
  have hH : zH G A s.heap (mW dA q (mKeep (mCp M 4 1))) H locs := hH
  exact z_vret hx hb hr hlocks hH (u := ()) trivial ⟨hH.1, hH.2.1⟩ trivial (Nat.le_of_ble_eq_true rfl) (Nat.le_of_ble_eq_true rfl) dX2_remembers_8

set_option maxHeartbeats 4000000 in
set_option maxRecDepth 100000 in
theorem metX2_comes (l : Launch) (G : va_G) (dA : Nat → ClassId) (dS : Nat → Nat) (B0 sz : Nat) (q : Nat → Nat) (M : mS) (a : Nat) (b : Nat) (c9 : Nat) (d9 : Nat) (hbw : ∀ k, k ≠ 12 → k ≠ 13 → M 1 k < 2 ^ 31) (h11 : M 1 0 ≤ 11) : Met l yX2_comes (ws_ yX2_comes cX2_comes 6 (some FieldType.int)) ({ frames := 0, cells := 0, slots := 0, locals := 0 }) (zP G dA dS B0 [.ref (q 0), .int (nI a), .int (nI b), .int (nI c9), .int (nI d9)] sz (mW dA q M) (fun H => True)) (zQi G (fun (r : Int32) (u : Unit) => r = nI (M 1 0)) (fun (u : Unit) => mW dA q (mComes M a b c9 d9)) (fun (u : Unit) (H : Heap) => True) (va_A (mW dA q M) sz)) 0 0 (va_A (mW dA q M) sz) := by
  refine zM (by decide) (Nat.le_of_ble_eq_true rfl) ?_
  intro p e s m below meth c ls A H locs hHe hx hb hr hlocks hml hown hname hts hX hsz hB hAe hA hAB hH hRo hl
  have hl : lv_has ls 6 [(0, .ref (q 0)), (1, .int (nI a)), (2, .int (nI b)), (3, .int (nI c9)), (4, .int (nI d9))] := hl
  refine lv_bipush (v := nI 22) hx hb dX2_comes_0 (by decide) ?_
  refine lv_iconst (v := nI 5) hx hb dX2_comes_2 (by decide) ?_
  refine lv_aload_n hx hb dX2_comes_3 rfl (lv_at hl 0 rfl) ?_
  refine z_get (v := .ref (q 1)) hx hb hts hown hX kX2 6 (by decide) (hH.at 0 rfl) rfl q2016 (fun _ h9 => h9) dX2_comes_4 ?_
  refine lv_iconst (v := nI 0) hx hb dX2_comes_7 (by decide) ?_
  refine z_iald (x := nI (M 1 0)) hx hb hX (k := 0)  (hH.at 1 rfl) rfl (by omega) (by omega) rfl dX2_comes_8 ?_
  have hbd_1 := hbw 0 (by omega) (by omega)
  refine lv_imul hx hb dX2_comes_9 ?_
  refine z_topi (y := nI (5 * (M 1 0))) (pk_mul _ _) ?_
  refine lv_iadd hx hb dX2_comes_10 ?_
  refine z_topi (y := nI (22 + (5 * (M 1 0)))) (nI_add _ _) ?_
  refine lv_istore (lv' := [(5, .int (nI (22 + (5 * (M 1 0))))), (0, .ref (q 0)), (1, .int (nI a)), (2, .int (nI b)), (3, .int (nI c9)), (4, .int (nI d9))]) hx hb dX2_comes_11 hl (by decide) rfl (fun ls hl => ?_)
  refine lv_aload_n hx hb dX2_comes_13 rfl (lv_at hl 1 rfl) ?_
  refine z_get (v := .ref (q 1)) hx hb hts hown hX kX2 6 (by decide) (hH.at 0 rfl) rfl q2016 (fun _ h9 => h9) dX2_comes_14 ?_
  refine lv_iload hx hb dX2_comes_17 (lv_at hl 0 rfl) ?_
  refine lv_iconst (v := nI 0) hx hb dX2_comes_19 (by decide) ?_
  refine lv_iadd hx hb dX2_comes_20 ?_
  refine z_topi (y := nI (22 + (5 * (M 1 0)))) (nI_add _ _) ?_
  refine lv_iload_n hx hb dX2_comes_21 rfl (lv_at hl 2 rfl) ?_
  refine z_iastN hx hb hX (k := (22 + (5 * (M 1 0)))) hH 1 rfl rfl (by omega) (by omega) dX2_comes_22 (fun H locs hH => ?_)
  have hH : zH G A s.heap (mW dA q (mu M 1 (22 + (5 * (M 1 0))) a)) H locs := hH
  refine lv_aload_n hx hb dX2_comes_23 rfl (lv_at hl 1 rfl) ?_
  refine z_get (v := .ref (q 1)) hx hb hts hown hX kX2 6 (by decide) (hH.at 0 rfl) rfl q2016 (fun _ h9 => h9) dX2_comes_24 ?_
  refine lv_iload hx hb dX2_comes_27 (lv_at hl 0 rfl) ?_
  refine lv_iconst (v := nI 1) hx hb dX2_comes_29 (by decide) ?_
  refine lv_iadd hx hb dX2_comes_30 ?_
  refine z_topi (y := nI ((22 + (5 * (M 1 0))) + 1)) (nI_add _ _) ?_
  refine lv_iload_n hx hb dX2_comes_31 rfl (lv_at hl 3 rfl) ?_
  refine z_iastN hx hb hX (k := ((22 + (5 * (M 1 0))) + 1)) hH 1 rfl rfl (by omega) (by omega) dX2_comes_32 (fun H locs hH => ?_)
  have hH : zH G A s.heap (mW dA q (mu (mu M 1 (22 + (5 * (M 1 0))) a) 1 ((22 + (5 * (M 1 0))) + 1) b)) H locs := hH
  refine lv_aload_n hx hb dX2_comes_33 rfl (lv_at hl 1 rfl) ?_
  refine z_get (v := .ref (q 1)) hx hb hts hown hX kX2 6 (by decide) (hH.at 0 rfl) rfl q2016 (fun _ h9 => h9) dX2_comes_34 ?_
  refine lv_iload hx hb dX2_comes_37 (lv_at hl 0 rfl) ?_
  refine lv_iconst (v := nI 2) hx hb dX2_comes_39 (by decide) ?_
  refine lv_iadd hx hb dX2_comes_40 ?_
  refine z_topi (y := nI ((22 + (5 * (M 1 0))) + 2)) (nI_add _ _) ?_
  refine lv_iload_n hx hb dX2_comes_41 rfl (lv_at hl 4 rfl) ?_
  refine z_iastN hx hb hX (k := ((22 + (5 * (M 1 0))) + 2)) hH 1 rfl rfl (by omega) (by omega) dX2_comes_42 (fun H locs hH => ?_)
  have hH : zH G A s.heap (mW dA q (mu (mu (mu M 1 (22 + (5 * (M 1 0))) a) 1 ((22 + (5 * (M 1 0))) + 1) b) 1 ((22 + (5 * (M 1 0))) + 2) c9)) H locs := hH
  refine lv_aload_n hx hb dX2_comes_43 rfl (lv_at hl 1 rfl) ?_
  refine z_get (v := .ref (q 1)) hx hb hts hown hX kX2 6 (by decide) (hH.at 0 rfl) rfl q2016 (fun _ h9 => h9) dX2_comes_44 ?_
  refine lv_iload hx hb dX2_comes_47 (lv_at hl 0 rfl) ?_
  refine lv_iconst (v := nI 3) hx hb dX2_comes_49 (by decide) ?_
  refine lv_iadd hx hb dX2_comes_50 ?_
  refine z_topi (y := nI ((22 + (5 * (M 1 0))) + 3)) (nI_add _ _) ?_
  refine lv_iload hx hb dX2_comes_51 (lv_at hl 5 rfl) ?_
  refine z_iastN hx hb hX (k := ((22 + (5 * (M 1 0))) + 3)) hH 1 rfl rfl (by omega) (by omega) dX2_comes_53 (fun H locs hH => ?_)
  have hH : zH G A s.heap (mW dA q (mu (mu (mu (mu M 1 (22 + (5 * (M 1 0))) a) 1 ((22 + (5 * (M 1 0))) + 1) b) 1 ((22 + (5 * (M 1 0))) + 2) c9) 1 ((22 + (5 * (M 1 0))) + 3) d9)) H locs := hH
  refine lv_aload_n hx hb dX2_comes_54 rfl (lv_at hl 1 rfl) ?_
  refine z_get (v := .ref (q 1)) hx hb hts hown hX kX2 6 (by decide) (hH.at 0 rfl) rfl q2016 (fun _ h9 => h9) dX2_comes_55 ?_
  refine lv_iload hx hb dX2_comes_58 (lv_at hl 0 rfl) ?_
  refine lv_iconst (v := nI 4) hx hb dX2_comes_60 (by decide) ?_
  refine lv_iadd hx hb dX2_comes_61 ?_
  refine z_topi (y := nI ((22 + (5 * (M 1 0))) + 4)) (nI_add _ _) ?_
  refine lv_iconst (v := nI 0) hx hb dX2_comes_62 (by decide) ?_
  refine z_iastN hx hb hX (k := ((22 + (5 * (M 1 0))) + 4)) hH 1 rfl rfl (by omega) (by omega) dX2_comes_63 (fun H locs hH => ?_)
  have hH : zH G A s.heap (mW dA q (mu (mu (mu (mu (mu M 1 (22 + (5 * (M 1 0))) a) 1 ((22 + (5 * (M 1 0))) + 1) b) 1 ((22 + (5 * (M 1 0))) + 2) c9) 1 ((22 + (5 * (M 1 0))) + 3) d9) 1 ((22 + (5 * (M 1 0))) + 4) 0)) H locs := hH
  refine lv_aload_n hx hb dX2_comes_64 rfl (lv_at hl 1 rfl) ?_
  refine z_get (v := .ref (q 1)) hx hb hts hown hX kX2 6 (by decide) (hH.at 0 rfl) rfl q2016 (fun _ h9 => h9) dX2_comes_65 ?_
  refine lv_bipush (v := nI 7) hx hb dX2_comes_68 (by decide) ?_
  refine lv_dup2_11 hx hb dX2_comes_70 rfl rfl ?_
  refine z_iald (x := nI (M 1 7)) hx hb hX (k := 7)  (hH.at 1 rfl) rfl (by omega) (by omega) (by simp only [nA, mu_s, uP]; repeat (rw [if_neg (by omega)])) dX2_comes_71 ?_
  have hbd_2 := hbw 7 (by omega) (by omega)
  refine lv_iconst (v := nI 1) hx hb dX2_comes_72 (by decide) ?_
  refine lv_iadd hx hb dX2_comes_73 ?_
  refine z_topi (y := nI (M 1 7 + 1)) (nI_add _ _) ?_
  refine z_iastN hx hb hX (k := 7) hH 1 rfl rfl (by omega) (by omega) dX2_comes_74 (fun H locs hH => ?_)
  have hH : zH G A s.heap (mW dA q (mu (mu (mu (mu (mu (mu M 1 (22 + (5 * (M 1 0))) a) 1 ((22 + (5 * (M 1 0))) + 1) b) 1 ((22 + (5 * (M 1 0))) + 2) c9) 1 ((22 + (5 * (M 1 0))) + 3) d9) 1 ((22 + (5 * (M 1 0))) + 4) 0) 1 7 (M 1 7 + 1))) H locs := hH
  refine lv_aload_n hx hb dX2_comes_75 rfl (lv_at hl 1 rfl) ?_
  refine z_get (v := .ref (q 1)) hx hb hts hown hX kX2 6 (by decide) (hH.at 0 rfl) rfl q2016 (fun _ h9 => h9) dX2_comes_76 ?_
  refine lv_iconst (v := nI 0) hx hb dX2_comes_79 (by decide) ?_
  refine lv_dup2_11 hx hb dX2_comes_80 rfl rfl ?_
  refine z_iald (x := nI (M 1 0)) hx hb hX (k := 0)  (hH.at 1 rfl) rfl (by omega) (by omega) (by simp only [nA, mu_s, uP]; repeat (rw [if_neg (by omega)])) dX2_comes_81 ?_
  have hbd_3 := hbw 0 (by omega) (by omega)
  refine lv_iconst (v := nI 1) hx hb dX2_comes_82 (by decide) ?_
  refine lv_iadd hx hb dX2_comes_83 ?_
  refine z_topi (y := nI (M 1 0 + 1)) (nI_add _ _) ?_
  refine z_iastN hx hb hX (k := 0) hH 1 rfl rfl (by omega) (by omega) dX2_comes_84 (fun H locs hH => ?_)
  have hH : zH G A s.heap (mW dA q (mu (mu (mu (mu (mu (mu (mu M 1 (22 + (5 * (M 1 0))) a) 1 ((22 + (5 * (M 1 0))) + 1) b) 1 ((22 + (5 * (M 1 0))) + 2) c9) 1 ((22 + (5 * (M 1 0))) + 3) d9) 1 ((22 + (5 * (M 1 0))) + 4) 0) 1 7 (M 1 7 + 1)) 1 0 (M 1 0 + 1))) H locs := hH
  refine lv_aload_n hx hb dX2_comes_85 rfl (lv_at hl 1 rfl) ?_
  refine z_get (v := .ref (q 1)) hx hb hts hown hX kX2 6 (by decide) (hH.at 0 rfl) rfl q2016 (fun _ h9 => h9) dX2_comes_86 ?_
  refine lv_iconst (v := nI 0) hx hb dX2_comes_89 (by decide) ?_
  refine z_iald (x := nI (M 1 0 + 1)) hx hb hX (k := 0)  (hH.at 1 rfl) rfl (by omega) (by omega) rfl dX2_comes_90 ?_
  refine lv_iconst (v := nI 1) hx hb dX2_comes_91 (by decide) ?_
  refine lv_isub hx hb dX2_comes_92 ?_
  refine z_topi (y := nI ((M 1 0 + 1) - 1)) (pk_sub (by omega)) ?_
  exact z_iret hx hb hr hlocks hH (u := ()) (by rfl) ⟨hH.1, hH.2.1⟩ trivial (Nat.le_of_ble_eq_true rfl) (Nat.le_of_ble_eq_true rfl) dX2_comes_93

set_option maxHeartbeats 4000000 in
set_option maxRecDepth 100000 in
theorem metX2_notPrime (l : Launch) (G : va_G) (dA : Nat → ClassId) (dS : Nat → Nat) (B0 sz : Nat) (q : Nat → Nat) (M : mS) (a : Int32) (hbw : ∀ k, k ≠ 12 → k ≠ 13 → M 1 k < 2 ^ 31) (h12 : M 1 0 ≤ 12) : Met l yX2_notPrime (ws_ yX2_notPrime cX2_notPrime 2 (some FieldType.int)) ({ frames := 2, cells := 0, slots := 0, locals := 43 }) (zP G dA dS B0 [.ref (q 0), .int (a)] sz (mW dA q M) (fun H => True)) (zQi G (fun (r : Int32) (u : Unit) => r = (mNotPrime M a).1) (fun (u : Unit) => mW dA q ((mNotPrime M a).2)) (fun (u : Unit) (H : Heap) => True) (va_A (mW dA q M) sz)) 0 0 (va_A (mW dA q M) sz) := by
  refine zM (by decide) (Nat.le_of_ble_eq_true rfl) ?_
  intro p e s m below meth c ls A H locs hHe hx hb hr hlocks hml hown hname hts hX hsz hB hAe hA hAB hH hRo hl
  have hl : lv_has ls 2 [(0, .ref (q 0)), (1, .int (a))] := hl
  refine lv_aload_n hx hb dX2_notPrime_0 rfl (lv_at hl 0 rfl) ?_
  refine lv_iload_n hx hb dX2_notPrime_1 rfl (lv_at hl 1 rfl) ?_
  refine z_ci (wr := []) (va_runV (As := [.int (a)]) (rest := []) ⟨hx, hb, hml, hown, hts⟩ (metX2_isJoke l G dA dS B0 H.size q M a) (cwV 1 hts (lw_V q2143 q2145 qs40 q91 q2146) rfl rfl rfl (by decide +kernel) ⟨Nat.le_of_ble_eq_true rfl, Nat.le_of_ble_eq_true rfl⟩) (zPV hX hH hB hAB (z_recv hX kX2 (hH.at 0 rfl)) [0, 1, 2, 3, 4, 5, 6, 7, 8] rfl rfl trivial) rfl rfl hl.1 rfl (lv_room (Nat.le_of_ble_eq_true rfl)) dX2_notPrime_2 ⟨(Nat.le_of_ble_eq_true rfl), (Nat.le_of_ble_eq_true rfl)⟩) hH hA [0, 1, 2, 3, 4, 5, 6, 7, 8] [] rfl rfl (by decide) (by decide) (fun r_1 u_r_1 H locs hw_r_1 hH hR_r_1 hk_r_1 => ?_)
  obtain rfl := hw_r_1
  have hH : zH G A s.heap (mW dA q M) H locs := hH
  refine z_ifneB (b := inR a (nI 0) (nI (M 1 0) - nI 1)) (tgt := 10) hx hb dX2_notPrime_5 (by decide) (fun c_5_2 => ?_) (fun c_5_2 => ?_)
  · skip
    obtain ⟨k1, rfl, hjk1⟩ := isj_n h12 c_5_2
    refine lv_aload_n hx hb dX2_notPrime_10 rfl (lv_at hl 0 rfl) ?_
    refine lv_iload_n hx hb dX2_notPrime_11 rfl (lv_at hl 1 rfl) ?_
    refine lv_iconst (v := nI 4) hx hb dX2_notPrime_12 (by decide) ?_
    refine z_ci (wr := []) (va_runV (As := [.int (nI k1), .int (nI 4)]) (rest := []) ⟨hx, hb, hml, hown, hts⟩ (metX2_is l G dA dS B0 H.size q M k1 4 (by first | exact hk | assumption | omega) (by first | exact hj | assumption | omega)) (cwV 2 hts (lw_V q2103 q2105 qs31 q91 q2106) rfl rfl rfl (by decide +kernel) ⟨Nat.le_of_ble_eq_true rfl, Nat.le_of_ble_eq_true rfl⟩) (zPV hX hH hB hAB (z_recv hX kX2 (hH.at 0 rfl)) [0, 1, 2, 3, 4, 5, 6, 7, 8] rfl rfl trivial) rfl rfl hl.1 rfl (lv_room (Nat.le_of_ble_eq_true rfl)) dX2_notPrime_13 ⟨(Nat.le_of_ble_eq_true rfl), (Nat.le_of_ble_eq_true rfl)⟩) hH hA [0, 1, 2, 3, 4, 5, 6, 7, 8] [] rfl rfl (by decide) (by decide) (fun r_3 u_r_3 H locs hw_r_3 hH hR_r_3 hk_r_3 => ?_)
    obtain rfl := hw_r_3
    have hH : zH G A s.heap (mW dA q M) H locs := hH
    have hbd_4 : jk (M 1) k1 4 < 2 ^ 31 := hbw _ (by omega) (by omega)
    refine lv_iconst (v := nI 1) hx hb dX2_notPrime_16 (by decide) ?_
    refine z_icmp_ne (tgt := 27) hx hb dX2_notPrime_17 (by decide) (by omega) (by omega) (fun c_17_5 => ?_) (fun c_17_5 => ?_)
    · skip
      refine lv_aload_n hx hb dX2_notPrime_27 rfl (lv_at hl 0 rfl) ?_
      refine z_get (v := .ref (q 1)) hx hb hts hown hX kX2 6 (by decide) (hH.at 0 rfl) rfl q2016 (fun _ h9 => h9) dX2_notPrime_28 ?_
      refine lv_iconst (v := nI 5) hx hb dX2_notPrime_31 (by decide) ?_
      refine z_iald (x := nI (M 1 5)) hx hb hX (k := 5)  (hH.at 1 rfl) rfl (by omega) (by omega) rfl dX2_notPrime_32 ?_
      have hbd_6 := hbw 5 (by omega) (by omega)
      refine z_ifneN (tgt := 51) hx hb dX2_notPrime_33 (by decide) (by omega) (fun c_33_7 => ?_) (fun c_33_7 => ?_)
      · skip
        refine lv_iconst (v := nI 0) hx hb dX2_notPrime_51 (by decide) ?_
        have eM : M = (mNotPrime M (nI k1)).2 := by simp [mNotPrime, nI_clamp (show k1 < 2 ^ 31 by omega), c_5_2, c_17_5, c_33_7]
        rw [eM] at hH
        exact z_iret hx hb hr hlocks hH (u := ()) (by simp [mNotPrime, nI_clamp (show k1 < 2 ^ 31 by omega), c_5_2, c_17_5, c_33_7]) ⟨hH.1, hH.2.1⟩ trivial (Nat.le_of_ble_eq_true rfl) (Nat.le_of_ble_eq_true rfl) dX2_notPrime_52
      · skip
        refine lv_aload_n hx hb dX2_notPrime_36 rfl (lv_at hl 0 rfl) ?_
        refine lv_bipush (v := nI 6) hx hb dX2_notPrime_37 (by decide) ?_
        refine lv_aload_n hx hb dX2_notPrime_39 rfl (lv_at hl 0 rfl) ?_
        refine z_get (v := .ref (q 1)) hx hb hts hown hX kX2 6 (by decide) (hH.at 0 rfl) rfl q2016 (fun _ h9 => h9) dX2_notPrime_40 ?_
        refine lv_iconst (v := nI 4) hx hb dX2_notPrime_43 (by decide) ?_
        refine z_iald (x := nI (M 1 4)) hx hb hX (k := 4)  (hH.at 1 rfl) rfl (by omega) (by omega) rfl dX2_notPrime_44 ?_
        have hbd_8 := hbw 4 (by omega) (by omega)
        refine z_ci (wr := []) (va_runV (As := [.int (nI 6), .int (nI (M 1 4))]) (rest := []) ⟨hx, hb, hml, hown, hts⟩ (metX2_isNot l G dA dS B0 H.size q M 6 (M 1 4)) (cwV 2 hts (lw_V q2095 q2097 qs29 q91 q2098) rfl rfl rfl (by decide +kernel) ⟨Nat.le_of_ble_eq_true rfl, Nat.le_of_ble_eq_true rfl⟩) (zPV hX hH hB hAB (z_recv hX kX2 (hH.at 0 rfl)) [0, 1, 2, 3, 4, 5, 6, 7, 8] rfl rfl trivial) rfl rfl hl.1 rfl (lv_room (Nat.le_of_ble_eq_true rfl)) dX2_notPrime_45 ⟨(Nat.le_of_ble_eq_true rfl), (Nat.le_of_ble_eq_true rfl)⟩) hH hA [0, 1, 2, 3, 4, 5, 6, 7, 8] [] rfl rfl (by decide) (by decide) (fun r_9 u_r_9 H locs hw_r_9 hH hR_r_9 hk_r_9 => ?_)
        obtain rfl := hw_r_9
        have hH : zH G A s.heap (mW dA q (mNot M 6 (M 1 4))) H locs := hH
        refine lv_goto (tgt := 52) hx hb dX2_notPrime_48 (by decide) ?_
        have eM : mNot M 6 (M 1 4) = (mNotPrime M (nI k1)).2 := by simp [mNotPrime, nI_clamp (show k1 < 2 ^ 31 by omega), c_5_2, c_17_5, c_33_7]
        rw [eM] at hH
        exact z_iret hx hb hr hlocks hH (u := ()) (by simp [mNotPrime, nI_clamp (show k1 < 2 ^ 31 by omega), c_5_2, c_17_5, c_33_7]) ⟨hH.1, hH.2.1⟩ trivial (Nat.le_of_ble_eq_true rfl) (Nat.le_of_ble_eq_true rfl) dX2_notPrime_52
    · skip
      refine lv_aload_n hx hb dX2_notPrime_20 rfl (lv_at hl 0 rfl) ?_
      refine lv_iconst (v := nI 5) hx hb dX2_notPrime_21 (by decide) ?_
      refine lv_iload_n hx hb dX2_notPrime_22 rfl (lv_at hl 1 rfl) ?_
      refine z_ci (wr := []) (va_runV (As := [.int (nI 5), .int (nI k1)]) (rest := []) ⟨hx, hb, hml, hown, hts⟩ (metX2_isNot l G dA dS B0 H.size q M 5 k1) (cwV 2 hts (lw_V q2095 q2097 qs29 q91 q2098) rfl rfl rfl (by decide +kernel) ⟨Nat.le_of_ble_eq_true rfl, Nat.le_of_ble_eq_true rfl⟩) (zPV hX hH hB hAB (z_recv hX kX2 (hH.at 0 rfl)) [0, 1, 2, 3, 4, 5, 6, 7, 8] rfl rfl trivial) rfl rfl hl.1 rfl (lv_room (Nat.le_of_ble_eq_true rfl)) dX2_notPrime_23 ⟨(Nat.le_of_ble_eq_true rfl), (Nat.le_of_ble_eq_true rfl)⟩) hH hA [0, 1, 2, 3, 4, 5, 6, 7, 8] [] rfl rfl (by decide) (by decide) (fun r_10 u_r_10 H locs hw_r_10 hH hR_r_10 hk_r_10 => ?_)
      obtain rfl := hw_r_10
      have hH : zH G A s.heap (mW dA q (mNot M 5 k1)) H locs := hH
      have eM : mNot M 5 k1 = (mNotPrime M (nI k1)).2 := by simp [mNotPrime, nI_clamp (show k1 < 2 ^ 31 by omega), c_5_2, c_17_5]
      rw [eM] at hH
      exact z_iret hx hb hr hlocks hH (u := ()) (by simp [mNotPrime, nI_clamp (show k1 < 2 ^ 31 by omega), c_5_2, c_17_5]) ⟨hH.1, hH.2.1⟩ trivial (Nat.le_of_ble_eq_true rfl) (Nat.le_of_ble_eq_true rfl) dX2_notPrime_26
  · skip
    refine lv_iconst (v := (-1)) hx hb dX2_notPrime_8 (by decide) ?_
    have eM : M = (mNotPrime M a).2 := by simp [mNotPrime, c_5_2]
    rw [eM] at hH
    exact z_iret hx hb hr hlocks hH (u := ()) (by simp [mNotPrime, c_5_2]) ⟨hH.1, hH.2.1⟩ trivial (Nat.le_of_ble_eq_true rfl) (Nat.le_of_ble_eq_true rfl) dX2_notPrime_9

set_option maxHeartbeats 4000000 in
set_option maxRecDepth 100000 in
theorem metX2_primes (l : Launch) (G : va_G) (dA : Nat → ClassId) (dS : Nat → Nat) (B0 sz : Nat) (q : Nat → Nat) (M : mS) (j : Nat) (hj : j < 12) (hbw : ∀ k, k ≠ 12 → k ≠ 13 → M 1 k < 2 ^ 31) (hd1 : 1 ≤ M 1 5) : Met l yX2_primes (ws_ yX2_primes cX2_primes 2 (some FieldType.int)) ({ frames := 0, cells := 0, slots := 0, locals := 0 }) (zP G dA dS B0 [.ref (q 0), .int (nI j)] sz (mW dA q M) (fun H => True)) (zQi G (fun (r : Int32) (u : Unit) => r = nI (M 1 5 - 1)) (fun (u : Unit) => mW dA q (mu (mu M 1 (22 + 5 * j + 4) 1) 1 5 (M 1 5 - 1))) (fun (u : Unit) (H : Heap) => True) (va_A (mW dA q M) sz)) 0 0 (va_A (mW dA q M) sz) := by
  refine zM (by decide) (Nat.le_of_ble_eq_true rfl) ?_
  intro p e s m below meth c ls A H locs hHe hx hb hr hlocks hml hown hname hts hX hsz hB hAe hA hAB hH hRo hl
  have hl : lv_has ls 2 [(0, .ref (q 0)), (1, .int (nI j))] := hl
  refine lv_aload_n hx hb dX2_primes_0 rfl (lv_at hl 0 rfl) ?_
  refine z_get (v := .ref (q 1)) hx hb hts hown hX kX2 6 (by decide) (hH.at 0 rfl) rfl q2016 (fun _ h9 => h9) dX2_primes_1 ?_
  refine lv_bipush (v := nI 22) hx hb dX2_primes_4 (by decide) ?_
  refine lv_iconst (v := nI 5) hx hb dX2_primes_6 (by decide) ?_
  refine lv_iload_n hx hb dX2_primes_7 rfl (lv_at hl 1 rfl) ?_
  refine lv_imul hx hb dX2_primes_8 ?_
  refine z_topi (y := nI (5 * j)) (pk_mul _ _) ?_
  refine lv_iadd hx hb dX2_primes_9 ?_
  refine z_topi (y := nI (22 + (5 * j))) (nI_add _ _) ?_
  refine lv_iconst (v := nI 4) hx hb dX2_primes_10 (by decide) ?_
  refine lv_iadd hx hb dX2_primes_11 ?_
  refine z_topi (y := nI ((22 + (5 * j)) + 4)) (nI_add _ _) ?_
  refine lv_iconst (v := nI 1) hx hb dX2_primes_12 (by decide) ?_
  refine z_iastN hx hb hX (k := ((22 + (5 * j)) + 4)) hH 1 rfl rfl (by omega) (by omega) dX2_primes_13 (fun H locs hH => ?_)
  have hH : zH G A s.heap (mW dA q (mu M 1 ((22 + (5 * j)) + 4) 1)) H locs := hH
  refine lv_aload_n hx hb dX2_primes_14 rfl (lv_at hl 0 rfl) ?_
  refine z_get (v := .ref (q 1)) hx hb hts hown hX kX2 6 (by decide) (hH.at 0 rfl) rfl q2016 (fun _ h9 => h9) dX2_primes_15 ?_
  refine lv_iconst (v := nI 5) hx hb dX2_primes_18 (by decide) ?_
  refine lv_dup2_11 hx hb dX2_primes_19 rfl rfl ?_
  refine z_iald (x := nI (M 1 5)) hx hb hX (k := 5)  (hH.at 1 rfl) rfl (by omega) (by omega) (by simp only [nA, mu_s, uP]; repeat (rw [if_neg (by omega)])) dX2_primes_20 ?_
  have hbd_1 := hbw 5 (by omega) (by omega)
  refine lv_iconst (v := nI 1) hx hb dX2_primes_21 (by decide) ?_
  refine lv_isub hx hb dX2_primes_22 ?_
  refine z_topi (y := nI ((M 1 5) - 1)) (pk_sub (by omega)) ?_
  refine z_iastN hx hb hX (k := 5) hH 1 rfl rfl (by omega) (by omega) dX2_primes_23 (fun H locs hH => ?_)
  have hH : zH G A s.heap (mW dA q (mu (mu M 1 ((22 + (5 * j)) + 4) 1) 1 5 ((M 1 5) - 1))) H locs := hH
  refine lv_aload_n hx hb dX2_primes_24 rfl (lv_at hl 0 rfl) ?_
  refine z_get (v := .ref (q 1)) hx hb hts hown hX kX2 6 (by decide) (hH.at 0 rfl) rfl q2016 (fun _ h9 => h9) dX2_primes_25 ?_
  refine lv_iconst (v := nI 5) hx hb dX2_primes_28 (by decide) ?_
  refine z_iald (x := nI ((M 1 5) - 1)) hx hb hX (k := 5)  (hH.at 1 rfl) rfl (by omega) (by omega) rfl dX2_primes_29 ?_
  exact z_iret hx hb hr hlocks hH (u := ()) (by rfl) ⟨hH.1, hH.2.1⟩ trivial (Nat.le_of_ble_eq_true rfl) (Nat.le_of_ble_eq_true rfl) dX2_primes_30

set_option maxHeartbeats 4000000 in
set_option maxRecDepth 100000 in
theorem metX2_goes (l : Launch) (G : va_G) (dA : Nat → ClassId) (dS : Nat → Nat) (B0 sz : Nat) (q : Nat → Nat) (M : mS) (j : Nat) (hj : j < M 1 0) (hbw : ∀ k, k ≠ 12 → k ≠ 13 → M 1 k < 2 ^ 31) (h12 : M 1 0 ≤ 12) : Met l yX2_goes (ws_ yX2_goes cX2_goes 4 (none)) ({ frames := 0, cells := 0, slots := 0, locals := 0 }) (zP G dA dS B0 [.ref (q 0), .int (nI j)] sz (mW dA q M) (fun H => True)) (zQv G (fun (u : Unit) => True) (fun (u : Unit) => mW dA q (ms M 1 (gone (M 1) j))) (fun (u : Unit) (H : Heap) => True) (va_A (mW dA q M) sz)) 0 0 (va_A (mW dA q M) sz) := by
  refine zM (by decide) (Nat.le_of_ble_eq_true rfl) ?_
  intro p e s m below meth c ls A H locs hHe hx hb hr hlocks hml hown hname hts hX hsz hB hAe hA hAB hH hRo hl
  have hl : lv_has ls 4 [(0, .ref (q 0)), (1, .int (nI j))] := hl
  refine lv_aload_n hx hb dX2_goes_0 rfl (lv_at hl 0 rfl) ?_
  refine z_get (v := .ref (q 1)) hx hb hts hown hX kX2 6 (by decide) (hH.at 0 rfl) rfl q2016 (fun _ h9 => h9) dX2_goes_1 ?_
  refine lv_iconst (v := nI 0) hx hb dX2_goes_4 (by decide) ?_
  refine lv_dup2_11 hx hb dX2_goes_5 rfl rfl ?_
  refine z_iald (x := nI (M 1 0)) hx hb hX (k := 0)  (hH.at 1 rfl) rfl (by omega) (by omega) rfl dX2_goes_6 ?_
  have hbd_1 := hbw 0 (by omega) (by omega)
  refine lv_iconst (v := nI 1) hx hb dX2_goes_7 (by decide) ?_
  refine lv_isub hx hb dX2_goes_8 ?_
  refine z_topi (y := nI ((M 1 0) - 1)) (pk_sub (by omega)) ?_
  refine z_iastN hx hb hX (k := 0) hH 1 rfl rfl (by omega) (by omega) dX2_goes_9 (fun H locs hH => ?_)
  have hH : zH G A s.heap (mW dA q (mu M 1 0 ((M 1 0) - 1))) H locs := hH
  refine lv_bipush (v := nI 22) hx hb dX2_goes_10 (by decide) ?_
  refine lv_iconst (v := nI 5) hx hb dX2_goes_12 (by decide) ?_
  refine lv_aload_n hx hb dX2_goes_13 rfl (lv_at hl 0 rfl) ?_
  refine z_get (v := .ref (q 1)) hx hb hts hown hX kX2 6 (by decide) (hH.at 0 rfl) rfl q2016 (fun _ h9 => h9) dX2_goes_14 ?_
  refine lv_iconst (v := nI 0) hx hb dX2_goes_17 (by decide) ?_
  refine z_iald (x := nI ((M 1 0) - 1)) hx hb hX (k := 0)  (hH.at 1 rfl) rfl (by omega) (by omega) rfl dX2_goes_18 ?_
  refine lv_imul hx hb dX2_goes_19 ?_
  refine z_topi (y := nI (5 * ((M 1 0) - 1))) (pk_mul _ _) ?_
  refine lv_iadd hx hb dX2_goes_20 ?_
  refine z_topi (y := nI (22 + (5 * ((M 1 0) - 1)))) (nI_add _ _) ?_
  refine lv_istore_n (lv' := [(2, .int (nI (22 + (5 * ((M 1 0) - 1))))), (0, .ref (q 0)), (1, .int (nI j))]) hx hb dX2_goes_21 rfl hl (by decide) rfl (fun ls hl => ?_)
  refine lv_bipush (v := nI 22) hx hb dX2_goes_22 (by decide) ?_
  refine lv_iconst (v := nI 5) hx hb dX2_goes_24 (by decide) ?_
  refine lv_iload_n hx hb dX2_goes_25 rfl (lv_at hl 2 rfl) ?_
  refine lv_imul hx hb dX2_goes_26 ?_
  refine z_topi (y := nI (5 * j)) (pk_mul _ _) ?_
  refine lv_iadd hx hb dX2_goes_27 ?_
  refine z_topi (y := nI (22 + (5 * j))) (nI_add _ _) ?_
  refine lv_istore_n (lv' := [(3, .int (nI (22 + (5 * j)))), (2, .int (nI (22 + (5 * ((M 1 0) - 1))))), (0, .ref (q 0)), (1, .int (nI j))]) hx hb dX2_goes_28 rfl hl (by decide) rfl (fun ls hl => ?_)
  have LP29_1 : ∀ (fuel : Nat) (k : Nat) (hfu : (22 + 5 * (M 1 0 - 1) - k) < fuel) (hk : 22 + 5 * j ≤ k ∧ k ≤ 22 + 5 * (M 1 0 - 1)) (H : Heap) (locs : List Loc), zH G A s.heap (mW dA q (ms M 1 (go1 (M 1) j k))) H locs → ∀ (ls : Array Slot), lv_has ls 4 [(0, .ref (q 0)), (1, .int (nI j)), (2, .int (nI (22 + (5 * (M 1 0 - 1))))), (3, .int (nI k))] → W p l e (headSpec (ws_ yX2_goes cX2_goes 4 (none)) ({ frames := 0, cells := 0, slots := 0, locals := 0 })).room s m ([.ref (q 0), .int (nI j)] : List Value).toArray below meth c H locs 0 0 (MQ below (zQv G (fun (u : Unit) => True) (fun (u : Unit) => mW dA q (ms M 1 (gone (M 1) j))) (fun (u : Unit) (H : Heap) => True) A) ([.ref (q 0), .int (nI j)] : List Value).toArray s 0 0 A) (F0 m 29 ls []) := by
    intro fuel
    induction fuel with
    | zero => intro k hfu; exact absurd hfu (Nat.not_lt_zero _)
    | succ fuel ih =>
      intro k hfu hk H locs hH ls hl
      refine lv_iload_n hx hb dX2_goes_29 rfl (lv_at hl 3 rfl) ?_
      refine lv_iload_n hx hb dX2_goes_30 rfl (lv_at hl 2 rfl) ?_
      refine z_icmp_ge (tgt := 54) hx hb dX2_goes_31 (by decide) (by omega) (by omega) (fun c_31_3 => ?_) (fun c_31_3 => ?_)
      · skip
        have dc_31_3 := Nat.not_lt.mp c_31_3
        refine lv_iconst (v := nI 0) hx hb dX2_goes_54 (by decide) ?_
        refine lv_istore_n (lv' := [(3, .int (nI 0)), (0, .ref (q 0)), (1, .int (nI j)), (2, .int (nI (22 + (5 * (M 1 0 - 1)))))]) hx hb dX2_goes_55 rfl hl (by decide) rfl (fun ls hl => ?_)
        have LP56_3 : ∀ (fuel : Nat) (i : Nat) (hfu : (5 - i) < fuel) (hi : i ≤ 5) (H : Heap) (locs : List Loc), zH G A s.heap (mW dA q (ms M 1 (go2 (M 1) j i))) H locs → ∀ (ls : Array Slot), lv_has ls 4 [(0, .ref (q 0)), (1, .int (nI j)), (2, .int (nI (22 + (5 * (M 1 0 - 1))))), (3, .int (nI i))] → W p l e (headSpec (ws_ yX2_goes cX2_goes 4 (none)) ({ frames := 0, cells := 0, slots := 0, locals := 0 })).room s m ([.ref (q 0), .int (nI j)] : List Value).toArray below meth c H locs 0 0 (MQ below (zQv G (fun (u : Unit) => True) (fun (u : Unit) => mW dA q (ms M 1 (gone (M 1) j))) (fun (u : Unit) (H : Heap) => True) A) ([.ref (q 0), .int (nI j)] : List Value).toArray s 0 0 A) (F0 m 56 ls []) := by
          intro fuel
          induction fuel with
          | zero => intro i hfu; exact absurd hfu (Nat.not_lt_zero _)
          | succ fuel ih =>
            intro i hfu hi H locs hH ls hl
            refine lv_iload_n hx hb dX2_goes_56 rfl (lv_at hl 3 rfl) ?_
            refine lv_iconst (v := nI 5) hx hb dX2_goes_57 (by decide) ?_
            refine z_icmp_ge (tgt := 76) hx hb dX2_goes_58 (by decide) (by omega) (by omega) (fun c_58_5 => ?_) (fun c_58_5 => ?_)
            · skip
              have dc_58_5 := Nat.not_lt.mp c_58_5
              have eM : ms M 1 (go2 (M 1) j i) = ms M 1 (gone (M 1) j) := by (have e : i = 5 := (by omega)); subst e; rfl
              rw [eM] at hH
              exact z_vret hx hb hr hlocks hH (u := ()) trivial ⟨hH.1, hH.2.1⟩ trivial (Nat.le_of_ble_eq_true rfl) (Nat.le_of_ble_eq_true rfl) dX2_goes_76
            · skip
              refine lv_aload_n hx hb dX2_goes_61 rfl (lv_at hl 0 rfl) ?_
              refine z_get (v := .ref (q 1)) hx hb hts hown hX kX2 6 (by decide) (hH.at 0 rfl) rfl q2016 (fun _ h9 => h9) dX2_goes_62 ?_
              refine lv_iload_n hx hb dX2_goes_65 rfl (lv_at hl 2 rfl) ?_
              refine lv_iload_n hx hb dX2_goes_66 rfl (lv_at hl 3 rfl) ?_
              refine lv_iadd hx hb dX2_goes_67 ?_
              refine z_topi (y := nI ((22 + (5 * (M 1 0 - 1))) + i)) (nI_add _ _) ?_
              refine lv_iconst (v := nI 0) hx hb dX2_goes_68 (by decide) ?_
              refine z_iastN hx hb hX (k := ((22 + (5 * (M 1 0 - 1))) + i)) hH 1 rfl rfl (by omega) (by omega) dX2_goes_69 (fun H locs hH => ?_)
              have hH : zH G A s.heap (mW dA q (mu (ms M 1 (go2 (M 1) j i)) 1 ((22 + (5 * (M 1 0 - 1))) + i) 0)) H locs := hH
              refine lv_iinc (v := nI (i + 1)) (lv' := [(3, .int (nI (i + 1))), (0, .ref (q 0)), (1, .int (nI j)), (2, .int (nI (22 + (5 * (M 1 0 - 1)))))]) hx hb dX2_goes_70 hl (k := 3) rfl (nI_1 _) (by decide) rfl (fun ls hl => ?_)
              refine lv_goto (tgt := 56) hx hb dX2_goes_73 (by decide) ?_
              have eL : mu (ms M 1 (go2 (M 1) j i)) 1 ((22 + (5 * (M 1 0 - 1))) + i) 0 = ms M 1 (go2 (M 1) j (i + 1)) := by exact go2_s M j i
              rw [eL] at hH
              exact ih (i + 1) (by omega) (by omega) _ _ hH ls (lv_sub hl [1, 2, 3, 0] rfl)
        have eL : ms M 1 (go1 (M 1) j k) = ms M 1 (go2 (M 1) j 0) := by (have e : k = 22 + 5 * (M 1 0 - 1) := (by omega)); subst e; exact go2_0 M j
        rw [eL] at hH
        exact LP56_3 ((5 - 0) + 1) 0 (Nat.lt_succ_self _) (by omega) _ _ hH ls (lv_sub hl [1, 2, 3, 0] rfl)
      · skip
        refine lv_aload_n hx hb dX2_goes_34 rfl (lv_at hl 0 rfl) ?_
        refine z_get (v := .ref (q 1)) hx hb hts hown hX kX2 6 (by decide) (hH.at 0 rfl) rfl q2016 (fun _ h9 => h9) dX2_goes_35 ?_
        refine lv_iload_n hx hb dX2_goes_38 rfl (lv_at hl 3 rfl) ?_
        refine lv_aload_n hx hb dX2_goes_39 rfl (lv_at hl 0 rfl) ?_
        refine z_get (v := .ref (q 1)) hx hb hts hown hX kX2 6 (by decide) (hH.at 0 rfl) rfl q2016 (fun _ h9 => h9) dX2_goes_40 ?_
        refine lv_iload_n hx hb dX2_goes_43 rfl (lv_at hl 3 rfl) ?_
        refine lv_iconst (v := nI 5) hx hb dX2_goes_44 (by decide) ?_
        refine lv_iadd hx hb dX2_goes_45 ?_
        refine z_topi (y := nI (k + 5)) (nI_add _ _) ?_
        refine z_iald (x := nI ((go1 (M 1) j k) (k + 5))) hx hb hX (k := (k + 5))  (hH.at 1 rfl) rfl (by omega) (by omega) rfl dX2_goes_46 ?_
        refine z_iastN hx hb hX (k := k) hH 1 rfl rfl (by omega) (by omega) dX2_goes_47 (fun H locs hH => ?_)
        have hH : zH G A s.heap (mW dA q (mu (ms M 1 (go1 (M 1) j k)) 1 k ((go1 (M 1) j k) (k + 5)))) H locs := hH
        refine lv_iinc (v := nI (k + 1)) (lv' := [(3, .int (nI (k + 1))), (0, .ref (q 0)), (1, .int (nI j)), (2, .int (nI (22 + (5 * (M 1 0 - 1)))))]) hx hb dX2_goes_48 hl (k := 3) rfl (nI_1 _) (by decide) rfl (fun ls hl => ?_)
        refine lv_goto (tgt := 29) hx hb dX2_goes_51 (by decide) ?_
        have eL : mu (ms M 1 (go1 (M 1) j k)) 1 k ((go1 (M 1) j k) (k + 5)) = ms M 1 (go1 (M 1) j (k + 1)) := by exact go1_s M j k (by omega)
        rw [eL] at hH
        exact ih (k + 1) (by omega) (by omega) _ _ hH ls (lv_sub hl [1, 2, 3, 0] rfl)
  have eL : mu M 1 0 ((M 1 0) - 1) = ms M 1 (go1 (M 1) j (22 + 5 * j)) := by exact go1_0 M j
  rw [eL] at hH
  have ev_6 : nI (22 + (5 * ((M 1 0) - 1))) = nI (22 + (5 * (M 1 0 - 1))) := by first | rfl | (congr 1; done) | (congr 1; simp [cN, bN]; done) | (congr 1; simp [cN, bN]; omega)
  have ev_7 : nI (22 + (5 * j)) = nI (22 + 5 * j) := by first | rfl | (congr 1; done) | (congr 1; simp [cN, bN]; done) | (congr 1; simp [cN, bN]; omega)
  have hl : lv_has ls 4 [(0, .ref (q 0)), (1, .int (nI j)), (2, .int (nI (22 + (5 * (M 1 0 - 1))))), (3, .int (nI (22 + 5 * j)))] := z_lv (lv_sub hl [2, 3, 1, 0] rfl) (by rw [ev_6, ev_7] <;> rfl)
  exact LP29_1 ((22 + 5 * (M 1 0 - 1) - (22 + 5 * j)) + 1) (22 + 5 * j) (Nat.lt_succ_self _) (by omega) _ _ hH ls (lv_sub hl [0, 1, 2, 3] rfl)

set_option maxHeartbeats 4000000 in
set_option maxRecDepth 100000 in
theorem metX2_notDrop (l : Launch) (G : va_G) (dA : Nat → ClassId) (dS : Nat → Nat) (B0 sz : Nat) (q : Nat → Nat) (M : mS) (a : Int32) : Met l yX2_notDrop (ws_ yX2_notDrop cX2_notDrop 2 (some FieldType.int)) ({ frames := 2, cells := 0, slots := 0, locals := 43 }) (zP G dA dS B0 [.ref (q 0), .int (a)] sz (mW dA q M) (fun H => True)) (zQi G (fun (r : Int32) (u : Unit) => r = mNotDrop M a) (fun (u : Unit) => mW dA q M) (fun (u : Unit) (H : Heap) => True) (va_A (mW dA q M) sz)) 0 0 (va_A (mW dA q M) sz) := by
  refine zM (by decide) (Nat.le_of_ble_eq_true rfl) ?_
  intro p e s m below meth c ls A H locs hHe hx hb hr hlocks hml hown hname hts hX hsz hB hAe hA hAB hH hRo hl
  have hl : lv_has ls 2 [(0, .ref (q 0)), (1, .int (a))] := hl
  refine lv_aload_n hx hb dX2_notDrop_0 rfl (lv_at hl 0 rfl) ?_
  refine lv_iload_n hx hb dX2_notDrop_1 rfl (lv_at hl 1 rfl) ?_
  refine z_ci (wr := []) (va_runV (As := [.int (a)]) (rest := []) ⟨hx, hb, hml, hown, hts⟩ (metX2_isJoke l G dA dS B0 H.size q M a) (cwV 1 hts (lw_V q2143 q2145 qs40 q91 q2146) rfl rfl rfl (by decide +kernel) ⟨Nat.le_of_ble_eq_true rfl, Nat.le_of_ble_eq_true rfl⟩) (zPV hX hH hB hAB (z_recv hX kX2 (hH.at 0 rfl)) [0, 1, 2, 3, 4, 5, 6, 7, 8] rfl rfl trivial) rfl rfl hl.1 rfl (lv_room (Nat.le_of_ble_eq_true rfl)) dX2_notDrop_2 ⟨(Nat.le_of_ble_eq_true rfl), (Nat.le_of_ble_eq_true rfl)⟩) hH hA [0, 1, 2, 3, 4, 5, 6, 7, 8] [] rfl rfl (by decide) (by decide) (fun r_1 u_r_1 H locs hw_r_1 hH hR_r_1 hk_r_1 => ?_)
  obtain rfl := hw_r_1
  have hH : zH G A s.heap (mW dA q M) H locs := hH
  refine z_ifeqB (b := inR a (nI 0) (nI (M 1 0) - nI 1)) (tgt := 12) hx hb dX2_notDrop_5 (by decide) (fun c_5_2 => ?_) (fun c_5_2 => ?_)
  · skip
    refine lv_iconst (v := (-1)) hx hb dX2_notDrop_12 (by decide) ?_
    exact z_iret hx hb hr hlocks hH (u := ()) (by simp [mNotDrop, c_5_2]) ⟨hH.1, hH.2.1⟩ trivial (Nat.le_of_ble_eq_true rfl) (Nat.le_of_ble_eq_true rfl) dX2_notDrop_13
  · skip
    refine lv_iconst (v := nI 0) hx hb dX2_notDrop_8 (by decide) ?_
    refine lv_goto (tgt := 13) hx hb dX2_notDrop_9 (by decide) ?_
    exact z_iret hx hb hr hlocks hH (u := ()) (by simp [mNotDrop, c_5_2]) ⟨hH.1, hH.2.1⟩ trivial (Nat.le_of_ble_eq_true rfl) (Nat.le_of_ble_eq_true rfl) dX2_notDrop_13

set_option maxHeartbeats 4000000 in
set_option maxRecDepth 100000 in
theorem metX2_drops (l : Launch) (G : va_G) (dA : Nat → ClassId) (dS : Nat → Nat) (B0 sz : Nat) (q : Nat → Nat) (M : mS) (j : Nat) (hj : j < M 1 0) (hbw : ∀ k, k ≠ 12 → k ≠ 13 → M 1 k < 2 ^ 31) (h12 : M 1 0 ≤ 12) : Met l yX2_drops (ws_ yX2_drops cX2_drops 2 (some FieldType.int)) ({ frames := 1, cells := 0, slots := 0, locals := 23 }) (zP G dA dS B0 [.ref (q 0), .int (nI j)] sz (mW dA q M) (fun H => True)) (zQi G (fun (r : Int32) (u : Unit) => r = nI (M 1 0 - 1)) (fun (u : Unit) => mW dA q (mDrops M j)) (fun (u : Unit) (H : Heap) => True) (va_A (mW dA q M) sz)) 0 0 (va_A (mW dA q M) sz) := by
  refine zM (by decide) (Nat.le_of_ble_eq_true rfl) ?_
  intro p e s m below meth c ls A H locs hHe hx hb hr hlocks hml hown hname hts hX hsz hB hAe hA hAB hH hRo hl
  have hl : lv_has ls 2 [(0, .ref (q 0)), (1, .int (nI j))] := hl
  refine lv_aload_n hx hb dX2_drops_0 rfl (lv_at hl 0 rfl) ?_
  refine lv_iload_n hx hb dX2_drops_1 rfl (lv_at hl 1 rfl) ?_
  refine z_cv (wr := []) (va_runV (As := [.int (nI j)]) (rest := []) ⟨hx, hb, hml, hown, hts⟩ (metX2_goes l G dA dS B0 H.size q M j (by first | exact hj | assumption | omega) (by first | exact hbw | assumption | omega) (by first | exact h12 | assumption | omega)) (cwV 1 hts (lw_V q2163 q2165 qs44 q91 q2166) rfl rfl rfl (by decide +kernel) ⟨Nat.le_of_ble_eq_true rfl, Nat.le_of_ble_eq_true rfl⟩) (zPV hX hH hB hAB (z_recv hX kX2 (hH.at 0 rfl)) [0, 1, 2, 3, 4, 5, 6, 7, 8] rfl rfl trivial) rfl rfl hl.1 rfl (lv_room (Nat.le_of_ble_eq_true rfl)) dX2_drops_2 ⟨(Nat.le_of_ble_eq_true rfl), (Nat.le_of_ble_eq_true rfl)⟩) hH hA [0, 1, 2, 3, 4, 5, 6, 7, 8] [] rfl rfl (by decide) (by decide) (fun u_r_1 H locs hw_r_1 hH hR_r_1 hk_r_1 => ?_)
  have hH : zH G A s.heap (mW dA q (ms M 1 (gone (M 1) j))) H locs := hH
  refine lv_aload_n hx hb dX2_drops_5 rfl (lv_at hl 0 rfl) ?_
  refine z_get (v := .ref (q 1)) hx hb hts hown hX kX2 6 (by decide) (hH.at 0 rfl) rfl q2016 (fun _ h9 => h9) dX2_drops_6 ?_
  refine lv_bipush (v := nI 8) hx hb dX2_drops_9 (by decide) ?_
  refine lv_dup2_11 hx hb dX2_drops_11 rfl rfl ?_
  refine z_iald (x := nI ((gone (M 1) j) 8)) hx hb hX (k := 8)  (hH.at 1 rfl) rfl (by omega) (by omega) rfl dX2_drops_12 ?_
  refine lv_iconst (v := nI 1) hx hb dX2_drops_13 (by decide) ?_
  refine lv_iadd hx hb dX2_drops_14 ?_
  refine z_topi (y := nI ((gone (M 1) j) 8 + 1)) (nI_add _ _) ?_
  refine z_iastN hx hb hX (k := 8) hH 1 rfl rfl (by omega) (by omega) dX2_drops_15 (fun H locs hH => ?_)
  have hH : zH G A s.heap (mW dA q (mu (ms M 1 (gone (M 1) j)) 1 8 ((gone (M 1) j) 8 + 1))) H locs := hH
  refine lv_aload_n hx hb dX2_drops_16 rfl (lv_at hl 0 rfl) ?_
  refine z_get (v := .ref (q 1)) hx hb hts hown hX kX2 6 (by decide) (hH.at 0 rfl) rfl q2016 (fun _ h9 => h9) dX2_drops_17 ?_
  refine lv_iconst (v := nI 0) hx hb dX2_drops_20 (by decide) ?_
  refine z_iald (x := nI ((gone (M 1) j) 0)) hx hb hX (k := 0)  (hH.at 1 rfl) rfl (by omega) (by omega) rfl dX2_drops_21 ?_
  exact z_iret hx hb hr hlocks hH (u := ()) (by rw [gone_0]) ⟨hH.1, hH.2.1⟩ trivial (Nat.le_of_ble_eq_true rfl) (Nat.le_of_ble_eq_true rfl) dX2_drops_22

set_option maxHeartbeats 4000000 in
set_option maxRecDepth 100000 in
theorem metX2_notDrain (l : Launch) (G : va_G) (dA : Nat → ClassId) (dS : Nat → Nat) (B0 sz : Nat) (q : Nat → Nat) (M : mS) (a : Int32) (hbw : ∀ k, k ≠ 12 → k ≠ 13 → M 1 k < 2 ^ 31) (h12 : M 1 0 ≤ 12) : Met l yX2_notDrain (ws_ yX2_notDrain cX2_notDrain 2 (some FieldType.int)) ({ frames := 1, cells := 0, slots := 0, locals := 22 }) (zP G dA dS B0 [.ref (q 0), .int (a)] sz (mW dA q M) (fun H => True)) (zQi G (fun (r : Int32) (u : Unit) => r = (mNotDrain M a).1) (fun (u : Unit) => mW dA q ((mNotDrain M a).2)) (fun (u : Unit) (H : Heap) => True) (va_A (mW dA q M) sz)) 0 0 (va_A (mW dA q M) sz) := by
  refine zM (by decide) (Nat.le_of_ble_eq_true rfl) ?_
  intro p e s m below meth c ls A H locs hHe hx hb hr hlocks hml hown hname hts hX hsz hB hAe hA hAB hH hRo hl
  have hl : lv_has ls 2 [(0, .ref (q 0)), (1, .int (a))] := hl
  refine lv_iload_n hx hb dX2_notDrain_0 rfl (lv_at hl 1 rfl) ?_
  refine lv_iconst (v := nI 1) hx hb dX2_notDrain_1 (by decide) ?_
  refine lv_bipush (v := nI 50) hx hb dX2_notDrain_2 (by decide) ?_
  refine z_ci (wr := mW dA q M) (va_runS (As := [.int (a), .int (nI 1), .int (nI 50)]) (rest := []) ⟨hx, hb, hml, hown, hts⟩ (metX2_isBetween l G dA dS B0 H.size a (nI 1) (nI 50)) (va_cwS 3 hts (lw_S q2001 q2002 q91 q2003) rfl rfl rfl (by decide +kernel) ⟨Nat.le_of_ble_eq_true rfl, Nat.le_of_ble_eq_true rfl⟩) (zPS hX hH hB hAB [] rfl rfl trivial) rfl rfl hl.1 rfl (lv_room (Nat.le_of_ble_eq_true rfl)) dX2_notDrain_4 ⟨(Nat.le_of_ble_eq_true rfl), (Nat.le_of_ble_eq_true rfl)⟩) hH hA [] [0, 1, 2, 3, 4, 5, 6, 7, 8] rfl rfl (by decide) (by decide) (fun r_1 u_r_1 H locs hw_r_1 hH hR_r_1 hk_r_1 => ?_)
  obtain rfl := hw_r_1
  have hH : zH G A s.heap (mW dA q M) H locs := hH
  refine z_ifneB (b := inR a (nI 1) (nI 50)) (tgt := 13) hx hb dX2_notDrain_7 (by decide) (fun c_7_2 => ?_) (fun c_7_2 => ?_)
  · skip
    obtain ⟨a1, rfl, hl1, hu1⟩ := inR_n (a := 1) (b := 50) (by decide) (by decide) c_7_2
    refine lv_aload_n hx hb dX2_notDrain_13 rfl (lv_at hl 0 rfl) ?_
    refine z_get (v := .ref (q 1)) hx hb hts hown hX kX2 6 (by decide) (hH.at 0 rfl) rfl q2016 (fun _ h9 => h9) dX2_notDrain_14 ?_
    refine lv_iconst (v := nI 4) hx hb dX2_notDrain_17 (by decide) ?_
    refine z_iald (x := nI (M 1 4)) hx hb hX (k := 4)  (hH.at 1 rfl) rfl (by omega) (by omega) rfl dX2_notDrain_18 ?_
    have hbd_3 := hbw 4 (by omega) (by omega)
    refine lv_iload_n hx hb dX2_notDrain_19 rfl (lv_at hl 1 rfl) ?_
    refine z_icmp_ge (tgt := 38) hx hb dX2_notDrain_20 (by decide) (by omega) (by omega) (fun c_20_4 => ?_) (fun c_20_4 => ?_)
    · skip
      have dc_20_4 := Nat.not_lt.mp c_20_4
      refine lv_iconst (v := nI 0) hx hb dX2_notDrain_38 (by decide) ?_
      have eM : M = (mNotDrain M (nI a1)).2 := by simp [mNotDrain, nI_clamp (show a1 < 2 ^ 31 by omega), c_7_2, c_20_4, dc_20_4]
      rw [eM] at hH
      exact z_iret hx hb hr hlocks hH (u := ()) (by simp [mNotDrain, nI_clamp (show a1 < 2 ^ 31 by omega), c_7_2, c_20_4, dc_20_4]) ⟨hH.1, hH.2.1⟩ trivial (Nat.le_of_ble_eq_true rfl) (Nat.le_of_ble_eq_true rfl) dX2_notDrain_39
    · skip
      refine lv_aload_n hx hb dX2_notDrain_23 rfl (lv_at hl 0 rfl) ?_
      refine lv_bipush (v := nI 7) hx hb dX2_notDrain_24 (by decide) ?_
      refine lv_aload_n hx hb dX2_notDrain_26 rfl (lv_at hl 0 rfl) ?_
      refine z_get (v := .ref (q 1)) hx hb hts hown hX kX2 6 (by decide) (hH.at 0 rfl) rfl q2016 (fun _ h9 => h9) dX2_notDrain_27 ?_
      refine lv_iconst (v := nI 4) hx hb dX2_notDrain_30 (by decide) ?_
      refine z_iald (x := nI (M 1 4)) hx hb hX (k := 4)  (hH.at 1 rfl) rfl (by omega) (by omega) rfl dX2_notDrain_31 ?_
      have hbd_5 := hbw 4 (by omega) (by omega)
      refine z_ci (wr := []) (va_runV (As := [.int (nI 7), .int (nI (M 1 4))]) (rest := []) ⟨hx, hb, hml, hown, hts⟩ (metX2_isNot l G dA dS B0 H.size q M 7 (M 1 4)) (cwV 2 hts (lw_V q2095 q2097 qs29 q91 q2098) rfl rfl rfl (by decide +kernel) ⟨Nat.le_of_ble_eq_true rfl, Nat.le_of_ble_eq_true rfl⟩) (zPV hX hH hB hAB (z_recv hX kX2 (hH.at 0 rfl)) [0, 1, 2, 3, 4, 5, 6, 7, 8] rfl rfl trivial) rfl rfl hl.1 rfl (lv_room (Nat.le_of_ble_eq_true rfl)) dX2_notDrain_32 ⟨(Nat.le_of_ble_eq_true rfl), (Nat.le_of_ble_eq_true rfl)⟩) hH hA [0, 1, 2, 3, 4, 5, 6, 7, 8] [] rfl rfl (by decide) (by decide) (fun r_6 u_r_6 H locs hw_r_6 hH hR_r_6 hk_r_6 => ?_)
      obtain rfl := hw_r_6
      have hH : zH G A s.heap (mW dA q (mNot M 7 (M 1 4))) H locs := hH
      refine lv_goto (tgt := 39) hx hb dX2_notDrain_35 (by decide) ?_
      have eM : mNot M 7 (M 1 4) = (mNotDrain M (nI a1)).2 := by simp [mNotDrain, nI_clamp (show a1 < 2 ^ 31 by omega), c_7_2, c_20_4]
      rw [eM] at hH
      exact z_iret hx hb hr hlocks hH (u := ()) (by simp [mNotDrain, nI_clamp (show a1 < 2 ^ 31 by omega), c_7_2, c_20_4]) ⟨hH.1, hH.2.1⟩ trivial (Nat.le_of_ble_eq_true rfl) (Nat.le_of_ble_eq_true rfl) dX2_notDrain_39
  · skip
    refine lv_bipush (v := (-2)) hx hb dX2_notDrain_10 (by decide) ?_
    have eM : M = (mNotDrain M a).2 := by simp [mNotDrain, c_7_2]
    rw [eM] at hH
    exact z_iret hx hb hr hlocks hH (u := ()) (by simp [mNotDrain, c_7_2]) ⟨hH.1, hH.2.1⟩ trivial (Nat.le_of_ble_eq_true rfl) (Nat.le_of_ble_eq_true rfl) dX2_notDrain_12

set_option maxHeartbeats 4000000 in
set_option maxRecDepth 100000 in
theorem metX2_drains (l : Launch) (G : va_G) (dA : Nat → ClassId) (dS : Nat → Nat) (B0 sz : Nat) (q : Nat → Nat) (M : mS) (g : Nat) (hg : g ≤ M 1 4) (hg50 : g ≤ 50) (hbw : ∀ k, k ≠ 12 → k ≠ 13 → M 1 k < 2 ^ 31) (hd9 : M 1 5 ≤ 9) : Met l yX2_drains (ws_ yX2_drains cX2_drains 2 (some FieldType.int)) ({ frames := 0, cells := 0, slots := 0, locals := 0 }) (zP G dA dS B0 [.ref (q 0), .int (nI g)] sz (mW dA q M) (fun H => True)) (zQi G (fun (r : Int32) (u : Unit) => r = nI (drp M g)) (fun (u : Unit) => mW dA q (mDrains M g)) (fun (u : Unit) (H : Heap) => True) (va_A (mW dA q M) sz)) 0 0 (va_A (mW dA q M) sz) := by
  refine zM (by decide) (Nat.le_of_ble_eq_true rfl) ?_
  intro p e s m below meth c ls A H locs hHe hx hb hr hlocks hml hown hname hts hX hsz hB hAe hA hAB hH hRo hl
  have hl : lv_has ls 2 [(0, .ref (q 0)), (1, .int (nI g))] := hl
  refine lv_aload_n hx hb dX2_drains_0 rfl (lv_at hl 0 rfl) ?_
  refine z_get (v := .ref (q 1)) hx hb hts hown hX kX2 6 (by decide) (hH.at 0 rfl) rfl q2016 (fun _ h9 => h9) dX2_drains_1 ?_
  refine lv_iconst (v := nI 4) hx hb dX2_drains_4 (by decide) ?_
  refine lv_dup2_11 hx hb dX2_drains_5 rfl rfl ?_
  refine z_iald (x := nI (M 1 4)) hx hb hX (k := 4)  (hH.at 1 rfl) rfl (by omega) (by omega) rfl dX2_drains_6 ?_
  have hbd_1 := hbw 4 (by omega) (by omega)
  refine lv_iload_n hx hb dX2_drains_7 rfl (lv_at hl 1 rfl) ?_
  refine lv_isub hx hb dX2_drains_8 ?_
  refine z_topi (y := nI ((M 1 4) - g)) (pk_sub (by omega)) ?_
  refine z_iastN hx hb hX (k := 4) hH 1 rfl rfl (by omega) (by omega) dX2_drains_9 (fun H locs hH => ?_)
  have hH : zH G A s.heap (mW dA q (mu M 1 4 ((M 1 4) - g))) H locs := hH
  refine lv_aload_n hx hb dX2_drains_10 rfl (lv_at hl 0 rfl) ?_
  refine z_get (v := .ref (q 1)) hx hb hts hown hX kX2 6 (by decide) (hH.at 0 rfl) rfl q2016 (fun _ h9 => h9) dX2_drains_11 ?_
  refine lv_bipush (v := nI 10) hx hb dX2_drains_14 (by decide) ?_
  refine lv_dup2_11 hx hb dX2_drains_16 rfl rfl ?_
  refine z_iald (x := nI (M 1 10)) hx hb hX (k := 10)  (hH.at 1 rfl) rfl (by omega) (by omega) rfl dX2_drains_17 ?_
  have hbd_2 := hbw 10 (by omega) (by omega)
  refine lv_iload_n hx hb dX2_drains_18 rfl (lv_at hl 1 rfl) ?_
  refine lv_iadd hx hb dX2_drains_19 ?_
  refine z_topi (y := nI (M 1 10 + g)) (nI_add _ _) ?_
  refine z_iastN hx hb hX (k := 10) hH 1 rfl rfl (by omega) (by omega) dX2_drains_20 (fun H locs hH => ?_)
  have hH : zH G A s.heap (mW dA q (mu (mu M 1 4 ((M 1 4) - g)) 1 10 (M 1 10 + g))) H locs := hH
  refine lv_aload_n hx hb dX2_drains_21 rfl (lv_at hl 0 rfl) ?_
  refine z_get (v := .ref (q 1)) hx hb hts hown hX kX2 6 (by decide) (hH.at 0 rfl) rfl q2016 (fun _ h9 => h9) dX2_drains_22 ?_
  refine lv_iconst (v := nI 5) hx hb dX2_drains_25 (by decide) ?_
  refine lv_dup2_11 hx hb dX2_drains_26 rfl rfl ?_
  refine z_iald (x := nI (M 1 5)) hx hb hX (k := 5)  (hH.at 1 rfl) rfl (by omega) (by omega) rfl dX2_drains_27 ?_
  have hbd_3 := hbw 5 (by omega) (by omega)
  refine lv_iload_n hx hb dX2_drains_28 rfl (lv_at hl 1 rfl) ?_
  refine lv_bipush (v := nI 10) hx hb dX2_drains_29 (by decide) ?_
  refine lv_idiv hx hb dX2_drains_31 (by decide) ?_
  refine z_topi (y := nI (g / 10)) (pk_div (by omega) (by omega) (by omega)) ?_
  refine lv_iadd hx hb dX2_drains_32 ?_
  refine z_topi (y := nI (M 1 5 + (g / 10))) (nI_add _ _) ?_
  refine z_iastN hx hb hX (k := 5) hH 1 rfl rfl (by omega) (by omega) dX2_drains_33 (fun H locs hH => ?_)
  have hH : zH G A s.heap (mW dA q (mu (mu (mu M 1 4 ((M 1 4) - g)) 1 10 (M 1 10 + g)) 1 5 (M 1 5 + (g / 10)))) H locs := hH
  refine lv_aload_n hx hb dX2_drains_34 rfl (lv_at hl 0 rfl) ?_
  refine z_get (v := .ref (q 1)) hx hb hts hown hX kX2 6 (by decide) (hH.at 0 rfl) rfl q2016 (fun _ h9 => h9) dX2_drains_35 ?_
  refine lv_iconst (v := nI 5) hx hb dX2_drains_38 (by decide) ?_
  refine z_iald (x := nI (M 1 5 + (g / 10))) hx hb hX (k := 5)  (hH.at 1 rfl) rfl (by omega) (by omega) rfl dX2_drains_39 ?_
  refine lv_bipush (v := nI 9) hx hb dX2_drains_40 (by decide) ?_
  refine z_icmp_le (tgt := 53) hx hb dX2_drains_42 (by decide) (by omega) (by omega) (fun c_42_4 => ?_) (fun c_42_4 => ?_)
  · skip
    have dc_42_4 := Nat.not_lt.mp c_42_4
    refine lv_aload_n hx hb dX2_drains_53 rfl (lv_at hl 0 rfl) ?_
    refine z_get (v := .ref (q 1)) hx hb hts hown hX kX2 6 (by decide) (hH.at 0 rfl) rfl q2016 (fun _ h9 => h9) dX2_drains_54 ?_
    refine lv_iconst (v := nI 5) hx hb dX2_drains_57 (by decide) ?_
    refine z_iald (x := nI (M 1 5 + (g / 10))) hx hb hX (k := 5)  (hH.at 1 rfl) rfl (by omega) (by omega) rfl dX2_drains_58 ?_
    have eM : mu (mu (mu M 1 4 ((M 1 4) - g)) 1 10 (M 1 10 + g)) 1 5 (M 1 5 + (g / 10)) = mDrains M g := by simp [mDrains, c_42_4, dc_42_4]
    rw [eM] at hH
    exact z_iret hx hb hr hlocks hH (u := ()) (by simp [drp, c_42_4, dc_42_4]) ⟨hH.1, hH.2.1⟩ trivial (Nat.le_of_ble_eq_true rfl) (Nat.le_of_ble_eq_true rfl) dX2_drains_59
  · skip
    refine lv_aload_n hx hb dX2_drains_45 rfl (lv_at hl 0 rfl) ?_
    refine z_get (v := .ref (q 1)) hx hb hts hown hX kX2 6 (by decide) (hH.at 0 rfl) rfl q2016 (fun _ h9 => h9) dX2_drains_46 ?_
    refine lv_iconst (v := nI 5) hx hb dX2_drains_49 (by decide) ?_
    refine lv_bipush (v := nI 9) hx hb dX2_drains_50 (by decide) ?_
    refine z_iastN hx hb hX (k := 5) hH 1 rfl rfl (by omega) (by omega) dX2_drains_52 (fun H locs hH => ?_)
    have hH : zH G A s.heap (mW dA q (mu (mu (mu (mu M 1 4 ((M 1 4) - g)) 1 10 (M 1 10 + g)) 1 5 (M 1 5 + (g / 10))) 1 5 9)) H locs := hH
    refine lv_aload_n hx hb dX2_drains_53 rfl (lv_at hl 0 rfl) ?_
    refine z_get (v := .ref (q 1)) hx hb hts hown hX kX2 6 (by decide) (hH.at 0 rfl) rfl q2016 (fun _ h9 => h9) dX2_drains_54 ?_
    refine lv_iconst (v := nI 5) hx hb dX2_drains_57 (by decide) ?_
    refine z_iald (x := nI 9) hx hb hX (k := 5)  (hH.at 1 rfl) rfl (by omega) (by omega) rfl dX2_drains_58 ?_
    have eM : mu (mu (mu (mu M 1 4 ((M 1 4) - g)) 1 10 (M 1 10 + g)) 1 5 (M 1 5 + (g / 10))) 1 5 9 = mDrains M g := by simp [mDrains, c_42_4]
    rw [eM] at hH
    exact z_iret hx hb hr hlocks hH (u := ()) (by simp [drp, c_42_4]) ⟨hH.1, hH.2.1⟩ trivial (Nat.le_of_ble_eq_true rfl) (Nat.le_of_ble_eq_true rfl) dX2_drains_59

set_option maxHeartbeats 4000000 in
set_option maxRecDepth 100000 in
theorem metX2_tells (l : Launch) (G : va_G) (dA : Nat → ClassId) (dS : Nat → Nat) (B0 sz : Nat) (q : Nat → Nat) (M : mS) (k : Nat) (v : Nat) (hk : k < 274) : Met l yX2_tells (ws_ yX2_tells cX2_tells 4 (some FieldType.int)) ({ frames := 0, cells := 0, slots := 0, locals := 0 }) (zP G dA dS B0 [.ref (q 0), .int (nI k), .int (nI v)] sz (mW dA q M) (fun H => True)) (zQi G (fun (r : Int32) (u : Unit) => r = nI (M 1 k)) (fun (u : Unit) => mW dA q (mu M 1 k v)) (fun (u : Unit) (H : Heap) => True) (va_A (mW dA q M) sz)) 0 0 (va_A (mW dA q M) sz) := by
  refine zM (by decide) (Nat.le_of_ble_eq_true rfl) ?_
  intro p e s m below meth c ls A H locs hHe hx hb hr hlocks hml hown hname hts hX hsz hB hAe hA hAB hH hRo hl
  have hl : lv_has ls 4 [(0, .ref (q 0)), (1, .int (nI k)), (2, .int (nI v))] := hl
  refine lv_aload_n hx hb dX2_tells_0 rfl (lv_at hl 0 rfl) ?_
  refine z_get (v := .ref (q 1)) hx hb hts hown hX kX2 6 (by decide) (hH.at 0 rfl) rfl q2016 (fun _ h9 => h9) dX2_tells_1 ?_
  refine lv_iload_n hx hb dX2_tells_4 rfl (lv_at hl 1 rfl) ?_
  refine z_iald (x := nI (M 1 k)) hx hb hX (k := k)  (hH.at 1 rfl) rfl (by omega) (by omega) rfl dX2_tells_5 ?_
  refine lv_istore_n (lv' := [(3, .int (nI (M 1 k))), (0, .ref (q 0)), (1, .int (nI k)), (2, .int (nI v))]) hx hb dX2_tells_6 rfl hl (by decide) rfl (fun ls hl => ?_)
  refine lv_aload_n hx hb dX2_tells_7 rfl (lv_at hl 1 rfl) ?_
  refine z_get (v := .ref (q 1)) hx hb hts hown hX kX2 6 (by decide) (hH.at 0 rfl) rfl q2016 (fun _ h9 => h9) dX2_tells_8 ?_
  refine lv_iload_n hx hb dX2_tells_11 rfl (lv_at hl 2 rfl) ?_
  refine lv_iload_n hx hb dX2_tells_12 rfl (lv_at hl 3 rfl) ?_
  refine z_iastN hx hb hX (k := k) hH 1 rfl rfl (by omega) (by omega) dX2_tells_13 (fun H locs hH => ?_)
  have hH : zH G A s.heap (mW dA q (mu M 1 k v)) H locs := hH
  refine lv_iload_n hx hb dX2_tells_14 rfl (lv_at hl 0 rfl) ?_
  exact z_iret hx hb hr hlocks hH (u := ()) (by rfl) ⟨hH.1, hH.2.1⟩ trivial (Nat.le_of_ble_eq_true rfl) (Nat.le_of_ble_eq_true rfl) dX2_tells_15

set_option maxHeartbeats 4000000 in
set_option maxRecDepth 100000 in
theorem metX2_notStroke (l : Launch) (G : va_G) (dA : Nat → ClassId) (dS : Nat → Nat) (B0 sz : Nat) (q : Nat → Nat) (M : mS) (a : Int32) (hbw : ∀ k, k ≠ 12 → k ≠ 13 → M 1 k < 2 ^ 31) (h12 : M 1 0 ≤ 12) : Met l yX2_notStroke (ws_ yX2_notStroke cX2_notStroke 2 (some FieldType.int)) ({ frames := 1, cells := 0, slots := 0, locals := 22 }) (zP G dA dS B0 [.ref (q 0), .int (a)] sz (mW dA q M) (fun H => True)) (zQi G (fun (r : Int32) (u : Unit) => r = (mNotStroke M a).1) (fun (u : Unit) => mW dA q ((mNotStroke M a).2)) (fun (u : Unit) (H : Heap) => True) (va_A (mW dA q M) sz)) 0 0 (va_A (mW dA q M) sz) := by
  refine zM (by decide) (Nat.le_of_ble_eq_true rfl) ?_
  intro p e s m below meth c ls A H locs hHe hx hb hr hlocks hml hown hname hts hX hsz hB hAe hA hAB hH hRo hl
  have hl : lv_has ls 2 [(0, .ref (q 0)), (1, .int (a))] := hl
  refine lv_iload_n hx hb dX2_notStroke_0 rfl (lv_at hl 1 rfl) ?_
  refine lv_iconst (v := nI 1) hx hb dX2_notStroke_1 (by decide) ?_
  refine lv_bipush (v := nI 10) hx hb dX2_notStroke_2 (by decide) ?_
  refine z_ci (wr := mW dA q M) (va_runS (As := [.int (a), .int (nI 1), .int (nI 10)]) (rest := []) ⟨hx, hb, hml, hown, hts⟩ (metX2_isBetween l G dA dS B0 H.size a (nI 1) (nI 10)) (va_cwS 3 hts (lw_S q2001 q2002 q91 q2003) rfl rfl rfl (by decide +kernel) ⟨Nat.le_of_ble_eq_true rfl, Nat.le_of_ble_eq_true rfl⟩) (zPS hX hH hB hAB [] rfl rfl trivial) rfl rfl hl.1 rfl (lv_room (Nat.le_of_ble_eq_true rfl)) dX2_notStroke_4 ⟨(Nat.le_of_ble_eq_true rfl), (Nat.le_of_ble_eq_true rfl)⟩) hH hA [] [0, 1, 2, 3, 4, 5, 6, 7, 8] rfl rfl (by decide) (by decide) (fun r_1 u_r_1 H locs hw_r_1 hH hR_r_1 hk_r_1 => ?_)
  obtain rfl := hw_r_1
  have hH : zH G A s.heap (mW dA q M) H locs := hH
  refine z_ifneB (b := inR a (nI 1) (nI 10)) (tgt := 13) hx hb dX2_notStroke_7 (by decide) (fun c_7_2 => ?_) (fun c_7_2 => ?_)
  · skip
    obtain ⟨a1, rfl, hl1, hu1⟩ := inR_n (a := 1) (b := 10) (by decide) (by decide) c_7_2
    refine lv_aload_n hx hb dX2_notStroke_13 rfl (lv_at hl 0 rfl) ?_
    refine z_get (v := .ref (q 1)) hx hb hts hown hX kX2 6 (by decide) (hH.at 0 rfl) rfl q2016 (fun _ h9 => h9) dX2_notStroke_14 ?_
    refine lv_iconst (v := nI 2) hx hb dX2_notStroke_17 (by decide) ?_
    refine z_iald (x := nI (M 1 2)) hx hb hX (k := 2)  (hH.at 1 rfl) rfl (by omega) (by omega) rfl dX2_notStroke_18 ?_
    have hbd_3 := hbw 2 (by omega) (by omega)
    refine lv_iload_n hx hb dX2_notStroke_19 rfl (lv_at hl 1 rfl) ?_
    refine z_icmp_ne (tgt := 32) hx hb dX2_notStroke_20 (by decide) (by omega) (by omega) (fun c_20_4 => ?_) (fun c_20_4 => ?_)
    · skip
      refine lv_iconst (v := nI 0) hx hb dX2_notStroke_32 (by decide) ?_
      have eM : M = (mNotStroke M (nI a1)).2 := by simp [mNotStroke, nI_clamp (show a1 < 2 ^ 31 by omega), c_7_2, c_20_4]
      rw [eM] at hH
      exact z_iret hx hb hr hlocks hH (u := ()) (by simp [mNotStroke, nI_clamp (show a1 < 2 ^ 31 by omega), c_7_2, c_20_4]) ⟨hH.1, hH.2.1⟩ trivial (Nat.le_of_ble_eq_true rfl) (Nat.le_of_ble_eq_true rfl) dX2_notStroke_33
    · skip
      refine lv_aload_n hx hb dX2_notStroke_23 rfl (lv_at hl 0 rfl) ?_
      refine lv_iconst (v := nI 5) hx hb dX2_notStroke_24 (by decide) ?_
      refine lv_iload_n hx hb dX2_notStroke_25 rfl (lv_at hl 1 rfl) ?_
      refine z_ci (wr := []) (va_runV (As := [.int (nI 5), .int (nI a1)]) (rest := []) ⟨hx, hb, hml, hown, hts⟩ (metX2_isNot l G dA dS B0 H.size q M 5 a1) (cwV 2 hts (lw_V q2095 q2097 qs29 q91 q2098) rfl rfl rfl (by decide +kernel) ⟨Nat.le_of_ble_eq_true rfl, Nat.le_of_ble_eq_true rfl⟩) (zPV hX hH hB hAB (z_recv hX kX2 (hH.at 0 rfl)) [0, 1, 2, 3, 4, 5, 6, 7, 8] rfl rfl trivial) rfl rfl hl.1 rfl (lv_room (Nat.le_of_ble_eq_true rfl)) dX2_notStroke_26 ⟨(Nat.le_of_ble_eq_true rfl), (Nat.le_of_ble_eq_true rfl)⟩) hH hA [0, 1, 2, 3, 4, 5, 6, 7, 8] [] rfl rfl (by decide) (by decide) (fun r_5 u_r_5 H locs hw_r_5 hH hR_r_5 hk_r_5 => ?_)
      obtain rfl := hw_r_5
      have hH : zH G A s.heap (mW dA q (mNot M 5 a1)) H locs := hH
      refine lv_goto (tgt := 33) hx hb dX2_notStroke_29 (by decide) ?_
      have eM : mNot M 5 a1 = (mNotStroke M (nI a1)).2 := by simp [mNotStroke, nI_clamp (show a1 < 2 ^ 31 by omega), c_7_2, c_20_4]
      rw [eM] at hH
      exact z_iret hx hb hr hlocks hH (u := ()) (by simp [mNotStroke, nI_clamp (show a1 < 2 ^ 31 by omega), c_7_2, c_20_4]) ⟨hH.1, hH.2.1⟩ trivial (Nat.le_of_ble_eq_true rfl) (Nat.le_of_ble_eq_true rfl) dX2_notStroke_33
  · skip
    refine lv_bipush (v := (-2)) hx hb dX2_notStroke_10 (by decide) ?_
    have eM : M = (mNotStroke M a).2 := by simp [mNotStroke, c_7_2]
    rw [eM] at hH
    exact z_iret hx hb hr hlocks hH (u := ()) (by simp [mNotStroke, c_7_2]) ⟨hH.1, hH.2.1⟩ trivial (Nat.le_of_ble_eq_true rfl) (Nat.le_of_ble_eq_true rfl) dX2_notStroke_12

set_option maxHeartbeats 4000000 in
set_option maxRecDepth 100000 in
theorem metX2_notBucket (l : Launch) (G : va_G) (dA : Nat → ClassId) (dS : Nat → Nat) (B0 sz : Nat) (q : Nat → Nat) (M : mS) (a : Int32) (b : Int32) (hbw : ∀ k, k ≠ 12 → k ≠ 13 → M 1 k < 2 ^ 31) (h12 : M 1 0 ≤ 12) : Met l yX2_notBucket (ws_ yX2_notBucket cX2_notBucket 3 (some FieldType.int)) ({ frames := 2, cells := 0, slots := 0, locals := 42 }) (zP G dA dS B0 [.ref (q 0), .int (a), .int (b)] sz (mW dA q M) (fun H => True)) (zQi G (fun (r : Int32) (u : Unit) => r = (mNotBucket M a b).1) (fun (u : Unit) => mW dA q ((mNotBucket M a b).2)) (fun (u : Unit) (H : Heap) => True) (va_A (mW dA q M) sz)) 0 0 (va_A (mW dA q M) sz) := by
  refine zM (by decide) (Nat.le_of_ble_eq_true rfl) ?_
  intro p e s m below meth c ls A H locs hHe hx hb hr hlocks hml hown hname hts hX hsz hB hAe hA hAB hH hRo hl
  have hl : lv_has ls 3 [(0, .ref (q 0)), (1, .int (a)), (2, .int (b))] := hl
  refine lv_iload_n hx hb dX2_notBucket_0 rfl (lv_at hl 1 rfl) ?_
  refine z_ci (wr := mW dA q M) (va_runS (As := [.int (a)]) (rest := []) ⟨hx, hb, hml, hown, hts⟩ (metX2_isWell l G dA dS B0 H.size a) (va_cwS 1 hts (lw_S q2088 q2089 q91 q2090) rfl rfl rfl (by decide +kernel) ⟨Nat.le_of_ble_eq_true rfl, Nat.le_of_ble_eq_true rfl⟩) (zPS hX hH hB hAB [] rfl rfl trivial) rfl rfl hl.1 rfl (lv_room (Nat.le_of_ble_eq_true rfl)) dX2_notBucket_1 ⟨(Nat.le_of_ble_eq_true rfl), (Nat.le_of_ble_eq_true rfl)⟩) hH hA [] [0, 1, 2, 3, 4, 5, 6, 7, 8] rfl rfl (by decide) (by decide) (fun r_1 u_r_1 H locs hw_r_1 hH hR_r_1 hk_r_1 => ?_)
  obtain rfl := hw_r_1
  have hH : zH G A s.heap (mW dA q M) H locs := hH
  refine z_ifneB (b := inR a (nI 0) (nI 3)) (tgt := 9) hx hb dX2_notBucket_4 (by decide) (fun c_4_2 => ?_) (fun c_4_2 => ?_)
  · skip
    obtain ⟨a1, rfl, hl1, hu1⟩ := inR_n (a := 0) (b := 3) (by decide) (by decide) c_4_2
    refine lv_iload_n hx hb dX2_notBucket_9 rfl (lv_at hl 2 rfl) ?_
    refine lv_iconst (v := nI 1) hx hb dX2_notBucket_10 (by decide) ?_
    refine lv_iconst (v := nI 5) hx hb dX2_notBucket_11 (by decide) ?_
    refine z_ci (wr := mW dA q M) (va_runS (As := [.int (b), .int (nI 1), .int (nI 5)]) (rest := []) ⟨hx, hb, hml, hown, hts⟩ (metX2_isBetween l G dA dS B0 H.size b (nI 1) (nI 5)) (va_cwS 3 hts (lw_S q2001 q2002 q91 q2003) rfl rfl rfl (by decide +kernel) ⟨Nat.le_of_ble_eq_true rfl, Nat.le_of_ble_eq_true rfl⟩) (zPS hX hH hB hAB [] rfl rfl trivial) rfl rfl hl.1 rfl (lv_room (Nat.le_of_ble_eq_true rfl)) dX2_notBucket_12 ⟨(Nat.le_of_ble_eq_true rfl), (Nat.le_of_ble_eq_true rfl)⟩) hH hA [] [0, 1, 2, 3, 4, 5, 6, 7, 8] rfl rfl (by decide) (by decide) (fun r_3 u_r_3 H locs hw_r_3 hH hR_r_3 hk_r_3 => ?_)
    obtain rfl := hw_r_3
    have hH : zH G A s.heap (mW dA q M) H locs := hH
    refine z_ifneB (b := inR b (nI 1) (nI 5)) (tgt := 21) hx hb dX2_notBucket_15 (by decide) (fun c_15_4 => ?_) (fun c_15_4 => ?_)
    · skip
      obtain ⟨b1, rfl, hl2, hu2⟩ := inR_n (a := 1) (b := 5) (by decide) (by decide) c_15_4
      refine lv_aload_n hx hb dX2_notBucket_21 rfl (lv_at hl 0 rfl) ?_
      refine z_get (v := .ref (q 1)) hx hb hts hown hX kX2 6 (by decide) (hH.at 0 rfl) rfl q2016 (fun _ h9 => h9) dX2_notBucket_22 ?_
      refine lv_bipush (v := nI 14) hx hb dX2_notBucket_25 (by decide) ?_
      refine lv_iload_n hx hb dX2_notBucket_27 rfl (lv_at hl 1 rfl) ?_
      refine lv_iadd hx hb dX2_notBucket_28 ?_
      refine z_topi (y := nI (14 + a1)) (nI_add _ _) ?_
      refine z_iald (x := nI (M 1 (14 + a1))) hx hb hX (k := (14 + a1))  (hH.at 1 rfl) rfl (by omega) (by omega) rfl dX2_notBucket_29 ?_
      have hbd_5 := hbw (14 + a1) (by omega) (by omega)
      refine lv_iload_n hx hb dX2_notBucket_30 rfl (lv_at hl 2 rfl) ?_
      refine z_icmp_ne (tgt := 43) hx hb dX2_notBucket_31 (by decide) (by omega) (by omega) (fun c_31_6 => ?_) (fun c_31_6 => ?_)
      · skip
        refine lv_iconst (v := nI 0) hx hb dX2_notBucket_43 (by decide) ?_
        have eM : M = (mNotBucket M (nI a1) (nI b1)).2 := by simp [mNotBucket, nI_clamp (show a1 < 2 ^ 31 by omega), nI_clamp (show b1 < 2 ^ 31 by omega), c_4_2, c_15_4, c_31_6]
        rw [eM] at hH
        exact z_iret hx hb hr hlocks hH (u := ()) (by simp [mNotBucket, nI_clamp (show a1 < 2 ^ 31 by omega), nI_clamp (show b1 < 2 ^ 31 by omega), c_4_2, c_15_4, c_31_6]) ⟨hH.1, hH.2.1⟩ trivial (Nat.le_of_ble_eq_true rfl) (Nat.le_of_ble_eq_true rfl) dX2_notBucket_44
      · skip
        refine lv_aload_n hx hb dX2_notBucket_34 rfl (lv_at hl 0 rfl) ?_
        refine lv_iconst (v := nI 5) hx hb dX2_notBucket_35 (by decide) ?_
        refine lv_iload_n hx hb dX2_notBucket_36 rfl (lv_at hl 1 rfl) ?_
        refine z_ci (wr := []) (va_runV (As := [.int (nI 5), .int (nI a1)]) (rest := []) ⟨hx, hb, hml, hown, hts⟩ (metX2_isNot l G dA dS B0 H.size q M 5 a1) (cwV 2 hts (lw_V q2095 q2097 qs29 q91 q2098) rfl rfl rfl (by decide +kernel) ⟨Nat.le_of_ble_eq_true rfl, Nat.le_of_ble_eq_true rfl⟩) (zPV hX hH hB hAB (z_recv hX kX2 (hH.at 0 rfl)) [0, 1, 2, 3, 4, 5, 6, 7, 8] rfl rfl trivial) rfl rfl hl.1 rfl (lv_room (Nat.le_of_ble_eq_true rfl)) dX2_notBucket_37 ⟨(Nat.le_of_ble_eq_true rfl), (Nat.le_of_ble_eq_true rfl)⟩) hH hA [0, 1, 2, 3, 4, 5, 6, 7, 8] [] rfl rfl (by decide) (by decide) (fun r_7 u_r_7 H locs hw_r_7 hH hR_r_7 hk_r_7 => ?_)
        obtain rfl := hw_r_7
        have hH : zH G A s.heap (mW dA q (mNot M 5 a1)) H locs := hH
        refine lv_goto (tgt := 44) hx hb dX2_notBucket_40 (by decide) ?_
        have eM : mNot M 5 a1 = (mNotBucket M (nI a1) (nI b1)).2 := by simp [mNotBucket, nI_clamp (show a1 < 2 ^ 31 by omega), nI_clamp (show b1 < 2 ^ 31 by omega), c_4_2, c_15_4, c_31_6]
        rw [eM] at hH
        exact z_iret hx hb hr hlocks hH (u := ()) (by simp [mNotBucket, nI_clamp (show a1 < 2 ^ 31 by omega), nI_clamp (show b1 < 2 ^ 31 by omega), c_4_2, c_15_4, c_31_6]) ⟨hH.1, hH.2.1⟩ trivial (Nat.le_of_ble_eq_true rfl) (Nat.le_of_ble_eq_true rfl) dX2_notBucket_44
    · skip
      refine lv_bipush (v := (-2)) hx hb dX2_notBucket_18 (by decide) ?_
      have eM : M = (mNotBucket M (nI a1) b).2 := by simp [mNotBucket, nI_clamp (show a1 < 2 ^ 31 by omega), c_4_2, c_15_4]
      rw [eM] at hH
      exact z_iret hx hb hr hlocks hH (u := ()) (by simp [mNotBucket, nI_clamp (show a1 < 2 ^ 31 by omega), c_4_2, c_15_4]) ⟨hH.1, hH.2.1⟩ trivial (Nat.le_of_ble_eq_true rfl) (Nat.le_of_ble_eq_true rfl) dX2_notBucket_20
  · skip
    refine lv_iconst (v := (-1)) hx hb dX2_notBucket_7 (by decide) ?_
    have eM : M = (mNotBucket M a b).2 := by simp [mNotBucket, c_4_2]
    rw [eM] at hH
    exact z_iret hx hb hr hlocks hH (u := ()) (by simp [mNotBucket, c_4_2]) ⟨hH.1, hH.2.1⟩ trivial (Nat.le_of_ble_eq_true rfl) (Nat.le_of_ble_eq_true rfl) dX2_notBucket_8

set_option maxHeartbeats 4000000 in
set_option maxRecDepth 100000 in
theorem metX2_notGo (l : Launch) (G : va_G) (dA : Nat → ClassId) (dS : Nat → Nat) (B0 sz : Nat) (q : Nat → Nat) (M : mS) (a : Int32) (hbw : ∀ k, k ≠ 12 → k ≠ 13 → M 1 k < 2 ^ 31) (h12 : M 1 0 ≤ 12) : Met l yX2_notGo (ws_ yX2_notGo cX2_notGo 2 (some FieldType.int)) ({ frames := 2, cells := 0, slots := 0, locals := 42 }) (zP G dA dS B0 [.ref (q 0), .int (a)] sz (mW dA q M) (fun H => True)) (zQi G (fun (r : Int32) (u : Unit) => r = (mNotGo M a).1) (fun (u : Unit) => mW dA q ((mNotGo M a).2)) (fun (u : Unit) (H : Heap) => True) (va_A (mW dA q M) sz)) 0 0 (va_A (mW dA q M) sz) := by
  refine zM (by decide) (Nat.le_of_ble_eq_true rfl) ?_
  intro p e s m below meth c ls A H locs hHe hx hb hr hlocks hml hown hname hts hX hsz hB hAe hA hAB hH hRo hl
  have hl : lv_has ls 2 [(0, .ref (q 0)), (1, .int (a))] := hl
  refine lv_iload_n hx hb dX2_notGo_0 rfl (lv_at hl 1 rfl) ?_
  refine z_ci (wr := mW dA q M) (va_runS (As := [.int (a)]) (rest := []) ⟨hx, hb, hml, hown, hts⟩ (metX2_isWell l G dA dS B0 H.size a) (va_cwS 1 hts (lw_S q2088 q2089 q91 q2090) rfl rfl rfl (by decide +kernel) ⟨Nat.le_of_ble_eq_true rfl, Nat.le_of_ble_eq_true rfl⟩) (zPS hX hH hB hAB [] rfl rfl trivial) rfl rfl hl.1 rfl (lv_room (Nat.le_of_ble_eq_true rfl)) dX2_notGo_1 ⟨(Nat.le_of_ble_eq_true rfl), (Nat.le_of_ble_eq_true rfl)⟩) hH hA [] [0, 1, 2, 3, 4, 5, 6, 7, 8] rfl rfl (by decide) (by decide) (fun r_1 u_r_1 H locs hw_r_1 hH hR_r_1 hk_r_1 => ?_)
  obtain rfl := hw_r_1
  have hH : zH G A s.heap (mW dA q M) H locs := hH
  refine z_ifneB (b := inR a (nI 0) (nI 3)) (tgt := 9) hx hb dX2_notGo_4 (by decide) (fun c_4_2 => ?_) (fun c_4_2 => ?_)
  · skip
    obtain ⟨a1, rfl, hl1, hu1⟩ := inR_n (a := 0) (b := 3) (by decide) (by decide) c_4_2
    refine lv_aload_n hx hb dX2_notGo_9 rfl (lv_at hl 0 rfl) ?_
    refine z_get (v := .ref (q 1)) hx hb hts hown hX kX2 6 (by decide) (hH.at 0 rfl) rfl q2016 (fun _ h9 => h9) dX2_notGo_10 ?_
    refine lv_iconst (v := nI 1) hx hb dX2_notGo_13 (by decide) ?_
    refine z_iald (x := nI (M 1 1)) hx hb hX (k := 1)  (hH.at 1 rfl) rfl (by omega) (by omega) rfl dX2_notGo_14 ?_
    have hbd_3 := hbw 1 (by omega) (by omega)
    refine lv_iload_n hx hb dX2_notGo_15 rfl (lv_at hl 1 rfl) ?_
    refine z_icmp_ne (tgt := 28) hx hb dX2_notGo_16 (by decide) (by omega) (by omega) (fun c_16_4 => ?_) (fun c_16_4 => ?_)
    · skip
      refine lv_iconst (v := nI 0) hx hb dX2_notGo_28 (by decide) ?_
      have eM : M = (mNotGo M (nI a1)).2 := by simp [mNotGo, nI_clamp (show a1 < 2 ^ 31 by omega), c_4_2, c_16_4]
      rw [eM] at hH
      exact z_iret hx hb hr hlocks hH (u := ()) (by simp [mNotGo, nI_clamp (show a1 < 2 ^ 31 by omega), c_4_2, c_16_4]) ⟨hH.1, hH.2.1⟩ trivial (Nat.le_of_ble_eq_true rfl) (Nat.le_of_ble_eq_true rfl) dX2_notGo_29
    · skip
      refine lv_aload_n hx hb dX2_notGo_19 rfl (lv_at hl 0 rfl) ?_
      refine lv_iconst (v := nI 5) hx hb dX2_notGo_20 (by decide) ?_
      refine lv_iload_n hx hb dX2_notGo_21 rfl (lv_at hl 1 rfl) ?_
      refine z_ci (wr := []) (va_runV (As := [.int (nI 5), .int (nI a1)]) (rest := []) ⟨hx, hb, hml, hown, hts⟩ (metX2_isNot l G dA dS B0 H.size q M 5 a1) (cwV 2 hts (lw_V q2095 q2097 qs29 q91 q2098) rfl rfl rfl (by decide +kernel) ⟨Nat.le_of_ble_eq_true rfl, Nat.le_of_ble_eq_true rfl⟩) (zPV hX hH hB hAB (z_recv hX kX2 (hH.at 0 rfl)) [0, 1, 2, 3, 4, 5, 6, 7, 8] rfl rfl trivial) rfl rfl hl.1 rfl (lv_room (Nat.le_of_ble_eq_true rfl)) dX2_notGo_22 ⟨(Nat.le_of_ble_eq_true rfl), (Nat.le_of_ble_eq_true rfl)⟩) hH hA [0, 1, 2, 3, 4, 5, 6, 7, 8] [] rfl rfl (by decide) (by decide) (fun r_5 u_r_5 H locs hw_r_5 hH hR_r_5 hk_r_5 => ?_)
      obtain rfl := hw_r_5
      have hH : zH G A s.heap (mW dA q (mNot M 5 a1)) H locs := hH
      refine lv_goto (tgt := 29) hx hb dX2_notGo_25 (by decide) ?_
      have eM : mNot M 5 a1 = (mNotGo M (nI a1)).2 := by simp [mNotGo, nI_clamp (show a1 < 2 ^ 31 by omega), c_4_2, c_16_4]
      rw [eM] at hH
      exact z_iret hx hb hr hlocks hH (u := ()) (by simp [mNotGo, nI_clamp (show a1 < 2 ^ 31 by omega), c_4_2, c_16_4]) ⟨hH.1, hH.2.1⟩ trivial (Nat.le_of_ble_eq_true rfl) (Nat.le_of_ble_eq_true rfl) dX2_notGo_29
  · skip
    refine lv_iconst (v := (-1)) hx hb dX2_notGo_7 (by decide) ?_
    have eM : M = (mNotGo M a).2 := by simp [mNotGo, c_4_2]
    rw [eM] at hH
    exact z_iret hx hb hr hlocks hH (u := ()) (by simp [mNotGo, c_4_2]) ⟨hH.1, hH.2.1⟩ trivial (Nat.le_of_ble_eq_true rfl) (Nat.le_of_ble_eq_true rfl) dX2_notGo_8

set_option maxHeartbeats 4000000 in
set_option maxRecDepth 100000 in
theorem metX2_moves (l : Launch) (G : va_G) (dA : Nat → ClassId) (dS : Nat → Nat) (B0 sz : Nat) (q : Nat → Nat) (M : mS) (a : Nat) : Met l yX2_moves (ws_ yX2_moves cX2_moves 2 (some FieldType.int)) ({ frames := 1, cells := 0, slots := 0, locals := 23 }) (zP G dA dS B0 [.ref (q 0), .int (nI a)] sz (mW dA q M) (fun H => True)) (zQi G (fun (r : Int32) (u : Unit) => r = nI (M 1 1)) (fun (u : Unit) => mW dA q (mu (mu M 1 3 0) 1 1 a)) (fun (u : Unit) (H : Heap) => True) (va_A (mW dA q M) sz)) 0 0 (va_A (mW dA q M) sz) := by
  refine zM (by decide) (Nat.le_of_ble_eq_true rfl) ?_
  intro p e s m below meth c ls A H locs hHe hx hb hr hlocks hml hown hname hts hX hsz hB hAe hA hAB hH hRo hl
  have hl : lv_has ls 2 [(0, .ref (q 0)), (1, .int (nI a))] := hl
  refine lv_aload_n hx hb dX2_moves_0 rfl (lv_at hl 0 rfl) ?_
  refine z_get (v := .ref (q 1)) hx hb hts hown hX kX2 6 (by decide) (hH.at 0 rfl) rfl q2016 (fun _ h9 => h9) dX2_moves_1 ?_
  refine lv_iconst (v := nI 3) hx hb dX2_moves_4 (by decide) ?_
  refine lv_iconst (v := nI 0) hx hb dX2_moves_5 (by decide) ?_
  refine z_iastN hx hb hX (k := 3) hH 1 rfl rfl (by omega) (by omega) dX2_moves_6 (fun H locs hH => ?_)
  have hH : zH G A s.heap (mW dA q (mu M 1 3 0)) H locs := hH
  refine lv_aload_n hx hb dX2_moves_7 rfl (lv_at hl 0 rfl) ?_
  refine lv_iconst (v := nI 1) hx hb dX2_moves_8 (by decide) ?_
  refine lv_iload_n hx hb dX2_moves_9 rfl (lv_at hl 1 rfl) ?_
  refine z_ci (wr := []) (va_runV (As := [.int (nI 1), .int (nI a)]) (rest := []) ⟨hx, hb, hml, hown, hts⟩ (metX2_tells l G dA dS B0 H.size q (mu M 1 3 0) 1 a (by first | exact hk | assumption | omega)) (cwV 2 hts (lw_V q2187 q2189 qs48 q91 q2190) rfl rfl rfl (by decide +kernel) ⟨Nat.le_of_ble_eq_true rfl, Nat.le_of_ble_eq_true rfl⟩) (zPV hX hH hB hAB (z_recv hX kX2 (hH.at 0 rfl)) [0, 1, 2, 3, 4, 5, 6, 7, 8] rfl rfl trivial) rfl rfl hl.1 rfl (lv_room (Nat.le_of_ble_eq_true rfl)) dX2_moves_10 ⟨(Nat.le_of_ble_eq_true rfl), (Nat.le_of_ble_eq_true rfl)⟩) hH hA [0, 1, 2, 3, 4, 5, 6, 7, 8] [] rfl rfl (by decide) (by decide) (fun r_1 u_r_1 H locs hw_r_1 hH hR_r_1 hk_r_1 => ?_)
  obtain rfl := hw_r_1
  have hH : zH G A s.heap (mW dA q (mu (mu M 1 3 0) 1 1 a)) H locs := hH
  exact z_iret hx hb hr hlocks hH (u := ()) (by rfl) ⟨hH.1, hH.2.1⟩ trivial (Nat.le_of_ble_eq_true rfl) (Nat.le_of_ble_eq_true rfl) dX2_moves_13

set_option maxHeartbeats 4000000 in
set_option maxRecDepth 100000 in
theorem metX2_nextReach (l : Launch) (G : va_G) (dA : Nat → ClassId) (dS : Nat → Nat) (B0 sz : Nat) (a : Nat) (b : Nat) (ha : a ≤ 30) (hb2 : b ≤ 10) : Met l yX2_nextReach (ws_ yX2_nextReach cX2_nextReach 2 (some FieldType.int)) ({ frames := 0, cells := 0, slots := 0, locals := 0 }) (zP G dA dS B0 [.int (nI a), .int (nI b)] sz [] (fun H => True)) (zQi G (fun (r : Int32) (u : Unit) => r = nI (nR a b)) (fun (u : Unit) => []) (fun (u : Unit) (H : Heap) => True) (va_A [] sz)) 0 0 (va_A [] sz) := by
  refine zM (by decide) (Nat.le_of_ble_eq_true rfl) ?_
  intro p e s m below meth c ls A H locs hHe hx hb hr hlocks hml hown hname hts hX hsz hB hAe hA hAB hH hRo hl
  have hl : lv_has ls 2 [(0, .int (nI a)), (1, .int (nI b))] := hl
  refine lv_iload_n hx hb dX2_nextReach_0 rfl (lv_at hl 0 rfl) ?_
  refine lv_iload_n hx hb dX2_nextReach_1 rfl (lv_at hl 1 rfl) ?_
  refine lv_iadd hx hb dX2_nextReach_2 ?_
  refine z_topi (y := nI (a + b)) (nI_add _ _) ?_
  refine lv_bipush (v := nI 30) hx hb dX2_nextReach_3 (by decide) ?_
  refine z_icmp_ge (tgt := 14) hx hb dX2_nextReach_5 (by decide) (by omega) (by omega) (fun c_5_1 => ?_) (fun c_5_1 => ?_)
  · skip
    have dc_5_1 := Nat.not_lt.mp c_5_1
    refine lv_bipush (v := nI 30) hx hb dX2_nextReach_14 (by decide) ?_
    exact z_iret hx hb hr hlocks hH (u := ()) (by simp [nR, c_5_1, dc_5_1]) ⟨hH.1, hH.2.1⟩ trivial (Nat.le_of_ble_eq_true rfl) (Nat.le_of_ble_eq_true rfl) dX2_nextReach_16
  · skip
    refine lv_iload_n hx hb dX2_nextReach_8 rfl (lv_at hl 0 rfl) ?_
    refine lv_iload_n hx hb dX2_nextReach_9 rfl (lv_at hl 1 rfl) ?_
    refine lv_iadd hx hb dX2_nextReach_10 ?_
    refine z_topi (y := nI (a + b)) (nI_add _ _) ?_
    refine lv_goto (tgt := 16) hx hb dX2_nextReach_11 (by decide) ?_
    exact z_iret hx hb hr hlocks hH (u := ()) (by simp [nR, c_5_1]) ⟨hH.1, hH.2.1⟩ trivial (Nat.le_of_ble_eq_true rfl) (Nat.le_of_ble_eq_true rfl) dX2_nextReach_16

