/-! the pump, read -/
theorem t_nl {a b : Int32} (h : ¬ a < b) : ¬ a < b := h
theorem t_ng {a b : Int32} (h : ¬ b < a) : ¬ b < a := h
theorem bN_1 {x : Nat} (h : x ≤ 1) : x = bN (decide (x = 1)) := by
  rcases (show x = 0 ∨ x = 1 by omega) with e | e <;> subst e <;> rfl
theorem z_mmin' {a b : Nat} (h : a + b < 2 ^ 31) : (if nI (a + b) < nI 30 then nI (a + b) else nI 30) = nI (nR a b) := by
  unfold nR
  by_cases h1 : a + b < 30
  · rw [if_pos ((nI_ltI h (by decide)).mpr h1), if_pos h1]
  · rw [if_neg (fun z => h1 ((nI_ltI h (by decide)).mp z)), if_neg h1]
theorem cl30 {r : Nat} (h : r ≤ 30) : (if r < 30 then r else 30) = r := by split <;> omega
theorem nR_ge (r ln : Nat) : r ≤ 30 → r ≤ nR r ln := by unfold nR; split <;> omega
theorem stU_s {st d n r N : Nat} (h : n + stN st d (30 - n) (if r < 30 then r else 30) = N) (hr : r < d) (hd : d ≤ 30) (hn : n < 30) : (n + 1) + stN st d (30 - (n + 1)) (if r + st < 30 then r + st else 30) = N := by
  rw [cl30 (by omega)] at h
  exact stN_s h hr hn
theorem stU_e {st d n r N : Nat} (h : n + stN st d (30 - n) (if r < 30 then r else 30) = N) (hr : ¬ r < d) (hd : d ≤ 30) : n = N := stN_e h (by split <;> omega)
theorem stN_le (st d : Nat) : ∀ f r, stN st d f r ≤ f
  | 0, _ => Nat.le_refl _
  | f + 1, r => by
    have := stN_le st d f (nR r st)
    simp only [stN]
    split <;> omega
set_option maxRecDepth 100000 in
theorem sA_eq : ∀ d, d ≤ 30 → ∀ r, r ≤ 30 → ∀ st, st ≤ 10 → 1 ≤ st → (if (0 : Int32) < (nI d - nI r + nI st - nI 1) / nI st then (nI d - nI r + nI st - nI 1) / nI st else 0) = nI (stN st d 30 r) := by
  have h : ∀ d : Fin 31, ∀ r : Fin 31, ∀ st : Fin 11, 1 ≤ st.1 → (if (0 : Int32) < (nI d.1 - nI r.1 + nI st.1 - nI 1) / nI st.1 then (nI d.1 - nI r.1 + nI st.1 - nI 1) / nI st.1 else 0) = nI (stN st.1 d.1 30 r.1) := by decide +kernel
  intro d hd r hr st hs h1
  exact h ⟨d, by omega⟩ ⟨r, by omega⟩ ⟨st, by omega⟩ h1
set_option maxHeartbeats 4000000 in
set_option maxRecDepth 100000 in
theorem metX0_in (l : Launch) (G : va_G) (dA : Nat → ClassId) (dS : Nat → Nat) (B0 sz : Nat) (v : Int32) (lo : Int32) (up : Int32) : Met l yX0_in (ws_ yX0_in cX0_in 3 (some FieldType.boolean)) ({ frames := 0, cells := 0, slots := 0, locals := 0 }) (zP G dA dS B0 [.int (v), .int (lo), .int (up)] sz [] (fun H => True)) (zQi G (fun (r : Int32) (u : Unit) => r = nI (bN (inR v lo up))) (fun (u : Unit) => []) (fun (u : Unit) (H : Heap) => True) (va_A [] sz)) 0 0 (va_A [] sz) := by
  refine zM (by decide) (Nat.le_of_ble_eq_true rfl) ?_
  intro p e s m below meth c ls A H locs hHe hx hb hr hlocks hml hown hname hts hX hsz hB hAe hA hAB hH hRo hl
  have hl : lv_has ls 3 [(0, .int (v)), (1, .int (lo)), (2, .int (up))] := hl
  refine lv_iload_n hx hb dX0_in_0 rfl (lv_at hl 0 rfl) ?_
  refine lv_iload_n hx hb dX0_in_1 rfl (lv_at hl 1 rfl) ?_
  refine lv_icmp_lt (tgt := 14) hx hb dX0_in_2 (by decide) (fun c_2_1 => ?_) (fun c_2_1 => ?_)
  · skip
    refine lv_iconst (v := nI 0) hx hb dX0_in_14 (by decide) ?_
    exact z_zret hx hb hr hlocks hH (by first | rfl | exact z_narB _ | decide) (u := ()) (by rw [inR_lo c_2_1]; rfl) ⟨hH.1, hH.2.1⟩ trivial (Nat.le_of_ble_eq_true rfl) (Nat.le_of_ble_eq_true rfl) dX0_in_15
  · skip
    refine lv_iload_n hx hb dX0_in_5 rfl (lv_at hl 0 rfl) ?_
    refine lv_iload_n hx hb dX0_in_6 rfl (lv_at hl 2 rfl) ?_
    refine lv_icmp_gt (tgt := 14) hx hb dX0_in_7 (by decide) (fun c_7_2 => ?_) (fun c_7_2 => ?_)
    · skip
      refine lv_iconst (v := nI 0) hx hb dX0_in_14 (by decide) ?_
      exact z_zret hx hb hr hlocks hH (by first | rfl | exact z_narB _ | decide) (u := ()) (by rw [inR_hi c_7_2]; rfl) ⟨hH.1, hH.2.1⟩ trivial (Nat.le_of_ble_eq_true rfl) (Nat.le_of_ble_eq_true rfl) dX0_in_15
    · skip
      refine lv_iconst (v := nI 1) hx hb dX0_in_10 (by decide) ?_
      refine lv_goto (tgt := 15) hx hb dX0_in_11 (by decide) ?_
      exact z_zret hx hb hr hlocks hH (by first | rfl | exact z_narB _ | decide) (u := ()) (by rw [inR_t (t_nl c_2_1) (t_ng c_7_2)]; rfl) ⟨hH.1, hH.2.1⟩ trivial (Nat.le_of_ble_eq_true rfl) (Nat.le_of_ble_eq_true rfl) dX0_in_15

set_option maxHeartbeats 4000000 in
set_option maxRecDepth 100000 in
theorem metX0_bit (l : Launch) (G : va_G) (dA : Nat → ClassId) (dS : Nat → Nat) (B0 sz : Nat) (b : Bool) : Met l yX0_bit (ws_ yX0_bit cX0_bit 1 (some FieldType.int)) ({ frames := 0, cells := 0, slots := 0, locals := 0 }) (zP G dA dS B0 [.int (nI (bN b))] sz [] (fun H => True)) (zQi G (fun (r : Int32) (u : Unit) => r = nI (bN b)) (fun (u : Unit) => []) (fun (u : Unit) (H : Heap) => True) (va_A [] sz)) 0 0 (va_A [] sz) := by
  refine zM (by decide) (Nat.le_of_ble_eq_true rfl) ?_
  intro p e s m below meth c ls A H locs hHe hx hb hr hlocks hml hown hname hts hX hsz hB hAe hA hAB hH hRo hl
  have hl : lv_has ls 1 [(0, .int (nI (bN b)))] := hl
  refine lv_iload_n hx hb dX0_bit_0 rfl (lv_at hl 0 rfl) ?_
  refine z_ifeqB (b := b) (tgt := 8) hx hb dX0_bit_1 (by decide) (fun c_1_1 => ?_) (fun c_1_1 => ?_)
  · skip
    refine lv_iconst (v := nI 0) hx hb dX0_bit_8 (by decide) ?_
    exact z_iret hx hb hr hlocks hH (u := ()) (by rw [c_1_1]; rfl) ⟨hH.1, hH.2.1⟩ trivial (Nat.le_of_ble_eq_true rfl) (Nat.le_of_ble_eq_true rfl) dX0_bit_9
  · skip
    refine lv_iconst (v := nI 1) hx hb dX0_bit_4 (by decide) ?_
    refine lv_goto (tgt := 9) hx hb dX0_bit_5 (by decide) ?_
    exact z_iret hx hb hr hlocks hH (u := ()) (by rw [c_1_1]; rfl) ⟨hH.1, hH.2.1⟩ trivial (Nat.le_of_ble_eq_true rfl) (Nat.le_of_ble_eq_true rfl) dX0_bit_9

set_option maxHeartbeats 4000000 in
set_option maxRecDepth 100000 in
theorem metX1_inWell (l : Launch) (G : va_G) (dA : Nat → ClassId) (dS : Nat → Nat) (B0 sz : Nat) (S : PS) (w : Nat → Nat) (B : Nat) (hrb : rB w B) (hBb : B + 20 < 2 ^ 30) (a : Nat) (ha : a ≤ 3) : Met l yX1_inWell (ws_ yX1_inWell cX1_inWell 5 (some FieldType.int)) ({ frames := 3, cells := 1, slots := 4, locals := 53 }) (zP G dA dS B0 [.ref S.p, .int (nI a)] sz [] (fun H => PumpAt G dA S w H)) (zQi G (fun (r : Int32) (u : Unit) => r = nI (jin w a)) (fun (u : Unit) => []) (fun (u : Unit) (H : Heap) => True) (va_A [] sz)) 1 4 (va_A [] sz) := by
  refine zM (by decide) (Nat.le_of_ble_eq_true rfl) ?_
  intro p e s m below meth c ls A H locs hHe hx hb hr hlocks hml hown hname hts hX hsz hB hAe hA hAB hH hRo hl
  have hl : lv_has ls 5 [(0, .ref S.p), (1, .int (nI a))] := hl
  have hbw := hrb.lt (by omega)
  have h12 := hrb.1
  have hcp := hRo.c
  refine lv_iconst (v := nI 0) hx hb dX1_inWell_0 (by decide) ?_
  refine lv_istore_n (lv' := [(2, .int (nI 0)), (0, .ref S.p), (1, .int (nI a))]) hx hb dX1_inWell_1 rfl hl (by decide) rfl (fun ls hl => ?_)
  refine lv_aload_n hx hb dX1_inWell_2 rfl (lv_at hl 1 rfl) ?_
  refine z_get (v := .ref S.l) hx hb hts hown hX kX1 0 (by decide) (z_fz0 hH hAe (hRo.p)) rfl q182 (fun _ h9 => h9) dX1_inWell_3 ?_
  refine z_cq (wr := []) (va_runV (As := []) (rest := []) ⟨hx, hb, hml, hown, hts⟩ (metJ2_iterator l G dA dS B0 H.size S.l S.md S.a (w 0)) (cwV 0 hts (lw_V q373 q374 q375 q89 q376) rfl rfl rfl (by decide +kernel) ⟨Nat.le_of_ble_eq_true rfl, Nat.le_of_ble_eq_true rfl⟩) (zPV hX hH hB hAB (z_recv hX kJ2 (z_fz0 hH hAe (hRo.l))) [] rfl rfl (z_fz0 hH hAe (hRo.l))) rfl rfl hl.1 rfl (lv_room (Nat.le_of_ble_eq_true rfl)) dX1_inWell_6 ⟨(Nat.le_of_ble_eq_true rfl), (Nat.le_of_ble_eq_true rfl)⟩) hH hA [] [] rfl rfl (by decide) (by decide) (fun r_1 u_r_1 H locs hw_r_1 hH hR_r_1 hk_r_1 => ?_)
  obtain rfl := hw_r_1
  refine z_st (st' := [.ref u_r_1]) rfl ?_
  have hH : zH G A s.heap [(u_r_1, .inr (25, [.int (nI 0), .int ((-1)), .int (S.md), .ref S.l]))] H locs := hH
  refine lv_astore_n (lv' := [(3, .ref u_r_1), (2, .int (nI 0)), (0, .ref S.p), (1, .int (nI a))]) hx hb dX1_inWell_9 rfl hl (by decide) rfl (fun ls hl => ?_)
  have LP10_1 : ∀ (fuel : Nat) (i : Nat) (r9 : Int32) (hfu : (w 0 - i) < fuel) (hi : i ≤ w 0) (H : Heap) (locs : List Loc), zH G A s.heap [(u_r_1, .inr (25, [.int (nI i), .int (r9), .int (S.md), .ref S.l]))] H locs → ∀ (ls : Array Slot), lv_has ls 5 [(3, .ref u_r_1), (0, .ref S.p), (1, .int (nI a)), (2, .int (nI (cN (fun k => decide (jk w k 0 = a)) i)))] → W p l e (headSpec (ws_ yX1_inWell cX1_inWell 5 (some FieldType.int)) ({ frames := 3, cells := 1, slots := 4, locals := 53 })).room s m ([.ref S.p, .int (nI a)] : List Value).toArray below meth c H locs 1 4 (MQ below (zQi G (fun (r : Int32) (u : Unit) => r = nI (jin w a)) (fun (u : Unit) => []) (fun (u : Unit) (H : Heap) => True) A) ([.ref S.p, .int (nI a)] : List Value).toArray s 1 4 A) (F0 m 10 ls []) := by
    intro fuel
    induction fuel with
    | zero => intro i r9 hfu; exact absurd hfu (Nat.not_lt_zero _)
    | succ fuel ih10 =>
      intro i r9 hfu hi H locs hH ls hl
      have hcn := cN_le (fun k => decide (jk w k 0 = a)) i
      have hji := fun h => hrb.2.2.1 i h
      refine lv_aload_n hx hb dX1_inWell_10 rfl (lv_at hl 0 rfl) ?_
      refine z_cFi (wr := []) (va_runF (hX.1.1 25 _ kJ4.1).2 (As := []) (rest := []) ⟨hx, hb, hml, hown, hts⟩ (metJ4_hasNext l G dA dS B0 H.size u_r_1 S.l S.md S.a (w 0) i r9 (by first | exact hi | assumption | omega) (by first | exact hn | assumption | omega)) (va_cwF 0 hts (lw_F q397 q435 q437 q94 q439) rfl rfl rfl (z_F hX 4 (q := ("java/util/ArrayList$Itr", ⟨"java/util/Iterator", "hasNext", "()Z"⟩, ⟨"java/util/ArrayList$Itr", "hasNext", "()Z"⟩)) rfl) (by decide +kernel) ⟨Nat.le_of_ble_eq_true rfl, Nat.le_of_ble_eq_true rfl⟩) (zPV hX hH hB hAB (z_recv hX kJ4 (hH.at 0 rfl)) [0] rfl rfl (z_fz0 hH hAe (hRo.l))) rfl rfl hl.1 rfl (lv_room (Nat.le_of_ble_eq_true rfl)) dX1_inWell_11 ⟨(Nat.le_of_ble_eq_true rfl), (Nat.le_of_ble_eq_true rfl)⟩) hH hA [0] [] rfl rfl (by decide) (by decide) (fun r_3 u_r_3 H locs hw_r_3 hH hR_r_3 hk_r_3 => ?_)
      obtain rfl := hw_r_3
      have hH : zH G A s.heap [(u_r_1, .inr (25, [.int (nI i), .int (r9), .int (S.md), .ref S.l]))] H locs := hH
      refine z_ifeqB (b := decide (i < (w 0))) (tgt := 53) hx hb dX1_inWell_16 (by decide) (fun c_16_4 => ?_) (fun c_16_4 => ?_)
      · skip
        have ec_16_4 := of_decide_eq_false c_16_4
        refine lv_iload_n hx hb dX1_inWell_53 rfl (lv_at hl 3 rfl) ?_
        have hH : zH G A s.heap [] H locs := hH.sub [] rfl rfl
        exact z_iret hx hb hr hlocks hH (u := ()) (by (have e : i = w 0 := (by omega)); subst e; rfl) ⟨hH.1, hH.2.1⟩ trivial (Nat.le_of_ble_eq_true rfl) (Nat.le_of_ble_eq_true rfl) dX1_inWell_54
      · skip
        have ec_16_4 := of_decide_eq_true c_16_4
        refine lv_aload_n hx hb dX1_inWell_19 rfl (lv_at hl 0 rfl) ?_
        refine z_cFq (wr := []) (va_runF (hX.1.1 25 _ kJ4.1).2 (As := []) (rest := []) ⟨hx, hb, hml, hown, hts⟩ (metJ4_next l G dA dS B0 H.size u_r_1 S.l S.md S.a (w 0) i r9 S.cp (eF (w 0) S.J) (by first | exact hi | assumption | omega) (by first | exact hc | assumption | omega) (by first | exact hcp | assumption | omega)) (va_cwF 0 hts (lw_F q565 q541 q543 q94 q545) rfl rfl rfl (z_F hX 5 (q := ("java/util/ArrayList$Itr", ⟨"java/util/Iterator", "next", "()Ljava/lang/Object;"⟩, ⟨"java/util/ArrayList$Itr", "next", "()Ljava/lang/Object;"⟩)) rfl) (by decide +kernel) ⟨Nat.le_of_ble_eq_true rfl, Nat.le_of_ble_eq_true rfl⟩) (zPV hX hH hB hAB (z_recv hX kJ4 (hH.at 0 rfl)) [0] rfl rfl (⟨(z_fz0 hH hAe (hRo.l)), (z_fz0 hH hAe (hRo.a (by omega)))⟩)) rfl rfl hl.1 rfl (lv_room (Nat.le_of_ble_eq_true rfl)) dX1_inWell_20 ⟨(Nat.le_of_ble_eq_true rfl), (Nat.le_of_ble_eq_true rfl)⟩) hH hA [0] [] rfl rfl (by decide) (by decide) (fun r_5 u_r_5 H locs hw_r_5 hH hR_r_5 hk_r_5 => ?_)
        obtain rfl := hw_r_5
        refine z_st (st' := [.ref (S.J i)]) (by rw [eF_lt (by omega)]; rfl) ?_
        have hH : zH G A s.heap [(u_r_1, .inr (25, [.int (nI (i + 1)), .int (nI i), .int (S.md), .ref S.l]))] H locs := hH
        have hjk9 := hji (by omega)
        refine z_ckc hx hb hown (hts _ q566) hX kX5 (z_fz0 hH hAe (hRo.j (k := i) (by first | assumption | omega))) dX1_inWell_25 ?_
        refine lv_astore (lv' := [(4, .ref (S.J i)), (3, .ref u_r_1), (0, .ref S.p), (1, .int (nI a)), (2, .int (nI (cN (fun k => decide (jk w k 0 = a)) i)))]) hx hb dX1_inWell_28 hl (by decide) rfl (fun ls hl => ?_)
        refine lv_iload_n hx hb dX1_inWell_30 rfl (lv_at hl 4 rfl) ?_
        refine lv_aload hx hb dX1_inWell_31 (lv_at hl 0 rfl) ?_
        refine z_getN (v := .int (nI (jk w i 0))) hx hb hts hown hX kX5 1 (by decide) (z_fz0 hH hAe (hRo.j (k := i) (by first | assumption | omega))) rfl q581 (fun _ h9 => h9) dX1_inWell_33 ?_
        refine lv_iload_n hx hb dX1_inWell_36 rfl (lv_at hl 3 rfl) ?_
        refine z_icmp_ne (tgt := 44) hx hb dX1_inWell_37 (by decide) (by omega) (by omega) (fun c_37_6 => ?_) (fun c_37_6 => ?_)
        · skip
          refine lv_iconst (v := nI 0) hx hb dX1_inWell_44 (by decide) ?_
          refine z_ci (wr := [(u_r_1, .inr (25, [.int (nI (i + 1)), .int (nI i), .int (S.md), .ref S.l]))]) (va_runSN (As := [.int (nI 0)]) (rest := [.int (nI (cN (fun k => decide (jk w k 0 = a)) i))]) ⟨hx, hb, hml, hown, hts⟩ (metX0_bit l G dA dS B0 H.size false) ⟨va_cnB 1 hts (lw_meth q764) rfl rfl rfl (hX.2.1 _ q762 rfl) (hts _ q85) (by decide +kernel) ⟨Nat.le_of_ble_eq_true rfl, Nat.le_of_ble_eq_true rfl⟩, hts _ q763, trivial⟩ (zPS hX hH hB hAB [] rfl rfl trivial) rfl rfl hl.1 rfl (lv_room (Nat.le_of_ble_eq_true rfl)) dX1_inWell_45 ⟨(Nat.le_of_ble_eq_true rfl), (Nat.le_of_ble_eq_true rfl)⟩) hH hA [] [0] rfl rfl (by decide) (by decide) (fun r_7 u_r_7 H locs hw_r_7 hH hR_r_7 hk_r_7 => ?_)
          obtain rfl := hw_r_7
          have hH : zH G A s.heap [(u_r_1, .inr (25, [.int (nI (i + 1)), .int (nI i), .int (S.md), .ref S.l]))] H locs := hH
          refine lv_iadd hx hb dX1_inWell_48 ?_
          refine z_topi (y := nI (cN (fun k => decide (jk w k 0 = a)) i + bN false)) (nI_add _ _) ?_
          refine lv_istore_n (lv' := [(2, .int (nI (cN (fun k => decide (jk w k 0 = a)) i + bN false))), (4, .ref (S.J i)), (3, .ref u_r_1), (0, .ref S.p), (1, .int (nI a))]) hx hb dX1_inWell_49 rfl hl (by decide) rfl (fun ls hl => ?_)
          refine lv_goto (tgt := 10) hx hb dX1_inWell_50 (by decide) ?_
          have ev_8 : nI (cN (fun k => decide (jk w k 0 = a)) i + bN false) = nI (cN (fun k => decide (jk w k 0 = a)) (i + 1)) := by first | rfl | (show nI (_ + _) = nI (cN _ i + bN (decide _)); simp [bN, c_16_4, ec_16_4, c_37_6]; done)
          have hl : lv_has ls 5 [(3, .ref u_r_1), (0, .ref S.p), (1, .int (nI a)), (2, .int (nI (cN (fun k => decide (jk w k 0 = a)) (i + 1))))] := z_lv (lv_sub hl [2, 3, 4, 0] rfl) (by rw [ev_8] <;> rfl)
          exact ih10 (i + 1) (nI i) (by omega) (by omega) _ _ hH ls (lv_sub hl [0, 1, 2, 3] rfl)
        · skip
          refine lv_iconst (v := nI 1) hx hb dX1_inWell_40 (by decide) ?_
          refine lv_goto (tgt := 45) hx hb dX1_inWell_41 (by decide) ?_
          refine z_ci (wr := [(u_r_1, .inr (25, [.int (nI (i + 1)), .int (nI i), .int (S.md), .ref S.l]))]) (va_runSN (As := [.int (nI 1)]) (rest := [.int (nI (cN (fun k => decide (jk w k 0 = a)) i))]) ⟨hx, hb, hml, hown, hts⟩ (metX0_bit l G dA dS B0 H.size true) ⟨va_cnB 1 hts (lw_meth q764) rfl rfl rfl (hX.2.1 _ q762 rfl) (hts _ q85) (by decide +kernel) ⟨Nat.le_of_ble_eq_true rfl, Nat.le_of_ble_eq_true rfl⟩, hts _ q763, trivial⟩ (zPS hX hH hB hAB [] rfl rfl trivial) rfl rfl hl.1 rfl (lv_room (Nat.le_of_ble_eq_true rfl)) dX1_inWell_45 ⟨(Nat.le_of_ble_eq_true rfl), (Nat.le_of_ble_eq_true rfl)⟩) hH hA [] [0] rfl rfl (by decide) (by decide) (fun r_9 u_r_9 H locs hw_r_9 hH hR_r_9 hk_r_9 => ?_)
          obtain rfl := hw_r_9
          have hH : zH G A s.heap [(u_r_1, .inr (25, [.int (nI (i + 1)), .int (nI i), .int (S.md), .ref S.l]))] H locs := hH
          refine lv_iadd hx hb dX1_inWell_48 ?_
          refine z_topi (y := nI (cN (fun k => decide (jk w k 0 = a)) i + bN true)) (nI_add _ _) ?_
          refine lv_istore_n (lv' := [(2, .int (nI (cN (fun k => decide (jk w k 0 = a)) i + bN true))), (4, .ref (S.J i)), (3, .ref u_r_1), (0, .ref S.p), (1, .int (nI a))]) hx hb dX1_inWell_49 rfl hl (by decide) rfl (fun ls hl => ?_)
          refine lv_goto (tgt := 10) hx hb dX1_inWell_50 (by decide) ?_
          have ev_10 : nI (cN (fun k => decide (jk w k 0 = a)) i + bN true) = nI (cN (fun k => decide (jk w k 0 = a)) (i + 1)) := by first | rfl | (show nI (_ + _) = nI (cN _ i + bN (decide _)); simp [bN, c_16_4, ec_16_4, c_37_6]; done)
          have hl : lv_has ls 5 [(3, .ref u_r_1), (0, .ref S.p), (1, .int (nI a)), (2, .int (nI (cN (fun k => decide (jk w k 0 = a)) (i + 1))))] := z_lv (lv_sub hl [2, 3, 4, 0] rfl) (by rw [ev_10] <;> rfl)
          exact ih10 (i + 1) (nI i) (by omega) (by omega) _ _ hH ls (lv_sub hl [0, 1, 2, 3] rfl)
  have ev_11 : nI 0 = nI (cN (fun k => decide (jk w k 0 = a)) 0) := by first | rfl | (show nI (_ + _) = nI (cN _ i + bN (decide _)); simp [bN]; done)
  have hl : lv_has ls 5 [(3, .ref u_r_1), (0, .ref S.p), (1, .int (nI a)), (2, .int (nI (cN (fun k => decide (jk w k 0 = a)) 0)))] := z_lv (lv_sub hl [0, 2, 3, 1] rfl) (by rw [ev_11] <;> rfl)
  exact LP10_1 ((w 0 - 0) + 1) 0 (-1) (Nat.lt_succ_self _) (by omega) _ _ hH ls (lv_sub hl [0, 1, 2, 3] rfl)

set_option maxHeartbeats 4000000 in
set_option maxRecDepth 100000 in
theorem metX1_hasJoke (l : Launch) (G : va_G) (dA : Nat → ClassId) (dS : Nat → Nat) (B0 sz : Nat) (S : PS) (w : Nat → Nat) (B : Nat) (hrb : rB w B) (hBb : B + 20 < 2 ^ 30) (a : Int32) : Met l yX1_hasJoke (ws_ yX1_hasJoke cX1_hasJoke 2 (some FieldType.boolean)) ({ frames := 1, cells := 0, slots := 0, locals := 22 }) (zP G dA dS B0 [.ref S.p, .int (a)] sz [] (fun H => PumpAt G dA S w H)) (zQi G (fun (r : Int32) (u : Unit) => r = nI (bN (inR a (nI 0) (nI (w 0) - nI 1)))) (fun (u : Unit) => []) (fun (u : Unit) (H : Heap) => True) (va_A [] sz)) 0 0 (va_A [] sz) := by
  refine zM (by decide) (Nat.le_of_ble_eq_true rfl) ?_
  intro p e s m below meth c ls A H locs hHe hx hb hr hlocks hml hown hname hts hX hsz hB hAe hA hAB hH hRo hl
  have hl : lv_has ls 2 [(0, .ref S.p), (1, .int (a))] := hl
  have hbw := hrb.lt (by omega)
  have h12 := hrb.1
  have hcp := hRo.c
  refine lv_iload_n hx hb dX1_hasJoke_0 rfl (lv_at hl 1 rfl) ?_
  refine lv_iconst (v := nI 0) hx hb dX1_hasJoke_1 (by decide) ?_
  refine lv_aload_n hx hb dX1_hasJoke_2 rfl (lv_at hl 0 rfl) ?_
  refine z_get (v := .ref S.l) hx hb hts hown hX kX1 0 (by decide) (z_fz0 hH hAe (hRo.p)) rfl q182 (fun _ h9 => h9) dX1_hasJoke_3 ?_
  refine z_ci (wr := []) (va_runV (As := []) (rest := [.int (nI 0), .int (a)]) ⟨hx, hb, hml, hown, hts⟩ (metJ2_size l G dA dS B0 H.size S.l S.md S.a (w 0)) (cwV 0 hts (lw_V q754 q755 q756 q89 q757) rfl rfl rfl (by decide +kernel) ⟨Nat.le_of_ble_eq_true rfl, Nat.le_of_ble_eq_true rfl⟩) (zPV hX hH hB hAB (z_recv hX kJ2 (z_fz0 hH hAe (hRo.l))) [] rfl rfl (z_fz0 hH hAe (hRo.l))) rfl rfl hl.1 rfl (lv_room (Nat.le_of_ble_eq_true rfl)) dX1_hasJoke_6 ⟨(Nat.le_of_ble_eq_true rfl), (Nat.le_of_ble_eq_true rfl)⟩) hH hA [] [] rfl rfl (by decide) (by decide) (fun r_1 u_r_1 H locs hw_r_1 hH hR_r_1 hk_r_1 => ?_)
  obtain rfl := hw_r_1
  have hH : zH G A s.heap [] H locs := hH
  refine lv_iconst (v := nI 1) hx hb dX1_hasJoke_9 (by decide) ?_
  refine lv_isub hx hb dX1_hasJoke_10 ?_
  refine z_ci (wr := []) (va_runSN (As := [.int (a), .int (nI 0), .int ((nI (w 0)) - (nI 1))]) (rest := []) ⟨hx, hb, hml, hown, hts⟩ (metX0_in l G dA dS B0 H.size a (nI 0) ((nI (w 0)) - (nI 1))) ⟨va_cnB 3 hts (lw_meth q342) rfl rfl rfl (hX.2.1 _ q871 rfl) (hts _ q85) (by decide +kernel) ⟨Nat.le_of_ble_eq_true rfl, Nat.le_of_ble_eq_true rfl⟩, hts _ q341, trivial⟩ (zPS hX hH hB hAB [] rfl rfl trivial) rfl rfl hl.1 rfl (lv_room (Nat.le_of_ble_eq_true rfl)) dX1_hasJoke_11 ⟨(Nat.le_of_ble_eq_true rfl), (Nat.le_of_ble_eq_true rfl)⟩) hH hA [] [] rfl rfl (by decide) (by decide) (fun r_2 u_r_2 H locs hw_r_2 hH hR_r_2 hk_r_2 => ?_)
  obtain rfl := hw_r_2
  have hH : zH G A s.heap [] H locs := hH
  exact z_zret hx hb hr hlocks hH (by first | rfl | exact z_narB _ | decide) (u := ()) (by rfl) ⟨hH.1, hH.2.1⟩ trivial (Nat.le_of_ble_eq_true rfl) (Nat.le_of_ble_eq_true rfl) dX1_hasJoke_14

set_option maxHeartbeats 4000000 in
set_option maxRecDepth 100000 in
theorem metX1_lessDeep (l : Launch) (G : va_G) (dA : Nat → ClassId) (dS : Nat → Nat) (B0 sz : Nat) (S : PS) (w : Nat → Nat) (B : Nat) (hrb : rB w B) (hBb : B + 20 < 2 ^ 30) (k9 : Nat) (hk9 : k9 < w 0) : Met l yX1_lessDeep (ws_ yX1_lessDeep cX1_lessDeep 5 (some FieldType.int)) ({ frames := 3, cells := 1, slots := 4, locals := 53 }) (zP G dA dS B0 [.ref S.p, .ref (S.J k9)] sz [] (fun H => PumpAt G dA S w H)) (zQi G (fun (r : Int32) (u : Unit) => r = nI (abv w k9)) (fun (u : Unit) => []) (fun (u : Unit) (H : Heap) => True) (va_A [] sz)) 1 4 (va_A [] sz) := by
  refine zM (by decide) (Nat.le_of_ble_eq_true rfl) ?_
  intro p e s m below meth c ls A H locs hHe hx hb hr hlocks hml hown hname hts hX hsz hB hAe hA hAB hH hRo hl
  have hl : lv_has ls 5 [(0, .ref S.p), (1, .ref (S.J k9))] := hl
  have hbw := hrb.lt (by omega)
  have h12 := hrb.1
  have hcp := hRo.c
  have hjk0 := hrb.2.2.1 k9 hk9
  refine lv_iconst (v := nI 0) hx hb dX1_lessDeep_0 (by decide) ?_
  refine lv_istore_n (lv' := [(2, .int (nI 0)), (0, .ref S.p), (1, .ref (S.J k9))]) hx hb dX1_lessDeep_1 rfl hl (by decide) rfl (fun ls hl => ?_)
  refine lv_aload_n hx hb dX1_lessDeep_2 rfl (lv_at hl 1 rfl) ?_
  refine z_get (v := .ref S.l) hx hb hts hown hX kX1 0 (by decide) (z_fz0 hH hAe (hRo.p)) rfl q182 (fun _ h9 => h9) dX1_lessDeep_3 ?_
  refine z_cq (wr := []) (va_runV (As := []) (rest := []) ⟨hx, hb, hml, hown, hts⟩ (metJ2_iterator l G dA dS B0 H.size S.l S.md S.a (w 0)) (cwV 0 hts (lw_V q373 q374 q375 q89 q376) rfl rfl rfl (by decide +kernel) ⟨Nat.le_of_ble_eq_true rfl, Nat.le_of_ble_eq_true rfl⟩) (zPV hX hH hB hAB (z_recv hX kJ2 (z_fz0 hH hAe (hRo.l))) [] rfl rfl (z_fz0 hH hAe (hRo.l))) rfl rfl hl.1 rfl (lv_room (Nat.le_of_ble_eq_true rfl)) dX1_lessDeep_6 ⟨(Nat.le_of_ble_eq_true rfl), (Nat.le_of_ble_eq_true rfl)⟩) hH hA [] [] rfl rfl (by decide) (by decide) (fun r_1 u_r_1 H locs hw_r_1 hH hR_r_1 hk_r_1 => ?_)
  obtain rfl := hw_r_1
  refine z_st (st' := [.ref u_r_1]) rfl ?_
  have hH : zH G A s.heap [(u_r_1, .inr (25, [.int (nI 0), .int ((-1)), .int (S.md), .ref S.l]))] H locs := hH
  refine lv_astore_n (lv' := [(3, .ref u_r_1), (2, .int (nI 0)), (0, .ref S.p), (1, .ref (S.J k9))]) hx hb dX1_lessDeep_9 rfl hl (by decide) rfl (fun ls hl => ?_)
  have LP10_1 : ∀ (fuel : Nat) (i : Nat) (r9 : Int32) (hfu : (w 0 - i) < fuel) (hi : i ≤ w 0) (H : Heap) (locs : List Loc), zH G A s.heap [(u_r_1, .inr (25, [.int (nI i), .int (r9), .int (S.md), .ref S.l]))] H locs → ∀ (ls : Array Slot), lv_has ls 5 [(3, .ref u_r_1), (0, .ref S.p), (1, .ref (S.J k9)), (2, .int (nI (cN (fun y => decide (jk w y 0 = jk w k9 0) && decide (jk w y 1 < jk w k9 1)) i)))] → W p l e (headSpec (ws_ yX1_lessDeep cX1_lessDeep 5 (some FieldType.int)) ({ frames := 3, cells := 1, slots := 4, locals := 53 })).room s m ([.ref S.p, .ref (S.J k9)] : List Value).toArray below meth c H locs 1 4 (MQ below (zQi G (fun (r : Int32) (u : Unit) => r = nI (abv w k9)) (fun (u : Unit) => []) (fun (u : Unit) (H : Heap) => True) A) ([.ref S.p, .ref (S.J k9)] : List Value).toArray s 1 4 A) (F0 m 10 ls []) := by
    intro fuel
    induction fuel with
    | zero => intro i r9 hfu; exact absurd hfu (Nat.not_lt_zero _)
    | succ fuel ih10 =>
      intro i r9 hfu hi H locs hH ls hl
      have hcn := cN_le (fun y => decide (jk w y 0 = jk w k9 0) && decide (jk w y 1 < jk w k9 1)) i
      have hji := fun h => hrb.2.2.1 i h
      refine lv_aload_n hx hb dX1_lessDeep_10 rfl (lv_at hl 0 rfl) ?_
      refine z_cFi (wr := []) (va_runF (hX.1.1 25 _ kJ4.1).2 (As := []) (rest := []) ⟨hx, hb, hml, hown, hts⟩ (metJ4_hasNext l G dA dS B0 H.size u_r_1 S.l S.md S.a (w 0) i r9 (by first | exact hi | assumption | omega) (by first | exact hn | assumption | omega)) (va_cwF 0 hts (lw_F q397 q435 q437 q94 q439) rfl rfl rfl (z_F hX 4 (q := ("java/util/ArrayList$Itr", ⟨"java/util/Iterator", "hasNext", "()Z"⟩, ⟨"java/util/ArrayList$Itr", "hasNext", "()Z"⟩)) rfl) (by decide +kernel) ⟨Nat.le_of_ble_eq_true rfl, Nat.le_of_ble_eq_true rfl⟩) (zPV hX hH hB hAB (z_recv hX kJ4 (hH.at 0 rfl)) [0] rfl rfl (z_fz0 hH hAe (hRo.l))) rfl rfl hl.1 rfl (lv_room (Nat.le_of_ble_eq_true rfl)) dX1_lessDeep_11 ⟨(Nat.le_of_ble_eq_true rfl), (Nat.le_of_ble_eq_true rfl)⟩) hH hA [0] [] rfl rfl (by decide) (by decide) (fun r_3 u_r_3 H locs hw_r_3 hH hR_r_3 hk_r_3 => ?_)
      obtain rfl := hw_r_3
      have hH : zH G A s.heap [(u_r_1, .inr (25, [.int (nI i), .int (r9), .int (S.md), .ref S.l]))] H locs := hH
      refine z_ifeqB (b := decide (i < (w 0))) (tgt := 68) hx hb dX1_lessDeep_16 (by decide) (fun c_16_4 => ?_) (fun c_16_4 => ?_)
      · skip
        have ec_16_4 := of_decide_eq_false c_16_4
        refine lv_iload_n hx hb dX1_lessDeep_68 rfl (lv_at hl 3 rfl) ?_
        have hH : zH G A s.heap [] H locs := hH.sub [] rfl rfl
        exact z_iret hx hb hr hlocks hH (u := ()) (by (have e : i = w 0 := (by omega)); subst e; rfl) ⟨hH.1, hH.2.1⟩ trivial (Nat.le_of_ble_eq_true rfl) (Nat.le_of_ble_eq_true rfl) dX1_lessDeep_69
      · skip
        have ec_16_4 := of_decide_eq_true c_16_4
        refine lv_aload_n hx hb dX1_lessDeep_19 rfl (lv_at hl 0 rfl) ?_
        refine z_cFq (wr := []) (va_runF (hX.1.1 25 _ kJ4.1).2 (As := []) (rest := []) ⟨hx, hb, hml, hown, hts⟩ (metJ4_next l G dA dS B0 H.size u_r_1 S.l S.md S.a (w 0) i r9 S.cp (eF (w 0) S.J) (by first | exact hi | assumption | omega) (by first | exact hc | assumption | omega) (by first | exact hcp | assumption | omega)) (va_cwF 0 hts (lw_F q565 q541 q543 q94 q545) rfl rfl rfl (z_F hX 5 (q := ("java/util/ArrayList$Itr", ⟨"java/util/Iterator", "next", "()Ljava/lang/Object;"⟩, ⟨"java/util/ArrayList$Itr", "next", "()Ljava/lang/Object;"⟩)) rfl) (by decide +kernel) ⟨Nat.le_of_ble_eq_true rfl, Nat.le_of_ble_eq_true rfl⟩) (zPV hX hH hB hAB (z_recv hX kJ4 (hH.at 0 rfl)) [0] rfl rfl (⟨(z_fz0 hH hAe (hRo.l)), (z_fz0 hH hAe (hRo.a (by omega)))⟩)) rfl rfl hl.1 rfl (lv_room (Nat.le_of_ble_eq_true rfl)) dX1_lessDeep_20 ⟨(Nat.le_of_ble_eq_true rfl), (Nat.le_of_ble_eq_true rfl)⟩) hH hA [0] [] rfl rfl (by decide) (by decide) (fun r_5 u_r_5 H locs hw_r_5 hH hR_r_5 hk_r_5 => ?_)
        obtain rfl := hw_r_5
        refine z_st (st' := [.ref (S.J i)]) (by rw [eF_lt (by omega)]; rfl) ?_
        have hH : zH G A s.heap [(u_r_1, .inr (25, [.int (nI (i + 1)), .int (nI i), .int (S.md), .ref S.l]))] H locs := hH
        have hjk9 := hji (by omega)
        refine z_ckc hx hb hown (hts _ q566) hX kX5 (z_fz0 hH hAe (hRo.j (k := i) (by first | assumption | omega))) dX1_lessDeep_25 ?_
        refine lv_astore (lv' := [(4, .ref (S.J i)), (3, .ref u_r_1), (0, .ref S.p), (1, .ref (S.J k9)), (2, .int (nI (cN (fun y => decide (jk w y 0 = jk w k9 0) && decide (jk w y 1 < jk w k9 1)) i)))]) hx hb dX1_lessDeep_28 hl (by decide) rfl (fun ls hl => ?_)
        refine lv_iload_n hx hb dX1_lessDeep_30 rfl (lv_at hl 4 rfl) ?_
        refine lv_aload hx hb dX1_lessDeep_31 (lv_at hl 0 rfl) ?_
        refine z_getN (v := .int (nI (jk w i 0))) hx hb hts hown hX kX5 1 (by decide) (z_fz0 hH hAe (hRo.j (k := i) (by first | assumption | omega))) rfl q581 (fun _ h9 => h9) dX1_lessDeep_33 ?_
        refine lv_aload_n hx hb dX1_lessDeep_36 rfl (lv_at hl 3 rfl) ?_
        refine z_getN (v := .int (nI (jk w k9 0))) hx hb hts hown hX kX5 1 (by decide) (z_fz0 hH hAe (hRo.j (k := k9) (by first | assumption | omega))) rfl q581 (fun _ h9 => h9) dX1_lessDeep_37 ?_
        refine z_icmp_ne (tgt := 59) hx hb dX1_lessDeep_40 (by decide) (by omega) (by omega) (fun c_40_6 => ?_) (fun c_40_6 => ?_)
        · skip
          refine lv_iconst (v := nI 0) hx hb dX1_lessDeep_59 (by decide) ?_
          refine z_ci (wr := [(u_r_1, .inr (25, [.int (nI (i + 1)), .int (nI i), .int (S.md), .ref S.l]))]) (va_runSN (As := [.int (nI 0)]) (rest := [.int (nI (cN (fun y => decide (jk w y 0 = jk w k9 0) && decide (jk w y 1 < jk w k9 1)) i))]) ⟨hx, hb, hml, hown, hts⟩ (metX0_bit l G dA dS B0 H.size false) ⟨va_cnB 1 hts (lw_meth q764) rfl rfl rfl (hX.2.1 _ q762 rfl) (hts _ q85) (by decide +kernel) ⟨Nat.le_of_ble_eq_true rfl, Nat.le_of_ble_eq_true rfl⟩, hts _ q763, trivial⟩ (zPS hX hH hB hAB [] rfl rfl trivial) rfl rfl hl.1 rfl (lv_room (Nat.le_of_ble_eq_true rfl)) dX1_lessDeep_60 ⟨(Nat.le_of_ble_eq_true rfl), (Nat.le_of_ble_eq_true rfl)⟩) hH hA [] [0] rfl rfl (by decide) (by decide) (fun r_7 u_r_7 H locs hw_r_7 hH hR_r_7 hk_r_7 => ?_)
          obtain rfl := hw_r_7
          have hH : zH G A s.heap [(u_r_1, .inr (25, [.int (nI (i + 1)), .int (nI i), .int (S.md), .ref S.l]))] H locs := hH
          refine lv_iadd hx hb dX1_lessDeep_63 ?_
          refine z_topi (y := nI (cN (fun y => decide (jk w y 0 = jk w k9 0) && decide (jk w y 1 < jk w k9 1)) i + bN false)) (nI_add _ _) ?_
          refine lv_istore_n (lv' := [(2, .int (nI (cN (fun y => decide (jk w y 0 = jk w k9 0) && decide (jk w y 1 < jk w k9 1)) i + bN false))), (4, .ref (S.J i)), (3, .ref u_r_1), (0, .ref S.p), (1, .ref (S.J k9))]) hx hb dX1_lessDeep_64 rfl hl (by decide) rfl (fun ls hl => ?_)
          refine lv_goto (tgt := 10) hx hb dX1_lessDeep_65 (by decide) ?_
          have ev_8 : nI (cN (fun y => decide (jk w y 0 = jk w k9 0) && decide (jk w y 1 < jk w k9 1)) i + bN false) = nI (cN (fun y => decide (jk w y 0 = jk w k9 0) && decide (jk w y 1 < jk w k9 1)) (i + 1)) := by first | rfl | (show nI (_ + _) = nI (cN _ i + bN (decide _ && decide _)); simp [bN, c_16_4, ec_16_4, c_40_6]; done)
          have hl : lv_has ls 5 [(3, .ref u_r_1), (0, .ref S.p), (1, .ref (S.J k9)), (2, .int (nI (cN (fun y => decide (jk w y 0 = jk w k9 0) && decide (jk w y 1 < jk w k9 1)) (i + 1))))] := z_lv (lv_sub hl [2, 3, 4, 0] rfl) (by rw [ev_8] <;> rfl)
          exact ih10 (i + 1) (nI i) (by omega) (by omega) _ _ hH ls (lv_sub hl [0, 1, 2, 3] rfl)
        · skip
          refine lv_aload hx hb dX1_lessDeep_43 (lv_at hl 0 rfl) ?_
          refine z_getN (v := .int (nI (jk w i 1))) hx hb hts hown hX kX5 2 (by decide) (z_fz0 hH hAe (hRo.j (k := i) (by first | assumption | omega))) rfl q585 (fun _ h9 => h9) dX1_lessDeep_45 ?_
          refine lv_aload_n hx hb dX1_lessDeep_48 rfl (lv_at hl 3 rfl) ?_
          refine z_getN (v := .int (nI (jk w k9 1))) hx hb hts hown hX kX5 2 (by decide) (z_fz0 hH hAe (hRo.j (k := k9) (by first | assumption | omega))) rfl q585 (fun _ h9 => h9) dX1_lessDeep_49 ?_
          refine z_icmp_ge (tgt := 59) hx hb dX1_lessDeep_52 (by decide) (by omega) (by omega) (fun c_52_9 => ?_) (fun c_52_9 => ?_)
          · skip
            have dc_52_9 := Nat.not_lt.mp c_52_9
            refine lv_iconst (v := nI 0) hx hb dX1_lessDeep_59 (by decide) ?_
            refine z_ci (wr := [(u_r_1, .inr (25, [.int (nI (i + 1)), .int (nI i), .int (S.md), .ref S.l]))]) (va_runSN (As := [.int (nI 0)]) (rest := [.int (nI (cN (fun y => decide (jk w y 0 = jk w k9 0) && decide (jk w y 1 < jk w k9 1)) i))]) ⟨hx, hb, hml, hown, hts⟩ (metX0_bit l G dA dS B0 H.size false) ⟨va_cnB 1 hts (lw_meth q764) rfl rfl rfl (hX.2.1 _ q762 rfl) (hts _ q85) (by decide +kernel) ⟨Nat.le_of_ble_eq_true rfl, Nat.le_of_ble_eq_true rfl⟩, hts _ q763, trivial⟩ (zPS hX hH hB hAB [] rfl rfl trivial) rfl rfl hl.1 rfl (lv_room (Nat.le_of_ble_eq_true rfl)) dX1_lessDeep_60 ⟨(Nat.le_of_ble_eq_true rfl), (Nat.le_of_ble_eq_true rfl)⟩) hH hA [] [0] rfl rfl (by decide) (by decide) (fun r_10 u_r_10 H locs hw_r_10 hH hR_r_10 hk_r_10 => ?_)
            obtain rfl := hw_r_10
            have hH : zH G A s.heap [(u_r_1, .inr (25, [.int (nI (i + 1)), .int (nI i), .int (S.md), .ref S.l]))] H locs := hH
            refine lv_iadd hx hb dX1_lessDeep_63 ?_
            refine z_topi (y := nI (cN (fun y => decide (jk w y 0 = jk w k9 0) && decide (jk w y 1 < jk w k9 1)) i + bN false)) (nI_add _ _) ?_
            refine lv_istore_n (lv' := [(2, .int (nI (cN (fun y => decide (jk w y 0 = jk w k9 0) && decide (jk w y 1 < jk w k9 1)) i + bN false))), (4, .ref (S.J i)), (3, .ref u_r_1), (0, .ref S.p), (1, .ref (S.J k9))]) hx hb dX1_lessDeep_64 rfl hl (by decide) rfl (fun ls hl => ?_)
            refine lv_goto (tgt := 10) hx hb dX1_lessDeep_65 (by decide) ?_
            have ev_11 : nI (cN (fun y => decide (jk w y 0 = jk w k9 0) && decide (jk w y 1 < jk w k9 1)) i + bN false) = nI (cN (fun y => decide (jk w y 0 = jk w k9 0) && decide (jk w y 1 < jk w k9 1)) (i + 1)) := by first | rfl | (show nI (_ + _) = nI (cN _ i + bN (decide _ && decide _)); simp [bN, c_16_4, ec_16_4, c_40_6, c_52_9, dc_52_9]; done)
            have hl : lv_has ls 5 [(3, .ref u_r_1), (0, .ref S.p), (1, .ref (S.J k9)), (2, .int (nI (cN (fun y => decide (jk w y 0 = jk w k9 0) && decide (jk w y 1 < jk w k9 1)) (i + 1))))] := z_lv (lv_sub hl [2, 3, 4, 0] rfl) (by rw [ev_11] <;> rfl)
            exact ih10 (i + 1) (nI i) (by omega) (by omega) _ _ hH ls (lv_sub hl [0, 1, 2, 3] rfl)
          · skip
            refine lv_iconst (v := nI 1) hx hb dX1_lessDeep_55 (by decide) ?_
            refine lv_goto (tgt := 60) hx hb dX1_lessDeep_56 (by decide) ?_
            refine z_ci (wr := [(u_r_1, .inr (25, [.int (nI (i + 1)), .int (nI i), .int (S.md), .ref S.l]))]) (va_runSN (As := [.int (nI 1)]) (rest := [.int (nI (cN (fun y => decide (jk w y 0 = jk w k9 0) && decide (jk w y 1 < jk w k9 1)) i))]) ⟨hx, hb, hml, hown, hts⟩ (metX0_bit l G dA dS B0 H.size true) ⟨va_cnB 1 hts (lw_meth q764) rfl rfl rfl (hX.2.1 _ q762 rfl) (hts _ q85) (by decide +kernel) ⟨Nat.le_of_ble_eq_true rfl, Nat.le_of_ble_eq_true rfl⟩, hts _ q763, trivial⟩ (zPS hX hH hB hAB [] rfl rfl trivial) rfl rfl hl.1 rfl (lv_room (Nat.le_of_ble_eq_true rfl)) dX1_lessDeep_60 ⟨(Nat.le_of_ble_eq_true rfl), (Nat.le_of_ble_eq_true rfl)⟩) hH hA [] [0] rfl rfl (by decide) (by decide) (fun r_12 u_r_12 H locs hw_r_12 hH hR_r_12 hk_r_12 => ?_)
            obtain rfl := hw_r_12
            have hH : zH G A s.heap [(u_r_1, .inr (25, [.int (nI (i + 1)), .int (nI i), .int (S.md), .ref S.l]))] H locs := hH
            refine lv_iadd hx hb dX1_lessDeep_63 ?_
            refine z_topi (y := nI (cN (fun y => decide (jk w y 0 = jk w k9 0) && decide (jk w y 1 < jk w k9 1)) i + bN true)) (nI_add _ _) ?_
            refine lv_istore_n (lv' := [(2, .int (nI (cN (fun y => decide (jk w y 0 = jk w k9 0) && decide (jk w y 1 < jk w k9 1)) i + bN true))), (4, .ref (S.J i)), (3, .ref u_r_1), (0, .ref S.p), (1, .ref (S.J k9))]) hx hb dX1_lessDeep_64 rfl hl (by decide) rfl (fun ls hl => ?_)
            refine lv_goto (tgt := 10) hx hb dX1_lessDeep_65 (by decide) ?_
            have ev_13 : nI (cN (fun y => decide (jk w y 0 = jk w k9 0) && decide (jk w y 1 < jk w k9 1)) i + bN true) = nI (cN (fun y => decide (jk w y 0 = jk w k9 0) && decide (jk w y 1 < jk w k9 1)) (i + 1)) := by first | rfl | (show nI (_ + _) = nI (cN _ i + bN (decide _ && decide _)); simp [bN, c_16_4, ec_16_4, c_40_6, c_52_9]; done)
            have hl : lv_has ls 5 [(3, .ref u_r_1), (0, .ref S.p), (1, .ref (S.J k9)), (2, .int (nI (cN (fun y => decide (jk w y 0 = jk w k9 0) && decide (jk w y 1 < jk w k9 1)) (i + 1))))] := z_lv (lv_sub hl [2, 3, 4, 0] rfl) (by rw [ev_13] <;> rfl)
            exact ih10 (i + 1) (nI i) (by omega) (by omega) _ _ hH ls (lv_sub hl [0, 1, 2, 3] rfl)
  have ev_14 : nI 0 = nI (cN (fun y => decide (jk w y 0 = jk w k9 0) && decide (jk w y 1 < jk w k9 1)) 0) := by first | rfl | (show nI (_ + _) = nI (cN _ i + bN (decide _ && decide _)); simp [bN]; done)
  have hl : lv_has ls 5 [(3, .ref u_r_1), (0, .ref S.p), (1, .ref (S.J k9)), (2, .int (nI (cN (fun y => decide (jk w y 0 = jk w k9 0) && decide (jk w y 1 < jk w k9 1)) 0)))] := z_lv (lv_sub hl [0, 2, 3, 1] rfl) (by rw [ev_14] <;> rfl)
  exact LP10_1 ((w 0 - 0) + 1) 0 (-1) (Nat.lt_succ_self _) (by omega) _ _ hH ls (lv_sub hl [0, 1, 2, 3] rfl)

set_option maxHeartbeats 4000000 in
set_option maxRecDepth 100000 in
theorem metX1_isGroaning (l : Launch) (G : va_G) (dA : Nat → ClassId) (dS : Nat → Nat) (B0 sz : Nat) (S : PS) (w : Nat → Nat) (B : Nat) (hrb : rB w B) (hBb : B + 20 < 2 ^ 30) : Met l yX1_isGroaning (ws_ yX1_isGroaning cX1_isGroaning 1 (some FieldType.boolean)) ({ frames := 0, cells := 0, slots := 0, locals := 0 }) (zP G dA dS B0 [.ref S.p] sz [] (fun H => PumpAt G dA S w H)) (zQi G (fun (r : Int32) (u : Unit) => r = nI (bN (decide (40 < w 4)))) (fun (u : Unit) => []) (fun (u : Unit) (H : Heap) => True) (va_A [] sz)) 0 0 (va_A [] sz) := by
  refine zM (by decide) (Nat.le_of_ble_eq_true rfl) ?_
  intro p e s m below meth c ls A H locs hHe hx hb hr hlocks hml hown hname hts hX hsz hB hAe hA hAB hH hRo hl
  have hl : lv_has ls 1 [(0, .ref S.p)] := hl
  have hbw := hrb.lt (by omega)
  have h12 := hrb.1
  have hcp := hRo.c
  have hw4 := hrb.2.2.2.2.2.2.2.1
  refine lv_aload_n hx hb dX1_isGroaning_0 rfl (lv_at hl 0 rfl) ?_
  refine z_get (v := .int (nI (w 4))) hx hb hts hown hX kX1 9 (by decide) (z_fz0 hH hAe (hRo.p)) rfl q202 (fun _ h9 => h9) dX1_isGroaning_1 ?_
  refine lv_bipush (v := nI 40) hx hb dX1_isGroaning_4 (by decide) ?_
  refine z_icmp_le (tgt := 13) hx hb dX1_isGroaning_6 (by decide) (by omega) (by omega) (fun c_6_1 => ?_) (fun c_6_1 => ?_)
  · skip
    have dc_6_1 := Nat.not_lt.mp c_6_1
    refine lv_iconst (v := nI 0) hx hb dX1_isGroaning_13 (by decide) ?_
    exact z_zret hx hb hr hlocks hH (by first | rfl | exact z_narB _ | decide) (u := ()) (by first | (rw [decide_eq_true (show 40 < w 4 by omega)]; rfl) | (rw [decide_eq_false (show ¬ 40 < w 4 by omega)]; rfl)) ⟨hH.1, hH.2.1⟩ trivial (Nat.le_of_ble_eq_true rfl) (Nat.le_of_ble_eq_true rfl) dX1_isGroaning_14
  · skip
    refine lv_iconst (v := nI 1) hx hb dX1_isGroaning_9 (by decide) ?_
    refine lv_goto (tgt := 14) hx hb dX1_isGroaning_10 (by decide) ?_
    exact z_zret hx hb hr hlocks hH (by first | rfl | exact z_narB _ | decide) (u := ()) (by first | (rw [decide_eq_true (show 40 < w 4 by omega)]; rfl) | (rw [decide_eq_false (show ¬ 40 < w 4 by omega)]; rfl)) ⟨hH.1, hH.2.1⟩ trivial (Nat.le_of_ble_eq_true rfl) (Nat.le_of_ble_eq_true rfl) dX1_isGroaning_14

set_option maxHeartbeats 4000000 in
set_option maxRecDepth 100000 in
theorem metX1_primed (l : Launch) (G : va_G) (dA : Nat → ClassId) (dS : Nat → Nat) (B0 sz : Nat) (S : PS) (w : Nat → Nat) (B : Nat) (hrb : rB w B) (hBb : B + 20 < 2 ^ 30) : Met l yX1_primed (ws_ yX1_primed cX1_primed 4 (some FieldType.int)) ({ frames := 3, cells := 1, slots := 4, locals := 53 }) (zP G dA dS B0 [.ref S.p] sz [] (fun H => PumpAt G dA S w H)) (zQi G (fun (r : Int32) (u : Unit) => r = nI (psum w (w 0))) (fun (u : Unit) => []) (fun (u : Unit) (H : Heap) => True) (va_A [] sz)) 1 4 (va_A [] sz) := by
  refine zM (by decide) (Nat.le_of_ble_eq_true rfl) ?_
  intro p e s m below meth c ls A H locs hHe hx hb hr hlocks hml hown hname hts hX hsz hB hAe hA hAB hH hRo hl
  have hl : lv_has ls 4 [(0, .ref S.p)] := hl
  have hbw := hrb.lt (by omega)
  have h12 := hrb.1
  have hcp := hRo.c
  refine lv_iconst (v := nI 0) hx hb dX1_primed_0 (by decide) ?_
  refine lv_istore_n (lv' := [(1, .int (nI 0)), (0, .ref S.p)]) hx hb dX1_primed_1 rfl hl (by decide) rfl (fun ls hl => ?_)
  refine lv_aload_n hx hb dX1_primed_2 rfl (lv_at hl 1 rfl) ?_
  refine z_get (v := .ref S.l) hx hb hts hown hX kX1 0 (by decide) (z_fz0 hH hAe (hRo.p)) rfl q182 (fun _ h9 => h9) dX1_primed_3 ?_
  refine z_cq (wr := []) (va_runV (As := []) (rest := []) ⟨hx, hb, hml, hown, hts⟩ (metJ2_iterator l G dA dS B0 H.size S.l S.md S.a (w 0)) (cwV 0 hts (lw_V q373 q374 q375 q89 q376) rfl rfl rfl (by decide +kernel) ⟨Nat.le_of_ble_eq_true rfl, Nat.le_of_ble_eq_true rfl⟩) (zPV hX hH hB hAB (z_recv hX kJ2 (z_fz0 hH hAe (hRo.l))) [] rfl rfl (z_fz0 hH hAe (hRo.l))) rfl rfl hl.1 rfl (lv_room (Nat.le_of_ble_eq_true rfl)) dX1_primed_6 ⟨(Nat.le_of_ble_eq_true rfl), (Nat.le_of_ble_eq_true rfl)⟩) hH hA [] [] rfl rfl (by decide) (by decide) (fun r_1 u_r_1 H locs hw_r_1 hH hR_r_1 hk_r_1 => ?_)
  obtain rfl := hw_r_1
  refine z_st (st' := [.ref u_r_1]) rfl ?_
  have hH : zH G A s.heap [(u_r_1, .inr (25, [.int (nI 0), .int ((-1)), .int (S.md), .ref S.l]))] H locs := hH
  refine lv_astore_n (lv' := [(2, .ref u_r_1), (1, .int (nI 0)), (0, .ref S.p)]) hx hb dX1_primed_9 rfl hl (by decide) rfl (fun ls hl => ?_)
  have LP10_1 : ∀ (fuel : Nat) (i : Nat) (r9 : Int32) (hfu : (w 0 - i) < fuel) (hi : i ≤ w 0) (H : Heap) (locs : List Loc), zH G A s.heap [(u_r_1, .inr (25, [.int (nI i), .int (r9), .int (S.md), .ref S.l]))] H locs → ∀ (ls : Array Slot), lv_has ls 4 [(2, .ref u_r_1), (0, .ref S.p), (1, .int (nI (psum w i)))] → W p l e (headSpec (ws_ yX1_primed cX1_primed 4 (some FieldType.int)) ({ frames := 3, cells := 1, slots := 4, locals := 53 })).room s m ([.ref S.p] : List Value).toArray below meth c H locs 1 4 (MQ below (zQi G (fun (r : Int32) (u : Unit) => r = nI (psum w (w 0))) (fun (u : Unit) => []) (fun (u : Unit) (H : Heap) => True) A) ([.ref S.p] : List Value).toArray s 1 4 A) (F0 m 10 ls []) := by
    intro fuel
    induction fuel with
    | zero => intro i r9 hfu; exact absurd hfu (Nat.not_lt_zero _)
    | succ fuel ih10 =>
      intro i r9 hfu hi H locs hH ls hl
      have hps := psum_le hrb i hi
      have hji := fun h => hrb.2.2.1 i h
      refine lv_aload_n hx hb dX1_primed_10 rfl (lv_at hl 0 rfl) ?_
      refine z_cFi (wr := []) (va_runF (hX.1.1 25 _ kJ4.1).2 (As := []) (rest := []) ⟨hx, hb, hml, hown, hts⟩ (metJ4_hasNext l G dA dS B0 H.size u_r_1 S.l S.md S.a (w 0) i r9 (by first | exact hi | assumption | omega) (by first | exact hn | assumption | omega)) (va_cwF 0 hts (lw_F q397 q435 q437 q94 q439) rfl rfl rfl (z_F hX 4 (q := ("java/util/ArrayList$Itr", ⟨"java/util/Iterator", "hasNext", "()Z"⟩, ⟨"java/util/ArrayList$Itr", "hasNext", "()Z"⟩)) rfl) (by decide +kernel) ⟨Nat.le_of_ble_eq_true rfl, Nat.le_of_ble_eq_true rfl⟩) (zPV hX hH hB hAB (z_recv hX kJ4 (hH.at 0 rfl)) [0] rfl rfl (z_fz0 hH hAe (hRo.l))) rfl rfl hl.1 rfl (lv_room (Nat.le_of_ble_eq_true rfl)) dX1_primed_11 ⟨(Nat.le_of_ble_eq_true rfl), (Nat.le_of_ble_eq_true rfl)⟩) hH hA [0] [] rfl rfl (by decide) (by decide) (fun r_3 u_r_3 H locs hw_r_3 hH hR_r_3 hk_r_3 => ?_)
      obtain rfl := hw_r_3
      have hH : zH G A s.heap [(u_r_1, .inr (25, [.int (nI i), .int (r9), .int (S.md), .ref S.l]))] H locs := hH
      refine z_ifeqB (b := decide (i < (w 0))) (tgt := 42) hx hb dX1_primed_16 (by decide) (fun c_16_4 => ?_) (fun c_16_4 => ?_)
      · skip
        have ec_16_4 := of_decide_eq_false c_16_4
        refine lv_iload_n hx hb dX1_primed_42 rfl (lv_at hl 2 rfl) ?_
        have hH : zH G A s.heap [] H locs := hH.sub [] rfl rfl
        exact z_iret hx hb hr hlocks hH (u := ()) (by (have e : i = w 0 := (by omega)); subst e; rfl) ⟨hH.1, hH.2.1⟩ trivial (Nat.le_of_ble_eq_true rfl) (Nat.le_of_ble_eq_true rfl) dX1_primed_43
      · skip
        have ec_16_4 := of_decide_eq_true c_16_4
        refine lv_aload_n hx hb dX1_primed_19 rfl (lv_at hl 0 rfl) ?_
        refine z_cFq (wr := []) (va_runF (hX.1.1 25 _ kJ4.1).2 (As := []) (rest := []) ⟨hx, hb, hml, hown, hts⟩ (metJ4_next l G dA dS B0 H.size u_r_1 S.l S.md S.a (w 0) i r9 S.cp (eF (w 0) S.J) (by first | exact hi | assumption | omega) (by first | exact hc | assumption | omega) (by first | exact hcp | assumption | omega)) (va_cwF 0 hts (lw_F q565 q541 q543 q94 q545) rfl rfl rfl (z_F hX 5 (q := ("java/util/ArrayList$Itr", ⟨"java/util/Iterator", "next", "()Ljava/lang/Object;"⟩, ⟨"java/util/ArrayList$Itr", "next", "()Ljava/lang/Object;"⟩)) rfl) (by decide +kernel) ⟨Nat.le_of_ble_eq_true rfl, Nat.le_of_ble_eq_true rfl⟩) (zPV hX hH hB hAB (z_recv hX kJ4 (hH.at 0 rfl)) [0] rfl rfl (⟨(z_fz0 hH hAe (hRo.l)), (z_fz0 hH hAe (hRo.a (by omega)))⟩)) rfl rfl hl.1 rfl (lv_room (Nat.le_of_ble_eq_true rfl)) dX1_primed_20 ⟨(Nat.le_of_ble_eq_true rfl), (Nat.le_of_ble_eq_true rfl)⟩) hH hA [0] [] rfl rfl (by decide) (by decide) (fun r_5 u_r_5 H locs hw_r_5 hH hR_r_5 hk_r_5 => ?_)
        obtain rfl := hw_r_5
        refine z_st (st' := [.ref (S.J i)]) (by rw [eF_lt (by omega)]; rfl) ?_
        have hH : zH G A s.heap [(u_r_1, .inr (25, [.int (nI (i + 1)), .int (nI i), .int (S.md), .ref S.l]))] H locs := hH
        have hjk9 := hji (by omega)
        refine z_ckc hx hb hown (hts _ q566) hX kX5 (z_fz0 hH hAe (hRo.j (k := i) (by first | assumption | omega))) dX1_primed_25 ?_
        refine lv_astore_n (lv' := [(3, .ref (S.J i)), (2, .ref u_r_1), (0, .ref S.p), (1, .int (nI (psum w i)))]) hx hb dX1_primed_28 rfl hl (by decide) rfl (fun ls hl => ?_)
        refine lv_iload_n hx hb dX1_primed_29 rfl (lv_at hl 3 rfl) ?_
        refine lv_aload_n hx hb dX1_primed_30 rfl (lv_at hl 0 rfl) ?_
        refine z_getN (v := .int (nI (jk w i 4))) hx hb hts hown hX kX5 5 (by decide) (z_fz0 hH hAe (hRo.j (k := i) (by first | assumption | omega))) rfl q594 (fun _ h9 => h9) dX1_primed_31 ?_
        have e34 : jk w i 4 = bN (decide (jk w i 4 = 1)) := bN_1 (by omega)
        refine z_topi (y := nI (bN (decide (jk w i 4 = 1)))) (by rw [← e34]) ?_
        refine z_ci (wr := [(u_r_1, .inr (25, [.int (nI (i + 1)), .int (nI i), .int (S.md), .ref S.l]))]) (va_runSN (As := [.int (nI (bN (decide (jk w i 4 = 1))))]) (rest := [.int (nI (psum w i))]) ⟨hx, hb, hml, hown, hts⟩ (metX0_bit l G dA dS B0 H.size (decide (jk w i 4 = 1))) ⟨va_cnB 1 hts (lw_meth q764) rfl rfl rfl (hX.2.1 _ q762 rfl) (hts _ q85) (by decide +kernel) ⟨Nat.le_of_ble_eq_true rfl, Nat.le_of_ble_eq_true rfl⟩, hts _ q763, trivial⟩ (zPS hX hH hB hAB [] rfl rfl trivial) rfl rfl hl.1 rfl (lv_room (Nat.le_of_ble_eq_true rfl)) dX1_primed_34 ⟨(Nat.le_of_ble_eq_true rfl), (Nat.le_of_ble_eq_true rfl)⟩) hH hA [] [0] rfl rfl (by decide) (by decide) (fun r_6 u_r_6 H locs hw_r_6 hH hR_r_6 hk_r_6 => ?_)
        obtain rfl := hw_r_6
        have hH : zH G A s.heap [(u_r_1, .inr (25, [.int (nI (i + 1)), .int (nI i), .int (S.md), .ref S.l]))] H locs := hH
        refine lv_iadd hx hb dX1_primed_37 ?_
        refine z_topi (y := nI (psum w i + bN (decide (jk w i 4 = 1)))) (nI_add _ _) ?_
        refine lv_istore_n (lv' := [(1, .int (nI (psum w i + bN (decide (jk w i 4 = 1))))), (3, .ref (S.J i)), (2, .ref u_r_1), (0, .ref S.p)]) hx hb dX1_primed_38 rfl hl (by decide) rfl (fun ls hl => ?_)
        refine lv_goto (tgt := 10) hx hb dX1_primed_39 (by decide) ?_
        have ev_7 : nI (psum w i + bN (decide (jk w i 4 = 1))) = nI (psum w (i + 1)) := by first | rfl | (show nI (_ + _) = nI (psum w i + jk w i 4); rw [← e34])
        have hl : lv_has ls 4 [(2, .ref u_r_1), (0, .ref S.p), (1, .int (nI (psum w (i + 1))))] := z_lv (lv_sub hl [2, 3, 0] rfl) (by rw [ev_7] <;> rfl)
        exact ih10 (i + 1) (nI i) (by omega) (by omega) _ _ hH ls (lv_sub hl [0, 1, 2] rfl)
  have ev_8 : nI 0 = nI (psum w 0) := by first | rfl | (show nI (_ + _) = nI (psum w i + jk w i 4); rw [← e34])
  have hl : lv_has ls 4 [(2, .ref u_r_1), (0, .ref S.p), (1, .int (nI (psum w 0)))] := z_lv (lv_sub hl [0, 2, 1] rfl) (by rw [ev_8] <;> rfl)
  exact LP10_1 ((w 0 - 0) + 1) 0 (-1) (Nat.lt_succ_self _) (by omega) _ _ hH ls (lv_sub hl [0, 1, 2] rfl)

set_option maxHeartbeats 4000000 in
set_option maxRecDepth 100000 in
theorem metX1_like (l : Launch) (G : va_G) (dA : Nat → ClassId) (dS : Nat → Nat) (B0 sz : Nat) (S : PS) (w : Nat → Nat) (B : Nat) (hrb : rB w B) (hBb : B + 20 < 2 ^ 30) (a : Nat) (b9 : Int32) (c9 : Int32) (ha : a < 64) : Met l yX1_like (ws_ yX1_like cX1_like 6 (some (FieldType.object "JokePump$Joke"))) ({ frames := 3, cells := 1, slots := 4, locals := 53 }) (zP G dA dS B0 [.ref S.p, .int (nI a), .int (b9), .int (c9)] sz [] (fun H => PumpAt G dA S w H)) (zQq G (fun (r : Option Nat) (u : Unit) => r = (jwith w a).map S.J) (fun (u : Unit) => []) (fun (u : Unit) (H : Heap) => True) (va_A [] sz)) 1 4 (va_A [] sz) := by
  refine zM (by decide) (Nat.le_of_ble_eq_true rfl) ?_
  intro p e s m below meth c ls A H locs hHe hx hb hr hlocks hml hown hname hts hX hsz hB hAe hA hAB hH hRo hl
  have hl : lv_has ls 6 [(0, .ref S.p), (1, .int (nI a)), (2, .int (b9)), (3, .int (c9))] := hl
  have hbw := hrb.lt (by omega)
  have h12 := hrb.1
  have hcp := hRo.c
  refine lv_aload_n hx hb dX1_like_0 rfl (lv_at hl 0 rfl) ?_
  refine z_get (v := .ref S.l) hx hb hts hown hX kX1 0 (by decide) (z_fz0 hH hAe (hRo.p)) rfl q182 (fun _ h9 => h9) dX1_like_1 ?_
  refine z_cq (wr := []) (va_runV (As := []) (rest := []) ⟨hx, hb, hml, hown, hts⟩ (metJ2_iterator l G dA dS B0 H.size S.l S.md S.a (w 0)) (cwV 0 hts (lw_V q373 q374 q375 q89 q376) rfl rfl rfl (by decide +kernel) ⟨Nat.le_of_ble_eq_true rfl, Nat.le_of_ble_eq_true rfl⟩) (zPV hX hH hB hAB (z_recv hX kJ2 (z_fz0 hH hAe (hRo.l))) [] rfl rfl (z_fz0 hH hAe (hRo.l))) rfl rfl hl.1 rfl (lv_room (Nat.le_of_ble_eq_true rfl)) dX1_like_4 ⟨(Nat.le_of_ble_eq_true rfl), (Nat.le_of_ble_eq_true rfl)⟩) hH hA [] [] rfl rfl (by decide) (by decide) (fun r_1 u_r_1 H locs hw_r_1 hH hR_r_1 hk_r_1 => ?_)
  obtain rfl := hw_r_1
  refine z_st (st' := [.ref u_r_1]) rfl ?_
  have hH : zH G A s.heap [(u_r_1, .inr (25, [.int (nI 0), .int ((-1)), .int (S.md), .ref S.l]))] H locs := hH
  refine lv_astore (lv' := [(4, .ref u_r_1), (0, .ref S.p), (1, .int (nI a)), (2, .int (b9)), (3, .int (c9))]) hx hb dX1_like_7 hl (by decide) rfl (fun ls hl => ?_)
  have LP9_1 : ∀ (fuel : Nat) (i : Nat) (r9 : Int32) (hfu : (w 0 - i) < fuel) (hi : i ≤ w 0) (hf : fO (fun k => decide (jk w k 2 = a)) i = none) (H : Heap) (locs : List Loc), zH G A s.heap [(u_r_1, .inr (25, [.int (nI i), .int (r9), .int (S.md), .ref S.l]))] H locs → ∀ (ls : Array Slot), lv_has ls 6 [(4, .ref u_r_1), (0, .ref S.p), (1, .int (nI a)), (2, .int (b9)), (3, .int (c9))] → W p l e (headSpec (ws_ yX1_like cX1_like 6 (some (FieldType.object "JokePump$Joke"))) ({ frames := 3, cells := 1, slots := 4, locals := 53 })).room s m ([.ref S.p, .int (nI a), .int (b9), .int (c9)] : List Value).toArray below meth c H locs 1 4 (MQ below (zQq G (fun (r : Option Nat) (u : Unit) => r = (jwith w a).map S.J) (fun (u : Unit) => []) (fun (u : Unit) (H : Heap) => True) A) ([.ref S.p, .int (nI a), .int (b9), .int (c9)] : List Value).toArray s 1 4 A) (F0 m 9 ls []) := by
    intro fuel
    induction fuel with
    | zero => intro i r9 hfu; exact absurd hfu (Nat.not_lt_zero _)
    | succ fuel ih9 =>
      intro i r9 hfu hi hf H locs hH ls hl
      have hji := fun h => hrb.2.2.1 i h
      refine lv_aload hx hb dX1_like_9 (lv_at hl 0 rfl) ?_
      refine z_cFi (wr := []) (va_runF (hX.1.1 25 _ kJ4.1).2 (As := []) (rest := []) ⟨hx, hb, hml, hown, hts⟩ (metJ4_hasNext l G dA dS B0 H.size u_r_1 S.l S.md S.a (w 0) i r9 (by first | exact hi | assumption | omega) (by first | exact hn | assumption | omega)) (va_cwF 0 hts (lw_F q397 q435 q437 q94 q439) rfl rfl rfl (z_F hX 4 (q := ("java/util/ArrayList$Itr", ⟨"java/util/Iterator", "hasNext", "()Z"⟩, ⟨"java/util/ArrayList$Itr", "hasNext", "()Z"⟩)) rfl) (by decide +kernel) ⟨Nat.le_of_ble_eq_true rfl, Nat.le_of_ble_eq_true rfl⟩) (zPV hX hH hB hAB (z_recv hX kJ4 (hH.at 0 rfl)) [0] rfl rfl (z_fz0 hH hAe (hRo.l))) rfl rfl hl.1 rfl (lv_room (Nat.le_of_ble_eq_true rfl)) dX1_like_11 ⟨(Nat.le_of_ble_eq_true rfl), (Nat.le_of_ble_eq_true rfl)⟩) hH hA [0] [] rfl rfl (by decide) (by decide) (fun r_3 u_r_3 H locs hw_r_3 hH hR_r_3 hk_r_3 => ?_)
      obtain rfl := hw_r_3
      have hH : zH G A s.heap [(u_r_1, .inr (25, [.int (nI i), .int (r9), .int (S.md), .ref S.l]))] H locs := hH
      refine z_ifeqB (b := decide (i < (w 0))) (tgt := 71) hx hb dX1_like_16 (by decide) (fun c_16_4 => ?_) (fun c_16_4 => ?_)
      · skip
        have ec_16_4 := of_decide_eq_false c_16_4
        refine lv_null hx hb dX1_like_71 ?_
        have hH : zH G A s.heap [] H locs := hH.sub [] rfl rfl
        exact z_qret hx hb hr hlocks hH (by first | exact Or.inl ⟨_, rfl⟩ | exact Or.inr ⟨_, rfl⟩) (v := none) (u := ()) (by (have e : i = w 0 := (by omega)); subst e; show none = Option.map S.J (fO _ (w 0)); rw [hf]; rfl) ⟨hH.1, hH.2.1⟩ trivial (Nat.le_of_ble_eq_true rfl) (Nat.le_of_ble_eq_true rfl) dX1_like_72
      · skip
        have ec_16_4 := of_decide_eq_true c_16_4
        refine lv_aload hx hb dX1_like_19 (lv_at hl 0 rfl) ?_
        refine z_cFq (wr := []) (va_runF (hX.1.1 25 _ kJ4.1).2 (As := []) (rest := []) ⟨hx, hb, hml, hown, hts⟩ (metJ4_next l G dA dS B0 H.size u_r_1 S.l S.md S.a (w 0) i r9 S.cp (eF (w 0) S.J) (by first | exact hi | assumption | omega) (by first | exact hc | assumption | omega) (by first | exact hcp | assumption | omega)) (va_cwF 0 hts (lw_F q565 q541 q543 q94 q545) rfl rfl rfl (z_F hX 5 (q := ("java/util/ArrayList$Itr", ⟨"java/util/Iterator", "next", "()Ljava/lang/Object;"⟩, ⟨"java/util/ArrayList$Itr", "next", "()Ljava/lang/Object;"⟩)) rfl) (by decide +kernel) ⟨Nat.le_of_ble_eq_true rfl, Nat.le_of_ble_eq_true rfl⟩) (zPV hX hH hB hAB (z_recv hX kJ4 (hH.at 0 rfl)) [0] rfl rfl (⟨(z_fz0 hH hAe (hRo.l)), (z_fz0 hH hAe (hRo.a (by omega)))⟩)) rfl rfl hl.1 rfl (lv_room (Nat.le_of_ble_eq_true rfl)) dX1_like_21 ⟨(Nat.le_of_ble_eq_true rfl), (Nat.le_of_ble_eq_true rfl)⟩) hH hA [0] [] rfl rfl (by decide) (by decide) (fun r_5 u_r_5 H locs hw_r_5 hH hR_r_5 hk_r_5 => ?_)
        obtain rfl := hw_r_5
        refine z_st (st' := [.ref (S.J i)]) (by rw [eF_lt (by omega)]; rfl) ?_
        have hH : zH G A s.heap [(u_r_1, .inr (25, [.int (nI (i + 1)), .int (nI i), .int (S.md), .ref S.l]))] H locs := hH
        have hjk9 := hji (by omega)
        refine z_ckc hx hb hown (hts _ q566) hX kX5 (z_fz0 hH hAe (hRo.j (k := i) (by first | assumption | omega))) dX1_like_26 ?_
        refine lv_astore (lv' := [(5, .ref (S.J i)), (4, .ref u_r_1), (0, .ref S.p), (1, .int (nI a)), (2, .int (b9)), (3, .int (c9))]) hx hb dX1_like_29 hl (by decide) rfl (fun ls hl => ?_)
        refine lv_iload_n hx hb dX1_like_31 rfl (lv_at hl 3 rfl) ?_
        refine z_ifltN (tgt := 47) hx hb dX1_like_32 (by decide) (by omega) (fun c_32_6 => ?_) (fun c_32_6 => ?_)
        · skip
          exact c_32_6.elim
        · skip
          refine lv_aload hx hb dX1_like_35 (lv_at hl 0 rfl) ?_
          refine z_getN (v := .int (nI (jk w i 2))) hx hb hts hown hX kX5 3 (by decide) (z_fz0 hH hAe (hRo.j (k := i) (by first | assumption | omega))) rfl q589 (fun _ h9 => h9) dX1_like_37 ?_
          refine lv_iload_n hx hb dX1_like_40 rfl (lv_at hl 3 rfl) ?_
          refine z_icmp_ne (tgt := 68) hx hb dX1_like_41 (by decide) (by omega) (by omega) (fun c_41_7 => ?_) (fun c_41_7 => ?_)
          · skip
            refine lv_goto (tgt := 9) hx hb dX1_like_68 (by decide) ?_
            exact ih9 (i + 1) (nI i) (by omega) (by omega) (fO_n hf (by simp [c_16_4, ec_16_4, c_32_6, c_41_7])) _ _ hH ls (lv_sub hl [1, 2, 3, 4, 5] rfl)
          · skip
            refine lv_goto (tgt := 65) hx hb dX1_like_44 (by decide) ?_
            refine lv_aload hx hb dX1_like_65 (lv_at hl 0 rfl) ?_
            have hH : zH G A s.heap [] H locs := hH.sub [] rfl rfl
            exact z_qret hx hb hr hlocks hH (by first | exact Or.inl ⟨_, rfl⟩ | exact Or.inr ⟨_, rfl⟩) (v := some (S.J i)) (u := ()) (by show some (S.J i) = Option.map S.J (fO _ (w 0)); rw [fO_mono (fO_y hf (by simp [*])) (w 0) (by omega)]; rfl) ⟨hH.1, hH.2.1⟩ trivial (Nat.le_of_ble_eq_true rfl) (Nat.le_of_ble_eq_true rfl) dX1_like_67
  exact LP9_1 ((w 0 - 0) + 1) 0 (-1) (Nat.lt_succ_self _) (by omega) (rfl) _ _ hH ls (lv_sub hl [0, 1, 2, 3, 4] rfl)

set_option maxHeartbeats 4000000 in
set_option maxRecDepth 100000 in
theorem metX1_like2 (l : Launch) (G : va_G) (dA : Nat → ClassId) (dS : Nat → Nat) (B0 sz : Nat) (S : PS) (w : Nat → Nat) (B : Nat) (hrb : rB w B) (hBb : B + 20 < 2 ^ 30) (a : Nat) (b : Nat) (ha : a ≤ 3) (hb : b ≤ 30) : Met l yX1_like (ws_ yX1_like cX1_like 6 (some (FieldType.object "JokePump$Joke"))) ({ frames := 3, cells := 1, slots := 4, locals := 53 }) (zP G dA dS B0 [.ref S.p, .int ((-1)), .int (nI a), .int (nI b)] sz [] (fun H => PumpAt G dA S w H)) (zQq G (fun (r : Option Nat) (u : Unit) => r = (jat w a b).map S.J) (fun (u : Unit) => []) (fun (u : Unit) (H : Heap) => True) (va_A [] sz)) 1 4 (va_A [] sz) := by
  refine zM (by decide) (Nat.le_of_ble_eq_true rfl) ?_
  intro p e s m below meth c ls A H locs hHe hx hb hr hlocks hml hown hname hts hX hsz hB hAe hA hAB hH hRo hl
  have hl : lv_has ls 6 [(0, .ref S.p), (1, .int ((-1))), (2, .int (nI a)), (3, .int (nI b))] := hl
  have hbw := hrb.lt (by omega)
  have h12 := hrb.1
  have hcp := hRo.c
  refine lv_aload_n hx hb dX1_like_0 rfl (lv_at hl 0 rfl) ?_
  refine z_get (v := .ref S.l) hx hb hts hown hX kX1 0 (by decide) (z_fz0 hH hAe (hRo.p)) rfl q182 (fun _ h9 => h9) dX1_like_1 ?_
  refine z_cq (wr := []) (va_runV (As := []) (rest := []) ⟨hx, hb, hml, hown, hts⟩ (metJ2_iterator l G dA dS B0 H.size S.l S.md S.a (w 0)) (cwV 0 hts (lw_V q373 q374 q375 q89 q376) rfl rfl rfl (by decide +kernel) ⟨Nat.le_of_ble_eq_true rfl, Nat.le_of_ble_eq_true rfl⟩) (zPV hX hH hB hAB (z_recv hX kJ2 (z_fz0 hH hAe (hRo.l))) [] rfl rfl (z_fz0 hH hAe (hRo.l))) rfl rfl hl.1 rfl (lv_room (Nat.le_of_ble_eq_true rfl)) dX1_like_4 ⟨(Nat.le_of_ble_eq_true rfl), (Nat.le_of_ble_eq_true rfl)⟩) hH hA [] [] rfl rfl (by decide) (by decide) (fun r_1 u_r_1 H locs hw_r_1 hH hR_r_1 hk_r_1 => ?_)
  obtain rfl := hw_r_1
  refine z_st (st' := [.ref u_r_1]) rfl ?_
  have hH : zH G A s.heap [(u_r_1, .inr (25, [.int (nI 0), .int ((-1)), .int (S.md), .ref S.l]))] H locs := hH
  refine lv_astore (lv' := [(4, .ref u_r_1), (0, .ref S.p), (1, .int ((-1))), (2, .int (nI a)), (3, .int (nI b))]) hx hb dX1_like_7 hl (by decide) rfl (fun ls hl => ?_)
  have LP9_1 : ∀ (fuel : Nat) (i : Nat) (r9 : Int32) (hfu : (w 0 - i) < fuel) (hi : i ≤ w 0) (hf : fO (fun k => decide (jk w k 0 = a) && decide (jk w k 1 = b)) i = none) (H : Heap) (locs : List Loc), zH G A s.heap [(u_r_1, .inr (25, [.int (nI i), .int (r9), .int (S.md), .ref S.l]))] H locs → ∀ (ls : Array Slot), lv_has ls 6 [(4, .ref u_r_1), (0, .ref S.p), (1, .int ((-1))), (2, .int (nI a)), (3, .int (nI b))] → W p l e (headSpec (ws_ yX1_like cX1_like 6 (some (FieldType.object "JokePump$Joke"))) ({ frames := 3, cells := 1, slots := 4, locals := 53 })).room s m ([.ref S.p, .int ((-1)), .int (nI a), .int (nI b)] : List Value).toArray below meth c H locs 1 4 (MQ below (zQq G (fun (r : Option Nat) (u : Unit) => r = (jat w a b).map S.J) (fun (u : Unit) => []) (fun (u : Unit) (H : Heap) => True) A) ([.ref S.p, .int ((-1)), .int (nI a), .int (nI b)] : List Value).toArray s 1 4 A) (F0 m 9 ls []) := by
    intro fuel
    induction fuel with
    | zero => intro i r9 hfu; exact absurd hfu (Nat.not_lt_zero _)
    | succ fuel ih9 =>
      intro i r9 hfu hi hf H locs hH ls hl
      have hji := fun h => hrb.2.2.1 i h
      refine lv_aload hx hb dX1_like_9 (lv_at hl 0 rfl) ?_
      refine z_cFi (wr := []) (va_runF (hX.1.1 25 _ kJ4.1).2 (As := []) (rest := []) ⟨hx, hb, hml, hown, hts⟩ (metJ4_hasNext l G dA dS B0 H.size u_r_1 S.l S.md S.a (w 0) i r9 (by first | exact hi | assumption | omega) (by first | exact hn | assumption | omega)) (va_cwF 0 hts (lw_F q397 q435 q437 q94 q439) rfl rfl rfl (z_F hX 4 (q := ("java/util/ArrayList$Itr", ⟨"java/util/Iterator", "hasNext", "()Z"⟩, ⟨"java/util/ArrayList$Itr", "hasNext", "()Z"⟩)) rfl) (by decide +kernel) ⟨Nat.le_of_ble_eq_true rfl, Nat.le_of_ble_eq_true rfl⟩) (zPV hX hH hB hAB (z_recv hX kJ4 (hH.at 0 rfl)) [0] rfl rfl (z_fz0 hH hAe (hRo.l))) rfl rfl hl.1 rfl (lv_room (Nat.le_of_ble_eq_true rfl)) dX1_like_11 ⟨(Nat.le_of_ble_eq_true rfl), (Nat.le_of_ble_eq_true rfl)⟩) hH hA [0] [] rfl rfl (by decide) (by decide) (fun r_3 u_r_3 H locs hw_r_3 hH hR_r_3 hk_r_3 => ?_)
      obtain rfl := hw_r_3
      have hH : zH G A s.heap [(u_r_1, .inr (25, [.int (nI i), .int (r9), .int (S.md), .ref S.l]))] H locs := hH
      refine z_ifeqB (b := decide (i < (w 0))) (tgt := 71) hx hb dX1_like_16 (by decide) (fun c_16_4 => ?_) (fun c_16_4 => ?_)
      · skip
        have ec_16_4 := of_decide_eq_false c_16_4
        refine lv_null hx hb dX1_like_71 ?_
        have hH : zH G A s.heap [] H locs := hH.sub [] rfl rfl
        exact z_qret hx hb hr hlocks hH (by first | exact Or.inl ⟨_, rfl⟩ | exact Or.inr ⟨_, rfl⟩) (v := none) (u := ()) (by (have e : i = w 0 := (by omega)); subst e; show none = Option.map S.J (fO _ (w 0)); rw [hf]; rfl) ⟨hH.1, hH.2.1⟩ trivial (Nat.le_of_ble_eq_true rfl) (Nat.le_of_ble_eq_true rfl) dX1_like_72
      · skip
        have ec_16_4 := of_decide_eq_true c_16_4
        refine lv_aload hx hb dX1_like_19 (lv_at hl 0 rfl) ?_
        refine z_cFq (wr := []) (va_runF (hX.1.1 25 _ kJ4.1).2 (As := []) (rest := []) ⟨hx, hb, hml, hown, hts⟩ (metJ4_next l G dA dS B0 H.size u_r_1 S.l S.md S.a (w 0) i r9 S.cp (eF (w 0) S.J) (by first | exact hi | assumption | omega) (by first | exact hc | assumption | omega) (by first | exact hcp | assumption | omega)) (va_cwF 0 hts (lw_F q565 q541 q543 q94 q545) rfl rfl rfl (z_F hX 5 (q := ("java/util/ArrayList$Itr", ⟨"java/util/Iterator", "next", "()Ljava/lang/Object;"⟩, ⟨"java/util/ArrayList$Itr", "next", "()Ljava/lang/Object;"⟩)) rfl) (by decide +kernel) ⟨Nat.le_of_ble_eq_true rfl, Nat.le_of_ble_eq_true rfl⟩) (zPV hX hH hB hAB (z_recv hX kJ4 (hH.at 0 rfl)) [0] rfl rfl (⟨(z_fz0 hH hAe (hRo.l)), (z_fz0 hH hAe (hRo.a (by omega)))⟩)) rfl rfl hl.1 rfl (lv_room (Nat.le_of_ble_eq_true rfl)) dX1_like_21 ⟨(Nat.le_of_ble_eq_true rfl), (Nat.le_of_ble_eq_true rfl)⟩) hH hA [0] [] rfl rfl (by decide) (by decide) (fun r_5 u_r_5 H locs hw_r_5 hH hR_r_5 hk_r_5 => ?_)
        obtain rfl := hw_r_5
        refine z_st (st' := [.ref (S.J i)]) (by rw [eF_lt (by omega)]; rfl) ?_
        have hH : zH G A s.heap [(u_r_1, .inr (25, [.int (nI (i + 1)), .int (nI i), .int (S.md), .ref S.l]))] H locs := hH
        have hjk9 := hji (by omega)
        refine z_ckc hx hb hown (hts _ q566) hX kX5 (z_fz0 hH hAe (hRo.j (k := i) (by first | assumption | omega))) dX1_like_26 ?_
        refine lv_astore (lv' := [(5, .ref (S.J i)), (4, .ref u_r_1), (0, .ref S.p), (1, .int ((-1))), (2, .int (nI a)), (3, .int (nI b))]) hx hb dX1_like_29 hl (by decide) rfl (fun ls hl => ?_)
        refine lv_iload_n hx hb dX1_like_31 rfl (lv_at hl 3 rfl) ?_
        refine lv_if_lt (tgt := 47) hx hb dX1_like_32 (by decide) (fun _ => ?_) (fun h => absurd h (by decide))
        refine lv_aload hx hb dX1_like_47 (lv_at hl 0 rfl) ?_
        refine z_getN (v := .int (nI (jk w i 0))) hx hb hts hown hX kX5 1 (by decide) (z_fz0 hH hAe (hRo.j (k := i) (by first | assumption | omega))) rfl q581 (fun _ h9 => h9) dX1_like_49 ?_
        refine lv_iload_n hx hb dX1_like_52 rfl (lv_at hl 4 rfl) ?_
        refine z_icmp_ne (tgt := 68) hx hb dX1_like_53 (by decide) (by omega) (by omega) (fun c_53_7 => ?_) (fun c_53_7 => ?_)
        · skip
          refine lv_goto (tgt := 9) hx hb dX1_like_68 (by decide) ?_
          exact ih9 (i + 1) (nI i) (by omega) (by omega) (fO_n hf (by simp [c_16_4, ec_16_4, c_53_7])) _ _ hH ls (lv_sub hl [1, 2, 3, 4, 5] rfl)
        · skip
          refine lv_aload hx hb dX1_like_56 (lv_at hl 0 rfl) ?_
          refine z_getN (v := .int (nI (jk w i 1))) hx hb hts hown hX kX5 2 (by decide) (z_fz0 hH hAe (hRo.j (k := i) (by first | assumption | omega))) rfl q585 (fun _ h9 => h9) dX1_like_58 ?_
          refine lv_iload_n hx hb dX1_like_61 rfl (lv_at hl 5 rfl) ?_
          refine z_icmp_ne (tgt := 68) hx hb dX1_like_62 (by decide) (by omega) (by omega) (fun c_62_8 => ?_) (fun c_62_8 => ?_)
          · skip
            refine lv_goto (tgt := 9) hx hb dX1_like_68 (by decide) ?_
            exact ih9 (i + 1) (nI i) (by omega) (by omega) (fO_n hf (by simp [c_16_4, ec_16_4, c_53_7, c_62_8])) _ _ hH ls (lv_sub hl [1, 2, 3, 4, 5] rfl)
          · skip
            refine lv_aload hx hb dX1_like_65 (lv_at hl 0 rfl) ?_
            have hH : zH G A s.heap [] H locs := hH.sub [] rfl rfl
            exact z_qret hx hb hr hlocks hH (by first | exact Or.inl ⟨_, rfl⟩ | exact Or.inr ⟨_, rfl⟩) (v := some (S.J i)) (u := ()) (by show some (S.J i) = Option.map S.J (fO _ (w 0)); rw [fO_mono (fO_y hf (by simp [*])) (w 0) (by omega)]; rfl) ⟨hH.1, hH.2.1⟩ trivial (Nat.le_of_ble_eq_true rfl) (Nat.le_of_ble_eq_true rfl) dX1_like_67
  exact LP9_1 ((w 0 - 0) + 1) 0 (-1) (Nat.lt_succ_self _) (by omega) (rfl) _ _ hH ls (lv_sub hl [0, 1, 2, 3, 4] rfl)

set_option maxHeartbeats 4000000 in
set_option maxRecDepth 100000 in
theorem metX1_strokesTo (l : Launch) (G : va_G) (dA : Nat → ClassId) (dS : Nat → Nat) (B0 sz : Nat) (S : PS) (w : Nat → Nat) (B : Nat) (hrb : rB w B) (hBb : B + 20 < 2 ^ 30) (a1 : Nat) (hu1 : a1 ≤ 30) : Met l yX1_strokesTo (ws_ yX1_strokesTo cX1_strokesTo 4 (some FieldType.int)) ({ frames := 0, cells := 0, slots := 0, locals := 0 }) (zP G dA dS B0 [.ref S.p, .int (nI a1)] sz [] (fun H => PumpAt G dA S w H)) (zQi G (fun (r : Int32) (u : Unit) => r = nI (stN (w 2) a1 30 (w 3))) (fun (u : Unit) => []) (fun (u : Unit) (H : Heap) => True) (va_A [] sz)) 0 0 (va_A [] sz) := by
  refine zM (by decide) (Nat.le_of_ble_eq_true rfl) ?_
  intro p e s m below meth c ls A H locs hHe hx hb hr hlocks hml hown hname hts hX hsz hB hAe hA hAB hH hRo hl
  have hl : lv_has ls 4 [(0, .ref S.p), (1, .int (nI a1))] := hl
  have hbw := hrb.lt (by omega)
  have h12 := hrb.1
  have hcp := hRo.c
  have hw2 := hrb.2.2.2.2.1
  have hw2' := hrb.2.2.2.2.2.1
  have hw3 := hrb.2.2.2.2.2.2.1
  have hw1 := hrb.2.2.2.1
  have hw4 := hrb.2.2.2.2.2.2.2.1
  refine lv_iconst (v := nI 0) hx hb dX1_strokesTo_0 (by decide) ?_
  refine lv_istore_n (lv' := [(2, .int (nI 0)), (0, .ref S.p), (1, .int (nI a1))]) hx hb dX1_strokesTo_1 rfl hl (by decide) rfl (fun ls hl => ?_)
  refine lv_aload_n hx hb dX1_strokesTo_2 rfl (lv_at hl 1 rfl) ?_
  refine z_get (v := .int (nI (w 3))) hx hb hts hown hX kX1 8 (by decide) (z_fz0 hH hAe (hRo.p)) rfl q200 (fun _ h9 => h9) dX1_strokesTo_3 ?_
  refine lv_istore_n (lv' := [(3, .int (nI (w 3))), (2, .int (nI 0)), (0, .ref S.p), (1, .int (nI a1))]) hx hb dX1_strokesTo_6 rfl hl (by decide) rfl (fun ls hl => ?_)
  have LP7_0 : ∀ (fuel : Nat) (n : Nat) (r : Nat) (hfu : (a1 - r) < fuel) (hr9 : r ≤ 40) (hf9 : (a1 - r) + n ≤ 30) (hst : n + stN (w 2) a1 (30 - n) (if r < 30 then r else 30) = stN (w 2) a1 30 (w 3)) (H : Heap) (locs : List Loc), zH G A s.heap [] H locs → ∀ (ls : Array Slot), lv_has ls 4 [(0, .ref S.p), (1, .int (nI a1)), (2, .int (nI n)), (3, .int (nI r))] → W p l e (headSpec (ws_ yX1_strokesTo cX1_strokesTo 4 (some FieldType.int)) ({ frames := 0, cells := 0, slots := 0, locals := 0 })).room s m ([.ref S.p, .int (nI a1)] : List Value).toArray below meth c H locs 0 0 (MQ below (zQi G (fun (r : Int32) (u : Unit) => r = nI (stN (w 2) a1 30 (w 3))) (fun (u : Unit) => []) (fun (u : Unit) (H : Heap) => True) A) ([.ref S.p, .int (nI a1)] : List Value).toArray s 0 0 A) (F0 m 7 ls []) := by
    intro fuel
    induction fuel with
    | zero => intro n r hfu; exact absurd hfu (Nat.not_lt_zero _)
    | succ fuel ih7 =>
      intro n r hfu hr9 hf9 hst H locs hH ls hl
      refine lv_iload_n hx hb dX1_strokesTo_7 rfl (lv_at hl 3 rfl) ?_
      refine lv_iload_n hx hb dX1_strokesTo_8 rfl (lv_at hl 1 rfl) ?_
      refine z_icmp_ge (tgt := 25) hx hb dX1_strokesTo_9 (by decide) (by omega) (by omega) (fun c_9_2 => ?_) (fun c_9_2 => ?_)
      · skip
        have dc_9_2 := Nat.not_lt.mp c_9_2
        refine lv_iload_n hx hb dX1_strokesTo_25 rfl (lv_at hl 2 rfl) ?_
        exact z_iret hx hb hr hlocks hH (u := ()) (by rw [stU_e hst (by omega) hu1]) ⟨hH.1, hH.2.1⟩ trivial (Nat.le_of_ble_eq_true rfl) (Nat.le_of_ble_eq_true rfl) dX1_strokesTo_26
      · skip
        refine lv_iinc (v := nI (n + 1)) (lv' := [(2, .int (nI (n + 1))), (0, .ref S.p), (1, .int (nI a1)), (3, .int (nI r))]) hx hb dX1_strokesTo_12 hl (k := 2) rfl (nI_1 _) (by decide) rfl (fun ls hl => ?_)
        refine lv_iload_n hx hb dX1_strokesTo_15 rfl (lv_at hl 3 rfl) ?_
        refine lv_aload_n hx hb dX1_strokesTo_16 rfl (lv_at hl 1 rfl) ?_
        refine z_get (v := .int (nI (w 2))) hx hb hts hown hX kX1 7 (by decide) (z_fz0 hH hAe (hRo.p)) rfl q198 (fun _ h9 => h9) dX1_strokesTo_17 ?_
        refine lv_iadd hx hb dX1_strokesTo_20 ?_
        refine z_topi (y := nI (r + w 2)) (nI_add _ _) ?_
        refine lv_istore_n (lv' := [(3, .int (nI (r + w 2))), (2, .int (nI (n + 1))), (0, .ref S.p), (1, .int (nI a1))]) hx hb dX1_strokesTo_21 rfl hl (by decide) rfl (fun ls hl => ?_)
        refine lv_goto (tgt := 7) hx hb dX1_strokesTo_22 (by decide) ?_
        exact ih7 (n + 1) (r + w 2) (by omega) (by omega) (by omega) (stU_s hst c_9_2 hu1 (by omega)) _ _ hH ls (lv_sub hl [2, 3, 1, 0] rfl)
  exact LP7_0 ((a1 - (w 3)) + 1) 0 (w 3) (Nat.lt_succ_self _) (by omega) (by omega) (by rw [Nat.zero_add, Nat.sub_zero, cl30 hw3]) _ _ hH ls (lv_sub hl [2, 3, 1, 0] rfl)

set_option maxHeartbeats 4000000 in
set_option maxRecDepth 100000 in
theorem metX1_strokesAgain (l : Launch) (G : va_G) (dA : Nat → ClassId) (dS : Nat → Nat) (B0 sz : Nat) (S : PS) (w : Nat → Nat) (B : Nat) (hrb : rB w B) (hBb : B + 20 < 2 ^ 30) (a1 : Nat) (hu1 : a1 ≤ 30) : Met l yX1_strokesAgain (ws_ yX1_strokesAgain cX1_strokesAgain 2 (some FieldType.int)) ({ frames := 1, cells := 0, slots := 0, locals := 40 }) (zP G dA dS B0 [.ref S.p, .int (nI a1)] sz [] (fun H => PumpAt G dA S w H)) (zQi G (fun (r : Int32) (u : Unit) => r = nI (stN (w 2) a1 30 (w 3))) (fun (u : Unit) => []) (fun (u : Unit) (H : Heap) => True) (va_A [] sz)) 0 0 (va_A [] sz) := by
  refine zM (by decide) (Nat.le_of_ble_eq_true rfl) ?_
  intro p e s m below meth c ls A H locs hHe hx hb hr hlocks hml hown hname hts hX hsz hB hAe hA hAB hH hRo hl
  have hl : lv_has ls 2 [(0, .ref S.p), (1, .int (nI a1))] := hl
  have hbw := hrb.lt (by omega)
  have h12 := hrb.1
  have hcp := hRo.c
  have hw2 := hrb.2.2.2.2.1
  have hw2' := hrb.2.2.2.2.2.1
  have hw3 := hrb.2.2.2.2.2.2.1
  have hw1 := hrb.2.2.2.1
  have hw4 := hrb.2.2.2.2.2.2.2.1
  refine lv_iconst (v := nI 0) hx hb dX1_strokesAgain_0 (by decide) ?_
  refine lv_iload_n hx hb dX1_strokesAgain_1 rfl (lv_at hl 1 rfl) ?_
  refine lv_aload_n hx hb dX1_strokesAgain_2 rfl (lv_at hl 0 rfl) ?_
  refine z_get (v := .int (nI (w 3))) hx hb hts hown hX kX1 8 (by decide) (z_fz0 hH hAe (hRo.p)) rfl q200 (fun _ h9 => h9) dX1_strokesAgain_3 ?_
  refine lv_isub hx hb dX1_strokesAgain_6 ?_
  refine lv_aload_n hx hb dX1_strokesAgain_7 rfl (lv_at hl 0 rfl) ?_
  refine z_get (v := .int (nI (w 2))) hx hb hts hown hX kX1 7 (by decide) (z_fz0 hH hAe (hRo.p)) rfl q198 (fun _ h9 => h9) dX1_strokesAgain_8 ?_
  refine lv_iadd hx hb dX1_strokesAgain_11 ?_
  refine lv_iconst (v := nI 1) hx hb dX1_strokesAgain_12 (by decide) ?_
  refine lv_isub hx hb dX1_strokesAgain_13 ?_
  refine lv_aload_n hx hb dX1_strokesAgain_14 rfl (lv_at hl 0 rfl) ?_
  refine z_get (v := .int (nI (w 2))) hx hb hts hown hX kX1 7 (by decide) (z_fz0 hH hAe (hRo.p)) rfl q198 (fun _ h9 => h9) dX1_strokesAgain_15 ?_
  refine lv_idiv hx hb dX1_strokesAgain_18 (fun h => by have := (z_n0 (show w 2 < 2 ^ 31 by omega)).mp h; omega) ?_
  refine va_mmax hx hb (hml.trans hl.1.symm) hown (hts _ q1469) (hts _ q629) (hts _ q101) (hts _ q630) (Nat.le_of_ble_eq_true rfl) (Nat.le_of_ble_eq_true rfl) (Nat.le_of_ble_eq_true rfl) (Nat.le_of_ble_eq_true rfl) dX1_strokesAgain_19 ?_
  refine z_topi (y := nI (stN (w 2) a1 30 (w 3))) (sA_eq a1 hu1 (w 3) hw3 (w 2) hw2' hw2) ?_
  exact z_iret hx hb hr hlocks hH (u := ()) (by rfl) ⟨hH.1, hH.2.1⟩ trivial (Nat.le_of_ble_eq_true rfl) (Nat.le_of_ble_eq_true rfl) dX1_strokesAgain_22

set_option maxHeartbeats 4000000 in
set_option maxRecDepth 100000 in
theorem metX1_groansBy (l : Launch) (G : va_G) (dA : Nat → ClassId) (dS : Nat → Nat) (B0 sz : Nat) (S : PS) (w : Nat → Nat) (B : Nat) (hrb : rB w B) (hBb : B + 20 < 2 ^ 30) (ln : Nat) (d : Nat) (hd : d ≤ 30) (hln : 1 ≤ ln) (hln2 : ln ≤ 10) : Met l yX1_groansBy (ws_ yX1_groansBy cX1_groansBy 5 (some FieldType.int)) ({ frames := 1, cells := 0, slots := 0, locals := 40 }) (zP G dA dS B0 [.ref S.p, .int (nI ln), .int (nI d)] sz [] (fun H => PumpAt G dA S w H)) (zQi G (fun (r : Int32) (u : Unit) => r = nI (gT w d ln)) (fun (u : Unit) => []) (fun (u : Unit) (H : Heap) => True) (va_A [] sz)) 0 0 (va_A [] sz) := by
  refine zM (by decide) (Nat.le_of_ble_eq_true rfl) ?_
  intro p e s m below meth c ls A H locs hHe hx hb hr hlocks hml hown hname hts hX hsz hB hAe hA hAB hH hRo hl
  have hl : lv_has ls 5 [(0, .ref S.p), (1, .int (nI ln)), (2, .int (nI d))] := hl
  have hbw := hrb.lt (by omega)
  have h12 := hrb.1
  have hcp := hRo.c
  have hw2 := hrb.2.2.2.2.1
  have hw2' := hrb.2.2.2.2.2.1
  have hw3 := hrb.2.2.2.2.2.2.1
  have hw1 := hrb.2.2.2.1
  have hw4 := hrb.2.2.2.2.2.2.2.1
  refine lv_iconst (v := nI 0) hx hb dX1_groansBy_0 (by decide) ?_
  refine lv_istore_n (lv' := [(3, .int (nI 0)), (0, .ref S.p), (1, .int (nI ln)), (2, .int (nI d))]) hx hb dX1_groansBy_1 rfl hl (by decide) rfl (fun ls hl => ?_)
  refine lv_aload_n hx hb dX1_groansBy_2 rfl (lv_at hl 1 rfl) ?_
  refine z_get (v := .int (nI (w 3))) hx hb hts hown hX kX1 8 (by decide) (z_fz0 hH hAe (hRo.p)) rfl q200 (fun _ h9 => h9) dX1_groansBy_3 ?_
  refine lv_istore (lv' := [(4, .int (nI (w 3))), (3, .int (nI 0)), (0, .ref S.p), (1, .int (nI ln)), (2, .int (nI d))]) hx hb dX1_groansBy_6 hl (by decide) rfl (fun ls hl => ?_)
  have LP8_0 : ∀ (fuel : Nat) (m9 : Nat) (r : Nat) (sm : Nat) (hfu : (30 - r) < fuel) (hr9 : r ≤ 30) (hf9 : m9 + (30 - r) ≤ 30) (hsm : sm ≤ 4 * m9) (hst : sm + ((1 + nR r ln / 10) + gtL ln d (30 - m9) (nR r ln)) = gT w d ln) (H : Heap) (locs : List Loc), zH G A s.heap [] H locs → ∀ (ls : Array Slot), lv_has ls 5 [(0, .ref S.p), (1, .int (nI ln)), (2, .int (nI d)), (3, .int (nI sm)), (4, .int (nI r))] → W p l e (headSpec (ws_ yX1_groansBy cX1_groansBy 5 (some FieldType.int)) ({ frames := 1, cells := 0, slots := 0, locals := 40 })).room s m ([.ref S.p, .int (nI ln), .int (nI d)] : List Value).toArray below meth c H locs 0 0 (MQ below (zQi G (fun (r : Int32) (u : Unit) => r = nI (gT w d ln)) (fun (u : Unit) => []) (fun (u : Unit) (H : Heap) => True) A) ([.ref S.p, .int (nI ln), .int (nI d)] : List Value).toArray s 0 0 A) (F0 m 8 ls []) := by
    intro fuel
    induction fuel with
    | zero => intro m9 r sm hfu; exact absurd hfu (Nat.not_lt_zero _)
    | succ fuel ih8 =>
      intro m9 r sm hfu hr9 hf9 hsm hst H locs hH ls hl
      have hnr := nR_le (a := r) (b := ln)
      refine lv_bipush (v := nI 30) hx hb dX1_groansBy_8 (by decide) ?_
      refine lv_iload hx hb dX1_groansBy_10 (lv_at hl 4 rfl) ?_
      refine lv_iload_n hx hb dX1_groansBy_12 rfl (lv_at hl 1 rfl) ?_
      refine lv_iadd hx hb dX1_groansBy_13 ?_
      refine z_topi (y := nI (r + ln)) (nI_add _ _) ?_
      refine va_mmin hx hb (hml.trans hl.1.symm) hown (hts _ q983) (hts _ q681) (hts _ q101) (hts _ q682) (Nat.le_of_ble_eq_true rfl) (Nat.le_of_ble_eq_true rfl) (Nat.le_of_ble_eq_true rfl) (Nat.le_of_ble_eq_true rfl) dX1_groansBy_14 ?_
      refine z_topi (y := nI (nR r ln)) (z_mmin' (by omega)) ?_
      refine lv_istore (lv' := [(4, .int (nI (nR r ln))), (0, .ref S.p), (1, .int (nI ln)), (2, .int (nI d)), (3, .int (nI sm))]) hx hb dX1_groansBy_17 hl (by decide) rfl (fun ls hl => ?_)
      refine lv_iload_n hx hb dX1_groansBy_19 rfl (lv_at hl 4 rfl) ?_
      refine lv_iconst (v := nI 1) hx hb dX1_groansBy_20 (by decide) ?_
      refine lv_iload hx hb dX1_groansBy_21 (lv_at hl 0 rfl) ?_
      refine lv_bipush (v := nI 10) hx hb dX1_groansBy_23 (by decide) ?_
      refine lv_idiv hx hb dX1_groansBy_25 (by decide) ?_
      refine z_topi (y := nI ((nR r ln) / 10)) (pk_div (by omega) (by omega) (by omega)) ?_
      refine lv_iadd hx hb dX1_groansBy_26 ?_
      refine z_topi (y := nI (1 + ((nR r ln) / 10))) (nI_add _ _) ?_
      refine lv_iadd hx hb dX1_groansBy_27 ?_
      refine z_topi (y := nI (sm + (1 + ((nR r ln) / 10)))) (nI_add _ _) ?_
      refine lv_istore_n (lv' := [(3, .int (nI (sm + (1 + ((nR r ln) / 10))))), (4, .int (nI (nR r ln))), (0, .ref S.p), (1, .int (nI ln)), (2, .int (nI d))]) hx hb dX1_groansBy_28 rfl hl (by decide) rfl (fun ls hl => ?_)
      refine lv_iload hx hb dX1_groansBy_29 (lv_at hl 1 rfl) ?_
      refine lv_iload_n hx hb dX1_groansBy_31 rfl (lv_at hl 4 rfl) ?_
      refine z_icmp_lt (tgt := 8) hx hb dX1_groansBy_32 (by decide) (by omega) (by omega) (fun c_32_2 => ?_) (fun c_32_2 => ?_)
      · skip
        have ev_3 : nI (sm + (1 + ((nR r ln) / 10))) = nI (sm + (1 + nR r ln / 10)) := by first | rfl | (congr 1; done) | (congr 1; simp [cN, bN, c_32_2]; done) | (congr 1; simp [cN, bN, c_32_2]; omega)
        have hl : lv_has ls 5 [(0, .ref S.p), (1, .int (nI ln)), (2, .int (nI d)), (3, .int (nI (sm + (1 + nR r ln / 10)))), (4, .int (nI (nR r ln)))] := z_lv (lv_sub hl [2, 3, 4, 0, 1] rfl) (by rw [ev_3] <;> rfl)
        exact ih8 (m9 + 1) (nR r ln) (sm + (1 + nR r ln / 10)) (by have := nR_gt (st := ln) (d := d) (r := r) (by have := nR_ge r ln; omega) hd hln; omega) (by omega) (by have := nR_gt (st := ln) (d := d) (r := r) (by have := nR_ge r ln; omega) hd hln; omega) (by omega) (by have h8 := nR_gt (st := ln) (d := d) (r := r) (by have := nR_ge r ln; omega) hd hln; have h9 := gtL_s (ln := ln) (d := d) (r := nR r ln) (s := sm + (1 + nR r ln / 10)) (n := m9) (N := gT w d ln) (by omega) c_32_2 (by omega); omega) _ _ hH ls (lv_sub hl [0, 1, 2, 3, 4] rfl)
      · skip
        have dc_32_2 := Nat.not_lt.mp c_32_2
        refine lv_iload_n hx hb dX1_groansBy_35 rfl (lv_at hl 0 rfl) ?_
        exact z_iret hx hb hr hlocks hH (u := ()) (by exact congrArg nI (gtL_e (ln := ln) (d := d) (s := sm + (1 + nR r ln / 10)) (r := nR r ln) (n := m9) (N := gT w d ln) (by omega) (by omega))) ⟨hH.1, hH.2.1⟩ trivial (Nat.le_of_ble_eq_true rfl) (Nat.le_of_ble_eq_true rfl) dX1_groansBy_36
  exact LP8_0 ((30 - (w 3)) + 1) 0 (w 3) 0 (Nat.lt_succ_self _) (by omega) (by omega) (by omega) (by rw [Nat.zero_add]; rfl) _ _ hH ls (lv_sub hl [2, 3, 4, 1, 0] rfl)

