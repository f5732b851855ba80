/-! lists, read -/
set_option maxHeartbeats 4000000 in
set_option maxRecDepth 100000 in
theorem metJ2_size (l : Launch) (G : va_G) (dA : Nat → ClassId) (dS : Nat → Nat) (B0 sz : Nat) (l9 : Nat) (md : Int32) (a9 : Nat) (n : Nat) : Met l yJ2_size (ws_ yJ2_size cJ2_size 1 (some FieldType.int)) ({ frames := 0, cells := 0, slots := 0, locals := 0 }) (zP G dA dS B0 [.ref l9] sz [] (fun H => va_at G zcl (l9, .inr (23, [.int (md), .ref a9, .int (nI n)])) H)) (zQi G (fun (r : Int32) (u : Unit) => r = nI n) (fun (u : Unit) => []) (fun (u : Unit) (H : Heap) => True) (va_A [] sz)) 0 0 (va_A [] sz) := by
  refine zMF (by decide +kernel) (Nat.le_of_ble_eq_true rfl) ?_
  intro p e s m below meth c ls A H locs hHe hx hb hr hlocks hml hown hname hts hX hsz hB hAe hA hAB hH hRo hl
  have hl : lv_has ls 1 [(0, .ref l9)] := hl
  refine lv_aload_n hx hb dJ2_size_0 rfl (lv_at hl 0 rfl) ?_
  refine z_get (v := .int (nI n)) hx hb hts hown hX kJ2 2 (by decide) (z_fz0 hH hAe hRo) rfl q168 (fun _ h9 => h9) dJ2_size_1 ?_
  exact z_iret hx hb hr hlocks hH (u := ()) (by rfl) ⟨hH.1, hH.2.1⟩ trivial (Nat.le_of_ble_eq_true rfl) (Nat.le_of_ble_eq_true rfl) dJ2_size_4

set_option maxHeartbeats 4000000 in
set_option maxRecDepth 100000 in
theorem metJ4_init (l : Launch) (G : va_G) (dA : Nat → ClassId) (dS : Nat → Nat) (B0 sz : Nat) (it : Nat) (l9 : Nat) (md : Int32) (a9 : Nat) (n : Nat) : Met l yJ4_init (ws_ yJ4_init cJ4_init 2 (none)) ({ frames := 1, cells := 0, slots := 0, locals := 12 }) (zP G dA dS B0 [.ref it, .ref l9] sz [(it, .inr (25, [.int (0), .int (0), .int (0), .null]))] (fun H => va_at G zcl (l9, .inr (23, [.int (md), .ref a9, .int (nI n)])) H)) (zQv G (fun (u : Unit) => True) (fun (u : Unit) => [(it, .inr (25, [.int (nI 0), .int ((-1)), .int (md), .ref l9]))]) (fun (u : Unit) (H : Heap) => True) (va_A [(it, .inr (25, [.int (0), .int (0), .int (0), .null]))] sz)) 0 0 (va_A [(it, .inr (25, [.int (0), .int (0), .int (0), .null]))] sz) := by
  refine zMF (by decide +kernel) (Nat.le_of_ble_eq_true rfl) ?_
  intro p e s m below meth c ls A H locs hHe hx hb hr hlocks hml hown hname hts hX hsz hB hAe hA hAB hH hRo hl
  have hl : lv_has ls 2 [(0, .ref it), (1, .ref l9)] := hl
  have hRo9 := hRo
  rw [← hHe] at hRo9
  have hne := z_ne hX (.inr 25) (.inr 23) (by decide +kernel) (hH.at 0 rfl) (hRo9) rfl rfl
  refine lv_aload_n hx hb dJ4_init_0 rfl (lv_at hl 0 rfl) ?_
  refine lv_aload_n hx hb dJ4_init_1 rfl (lv_at hl 1 rfl) ?_
  refine z_putF hx hb hts hown hX kJ4 3 (by decide) hH 0 rfl q386 (fun _ h9 => h9) rfl hname rfl rfl rfl (Nat.le_of_ble_eq_true rfl) dJ4_init_2 (fun H locs hH => ?_)
  have hH : zH G A s.heap [(it, .inr (25, [.int (0), .int (0), .int (0), .ref l9]))] H locs := hH
  refine lv_aload_n hx hb dJ4_init_5 rfl (lv_at hl 0 rfl) ?_
  refine W.objInit hx hb hown (hts _ q382) (hts _ q143) (hts _ q144) rfl (by rw [hml]; exact hl.1) rfl dJ4_init_6 (Nat.le_of_ble_eq_true rfl) (Nat.le_of_ble_eq_true rfl) ?_
  refine W.eq (g2 := F0 m 9 ls []) rfl ?_
  refine lv_aload_n hx hb dJ4_init_9 rfl (lv_at hl 0 rfl) ?_
  refine lv_iconst (v := (-1)) hx hb dJ4_init_10 (by decide) ?_
  refine z_put hx hb hts hown hX kJ4 1 (by decide) hH 0 rfl q384 (fun _ h9 => h9) rfl rfl rfl (Nat.le_of_ble_eq_true rfl) dJ4_init_11 (fun H locs hH => ?_)
  have hH : zH G A s.heap [(it, .inr (25, [.int (0), .int ((-1)), .int (0), .ref l9]))] H locs := hH
  refine lv_aload_n hx hb dJ4_init_14 rfl (lv_at hl 0 rfl) ?_
  refine lv_aload_n hx hb dJ4_init_15 rfl (lv_at hl 0 rfl) ?_
  refine z_get (v := .ref l9) hx hb hts hown hX kJ4 3 (by decide) (hH.at 0 rfl) rfl q386 (fun _ h9 => h9) dJ4_init_16 ?_
  refine z_get (v := .int (md)) hx hb hts hown hX kJ2 0 (by decide) (z_fz hH hAe hRo ⟨hne, trivial⟩) rfl q170 (fun x h9 => u_same (hts _ q171) x h9) dJ4_init_19 ?_
  refine z_put hx hb hts hown hX kJ4 2 (by decide) hH 0 rfl q385 (fun _ h9 => h9) rfl rfl rfl (Nat.le_of_ble_eq_true rfl) dJ4_init_22 (fun H locs hH => ?_)
  have hH : zH G A s.heap [(it, .inr (25, [.int (0), .int ((-1)), .int (md), .ref l9]))] H locs := hH
  exact z_vret hx hb hr hlocks hH (u := ()) trivial ⟨hH.1, hH.2.1⟩ trivial (Nat.le_of_ble_eq_true rfl) (Nat.le_of_ble_eq_true rfl) dJ4_init_25

set_option maxHeartbeats 4000000 in
set_option maxRecDepth 100000 in
theorem metJ2_iterator (l : Launch) (G : va_G) (dA : Nat → ClassId) (dS : Nat → Nat) (B0 sz : Nat) (l9 : Nat) (md : Int32) (a9 : Nat) (n : Nat) : Met l yJ2_iterator (ws_ yJ2_iterator cJ2_iterator 1 (some (FieldType.object "java/util/Iterator"))) ({ frames := 2, cells := 1, slots := 4, locals := 33 }) (zP G dA dS B0 [.ref l9] sz [] (fun H => va_at G zcl (l9, .inr (23, [.int (md), .ref a9, .int (nI n)])) H)) (zQq G (fun (r : Option Nat) (u : Nat) => r = some u) (fun (u : Nat) => [(u, .inr (25, [.int (nI 0), .int ((-1)), .int (md), .ref l9]))]) (fun (u : Nat) (H : Heap) => True) (va_A [] sz)) 1 4 (va_A [] sz) := by
  refine zMF (by decide +kernel) (Nat.le_of_ble_eq_true rfl) ?_
  intro p e s m below meth c ls A H locs hHe hx hb hr hlocks hml hown hname hts hX hsz hB hAe hA hAB hH hRo hl
  have hl : lv_has ls 1 [(0, .ref l9)] := hl
  refine z_new (fs := [.int (0), .int (0), .int (0), .null]) hx hb hts hown hX kJ4 q377 q378 q94 hH hA (fun _ hj => z_df4 (ty := tyJ4) (v0 := .int (0)) (v1 := .int (0)) (v2 := .int (0)) (v3 := .null) rfl rfl rfl rfl hj) (Nat.le_of_ble_eq_true rfl) (Nat.le_of_ble_eq_true rfl) dJ2_iterator_0 (fun qn_1 H hH _ _ => ?_)
  have hH : zH G A s.heap [(qn_1, .inr (25, [.int (0), .int (0), .int (0), .null]))] H locs := hH
  refine lv_dup hx hb dJ2_iterator_3 rfl ?_
  refine lv_aload_n hx hb dJ2_iterator_4 rfl (lv_at hl 0 rfl) ?_
  refine z_cv (wr := []) (va_runI (As := [.ref l9]) (rest := [.ref qn_1]) ⟨hx, hb, hml, hown, hts⟩ (metJ4_init l G dA dS B0 H.size qn_1 l9 md a9 n) (cwI 1 hts (lw_meth q381) rfl rfl rfl (hts _ q94) (hts _ q379) (hts _ q380) rfl (by decide +kernel) ⟨Nat.le_of_ble_eq_true rfl, Nat.le_of_ble_eq_true rfl⟩) (zPS hX hH hB hAB [0] rfl rfl (z_fz0 hH hAe hRo)) rfl rfl hl.1 rfl (lv_room (Nat.le_of_ble_eq_true rfl)) dJ2_iterator_5 ⟨(Nat.le_of_ble_eq_true rfl), (Nat.le_of_ble_eq_true rfl)⟩) hH hA [0] [] rfl rfl (by decide) (by decide) (fun u_r_2 H locs hw_r_2 hH hR_r_2 hk_r_2 => ?_)
  have hH : zH G A s.heap [(qn_1, .inr (25, [.int (nI 0), .int ((-1)), .int (md), .ref l9]))] H locs := hH
  exact z_qret hx hb hr hlocks hH (by first | exact Or.inl ⟨_, rfl⟩ | exact Or.inr ⟨_, rfl⟩) (v := some qn_1) (u := qn_1) (by rfl) ⟨hH.1, hH.2.1⟩ trivial (Nat.le_of_ble_eq_true rfl) (Nat.le_of_ble_eq_true rfl) dJ2_iterator_8

set_option maxHeartbeats 4000000 in
set_option maxRecDepth 100000 in
theorem metJ4_hasNext (l : Launch) (G : va_G) (dA : Nat → ClassId) (dS : Nat → Nat) (B0 sz : Nat) (it : Nat) (l9 : Nat) (md : Int32) (a9 : Nat) (n : Nat) (i9 : Nat) (r9 : Int32) (hi : i9 ≤ n) (hn : n < 2 ^ 31) : Met l yJ4_hasNext (ws_ yJ4_hasNext cJ4_hasNext 1 (some FieldType.boolean)) ({ frames := 0, cells := 0, slots := 0, locals := 0 }) (zP G dA dS B0 [.ref it] sz [(it, .inr (25, [.int (nI i9), .int (r9), .int (md), .ref l9]))] (fun H => va_at G zcl (l9, .inr (23, [.int (md), .ref a9, .int (nI n)])) H)) (zQi G (fun (r : Int32) (u : Unit) => r = nI (bN (decide (i9 < n)))) (fun (u : Unit) => [(it, .inr (25, [.int (nI i9), .int (r9), .int (md), .ref l9]))]) (fun (u : Unit) (H : Heap) => True) (va_A [(it, .inr (25, [.int (nI i9), .int (r9), .int (md), .ref l9]))] sz)) 0 0 (va_A [(it, .inr (25, [.int (nI i9), .int (r9), .int (md), .ref l9]))] sz) := by
  refine zMF (by decide +kernel) (Nat.le_of_ble_eq_true rfl) ?_
  intro p e s m below meth c ls A H locs hHe hx hb hr hlocks hml hown hname hts hX hsz hB hAe hA hAB hH hRo hl
  have hl : lv_has ls 1 [(0, .ref it)] := hl
  have hRo9 := hRo
  rw [← hHe] at hRo9
  have hne := z_ne hX (.inr 25) (.inr 23) (by decide +kernel) (hH.at 0 rfl) (hRo9) rfl rfl
  refine lv_aload_n hx hb dJ4_hasNext_0 rfl (lv_at hl 0 rfl) ?_
  refine z_get (v := .int (nI i9)) hx hb hts hown hX kJ4 0 (by decide) (hH.at 0 rfl) rfl q383 (fun _ h9 => h9) dJ4_hasNext_1 ?_
  refine lv_aload_n hx hb dJ4_hasNext_4 rfl (lv_at hl 0 rfl) ?_
  refine z_get (v := .ref l9) hx hb hts hown hX kJ4 3 (by decide) (hH.at 0 rfl) rfl q386 (fun _ h9 => h9) dJ4_hasNext_5 ?_
  refine z_getN (v := .int (nI n)) hx hb hts hown hX kJ2 2 (by decide) (z_fz hH hAe hRo ⟨hne, trivial⟩) rfl q167 (fun _ h9 => h9) dJ4_hasNext_8 ?_
  refine z_icmp_eq (tgt := 18) hx hb dJ4_hasNext_11 (by decide) (by omega) (by omega) (fun c_11_1 => ?_) (fun c_11_1 => ?_)
  · skip
    refine lv_iconst (v := nI 0) hx hb dJ4_hasNext_18 (by decide) ?_
    exact z_zret hx hb hr hlocks hH (by first | rfl | exact z_narB _ | decide) (u := ()) (by first | (rw [decide_eq_true (show i9 < n by omega)]; rfl) | (rw [decide_eq_false (show ¬ i9 < n by omega)]; rfl)) ⟨hH.1, hH.2.1⟩ trivial (Nat.le_of_ble_eq_true rfl) (Nat.le_of_ble_eq_true rfl) dJ4_hasNext_19
  · skip
    refine lv_iconst (v := nI 1) hx hb dJ4_hasNext_14 (by decide) ?_
    refine lv_goto (tgt := 19) hx hb dJ4_hasNext_15 (by decide) ?_
    exact z_zret hx hb hr hlocks hH (by first | rfl | exact z_narB _ | decide) (u := ()) (by first | (rw [decide_eq_true (show i9 < n by omega)]; rfl) | (rw [decide_eq_false (show ¬ i9 < n by omega)]; rfl)) ⟨hH.1, hH.2.1⟩ trivial (Nat.le_of_ble_eq_true rfl) (Nat.le_of_ble_eq_true rfl) dJ4_hasNext_19

set_option maxHeartbeats 4000000 in
set_option maxRecDepth 100000 in
theorem metJ4_checkForComodification (l : Launch) (G : va_G) (dA : Nat → ClassId) (dS : Nat → Nat) (B0 sz : Nat) (it : Nat) (l9 : Nat) (md : Int32) (a9 : Nat) (n : Nat) (i9 : Nat) (r9 : Int32) : Met l yJ4_checkForComodification (ws_ yJ4_checkForComodification cJ4_checkForComodification 1 (none)) ({ frames := 0, cells := 0, slots := 0, locals := 0 }) (zP G dA dS B0 [.ref it] sz [(it, .inr (25, [.int (nI i9), .int (r9), .int (md), .ref l9]))] (fun H => va_at G zcl (l9, .inr (23, [.int (md), .ref a9, .int (nI n)])) H)) (zQv G (fun (u : Unit) => True) (fun (u : Unit) => [(it, .inr (25, [.int (nI i9), .int (r9), .int (md), .ref l9]))]) (fun (u : Unit) (H : Heap) => True) (va_A [(it, .inr (25, [.int (nI i9), .int (r9), .int (md), .ref l9]))] sz)) 0 0 (va_A [(it, .inr (25, [.int (nI i9), .int (r9), .int (md), .ref l9]))] sz) := by
  refine zMF (by decide +kernel) (Nat.le_of_ble_eq_true rfl) ?_
  intro p e s m below meth c ls A H locs hHe hx hb hr hlocks hml hown hname hts hX hsz hB hAe hA hAB hH hRo hl
  have hl : lv_has ls 1 [(0, .ref it)] := hl
  have hRo9 := hRo
  rw [← hHe] at hRo9
  have hne := z_ne hX (.inr 25) (.inr 23) (by decide +kernel) (hH.at 0 rfl) (hRo9) rfl rfl
  refine lv_aload_n hx hb dJ4_checkForComodification_0 rfl (lv_at hl 0 rfl) ?_
  refine z_get (v := .ref l9) hx hb hts hown hX kJ4 3 (by decide) (hH.at 0 rfl) rfl q386 (fun _ h9 => h9) dJ4_checkForComodification_1 ?_
  refine z_get (v := .int (md)) hx hb hts hown hX kJ2 0 (by decide) (z_fz hH hAe hRo ⟨hne, trivial⟩) rfl q170 (fun x h9 => u_same (hts _ q171) x h9) dJ4_checkForComodification_4 ?_
  refine lv_aload_n hx hb dJ4_checkForComodification_7 rfl (lv_at hl 0 rfl) ?_
  refine z_get (v := .int (md)) hx hb hts hown hX kJ4 2 (by decide) (hH.at 0 rfl) rfl q385 (fun _ h9 => h9) dJ4_checkForComodification_8 ?_
  refine lv_icmp_eq (tgt := 22) hx hb dJ4_checkForComodification_11 (by decide) (fun c_11_1 => ?_) (fun c_11_1 => ?_)
  · skip
    exact z_vret hx hb hr hlocks hH (u := ()) trivial ⟨hH.1, hH.2.1⟩ trivial (Nat.le_of_ble_eq_true rfl) (Nat.le_of_ble_eq_true rfl) dJ4_checkForComodification_22
  · skip
    exact absurd rfl c_11_1

set_option maxHeartbeats 4000000 in
set_option maxRecDepth 100000 in
theorem metJ4_next (l : Launch) (G : va_G) (dA : Nat → ClassId) (dS : Nat → Nat) (B0 sz : Nat) (it : Nat) (l9 : Nat) (md : Int32) (a9 : Nat) (n : Nat) (i9 : Nat) (r9 : Int32) (cp : Nat) (E : Nat → Option Nat) (hi : i9 < n) (hc : n ≤ cp) (hcp : cp < 2 ^ 31) : Met l yJ4_next (ws_ yJ4_next cJ4_next 3 (some (FieldType.object "java/lang/Object"))) ({ frames := 1, cells := 0, slots := 0, locals := 20 }) (zP G dA dS B0 [.ref it] sz [(it, .inr (25, [.int (nI i9), .int (r9), .int (md), .ref l9]))] (fun H => va_at G zcl (l9, .inr (23, [.int (md), .ref a9, .int (nI n)])) H ∧ va_at G zcl (a9, .inl (dA 5, cp, .inr (.inr (.inr (.inr (E)))))) H)) (zQq G (fun (r : Option Nat) (u : Unit) => r = E i9) (fun (u : Unit) => [(it, .inr (25, [.int (nI (i9 + 1)), .int (nI i9), .int (md), .ref l9]))]) (fun (u : Unit) (H : Heap) => True) (va_A [(it, .inr (25, [.int (nI i9), .int (r9), .int (md), .ref l9]))] sz)) 0 0 (va_A [(it, .inr (25, [.int (nI i9), .int (r9), .int (md), .ref l9]))] sz) := by
  refine zMF (by decide +kernel) (Nat.le_of_ble_eq_true rfl) ?_
  intro p e s m below meth c ls A H locs hHe hx hb hr hlocks hml hown hname hts hX hsz hB hAe hA hAB hH hRo hl
  have hl : lv_has ls 3 [(0, .ref it)] := hl
  obtain ⟨hRo, hRa⟩ := hRo
  have hRo9 := hRo
  rw [← hHe] at hRo9
  have hRa9 := hRa
  rw [← hHe] at hRa9
  have hne := z_ne hX (.inr 25) (.inr 23) (by decide +kernel) (hH.at 0 rfl) (hRo9) rfl rfl
  have hne2 := z_ne hX (.inr 25) (.inl 5) (by decide +kernel) (hH.at 0 rfl) hRa9 rfl rfl
  refine lv_aload_n hx hb dJ4_next_0 rfl (lv_at hl 0 rfl) ?_
  refine z_cv (wr := []) (va_runV (As := []) (rest := []) ⟨hx, hb, hml, hown, hts⟩ (metJ4_checkForComodification l G dA dS B0 H.size it l9 md a9 n i9 r9) (cwV 0 hts (lw_V q546 q547 q548 q94 q549) rfl rfl rfl (by decide +kernel) ⟨Nat.le_of_ble_eq_true rfl, Nat.le_of_ble_eq_true rfl⟩) (zPV hX hH hB hAB (z_recv hX kJ4 (hH.at 0 rfl)) [0] rfl rfl (z_fz hH hAe hRo ⟨hne, trivial⟩)) rfl rfl hl.1 rfl (lv_room (Nat.le_of_ble_eq_true rfl)) dJ4_next_1 ⟨(Nat.le_of_ble_eq_true rfl), (Nat.le_of_ble_eq_true rfl)⟩) hH hA [0] [] rfl rfl (by decide) (by decide) (fun u_r_1 H locs hw_r_1 hH hR_r_1 hk_r_1 => ?_)
  have hH : zH G A s.heap [(it, .inr (25, [.int (nI i9), .int (r9), .int (md), .ref l9]))] H locs := hH
  refine lv_aload_n hx hb dJ4_next_4 rfl (lv_at hl 0 rfl) ?_
  refine z_get (v := .int (nI i9)) hx hb hts hown hX kJ4 0 (by decide) (hH.at 0 rfl) rfl q383 (fun _ h9 => h9) dJ4_next_5 ?_
  refine lv_istore_n (lv' := [(1, .int (nI i9)), (0, .ref it)]) hx hb dJ4_next_8 rfl hl (by decide) rfl (fun ls hl => ?_)
  refine lv_iload_n hx hb dJ4_next_9 rfl (lv_at hl 0 rfl) ?_
  refine lv_aload_n hx hb dJ4_next_10 rfl (lv_at hl 1 rfl) ?_
  refine z_get (v := .ref l9) hx hb hts hown hX kJ4 3 (by decide) (hH.at 0 rfl) rfl q386 (fun _ h9 => h9) dJ4_next_11 ?_
  refine z_getN (v := .int (nI n)) hx hb hts hown hX kJ2 2 (by decide) (z_fz hH hAe hRo ⟨hne, trivial⟩) rfl q167 (fun _ h9 => h9) dJ4_next_14 ?_
  refine z_icmp_lt (tgt := 28) hx hb dJ4_next_17 (by decide) (by omega) (by omega) (fun c_17_2 => ?_) (fun c_17_2 => ?_)
  · skip
    refine lv_aload_n hx hb dJ4_next_28 rfl (lv_at hl 1 rfl) ?_
    refine z_get (v := .ref l9) hx hb hts hown hX kJ4 3 (by decide) (hH.at 0 rfl) rfl q386 (fun _ h9 => h9) dJ4_next_29 ?_
    refine z_get (v := .ref a9) hx hb hts hown hX kJ2 1 (by decide) (z_fz hH hAe hRo ⟨hne, trivial⟩) rfl q166 (fun _ h9 => h9) dJ4_next_32 ?_
    refine lv_astore_n (lv' := [(2, .ref a9), (1, .int (nI i9)), (0, .ref it)]) hx hb dJ4_next_35 rfl hl (by decide) rfl (fun ls hl => ?_)
    refine lv_iload_n hx hb dJ4_next_36 rfl (lv_at hl 1 rfl) ?_
    refine lv_aload_n hx hb dJ4_next_37 rfl (lv_at hl 0 rfl) ?_
    refine z_alen (v := nI cp) hx hb hX 5 rfl (z_fz hH hAe hRa ⟨hne2, trivial⟩) rfl dJ4_next_38 ?_
    refine z_icmp_lt (tgt := 50) hx hb dJ4_next_39 (by decide) (by omega) (by omega) (fun c_39_3 => ?_) (fun c_39_3 => ?_)
    · skip
      refine lv_aload_n hx hb dJ4_next_50 rfl (lv_at hl 2 rfl) ?_
      refine lv_iload_n hx hb dJ4_next_51 rfl (lv_at hl 1 rfl) ?_
      refine lv_iconst (v := nI 1) hx hb dJ4_next_52 (by decide) ?_
      refine lv_iadd hx hb dJ4_next_53 ?_
      refine z_topi (y := nI (i9 + 1)) (nI_add _ _) ?_
      refine z_put hx hb hts hown hX kJ4 0 (by decide) hH 0 rfl q383 (fun _ h9 => h9) rfl rfl rfl (Nat.le_of_ble_eq_true rfl) dJ4_next_54 (fun H locs hH => ?_)
      have hH : zH G A s.heap [(it, .inr (25, [.int (nI (i9 + 1)), .int (r9), .int (md), .ref l9]))] H locs := hH
      refine lv_aload_n hx hb dJ4_next_57 rfl (lv_at hl 0 rfl) ?_
      refine lv_aload_n hx hb dJ4_next_58 rfl (lv_at hl 2 rfl) ?_
      refine lv_iload_n hx hb dJ4_next_59 rfl (lv_at hl 1 rfl) ?_
      refine lv_dup_x1 hx hb dJ4_next_60 rfl rfl ?_
      refine z_put hx hb hts hown hX kJ4 1 (by decide) hH 0 rfl q384 (fun _ h9 => h9) rfl rfl rfl (Nat.le_of_ble_eq_true rfl) dJ4_next_61 (fun H locs hH => ?_)
      have hH : zH G A s.heap [(it, .inr (25, [.int (nI (i9 + 1)), .int (nI i9), .int (md), .ref l9]))] H locs := hH
      refine z_qld hx hb hX (k := i9) 5 rfl (z_fz hH hAe hRa ⟨hne2, trivial⟩) rfl (by omega) (by omega) rfl dJ4_next_64 ?_
      exact z_qret hx hb hr hlocks hH (by first | exact Or.inl ⟨_, rfl⟩ | exact Or.inr ⟨_, rfl⟩) (v := (E i9)) (u := ()) (by rfl) ⟨hH.1, hH.2.1⟩ trivial (Nat.le_of_ble_eq_true rfl) (Nat.le_of_ble_eq_true rfl) dJ4_next_65
    · skip
      have dc_39_3 := Nat.not_lt.mp c_39_3
      exact absurd hi (by omega)
  · skip
    have dc_17_2 := Nat.not_lt.mp c_17_2
    exact absurd hi (by omega)

set_option maxHeartbeats 4000000 in
set_option maxRecDepth 100000 in
theorem metJ16_checkIndex (l : Launch) (G : va_G) (dA : Nat → ClassId) (dS : Nat → Nat) (B0 sz : Nat) (i9 : Nat) (n : Nat) (hi : i9 < n) (hn : n < 2 ^ 31) : Met l yJ16_checkIndex (ws_ yJ16_checkIndex cJ16_checkIndex 3 (some FieldType.int)) ({ frames := 0, cells := 0, slots := 0, locals := 0 }) (zP G dA dS B0 [.int (nI i9), .int (nI n), .null] sz [] (fun H => True)) (zQi G (fun (r : Int32) (u : Unit) => r = nI i9) (fun (u : Unit) => []) (fun (u : Unit) (H : Heap) => True) (va_A [] sz)) 0 0 (va_A [] sz) := by
  refine zMF (by decide +kernel) (Nat.le_of_ble_eq_true rfl) ?_
  intro p e s m below meth c ls A H locs hHe hx hb hr hlocks hml hown hname hts hX hsz hB hAe hA hAB hH hRo hl
  have hl : lv_has ls 3 [(0, .int (nI i9)), (1, .int (nI n)), (2, .null)] := hl
  refine lv_iload_n hx hb dJ16_checkIndex_0 rfl (lv_at hl 0 rfl) ?_
  refine z_ifltN (tgt := 9) hx hb dJ16_checkIndex_1 (by decide) (by omega) (fun c_1_1 => ?_) (fun c_1_1 => ?_)
  · skip
    exact c_1_1.elim
  · skip
    refine lv_iload_n hx hb dJ16_checkIndex_4 rfl (lv_at hl 0 rfl) ?_
    refine lv_iload_n hx hb dJ16_checkIndex_5 rfl (lv_at hl 1 rfl) ?_
    refine z_icmp_lt (tgt := 16) hx hb dJ16_checkIndex_6 (by decide) (by omega) (by omega) (fun c_6_2 => ?_) (fun c_6_2 => ?_)
    · skip
      refine lv_iload_n hx hb dJ16_checkIndex_16 rfl (lv_at hl 0 rfl) ?_
      exact z_iret hx hb hr hlocks hH (u := ()) (by rfl) ⟨hH.1, hH.2.1⟩ trivial (Nat.le_of_ble_eq_true rfl) (Nat.le_of_ble_eq_true rfl) dJ16_checkIndex_17
    · skip
      have dc_6_2 := Nat.not_lt.mp c_6_2
      exact absurd hi (by omega)

set_option maxHeartbeats 4000000 in
set_option maxRecDepth 100000 in
theorem metJ15_checkIndex (l : Launch) (G : va_G) (dA : Nat → ClassId) (dS : Nat → Nat) (B0 sz : Nat) (i9 : Nat) (n : Nat) (hi : i9 < n) (hn : n < 2 ^ 31) : Met l yJ15_checkIndex (ws_ yJ15_checkIndex cJ15_checkIndex 2 (some FieldType.int)) ({ frames := 1, cells := 0, slots := 0, locals := 22 }) (zP G dA dS B0 [.int (nI i9), .int (nI n)] sz [] (fun H => True)) (zQi G (fun (r : Int32) (u : Unit) => r = nI i9) (fun (u : Unit) => []) (fun (u : Unit) (H : Heap) => True) (va_A [] sz)) 0 0 (va_A [] sz) := by
  refine zMF (by decide +kernel) (Nat.le_of_ble_eq_true rfl) ?_
  intro p e s m below meth c ls A H locs hHe hx hb hr hlocks hml hown hname hts hX hsz hB hAe hA hAB hH hRo hl
  have hl : lv_has ls 2 [(0, .int (nI i9)), (1, .int (nI n))] := hl
  refine lv_iload_n hx hb dJ15_checkIndex_0 rfl (lv_at hl 0 rfl) ?_
  refine lv_iload_n hx hb dJ15_checkIndex_1 rfl (lv_at hl 1 rfl) ?_
  refine lv_null hx hb dJ15_checkIndex_2 ?_
  refine z_ci (wr := []) (va_runS (As := [.int (nI i9), .int (nI n), .null]) (rest := []) ⟨hx, hb, hml, hown, hts⟩ (metJ16_checkIndex l G dA dS B0 H.size i9 n (by first | exact hi | assumption | omega) (by first | exact hn | assumption | omega)) (va_cwS 3 hts (lw_S q917 q918 q110 q919) rfl rfl rfl (by decide +kernel) ⟨Nat.le_of_ble_eq_true rfl, Nat.le_of_ble_eq_true rfl⟩) (zPS hX hH hB hAB [] rfl rfl trivial) rfl rfl hl.1 rfl (lv_room (Nat.le_of_ble_eq_true rfl)) dJ15_checkIndex_3 ⟨(Nat.le_of_ble_eq_true rfl), (Nat.le_of_ble_eq_true rfl)⟩) hH hA [] [] rfl rfl (by decide) (by decide) (fun r_1 u_r_1 H locs hw_r_1 hH hR_r_1 hk_r_1 => ?_)
  obtain rfl := hw_r_1
  have hH : zH G A s.heap [] H locs := hH
  exact z_iret hx hb hr hlocks hH (u := ()) (by rfl) ⟨hH.1, hH.2.1⟩ trivial (Nat.le_of_ble_eq_true rfl) (Nat.le_of_ble_eq_true rfl) dJ15_checkIndex_6

set_option maxHeartbeats 4000000 in
set_option maxRecDepth 100000 in
theorem metJ2_elementData (l : Launch) (G : va_G) (dA : Nat → ClassId) (dS : Nat → Nat) (B0 sz : Nat) (l9 : Nat) (md : Int32) (a9 : Nat) (n : Nat) (i9 : Nat) (cp : Nat) (E : Nat → Option Nat) (hi : i9 < n) (hc : n ≤ cp) (hcp : cp < 2 ^ 31) : Met l yJ2_elementData (ws_ yJ2_elementData cJ2_elementData 2 (some (FieldType.object "java/lang/Object"))) ({ frames := 0, cells := 0, slots := 0, locals := 0 }) (zP G dA dS B0 [.ref l9, .int (nI i9)] sz [] (fun H => va_at G zcl (l9, .inr (23, [.int (md), .ref a9, .int (nI n)])) H ∧ va_at G zcl (a9, .inl (dA 5, cp, .inr (.inr (.inr (.inr (E)))))) H)) (zQq G (fun (r : Option Nat) (u : Unit) => r = E i9) (fun (u : Unit) => []) (fun (u : Unit) (H : Heap) => True) (va_A [] sz)) 0 0 (va_A [] sz) := by
  refine zMF (by decide +kernel) (Nat.le_of_ble_eq_true rfl) ?_
  intro p e s m below meth c ls A H locs hHe hx hb hr hlocks hml hown hname hts hX hsz hB hAe hA hAB hH hRo hl
  have hl : lv_has ls 2 [(0, .ref l9), (1, .int (nI i9))] := hl
  refine lv_aload_n hx hb dJ2_elementData_0 rfl (lv_at hl 0 rfl) ?_
  refine z_get (v := .ref a9) hx hb hts hown hX kJ2 1 (by decide) (z_fz0 hH hAe hRo.1) rfl q165 (fun _ h9 => h9) dJ2_elementData_1 ?_
  refine lv_iload_n hx hb dJ2_elementData_4 rfl (lv_at hl 1 rfl) ?_
  refine z_qld hx hb hX (k := i9) 5 rfl (z_fz0 hH hAe hRo.2) rfl (by omega) (by omega) rfl dJ2_elementData_5 ?_
  exact z_qret hx hb hr hlocks hH (by first | exact Or.inl ⟨_, rfl⟩ | exact Or.inr ⟨_, rfl⟩) (v := (E i9)) (u := ()) (by rfl) ⟨hH.1, hH.2.1⟩ trivial (Nat.le_of_ble_eq_true rfl) (Nat.le_of_ble_eq_true rfl) dJ2_elementData_6

set_option maxHeartbeats 4000000 in
set_option maxRecDepth 100000 in
theorem metJ2_get (l : Launch) (G : va_G) (dA : Nat → ClassId) (dS : Nat → Nat) (B0 sz : Nat) (l9 : Nat) (md : Int32) (a9 : Nat) (n : Nat) (i9 : Nat) (cp : Nat) (E : Nat → Option Nat) (hi : i9 < n) (hc : n ≤ cp) (hcp : cp < 2 ^ 31) : Met l yJ2_get (ws_ yJ2_get cJ2_get 2 (some (FieldType.object "java/lang/Object"))) ({ frames := 2, cells := 0, slots := 0, locals := 43 }) (zP G dA dS B0 [.ref l9, .int (nI i9)] sz [] (fun H => va_at G zcl (l9, .inr (23, [.int (md), .ref a9, .int (nI n)])) H ∧ va_at G zcl (a9, .inl (dA 5, cp, .inr (.inr (.inr (.inr (E)))))) H)) (zQq G (fun (r : Option Nat) (u : Unit) => r = E i9) (fun (u : Unit) => []) (fun (u : Unit) (H : Heap) => True) (va_A [] sz)) 0 0 (va_A [] sz) := by
  refine zMF (by decide +kernel) (Nat.le_of_ble_eq_true rfl) ?_
  intro p e s m below meth c ls A H locs hHe hx hb hr hlocks hml hown hname hts hX hsz hB hAe hA hAB hH hRo hl
  have hl : lv_has ls 2 [(0, .ref l9), (1, .int (nI i9))] := hl
  refine lv_iload_n hx hb dJ2_get_0 rfl (lv_at hl 1 rfl) ?_
  refine lv_aload_n hx hb dJ2_get_1 rfl (lv_at hl 0 rfl) ?_
  refine z_get (v := .int (nI n)) hx hb hts hown hX kJ2 2 (by decide) (z_fz0 hH hAe hRo.1) rfl q168 (fun _ h9 => h9) dJ2_get_2 ?_
  refine z_ci (wr := []) (va_runS (As := [.int (nI i9), .int (nI n)]) (rest := []) ⟨hx, hb, hml, hown, hts⟩ (metJ15_checkIndex l G dA dS B0 H.size i9 n (by first | exact hi | assumption | omega) (by first | exact hn | assumption | omega)) (va_cwS 2 hts (lw_S q914 q915 q109 q916) rfl rfl rfl (by decide +kernel) ⟨Nat.le_of_ble_eq_true rfl, Nat.le_of_ble_eq_true rfl⟩) (zPS hX hH hB hAB [] rfl rfl trivial) rfl rfl hl.1 rfl (lv_room (Nat.le_of_ble_eq_true rfl)) dJ2_get_5 ⟨(Nat.le_of_ble_eq_true rfl), (Nat.le_of_ble_eq_true rfl)⟩) hH hA [] [] rfl rfl (by decide) (by decide) (fun r_1 u_r_1 H locs hw_r_1 hH hR_r_1 hk_r_1 => ?_)
  obtain rfl := hw_r_1
  have hH : zH G A s.heap [] H locs := hH
  refine lv_pop hx hb dJ2_get_8 rfl ?_
  refine lv_aload_n hx hb dJ2_get_9 rfl (lv_at hl 0 rfl) ?_
  refine lv_iload_n hx hb dJ2_get_10 rfl (lv_at hl 1 rfl) ?_
  refine z_cq (wr := []) (va_runV (As := [.int (nI i9)]) (rest := []) ⟨hx, hb, hml, hown, hts⟩ (metJ2_elementData l G dA dS B0 H.size l9 md a9 n i9 cp E (by first | exact hi | assumption | omega) (by first | exact hc | assumption | omega) (by first | exact hcp | assumption | omega)) (cwV 1 hts (lw_V q920 q921 q922 q89 q923) rfl rfl rfl (by decide +kernel) ⟨Nat.le_of_ble_eq_true rfl, Nat.le_of_ble_eq_true rfl⟩) (zPV hX hH hB hAB (z_recv hX kJ2 (z_fz0 hH hAe hRo.1)) [] rfl rfl (⟨z_fz0 hH hAe hRo.1, z_fz0 hH hAe hRo.2⟩)) rfl rfl hl.1 rfl (lv_room (Nat.le_of_ble_eq_true rfl)) dJ2_get_11 ⟨(Nat.le_of_ble_eq_true rfl), (Nat.le_of_ble_eq_true rfl)⟩) hH hA [] [] rfl rfl (by decide) (by decide) (fun r_2 u_r_2 H locs hw_r_2 hH hR_r_2 hk_r_2 => ?_)
  obtain rfl := hw_r_2
  have hH : zH G A s.heap [] H locs := hH
  exact z_qret hx hb hr hlocks hH (by first | exact Or.inl ⟨_, rfl⟩ | exact Or.inr ⟨_, rfl⟩) (v := (E i9)) (u := ()) (by rfl) ⟨hH.1, hH.2.1⟩ trivial (Nat.le_of_ble_eq_true rfl) (Nat.le_of_ble_eq_true rfl) dJ2_get_14

