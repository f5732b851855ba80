/-! the model's first state -/
def w0L (i : Nat) : Nat → Nat := fun k => if k = 2 then 3 else if k = 5 then 9 else if 14 ≤ k ∧ k < 14 + i then 2 else 0
def m0 : mS := fun a k => match a with
  | 0 => if k = 19 then 4294967295 else 0
  | 1 => w0L 4 k
  | _ => 0
theorem w0L_0 : upd (upd (fun _ => 0) 2 (nI 3)) 5 (nI 9) = nA (w0L 0) := by
  funext j
  simp only [upd, nA, w0L]
  by_cases h5 : j = 5
  · subst h5; rfl
  · by_cases h2 : j = 2
    · subst h2; rfl
    · rw [if_neg h5, if_neg h2, if_neg h2, if_neg h5, if_neg (by omega)]; exact nI_0.symm
theorem w0L_s (i : Nat) : uP (w0L i) (14 + i) 2 = w0L (i + 1) := by
  funext j
  simp only [uP, w0L]
  by_cases h : j = 14 + i
  · rw [if_pos h, if_neg (by omega), if_neg (by omega), if_pos (by omega)]
  · rw [if_neg h]
    by_cases h5 : j = 2
    · rw [if_pos h5, if_pos h5]
    · rw [if_neg h5, if_neg h5]
      by_cases h6 : j = 5
      · rw [if_pos h6, if_pos h6]
      · rw [if_neg h6, if_neg h6]
        by_cases h7 : 14 ≤ j ∧ j < 14 + i
        · rw [if_pos h7, if_pos (by omega)]
        · rw [if_neg h7, if_neg (by omega)]
set_option maxHeartbeats 4000000 in
set_option maxRecDepth 100000 in
theorem metX2_init (l : Launch) (G : va_G) (dA : Nat → ClassId) (dS : Nat → Nat) (B0 sz : Nat) (q0 : Nat) : Met l yX2_init (ws_ yX2_init cX2_init 2 (none)) ({ frames := 1, cells := 8, slots := 3412, locals := 12 }) (zP G dA dS B0 [.ref q0] sz [(q0, .inr (2, [.int (0), .int (0), .int (0), .int (0), .int (0), .int (0), .null, .null, .null, .null, .null, .int (0), .int (0), .int (0), .null, .int (0), .null, .int (0), .int (0), .int (0), .null, .int (0), .int (0)]))] (fun H => True)) (zQv G (fun (u : Nat → Nat) => u 0 = q0) (fun (u : Nat → Nat) => mW dA u m0) (fun (u : Nat → Nat) (H : Heap) => True) (va_A [(q0, .inr (2, [.int (0), .int (0), .int (0), .int (0), .int (0), .int (0), .null, .null, .null, .null, .null, .int (0), .int (0), .int (0), .null, .int (0), .null, .int (0), .int (0), .int (0), .null, .int (0), .int (0)]))] sz)) 8 3412 (va_A [(q0, .inr (2, [.int (0), .int (0), .int (0), .int (0), .int (0), .int (0), .null, .null, .null, .null, .null, .int (0), .int (0), .int (0), .null, .int (0), .null, .int (0), .int (0), .int (0), .null, .int (0), .int (0)]))] sz) := by
  refine zM (by decide) (Nat.le_of_ble_eq_true rfl) ?_
  intro p e s m below meth c ls A H locs hHe hx hb hr hlocks hml hown hname hts hX hsz hB hAe hA hAB hH hRo hl
  have hl : lv_has ls 2 [(0, .ref q0)] := hl
  refine lv_aload_n hx hb dX2_init_0 rfl (lv_at hl 0 rfl) ?_
  refine W.objInit hx hb hown (hts _ q2009) (hts _ q143) (hts _ q144) rfl (by rw [hml]; exact hl.1) rfl dX2_init_1 (Nat.le_of_ble_eq_true rfl) (Nat.le_of_ble_eq_true rfl) ?_
  refine W.eq (g2 := F0 m 4 ls []) rfl ?_
  refine lv_aload_n hx hb dX2_init_4 rfl (lv_at hl 0 rfl) ?_
  refine lv_sipush (v := nI 274) hx hb dX2_init_5 (by decide) ?_
  refine z_newa (atype := .int) hx hb hX (hts _ q250) rfl 0 rfl (fun C h => by cases h) hH hA (N' := 274) rfl rfl (by omega) (by show _ * 4 ≤ _; omega) (Nat.le_of_ble_eq_true rfl) (Nat.le_of_ble_eq_true rfl) dX2_init_8 (fun qa_1 H hH _ _ => ?_)
  have hH : zH G A s.heap [(q0, .inr (2, [.int (0), .int (0), .int (0), .int (0), .int (0), .int (0), .null, .null, .null, .null, .null, .int (0), .int (0), .int (0), .null, .int (0), .null, .int (0), .int (0), .int (0), .null, .int (0), .int (0)])), (qa_1, .inl (dA 0, 274, .inl (fun _ => 0)))] H locs := hH
  refine z_putF hx hb hts hown hX kX2 6 (by decide) hH 0 rfl q2016 (fun _ h9 => h9) rfl hname rfl rfl rfl (Nat.le_of_ble_eq_true rfl) dX2_init_10 (fun H locs hH => ?_)
  have hH : zH G A s.heap [(q0, .inr (2, [.int (0), .int (0), .int (0), .int (0), .int (0), .int (0), .ref qa_1, .null, .null, .null, .null, .int (0), .int (0), .int (0), .null, .int (0), .null, .int (0), .int (0), .int (0), .null, .int (0), .int (0)])), (qa_1, .inl (dA 0, 274, .inl (fun _ => 0)))] H locs := hH
  refine lv_aload_n hx hb dX2_init_13 rfl (lv_at hl 0 rfl) ?_
  refine lv_sipush (v := nI 2192) hx hb dX2_init_14 (by decide) ?_
  refine z_newa (atype := .int) hx hb hX (hts _ q250) rfl 0 rfl (fun C h => by cases h) hH hA (N' := 2192) rfl rfl (by omega) (by show _ * 4 ≤ _; omega) (Nat.le_of_ble_eq_true rfl) (Nat.le_of_ble_eq_true rfl) dX2_init_17 (fun qa_2 H hH _ _ => ?_)
  have hH : zH G A s.heap [(q0, .inr (2, [.int (0), .int (0), .int (0), .int (0), .int (0), .int (0), .ref qa_1, .null, .null, .null, .null, .int (0), .int (0), .int (0), .null, .int (0), .null, .int (0), .int (0), .int (0), .null, .int (0), .int (0)])), (qa_1, .inl (dA 0, 274, .inl (fun _ => 0))), (qa_2, .inl (dA 0, 2192, .inl (fun _ => 0)))] H locs := hH
  refine z_putF hx hb hts hown hX kX2 7 (by decide) hH 0 rfl q2017 (fun _ h9 => h9) rfl hname rfl rfl rfl (Nat.le_of_ble_eq_true rfl) dX2_init_19 (fun H locs hH => ?_)
  have hH : zH G A s.heap [(q0, .inr (2, [.int (0), .int (0), .int (0), .int (0), .int (0), .int (0), .ref qa_1, .ref qa_2, .null, .null, .null, .int (0), .int (0), .int (0), .null, .int (0), .null, .int (0), .int (0), .int (0), .null, .int (0), .int (0)])), (qa_1, .inl (dA 0, 274, .inl (fun _ => 0))), (qa_2, .inl (dA 0, 2192, .inl (fun _ => 0)))] H locs := hH
  refine lv_aload_n hx hb dX2_init_22 rfl (lv_at hl 0 rfl) ?_
  refine lv_sipush (v := nI 274) hx hb dX2_init_23 (by decide) ?_
  refine z_newa (atype := .int) hx hb hX (hts _ q250) rfl 0 rfl (fun C h => by cases h) hH hA (N' := 274) rfl rfl (by omega) (by show _ * 4 ≤ _; omega) (Nat.le_of_ble_eq_true rfl) (Nat.le_of_ble_eq_true rfl) dX2_init_26 (fun qa_3 H hH _ _ => ?_)
  have hH : zH G A s.heap [(q0, .inr (2, [.int (0), .int (0), .int (0), .int (0), .int (0), .int (0), .ref qa_1, .ref qa_2, .null, .null, .null, .int (0), .int (0), .int (0), .null, .int (0), .null, .int (0), .int (0), .int (0), .null, .int (0), .int (0)])), (qa_1, .inl (dA 0, 274, .inl (fun _ => 0))), (qa_2, .inl (dA 0, 2192, .inl (fun _ => 0))), (qa_3, .inl (dA 0, 274, .inl (fun _ => 0)))] H locs := hH
  refine z_putF hx hb hts hown hX kX2 8 (by decide) hH 0 rfl q2018 (fun _ h9 => h9) rfl hname rfl rfl rfl (Nat.le_of_ble_eq_true rfl) dX2_init_28 (fun H locs hH => ?_)
  have hH : zH G A s.heap [(q0, .inr (2, [.int (0), .int (0), .int (0), .int (0), .int (0), .int (0), .ref qa_1, .ref qa_2, .ref qa_3, .null, .null, .int (0), .int (0), .int (0), .null, .int (0), .null, .int (0), .int (0), .int (0), .null, .int (0), .int (0)])), (qa_1, .inl (dA 0, 274, .inl (fun _ => 0))), (qa_2, .inl (dA 0, 2192, .inl (fun _ => 0))), (qa_3, .inl (dA 0, 274, .inl (fun _ => 0)))] H locs := hH
  refine lv_aload_n hx hb dX2_init_31 rfl (lv_at hl 0 rfl) ?_
  refine lv_sipush (v := nI 274) hx hb dX2_init_32 (by decide) ?_
  refine z_newa (atype := .int) hx hb hX (hts _ q250) rfl 0 rfl (fun C h => by cases h) hH hA (N' := 274) rfl rfl (by omega) (by show _ * 4 ≤ _; omega) (Nat.le_of_ble_eq_true rfl) (Nat.le_of_ble_eq_true rfl) dX2_init_35 (fun qa_4 H hH _ _ => ?_)
  have hH : zH G A s.heap [(q0, .inr (2, [.int (0), .int (0), .int (0), .int (0), .int (0), .int (0), .ref qa_1, .ref qa_2, .ref qa_3, .null, .null, .int (0), .int (0), .int (0), .null, .int (0), .null, .int (0), .int (0), .int (0), .null, .int (0), .int (0)])), (qa_1, .inl (dA 0, 274, .inl (fun _ => 0))), (qa_2, .inl (dA 0, 2192, .inl (fun _ => 0))), (qa_3, .inl (dA 0, 274, .inl (fun _ => 0))), (qa_4, .inl (dA 0, 274, .inl (fun _ => 0)))] H locs := hH
  refine z_putF hx hb hts hown hX kX2 9 (by decide) hH 0 rfl q2019 (fun _ h9 => h9) rfl hname rfl rfl rfl (Nat.le_of_ble_eq_true rfl) dX2_init_37 (fun H locs hH => ?_)
  have hH : zH G A s.heap [(q0, .inr (2, [.int (0), .int (0), .int (0), .int (0), .int (0), .int (0), .ref qa_1, .ref qa_2, .ref qa_3, .ref qa_4, .null, .int (0), .int (0), .int (0), .null, .int (0), .null, .int (0), .int (0), .int (0), .null, .int (0), .int (0)])), (qa_1, .inl (dA 0, 274, .inl (fun _ => 0))), (qa_2, .inl (dA 0, 2192, .inl (fun _ => 0))), (qa_3, .inl (dA 0, 274, .inl (fun _ => 0))), (qa_4, .inl (dA 0, 274, .inl (fun _ => 0)))] H locs := hH
  refine lv_aload_n hx hb dX2_init_40 rfl (lv_at hl 0 rfl) ?_
  refine lv_sipush (v := nI 274) hx hb dX2_init_41 (by decide) ?_
  refine z_newa (atype := .int) hx hb hX (hts _ q250) rfl 0 rfl (fun C h => by cases h) hH hA (N' := 274) rfl rfl (by omega) (by show _ * 4 ≤ _; omega) (Nat.le_of_ble_eq_true rfl) (Nat.le_of_ble_eq_true rfl) dX2_init_44 (fun qa_5 H hH _ _ => ?_)
  have hH : zH G A s.heap [(q0, .inr (2, [.int (0), .int (0), .int (0), .int (0), .int (0), .int (0), .ref qa_1, .ref qa_2, .ref qa_3, .ref qa_4, .null, .int (0), .int (0), .int (0), .null, .int (0), .null, .int (0), .int (0), .int (0), .null, .int (0), .int (0)])), (qa_1, .inl (dA 0, 274, .inl (fun _ => 0))), (qa_2, .inl (dA 0, 2192, .inl (fun _ => 0))), (qa_3, .inl (dA 0, 274, .inl (fun _ => 0))), (qa_4, .inl (dA 0, 274, .inl (fun _ => 0))), (qa_5, .inl (dA 0, 274, .inl (fun _ => 0)))] H locs := hH
  refine z_putF hx hb hts hown hX kX2 10 (by decide) hH 0 rfl q2020 (fun _ h9 => h9) rfl hname rfl rfl rfl (Nat.le_of_ble_eq_true rfl) dX2_init_46 (fun H locs hH => ?_)
  have hH : zH G A s.heap [(q0, .inr (2, [.int (0), .int (0), .int (0), .int (0), .int (0), .int (0), .ref qa_1, .ref qa_2, .ref qa_3, .ref qa_4, .ref qa_5, .int (0), .int (0), .int (0), .null, .int (0), .null, .int (0), .int (0), .int (0), .null, .int (0), .int (0)])), (qa_1, .inl (dA 0, 274, .inl (fun _ => 0))), (qa_2, .inl (dA 0, 2192, .inl (fun _ => 0))), (qa_3, .inl (dA 0, 274, .inl (fun _ => 0))), (qa_4, .inl (dA 0, 274, .inl (fun _ => 0))), (qa_5, .inl (dA 0, 274, .inl (fun _ => 0)))] H locs := hH
  refine lv_aload_n hx hb dX2_init_49 rfl (lv_at hl 0 rfl) ?_
  refine lv_bipush (v := nI 60) hx hb dX2_init_50 (by decide) ?_
  refine z_newa (atype := .char) hx hb hX (hts _ q304) rfl 2 rfl (fun C h => by cases h) hH hA (N' := 60) rfl rfl (by omega) (by show _ * 2 ≤ _; omega) (Nat.le_of_ble_eq_true rfl) (Nat.le_of_ble_eq_true rfl) dX2_init_52 (fun qa_6 H hH _ _ => ?_)
  have hH : zH G A s.heap [(q0, .inr (2, [.int (0), .int (0), .int (0), .int (0), .int (0), .int (0), .ref qa_1, .ref qa_2, .ref qa_3, .ref qa_4, .ref qa_5, .int (0), .int (0), .int (0), .null, .int (0), .null, .int (0), .int (0), .int (0), .null, .int (0), .int (0)])), (qa_1, .inl (dA 0, 274, .inl (fun _ => 0))), (qa_2, .inl (dA 0, 2192, .inl (fun _ => 0))), (qa_3, .inl (dA 0, 274, .inl (fun _ => 0))), (qa_4, .inl (dA 0, 274, .inl (fun _ => 0))), (qa_5, .inl (dA 0, 274, .inl (fun _ => 0))), (qa_6, .inl (dA 2, 60, .inl (fun _ => 0)))] H locs := hH
  refine z_putF hx hb hts hown hX kX2 14 (by decide) hH 0 rfl q2024 (fun _ h9 => h9) rfl hname rfl rfl rfl (Nat.le_of_ble_eq_true rfl) dX2_init_54 (fun H locs hH => ?_)
  have hH : zH G A s.heap [(q0, .inr (2, [.int (0), .int (0), .int (0), .int (0), .int (0), .int (0), .ref qa_1, .ref qa_2, .ref qa_3, .ref qa_4, .ref qa_5, .int (0), .int (0), .int (0), .ref qa_6, .int (0), .null, .int (0), .int (0), .int (0), .null, .int (0), .int (0)])), (qa_1, .inl (dA 0, 274, .inl (fun _ => 0))), (qa_2, .inl (dA 0, 2192, .inl (fun _ => 0))), (qa_3, .inl (dA 0, 274, .inl (fun _ => 0))), (qa_4, .inl (dA 0, 274, .inl (fun _ => 0))), (qa_5, .inl (dA 0, 274, .inl (fun _ => 0))), (qa_6, .inl (dA 2, 60, .inl (fun _ => 0)))] H locs := hH
  refine lv_aload_n hx hb dX2_init_57 rfl (lv_at hl 0 rfl) ?_
  refine lv_bipush (v := nI 60) hx hb dX2_init_58 (by decide) ?_
  refine z_newa (atype := .char) hx hb hX (hts _ q304) rfl 2 rfl (fun C h => by cases h) hH hA (N' := 60) rfl rfl (by omega) (by show _ * 2 ≤ _; omega) (Nat.le_of_ble_eq_true rfl) (Nat.le_of_ble_eq_true rfl) dX2_init_60 (fun qa_7 H hH _ _ => ?_)
  have hH : zH G A s.heap [(q0, .inr (2, [.int (0), .int (0), .int (0), .int (0), .int (0), .int (0), .ref qa_1, .ref qa_2, .ref qa_3, .ref qa_4, .ref qa_5, .int (0), .int (0), .int (0), .ref qa_6, .int (0), .null, .int (0), .int (0), .int (0), .null, .int (0), .int (0)])), (qa_1, .inl (dA 0, 274, .inl (fun _ => 0))), (qa_2, .inl (dA 0, 2192, .inl (fun _ => 0))), (qa_3, .inl (dA 0, 274, .inl (fun _ => 0))), (qa_4, .inl (dA 0, 274, .inl (fun _ => 0))), (qa_5, .inl (dA 0, 274, .inl (fun _ => 0))), (qa_6, .inl (dA 2, 60, .inl (fun _ => 0))), (qa_7, .inl (dA 2, 60, .inl (fun _ => 0)))] H locs := hH
  refine z_putF hx hb hts hown hX kX2 16 (by decide) hH 0 rfl q2026 (fun _ h9 => h9) rfl hname rfl rfl rfl (Nat.le_of_ble_eq_true rfl) dX2_init_62 (fun H locs hH => ?_)
  have hH : zH G A s.heap [(q0, .inr (2, [.int (0), .int (0), .int (0), .int (0), .int (0), .int (0), .ref qa_1, .ref qa_2, .ref qa_3, .ref qa_4, .ref qa_5, .int (0), .int (0), .int (0), .ref qa_6, .int (0), .ref qa_7, .int (0), .int (0), .int (0), .null, .int (0), .int (0)])), (qa_1, .inl (dA 0, 274, .inl (fun _ => 0))), (qa_2, .inl (dA 0, 2192, .inl (fun _ => 0))), (qa_3, .inl (dA 0, 274, .inl (fun _ => 0))), (qa_4, .inl (dA 0, 274, .inl (fun _ => 0))), (qa_5, .inl (dA 0, 274, .inl (fun _ => 0))), (qa_6, .inl (dA 2, 60, .inl (fun _ => 0))), (qa_7, .inl (dA 2, 60, .inl (fun _ => 0)))] H locs := hH
  refine lv_aload_n hx hb dX2_init_65 rfl (lv_at hl 0 rfl) ?_
  refine lv_iconst (v := (-1)) hx hb dX2_init_66 (by decide) ?_
  refine z_put hx hb hts hown hX kX2 19 (by decide) hH 0 rfl q2029 (fun _ h9 => h9) rfl rfl rfl (Nat.le_of_ble_eq_true rfl) dX2_init_67 (fun H locs hH => ?_)
  have hH : zH G A s.heap [(q0, .inr (2, [.int (0), .int (0), .int (0), .int (0), .int (0), .int (0), .ref qa_1, .ref qa_2, .ref qa_3, .ref qa_4, .ref qa_5, .int (0), .int (0), .int (0), .ref qa_6, .int (0), .ref qa_7, .int (0), .int (0), .int ((-1)), .null, .int (0), .int (0)])), (qa_1, .inl (dA 0, 274, .inl (fun _ => 0))), (qa_2, .inl (dA 0, 2192, .inl (fun _ => 0))), (qa_3, .inl (dA 0, 274, .inl (fun _ => 0))), (qa_4, .inl (dA 0, 274, .inl (fun _ => 0))), (qa_5, .inl (dA 0, 274, .inl (fun _ => 0))), (qa_6, .inl (dA 2, 60, .inl (fun _ => 0))), (qa_7, .inl (dA 2, 60, .inl (fun _ => 0)))] H locs := hH
  refine lv_aload_n hx hb dX2_init_70 rfl (lv_at hl 0 rfl) ?_
  refine lv_iconst (v := nI 4) hx hb dX2_init_71 (by decide) ?_
  refine z_newa (atype := .int) hx hb hX (hts _ q250) rfl 0 rfl (fun C h => by cases h) hH hA (N' := 4) rfl rfl (by omega) (by show _ * 4 ≤ _; omega) (Nat.le_of_ble_eq_true rfl) (Nat.le_of_ble_eq_true rfl) dX2_init_72 (fun qa_8 H hH _ _ => ?_)
  have hH : zH G A s.heap [(q0, .inr (2, [.int (0), .int (0), .int (0), .int (0), .int (0), .int (0), .ref qa_1, .ref qa_2, .ref qa_3, .ref qa_4, .ref qa_5, .int (0), .int (0), .int (0), .ref qa_6, .int (0), .ref qa_7, .int (0), .int (0), .int ((-1)), .null, .int (0), .int (0)])), (qa_1, .inl (dA 0, 274, .inl (fun _ => 0))), (qa_2, .inl (dA 0, 2192, .inl (fun _ => 0))), (qa_3, .inl (dA 0, 274, .inl (fun _ => 0))), (qa_4, .inl (dA 0, 274, .inl (fun _ => 0))), (qa_5, .inl (dA 0, 274, .inl (fun _ => 0))), (qa_6, .inl (dA 2, 60, .inl (fun _ => 0))), (qa_7, .inl (dA 2, 60, .inl (fun _ => 0))), (qa_8, .inl (dA 0, 4, .inl (fun _ => 0)))] H locs := hH
  refine z_putF hx hb hts hown hX kX2 20 (by decide) hH 0 rfl q2030 (fun _ h9 => h9) rfl hname rfl rfl rfl (Nat.le_of_ble_eq_true rfl) dX2_init_74 (fun H locs hH => ?_)
  have hH : zH G A s.heap [(q0, .inr (2, [.int (0), .int (0), .int (0), .int (0), .int (0), .int (0), .ref qa_1, .ref qa_2, .ref qa_3, .ref qa_4, .ref qa_5, .int (0), .int (0), .int (0), .ref qa_6, .int (0), .ref qa_7, .int (0), .int (0), .int ((-1)), .ref qa_8, .int (0), .int (0)])), (qa_1, .inl (dA 0, 274, .inl (fun _ => 0))), (qa_2, .inl (dA 0, 2192, .inl (fun _ => 0))), (qa_3, .inl (dA 0, 274, .inl (fun _ => 0))), (qa_4, .inl (dA 0, 274, .inl (fun _ => 0))), (qa_5, .inl (dA 0, 274, .inl (fun _ => 0))), (qa_6, .inl (dA 2, 60, .inl (fun _ => 0))), (qa_7, .inl (dA 2, 60, .inl (fun _ => 0))), (qa_8, .inl (dA 0, 4, .inl (fun _ => 0)))] H locs := hH
  refine lv_aload_n hx hb dX2_init_77 rfl (lv_at hl 0 rfl) ?_
  refine z_get (v := .ref qa_1) hx hb hts hown hX kX2 6 (by decide) (hH.at 0 rfl) rfl q2016 (fun _ h9 => h9) dX2_init_78 ?_
  refine lv_iconst (v := nI 2) hx hb dX2_init_81 (by decide) ?_
  refine lv_iconst (v := nI 3) hx hb dX2_init_82 (by decide) ?_
  refine z_iast hx hb hX (k := 2) hH 1 rfl rfl (by omega) (by omega) dX2_init_83 (fun H locs hH => ?_)
  have hH : zH G A s.heap [(q0, .inr (2, [.int (0), .int (0), .int (0), .int (0), .int (0), .int (0), .ref qa_1, .ref qa_2, .ref qa_3, .ref qa_4, .ref qa_5, .int (0), .int (0), .int (0), .ref qa_6, .int (0), .ref qa_7, .int (0), .int (0), .int ((-1)), .ref qa_8, .int (0), .int (0)])), (qa_1, .inl (dA 0, 274, .inl (upd (fun _ => 0) 2 (nI 3)))), (qa_2, .inl (dA 0, 2192, .inl (fun _ => 0))), (qa_3, .inl (dA 0, 274, .inl (fun _ => 0))), (qa_4, .inl (dA 0, 274, .inl (fun _ => 0))), (qa_5, .inl (dA 0, 274, .inl (fun _ => 0))), (qa_6, .inl (dA 2, 60, .inl (fun _ => 0))), (qa_7, .inl (dA 2, 60, .inl (fun _ => 0))), (qa_8, .inl (dA 0, 4, .inl (fun _ => 0)))] H locs := hH
  refine lv_aload_n hx hb dX2_init_84 rfl (lv_at hl 0 rfl) ?_
  refine z_get (v := .ref qa_1) hx hb hts hown hX kX2 6 (by decide) (hH.at 0 rfl) rfl q2016 (fun _ h9 => h9) dX2_init_85 ?_
  refine lv_iconst (v := nI 5) hx hb dX2_init_88 (by decide) ?_
  refine lv_bipush (v := nI 9) hx hb dX2_init_89 (by decide) ?_
  refine z_iast hx hb hX (k := 5) hH 1 rfl rfl (by omega) (by omega) dX2_init_91 (fun H locs hH => ?_)
  have hH : zH G A s.heap [(q0, .inr (2, [.int (0), .int (0), .int (0), .int (0), .int (0), .int (0), .ref qa_1, .ref qa_2, .ref qa_3, .ref qa_4, .ref qa_5, .int (0), .int (0), .int (0), .ref qa_6, .int (0), .ref qa_7, .int (0), .int (0), .int ((-1)), .ref qa_8, .int (0), .int (0)])), (qa_1, .inl (dA 0, 274, .inl (upd (upd (fun _ => 0) 2 (nI 3)) 5 (nI 9)))), (qa_2, .inl (dA 0, 2192, .inl (fun _ => 0))), (qa_3, .inl (dA 0, 274, .inl (fun _ => 0))), (qa_4, .inl (dA 0, 274, .inl (fun _ => 0))), (qa_5, .inl (dA 0, 274, .inl (fun _ => 0))), (qa_6, .inl (dA 2, 60, .inl (fun _ => 0))), (qa_7, .inl (dA 2, 60, .inl (fun _ => 0))), (qa_8, .inl (dA 0, 4, .inl (fun _ => 0)))] H locs := hH
  have eW : ([(q0, .inr (2, [.int (0), .int (0), .int (0), .int (0), .int (0), .int (0), .ref qa_1, .ref qa_2, .ref qa_3, .ref qa_4, .ref qa_5, .int (0), .int (0), .int (0), .ref qa_6, .int (0), .ref qa_7, .int (0), .int (0), .int ((-1)), .ref qa_8, .int (0), .int (0)])), (qa_1, .inl (dA 0, 274, .inl (upd (upd (fun _ => 0) 2 (nI 3)) 5 (nI 9)))), (qa_2, .inl (dA 0, 2192, .inl (fun _ => 0))), (qa_3, .inl (dA 0, 274, .inl (fun _ => 0))), (qa_4, .inl (dA 0, 274, .inl (fun _ => 0))), (qa_5, .inl (dA 0, 274, .inl (fun _ => 0))), (qa_6, .inl (dA 2, 60, .inl (fun _ => 0))), (qa_7, .inl (dA 2, 60, .inl (fun _ => 0))), (qa_8, .inl (dA 0, 4, .inl (fun _ => 0)))] : va_W) = [(q0, .inr (2, [.int (0), .int (0), .int (0), .int (0), .int (0), .int (0), .ref qa_1, .ref qa_2, .ref qa_3, .ref qa_4, .ref qa_5, .int (0), .int (0), .int (0), .ref qa_6, .int (0), .ref qa_7, .int (0), .int (0), .int ((-1)), .ref qa_8, .int (0), .int (0)])), (qa_1, .inl (dA 0, 274, .inl (nA (w0L 0)))), (qa_2, .inl (dA 0, 2192, .inl (fun _ => 0))), (qa_3, .inl (dA 0, 274, .inl (fun _ => 0))), (qa_4, .inl (dA 0, 274, .inl (fun _ => 0))), (qa_5, .inl (dA 0, 274, .inl (fun _ => 0))), (qa_6, .inl (dA 2, 60, .inl (fun _ => 0))), (qa_7, .inl (dA 2, 60, .inl (fun _ => 0))), (qa_8, .inl (dA 0, 4, .inl (fun _ => 0)))] := by rw [w0L_0]
  have hH := hH
  rw [eW] at hH
  refine lv_iconst (v := nI 0) hx hb dX2_init_92 (by decide) ?_
  refine lv_istore_n (lv' := [(1, .int (nI 0)), (0, .ref q0)]) hx hb dX2_init_93 rfl hl (by decide) rfl (fun ls hl => ?_)
  have LP94_8 : ∀ (fuel : Nat) (i : Nat) (hfu : (4 - i) < fuel) (hi : i ≤ 4) (H : Heap) (locs : List Loc), zH G A s.heap [(q0, .inr (2, [.int (0), .int (0), .int (0), .int (0), .int (0), .int (0), .ref qa_1, .ref qa_2, .ref qa_3, .ref qa_4, .ref qa_5, .int (0), .int (0), .int (0), .ref qa_6, .int (0), .ref qa_7, .int (0), .int (0), .int ((-1)), .ref qa_8, .int (0), .int (0)])), (qa_1, .inl (dA 0, 274, .inl (nA (w0L i)))), (qa_2, .inl (dA 0, 2192, .inl (fun _ => 0))), (qa_3, .inl (dA 0, 274, .inl (fun _ => 0))), (qa_4, .inl (dA 0, 274, .inl (fun _ => 0))), (qa_5, .inl (dA 0, 274, .inl (fun _ => 0))), (qa_6, .inl (dA 2, 60, .inl (fun _ => 0))), (qa_7, .inl (dA 2, 60, .inl (fun _ => 0))), (qa_8, .inl (dA 0, 4, .inl (fun _ => 0)))] H locs → ∀ (ls : Array Slot), lv_has ls 2 [(0, .ref q0), (1, .int (nI i))] → W p l e (headSpec (ws_ yX2_init cX2_init 2 (none)) ({ frames := 1, cells := 8, slots := 3412, locals := 12 })).room s m ([.ref q0] : List Value).toArray below meth c H locs 8 3412 (MQ below (zQv G (fun (u : Nat → Nat) => u 0 = q0) (fun (u : Nat → Nat) => mW dA u m0) (fun (u : Nat → Nat) (H : Heap) => True) A) ([.ref q0] : List Value).toArray s 8 3412 A) (F0 m 94 ls []) := by
    intro fuel
    induction fuel with
    | zero => intro i hfu; exact absurd hfu (Nat.not_lt_zero _)
    | succ fuel ih94 =>
      intro i hfu hi H locs hH ls hl
      refine lv_iload_n hx hb dX2_init_94 rfl (lv_at hl 1 rfl) ?_
      refine lv_iconst (v := nI 4) hx hb dX2_init_95 (by decide) ?_
      refine z_icmp_ge (tgt := 115) hx hb dX2_init_96 (by decide) (by omega) (by omega) (fun c_96_10 => ?_) (fun c_96_10 => ?_)
      · skip
        have dc_96_10 := Nat.not_lt.mp c_96_10
        have e9 : i = 4 := (by omega)
        subst e9
        have hH : zH G A s.heap (mW dA (fun i => match i with | 0 => q0 | 1 => qa_1 | 2 => qa_2 | 3 => qa_3 | 4 => qa_4 | 5 => qa_5 | 6 => qa_6 | 7 => qa_7 | 8 => qa_8 | _ => 0) m0) H locs := hH
        exact z_vret hx hb hr hlocks hH (u := (fun i => match i with | 0 => q0 | 1 => qa_1 | 2 => qa_2 | 3 => qa_3 | 4 => qa_4 | 5 => qa_5 | 6 => qa_6 | 7 => qa_7 | 8 => qa_8 | _ => 0)) (by rfl) ⟨hH.1, hH.2.1⟩ trivial (Nat.le_of_ble_eq_true rfl) (Nat.le_of_ble_eq_true rfl) dX2_init_115
      · skip
        refine lv_aload_n hx hb dX2_init_99 rfl (lv_at hl 0 rfl) ?_
        refine z_get (v := .ref qa_1) hx hb hts hown hX kX2 6 (by decide) (hH.at 0 rfl) rfl q2016 (fun _ h9 => h9) dX2_init_100 ?_
        refine lv_bipush (v := nI 14) hx hb dX2_init_103 (by decide) ?_
        refine lv_iload_n hx hb dX2_init_105 rfl (lv_at hl 1 rfl) ?_
        refine lv_iadd hx hb dX2_init_106 ?_
        refine z_topi (y := nI (14 + i)) (nI_add _ _) ?_
        refine lv_iconst (v := nI 2) hx hb dX2_init_107 (by decide) ?_
        refine z_iast hx hb hX (k := (14 + i)) hH 1 rfl rfl (by omega) (by omega) dX2_init_108 (fun H locs hH => ?_)
        have hH : zH G A s.heap [(q0, .inr (2, [.int (0), .int (0), .int (0), .int (0), .int (0), .int (0), .ref qa_1, .ref qa_2, .ref qa_3, .ref qa_4, .ref qa_5, .int (0), .int (0), .int (0), .ref qa_6, .int (0), .ref qa_7, .int (0), .int (0), .int ((-1)), .ref qa_8, .int (0), .int (0)])), (qa_1, .inl (dA 0, 274, .inl (upd (nA (w0L i)) (14 + i) (nI 2)))), (qa_2, .inl (dA 0, 2192, .inl (fun _ => 0))), (qa_3, .inl (dA 0, 274, .inl (fun _ => 0))), (qa_4, .inl (dA 0, 274, .inl (fun _ => 0))), (qa_5, .inl (dA 0, 274, .inl (fun _ => 0))), (qa_6, .inl (dA 2, 60, .inl (fun _ => 0))), (qa_7, .inl (dA 2, 60, .inl (fun _ => 0))), (qa_8, .inl (dA 0, 4, .inl (fun _ => 0)))] H locs := hH
        refine lv_iinc (v := nI (i + 1)) (lv' := [(1, .int (nI (i + 1))), (0, .ref q0)]) hx hb dX2_init_109 hl (k := 1) rfl (nI_1 _) (by decide) rfl (fun ls hl => ?_)
        refine lv_goto (tgt := 94) hx hb dX2_init_112 (by decide) ?_
        have eW : ([(q0, .inr (2, [.int (0), .int (0), .int (0), .int (0), .int (0), .int (0), .ref qa_1, .ref qa_2, .ref qa_3, .ref qa_4, .ref qa_5, .int (0), .int (0), .int (0), .ref qa_6, .int (0), .ref qa_7, .int (0), .int (0), .int ((-1)), .ref qa_8, .int (0), .int (0)])), (qa_1, .inl (dA 0, 274, .inl (upd (nA (w0L i)) (14 + i) (nI 2)))), (qa_2, .inl (dA 0, 2192, .inl (fun _ => 0))), (qa_3, .inl (dA 0, 274, .inl (fun _ => 0))), (qa_4, .inl (dA 0, 274, .inl (fun _ => 0))), (qa_5, .inl (dA 0, 274, .inl (fun _ => 0))), (qa_6, .inl (dA 2, 60, .inl (fun _ => 0))), (qa_7, .inl (dA 2, 60, .inl (fun _ => 0))), (qa_8, .inl (dA 0, 4, .inl (fun _ => 0)))] : va_W) = [(q0, .inr (2, [.int (0), .int (0), .int (0), .int (0), .int (0), .int (0), .ref qa_1, .ref qa_2, .ref qa_3, .ref qa_4, .ref qa_5, .int (0), .int (0), .int (0), .ref qa_6, .int (0), .ref qa_7, .int (0), .int (0), .int ((-1)), .ref qa_8, .int (0), .int (0)])), (qa_1, .inl (dA 0, 274, .inl (nA (w0L (i + 1))))), (qa_2, .inl (dA 0, 2192, .inl (fun _ => 0))), (qa_3, .inl (dA 0, 274, .inl (fun _ => 0))), (qa_4, .inl (dA 0, 274, .inl (fun _ => 0))), (qa_5, .inl (dA 0, 274, .inl (fun _ => 0))), (qa_6, .inl (dA 2, 60, .inl (fun _ => 0))), (qa_7, .inl (dA 2, 60, .inl (fun _ => 0))), (qa_8, .inl (dA 0, 4, .inl (fun _ => 0)))] := by rw [show nI 2 = nI 2 from rfl, nA_u, w0L_s]
        have hH := hH
        rw [eW] at hH
        exact ih94 (i + 1) (by omega) (by omega) _ _ hH ls (lv_sub hl [1, 0] rfl)
  exact LP94_8 ((4 - 0) + 1) 0 (Nat.lt_succ_self _) (by omega) _ _ hH ls (lv_sub hl [1, 0] rfl)

