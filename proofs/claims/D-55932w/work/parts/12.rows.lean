/-! OUR ROWS: an instruction, a row, over a world and what is frozen beside it -/
section ZR
variable {p : Program} {l : Launch} {e : Env} {R : Room} {s : State} {m : MethodId} {args : Array Value} {below : List Frame} {meth : Method} {c : Code} {H : Heap} {locs : List Loc} {cells slots : Nat} {Q : State → Prop}
variable {cc : ByteArray} {pc : Nat} {ls : Array Slot} {rest : List Value} {G : va_G} {dA : Nat → ClassId} {dS : Nat → Nat} {B0 : Nat} {A : Nat → Prop} {a : Nat} {ws : va_W} {H0 : Heap}
variable {own ref host C : String} {T : u_T} {N ci index : Nat} {ty : Nat → FieldType} {fs : List Value} {v : Value}
theorem z_get (hx : p.tables.exec = Jvm.exec) (hb : c.code = cc) (hts : ∀ w ∈ lw_all, w.before args s = true) (hown : s.vm.findClass own = some m.cls) (hX : zX G dA dS B0 s) (hc : zcls ci C T N ty) (k : Nat) (hk : k < N) (ha : va_at G zcl (a, .inr (ci, fs)) H) (hv : fs[k]? = some v) (hl : Cond.fieldLink own index ref (T k).2.1 (T k).2.2.1 ∈ lw_all) (hsame : ∀ x, s.fieldFound? (T k).1 (T k).2.1 (T k).2.2.1 = some x → s.fieldFound? ref (T k).2.1 (T k).2.2.1 = some x) (hdg : decode cc pc = .ok (.getfield index, 3)) (kk : W p l e R s m args below meth c H locs cells slots Q (F0 m (pc + 3) ls (v :: rest))) : W p l e R s m args below meth c H locs cells slots Q (F0 m pc ls (.ref a :: rest)) :=
  va_get hx hb hts hc.2.1 hown hX.1 (zP1 ha) 0 rfl hc.1 k hk (hts _ hl) hsame hv hdg kk
theorem z_getN (hx : p.tables.exec = Jvm.exec) (hb : c.code = cc) (hts : ∀ w ∈ lw_all, w.before args s = true) (hown : s.vm.findClass own = some m.cls) (hX : zX G dA dS B0 s) (hc : zcls ci C T N ty) (k : Nat) (hk : k < N) (ha : va_at G zcl (a, .inr (ci, fs)) H) (hv : fs[k]? = some v) (hl : Cond.fieldLinkNest own index ref (T k).2.1 (T k).2.2.1 host ∈ lw_tbl) (hsame : ∀ x, s.fieldFound? (T k).1 (T k).2.1 (T k).2.2.1 = some x → s.fieldFound? ref (T k).2.1 (T k).2.2.1 = some x) (hdg : decode cc pc = .ok (.getfield index, 3)) (kk : W p l e R s m args below meth c H locs cells slots Q (F0 m (pc + 3) ls (v :: rest))) : W p l e R s m args below meth c H locs cells slots Q (F0 m pc ls (.ref a :: rest)) :=
  va_getN hx hb hts hc.2.1 hown hX.1 (zP1 ha) 0 rfl hc.1 k hk (va_Nw.use rfl (hX.2.1 _ hl rfl)) hsame hv hdg kk
/-- two final fields of different declarers in one class have different slots -/
theorem z_apartF {args : Array Value} {s : State} {C O f d O' f' d' : String} (h : (Cond.laysFinal C O f d).before args s = true) (h' : (Cond.laysFinal C O' f' d').before args s = true) {cf kf fi fd cf' kf' fi' fd'} (hi : s.fieldFound? O f d = some (cf, kf, fi, fd)) (hi' : s.fieldFound? O' f' d' = some (cf', kf', fi', fd')) (hne : O ≠ O') : fd.slot ≠ fd'.slot := by
  obtain ⟨c1, k1, c2, k2, i2, f2, a1, a2, a3, a4, a5, a6, a7, a8, d1, a9, a10, -⟩ := Cond.laysFinal_spec h
  obtain ⟨e1, j1, e2, j2, n2, g2, b1, b2, b3, b4, b5, b6, b7, b8, d2, b9, b10, -⟩ := Cond.laysFinal_spec h'
  cases hi.symm.trans a3
  cases hi'.symm.trans b3
  cases a1.symm.trans b1
  intro hs
  rw [hs] at a9
  cases a9.symm.trans b9
  obtain ⟨k3, t1, t2⟩ := Vm.findClass_spec a7
  obtain ⟨k4, t3, t4⟩ := Vm.findClass_spec b7
  have u1 := (State.fieldFound?_spec hi).1
  have u2 := (State.fieldFound?_spec hi').1
  cases t1.symm.trans u1
  cases t3.symm.trans u2
  exact hne (by rw [← t2, ← t4, ← a10, ← b10])
theorem z_apart (hts : ∀ w ∈ lw_all, w.before args s = true) (hX : zX G dA dS B0 s) (hc : zcls ci C T N ty) : ∀ x y, x < N → y < N → x ≠ y → (G.2 ci) x ≠ (G.2 ci) y := by
  intro x y hx hy hne
  obtain ⟨hS, -⟩ := hX.1.1 ci _ hc.1
  obtain ⟨_, _, _, fa, hia, ea⟩ := hS x hx
  obtain ⟨_, _, _, fb, hib, eb⟩ := hS y hy
  rw [← ea, ← eb]
  rcases hc.2.2.2 x hx y hy hne with h | ⟨h1, h2, h3⟩
  · refine u_apart (u_lays hts hc.2.1 hx) (u_lays hts hc.2.1 hy) hia hib ?_
    rw [(State.fieldFound?_type hia (hc.2.2.1 x hx)).1, (State.fieldFound?_type hib (hc.2.2.1 y hy)).1]
    exact h
  · have l1 := hts _ (hc.2.1 _ (u_in_lay hx))
    have l2 := hts _ (hc.2.1 _ (u_in_lay hy))
    unfold u_lay at l1 l2
    rw [if_pos h2] at l1
    rw [if_pos h3] at l2
    exact z_apartF l1 l2 hia hib h1
theorem z_wr (hts : ∀ w ∈ lw_all, w.before args s = true) (hX : zX G dA dS B0 s) (hc : zcls ci C T N ty) (k : Nat) (hk : k < N) (hH : zH G A H0 ws H locs) (q0 : Nat) (he : ws[q0]? = some (a, .inr (ci, fs))) (hl2 : k < fs.length) {cell : Cell} (q1 : H[a]? = some cell) (q2 : cell.cls = G.1 ci) (q3 : cell.vm = .none) (q4 : ∀ j, j < N → cell.slots[G.2 ci j]? = some (vp_V fs j)) {H' : Heap} (e1 : H'[a]? = some (cell.setSlot (G.2 ci k) v)) (e2 : H'.size = H.size) (e3 : ∀ q, q ≠ a → H'[q]? = H[q]?) : zH G A H0 (ws.set q0 (a, .inr (ci, fs.set k v))) H' (locs ++ [⟨a, G.2 ci k⟩]) :=
  ⟨hH.1.set hH.2.1 he ⟨_, hc.1, t_OB.to (V := updV (vp_V fs) k v) ⟨_, e1, q2, q3, t_set q4 (z_apart hts hX hc) hk v⟩ (fun j _ => vp_updV_set hl2 v j)⟩ e3, hH.2.1.set he, hH.2.2.put e2 e3 (hH.2.1.2 q0 _ he)⟩
theorem z_put (hx : p.tables.exec = Jvm.exec) (hb : c.code = cc) (hts : ∀ w ∈ lw_all, w.before args s = true) (hown : s.vm.findClass own = some m.cls) (hX : zX G dA dS B0 s) (hc : zcls ci C T N ty) (k : Nat) (hk : k < N) (hH : zH G A H0 ws H locs) (q0 : Nat) (he : ws[q0]? = some (a, .inr (ci, fs))) (hl : Cond.fieldLink own index ref (T k).2.1 (T k).2.2.1 ∈ lw_all) (hsame : ∀ x, s.fieldFound? (T k).1 (T k).2.1 (T k).2.2.1 = some x → s.fieldFound? ref (T k).2.1 (T k).2.2.1 = some x) (hfin : (T k).2.2.2 = false) (hn : narrow (ty k) v = v) (hfit : fits (ty k) v = true) (hl2 : k < fs.length) (hdg : decode cc pc = .ok (.putfield index, 3)) (kk : ∀ (H1 : Heap) (locs1 : List Loc), zH G A H0 (ws.set q0 (a, .inr (ci, fs.set k v))) H1 locs1 → W p l e R s m args below meth c H1 locs1 cells slots Q (F0 m (pc + 3) ls rest)) : W p l e R s m args below meth c H locs cells slots Q (F0 m pc ls (v :: .ref a :: rest)) := by
  obtain ⟨r, h1, cell, q1, q2, q3, q4⟩ := hH.1 q0 _ he
  cases Option.some.inj (h1.symm.trans hc.1)
  obtain ⟨hS, hfc, kC, hkC, hkind⟩ := hX.1.1 ci _ hc.1
  obtain ⟨cf, kf, fi, f, hi, hsl⟩ := hS k hk
  have hlay := hts _ (hc.2.1 _ (u_in_lay hk))
  unfold u_lay at hlay
  rw [if_neg (by rw [hfin]; decide)] at hlay
  have hst := (u_facts hfc hkC (u_lays hts hc.2.1 hk) hi).1
  refine W.putK hx hb (f := f) ⟨hown, hts _ hl, ⟨_, _, _, hsame _ hi⟩, hst⟩ (by rw [q2]; exact u_store hfc hkC hkind hlay hi (hc.2.2.1 k hk) hn hfit) q1 q3 (by rw [hsl]; exact k2_hasslot (q4 k hk)) rfl rfl hdg fun H1 e1 e2 e3 => ?_
  rw [hsl] at e1 ⊢
  exact kk H1 _ (z_wr hts hX hc k hk hH q0 he hl2 q1 q2 q3 q4 e1 e2 e3)
theorem z_putN (hx : p.tables.exec = Jvm.exec) (hb : c.code = cc) (hts : ∀ w ∈ lw_all, w.before args s = true) (hown : s.vm.findClass own = some m.cls) (hX : zX G dA dS B0 s) (hc : zcls ci C T N ty) (k : Nat) (hk : k < N) (hH : zH G A H0 ws H locs) (q0 : Nat) (he : ws[q0]? = some (a, .inr (ci, fs))) (hl : Cond.fieldLinkNest own index ref (T k).2.1 (T k).2.2.1 host ∈ lw_tbl) (hsame : ∀ x, s.fieldFound? (T k).1 (T k).2.1 (T k).2.2.1 = some x → s.fieldFound? ref (T k).2.1 (T k).2.2.1 = some x) (hfin : (T k).2.2.2 = false) (hn : narrow (ty k) v = v) (hfit : fits (ty k) v = true) (hl2 : k < fs.length) (hdg : decode cc pc = .ok (.putfield index, 3)) (kk : ∀ (H1 : Heap) (locs1 : List Loc), zH G A H0 (ws.set q0 (a, .inr (ci, fs.set k v))) H1 locs1 → W p l e R s m args below meth c H1 locs1 cells slots Q (F0 m (pc + 3) ls rest)) : W p l e R s m args below meth c H locs cells slots Q (F0 m pc ls (v :: .ref a :: rest)) := by
  obtain ⟨r, h1, cell, q1, q2, q3, q4⟩ := hH.1 q0 _ he
  cases Option.some.inj (h1.symm.trans hc.1)
  obtain ⟨hS, hfc, kC, hkC, hkind⟩ := hX.1.1 ci _ hc.1
  obtain ⟨cf, kf, fi, f, hi, hsl⟩ := hS k hk
  have hlay := hts _ (hc.2.1 _ (u_in_lay hk))
  unfold u_lay at hlay
  rw [if_neg (by rw [hfin]; decide)] at hlay
  have hst := (u_facts hfc hkC (u_lays hts hc.2.1 hk) hi).1
  refine va_WputK hx hb hown (va_Nw.use rfl (hX.2.1 _ hl rfl)) (hsame _ hi) hst (by rw [q2]; exact u_store hfc hkC hkind hlay hi (hc.2.2.1 k hk) hn hfit) q1 q3 (by rw [hsl]; exact k2_hasslot (q4 k hk)) rfl rfl hdg fun H1 e1 e2 e3 => ?_
  rw [hsl] at e1 ⊢
  exact kk H1 _ (z_wr hts hX hc k hk hH q0 he hl2 q1 q2 q3 q4 e1 e2 e3)
theorem z_putF (hx : p.tables.exec = Jvm.exec) (hb : c.code = cc) (hts : ∀ w ∈ lw_all, w.before args s = true) (hown : s.vm.findClass own = some m.cls) (hX : zX G dA dS B0 s) (hc : zcls ci C T N ty) (k : Nat) (hk : k < N) (hH : zH G A H0 ws H locs) (q0 : Nat) (he : ws[q0]? = some (a, .inr (ci, fs))) (hl : Cond.fieldLink own index ref (T k).2.1 (T k).2.2.1 ∈ lw_all) (hsame : ∀ x, s.fieldFound? (T k).1 (T k).2.1 (T k).2.2.1 = some x → s.fieldFound? ref (T k).2.1 (T k).2.2.1 = some x) (hfin : (T k).2.2.2 = true) (hin2 : meth.name = "<init>") (hdecl : (T k).1 = own) (hn : narrow (ty k) v = v) (hfit : fits (ty k) v = true) (hl2 : k < fs.length) (hdg : decode cc pc = .ok (.putfield index, 3)) (kk : ∀ (H1 : Heap) (locs1 : List Loc), zH G A H0 (ws.set q0 (a, .inr (ci, fs.set k v))) H1 locs1 → W p l e R s m args below meth c H1 locs1 cells slots Q (F0 m (pc + 3) ls rest)) : W p l e R s m args below meth c H locs cells slots Q (F0 m pc ls (v :: .ref a :: rest)) := by
  obtain ⟨r, h1, cell, q1, q2, q3, q4⟩ := hH.1 q0 _ he
  cases Option.some.inj (h1.symm.trans hc.1)
  obtain ⟨hS, hfc, kC, hkC, hkind⟩ := hX.1.1 ci _ hc.1
  obtain ⟨cf, kf, fi, f, hi, hsl⟩ := hS k hk
  have hlay := hts _ (hc.2.1 _ (u_in_lay hk))
  unfold u_lay at hlay
  rw [if_pos hfin] at hlay
  have hst := (u_facts hfc hkC (u_lays hts hc.2.1 hk) hi).1
  have hcf : m.cls = cf := by
    obtain ⟨_, _, c', _, _, _, -, -, hf', -, -, -, hown2, -⟩ := Cond.laysFinal_spec hlay
    cases hi.symm.trans hf'
    rw [hdecl] at hown2
    exact Option.some.inj (hown.symm.trans hown2)
  refine W.putFinK hx hb hown (hts _ hl) (hsame _ hi) hst hcf hin2 (by rw [q2]; exact u_fits hfc hkC hkind (Or.inr hlay) hi (hc.2.2.1 k hk) hn hfit) q1 q3 (by rw [hsl]; exact k2_hasslot (q4 k hk)) rfl rfl hdg fun H1 e1 e2 e3 => ?_
  rw [hsl] at e1 ⊢
  exact kk H1 _ (z_wr hts hX hc k hk hH q0 he hl2 q1 q2 q3 q4 e1 e2 e3)
theorem z_in {i : Int32} {k n : Nat} (hi : i = nI k) (hk : k < n) (hn : n < 2 ^ 31) : vp_in i n := by subst hi; exact vp_in_nI hk hn
theorem z_cl {i : Int32} {k n : Nat} (hi : i = nI k) (hk : k < n) (hn : n < 2 ^ 31) : i.toNatClampNeg = k := by subst hi; exact nI_clamp (by omega)
theorem z_iald (hx : p.tables.exec = Jvm.exec) (hb : c.code = cc) (hX : zX G dA dS B0 s) {n k : Nat} {f : Nat → Int32} {x : Int32} (ha : va_at G zcl (a, .inl (dA 0, n, .inl f)) H) {i : Int32} (hi : i = nI k) (hk : k < n) (hn : n < 2 ^ 31) (hv : f k = x) (hdg : decode cc pc = .ok (.iaload, 1)) (kk : W p l e R s m args below meth c H locs cells slots Q (F0 m (pc + 1) ls (.int x :: rest))) : W p l e R s m args below meth c H locs cells slots Q (F0 m pc ls (.int i :: .ref a :: rest)) :=
  va_iald hx hb hX.1 (zP1 ha) 0 0 rfl rfl (z_in hi hk hn) hdg (by rw [z_cl hi hk hn, hv]; exact kk)
theorem z_zald (hx : p.tables.exec = Jvm.exec) (hb : c.code = cc) (hX : zX G dA dS B0 s) {n k : Nat} {f : Nat → Int32} {x : Int32} (ha : va_at G zcl (a, .inl (dA 1, n, .inl f)) H) {i : Int32} (hi : i = nI k) (hk : k < n) (hn : n < 2 ^ 31) (hv : f k = x) (hdg : decode cc pc = .ok (.baload, 1)) (kk : W p l e R s m args below meth c H locs cells slots Q (F0 m (pc + 1) ls (.int x :: rest))) : W p l e R s m args below meth c H locs cells slots Q (F0 m pc ls (.int i :: .ref a :: rest)) :=
  va_zald hx hb hX.1 (zP1 ha) 0 1 rfl rfl (z_in hi hk hn) hdg (by rw [z_cl hi hk hn, hv]; exact kk)
theorem z_cald (hx : p.tables.exec = Jvm.exec) (hb : c.code = cc) (hX : zX G dA dS B0 s) {n k : Nat} {f : Nat → Int32} {x : Int32} (ha : va_at G zcl (a, .inl (dA 2, n, .inl f)) H) {i : Int32} (hi : i = nI k) (hk : k < n) (hn : n < 2 ^ 31) (hv : f k = x) (hdg : decode cc pc = .ok (.caload, 1)) (kk : W p l e R s m args below meth c H locs cells slots Q (F0 m (pc + 1) ls (.int x :: rest))) : W p l e R s m args below meth c H locs cells slots Q (F0 m pc ls (.int i :: .ref a :: rest)) :=
  va_cald hx hb hX.1 (zP1 ha) 0 2 rfl rfl (z_in hi hk hn) hdg (by rw [z_cl hi hk hn, hv]; exact kk)
theorem z_bald (hx : p.tables.exec = Jvm.exec) (hb : c.code = cc) (hX : zX G dA dS B0 s) {n k : Nat} {f : Nat → Int32} {x : Int32} (ha : va_at G zcl (a, .inl (dA 3, n, .inl f)) H) {i : Int32} (hi : i = nI k) (hk : k < n) (hn : n < 2 ^ 31) (hv : f k = x) (hdg : decode cc pc = .ok (.baload, 1)) (kk : W p l e R s m args below meth c H locs cells slots Q (F0 m (pc + 1) ls (.int x :: rest))) : W p l e R s m args below meth c H locs cells slots Q (F0 m pc ls (.int i :: .ref a :: rest)) :=
  va_bald hx hb hX.1 (zP1 ha) 0 3 rfl rfl (z_in hi hk hn) hdg (by rw [z_cl hi hk hn, hv]; exact kk)
theorem z_qld (hx : p.tables.exec = Jvm.exec) (hb : c.code = cc) (hX : zX G dA dS B0 s) {n k : Nat} {f : Nat → Option Nat} {x : Option Nat} (t0 : Nat) {C : String} (ht : (ztys dA)[t0]? = some (dA t0, .object C)) (ha : va_at G zcl (a, .inl (dA t0, n, .inr (.inr (.inr (.inr f))))) H) {i : Int32} (hi : i = nI k) (hk : k < n) (hn : n < 2 ^ 31) (hv : f k = x) (hdg : decode cc pc = .ok (.aaload, 1)) (kk : W p l e R s m args below meth c H locs cells slots Q (F0 m (pc + 1) ls (va_rf x :: rest))) : W p l e R s m args below meth c H locs cells slots Q (F0 m pc ls (.int i :: .ref a :: rest)) :=
  va_aldq hx hb hX.1 (zP1 ha) 0 t0 rfl ht (z_in hi hk hn) hdg (by rw [z_cl hi hk hn, hv]; exact kk)
theorem z_iast (hx : p.tables.exec = Jvm.exec) (hb : c.code = cc) (hX : zX G dA dS B0 s) {n k : Nat} {f : Nat → Int32} {x : Int32} (hH : zH G A H0 ws H locs) (q0 : Nat) (he : ws[q0]? = some (a, .inl (dA 0, n, .inl f))) {i : Int32} (hi : i = nI k) (hk : k < n) (hn : n < 2 ^ 31) (hdg : decode cc pc = .ok (.iastore, 1)) (kk : ∀ (H1 : Heap) (locs1 : List Loc), zH G A H0 (ws.set q0 (a, .inl (dA 0, n, .inl (upd f k x)))) H1 locs1 → W p l e R s m args below meth c H1 locs1 cells slots Q (F0 m (pc + 1) ls rest)) : W p l e R s m args below meth c H locs cells slots Q (F0 m pc ls (.int x :: .int i :: .ref a :: rest)) :=
  va_iast hx hb hX.1 hH.1 hH.2.1 hH.2.2 q0 0 he rfl (z_in hi hk hn) hdg (fun H1 locs1 h1 h2 h3 => kk H1 locs1 ⟨by rw [z_cl hi hk hn] at h1; exact h1, by rw [z_cl hi hk hn] at h2; exact h2, h3⟩)
theorem z_zast (hx : p.tables.exec = Jvm.exec) (hb : c.code = cc) (hX : zX G dA dS B0 s) {n k : Nat} {f : Nat → Int32} {x z : Int32} (hH : zH G A H0 ws H locs) (q0 : Nat) (he : ws[q0]? = some (a, .inl (dA 1, n, .inl f))) {i : Int32} (hi : i = nI k) (hk : k < n) (hn : n < 2 ^ 31) (hz : vp_nar .boolean x = z) (hdg : decode cc pc = .ok (.bastore, 1)) (kk : ∀ (H1 : Heap) (locs1 : List Loc), zH G A H0 (ws.set q0 (a, .inl (dA 1, n, .inl (upd f k z)))) H1 locs1 → W p l e R s m args below meth c H1 locs1 cells slots Q (F0 m (pc + 1) ls rest)) : W p l e R s m args below meth c H locs cells slots Q (F0 m pc ls (.int x :: .int i :: .ref a :: rest)) := by
  subst hz
  exact va_zast hx hb hX.1 hH.1 hH.2.1 hH.2.2 q0 1 he rfl (z_in hi hk hn) hdg (fun H1 locs1 h1 h2 h3 => kk H1 locs1 ⟨by rw [z_cl hi hk hn] at h1; exact h1, by rw [z_cl hi hk hn] at h2; exact h2, h3⟩)
theorem z_cast (hx : p.tables.exec = Jvm.exec) (hb : c.code = cc) (hX : zX G dA dS B0 s) {n k : Nat} {f : Nat → Int32} {x z : Int32} (hH : zH G A H0 ws H locs) (q0 : Nat) (he : ws[q0]? = some (a, .inl (dA 2, n, .inl f))) {i : Int32} (hi : i = nI k) (hk : k < n) (hn : n < 2 ^ 31) (hz : vp_nar .char x = z) (hdg : decode cc pc = .ok (.castore, 1)) (kk : ∀ (H1 : Heap) (locs1 : List Loc), zH G A H0 (ws.set q0 (a, .inl (dA 2, n, .inl (upd f k z)))) H1 locs1 → W p l e R s m args below meth c H1 locs1 cells slots Q (F0 m (pc + 1) ls rest)) : W p l e R s m args below meth c H locs cells slots Q (F0 m pc ls (.int x :: .int i :: .ref a :: rest)) := by
  subst hz
  exact va_cast hx hb hX.1 hH.1 hH.2.1 hH.2.2 q0 2 he rfl (z_in hi hk hn) hdg (fun H1 locs1 h1 h2 h3 => kk H1 locs1 ⟨by rw [z_cl hi hk hn] at h1; exact h1, by rw [z_cl hi hk hn] at h2; exact h2, h3⟩)
theorem z_bast (hx : p.tables.exec = Jvm.exec) (hb : c.code = cc) (hX : zX G dA dS B0 s) {n k : Nat} {f : Nat → Int32} {x z : Int32} (hH : zH G A H0 ws H locs) (q0 : Nat) (he : ws[q0]? = some (a, .inl (dA 3, n, .inl f))) {i : Int32} (hi : i = nI k) (hk : k < n) (hn : n < 2 ^ 31) (hz : vp_nar .byte x = z) (hdg : decode cc pc = .ok (.bastore, 1)) (kk : ∀ (H1 : Heap) (locs1 : List Loc), zH G A H0 (ws.set q0 (a, .inl (dA 3, n, .inl (upd f k z)))) H1 locs1 → W p l e R s m args below meth c H1 locs1 cells slots Q (F0 m (pc + 1) ls rest)) : W p l e R s m args below meth c H locs cells slots Q (F0 m pc ls (.int x :: .int i :: .ref a :: rest)) := by
  subst hz
  exact va_bast hx hb hX.1 hH.1 hH.2.1 hH.2.2 q0 3 he rfl (z_in hi hk hn) hdg (fun H1 locs1 h1 h2 h3 => kk H1 locs1 ⟨by rw [z_cl hi hk hn] at h1; exact h1, by rw [z_cl hi hk hn] at h2; exact h2, h3⟩)
theorem z_qst (hx : p.tables.exec = Jvm.exec) (hb : c.code = cc) (hX : zX G dA dS B0 s) {n k : Nat} {f : Nat → Option Nat} {x : Nat} {vs : List Value} (t0 : Nat) (hH : zH G A H0 ws H locs) (q0 qk : Nat) (he : ws[q0]? = some (a, .inl (dA t0, n, .inr (.inr (.inr (.inr f)))))) (hc : zcls ci C T N ty) (ht : (ztys dA)[t0]? = some (dA t0, .object C)) (hv : ws[qk]? = some (x, .inr (ci, vs))) {i : Int32} (hi : i = nI k) (hk : k < n) (hn : n < 2 ^ 31) (hdg : decode cc pc = .ok (.aastore, 1)) (kk : ∀ (H1 : Heap) (locs1 : List Loc), zH G A H0 (ws.set q0 (a, .inl (dA t0, n, .inr (.inr (.inr (.inr (va_up f k (some x)))))))) H1 locs1 → W p l e R s m args below meth c H1 locs1 cells slots Q (F0 m (pc + 1) ls rest)) : W p l e R s m args below meth c H locs cells slots Q (F0 m pc ls (.ref x :: .int i :: .ref a :: rest)) :=
  va_astq hx hb hX.1 hH.1 hH.2.1 hH.2.2 q0 t0 qk ci (r := (C, T, N)) he ht hv hc.1 (z_in hi hk hn) hdg (fun H1 locs1 h1 h2 h3 => kk H1 locs1 ⟨by rw [z_cl hi hk hn] at h1; exact h1, by rw [z_cl hi hk hn] at h2; exact h2, h3⟩)
theorem z_alen (hx : p.tables.exec = Jvm.exec) (hb : c.code = cc) (hX : zX G dA dS B0 s) (t0 : Nat) {fty : FieldType} {x : vp_A} (ht : (ztys dA)[t0]? = some (dA t0, fty)) (ha : va_at G zcl (a, .inl (dA t0, x)) H) {v : Int32} (hv : nI x.1 = v) (hdg : decode cc pc = .ok (.arraylength, 1)) (kk : W p l e R s m args below meth c H locs cells slots Q (F0 m (pc + 1) ls (.int v :: rest))) : W p l e R s m args below meth c H locs cells slots Q (F0 m pc ls (.ref a :: rest)) :=
  va_alen hx hb hX.1 (zP1 ha) 0 t0 rfl ht hv hdg kk
theorem z_new (hx : p.tables.exec = Jvm.exec) (hb : c.code = cc) (hts : ∀ w ∈ lw_all, w.before args s = true) (hown : s.vm.findClass own = some m.cls) (hX : zX G dA dS B0 s) (hc : zcls ci C T N ty) (hcl : Cond.classLink own index C ∈ lw_all) (hinst : Cond.instantiable C N ∈ lw_all) (hini : Cond.initialized C ∈ lw_all) (hH : zH G A H0 ws H locs) (hA : ∀ q, H0.size ≤ q → A q) {fs : List Value} (hfs : ∀ j, j < N → defaultValue (ty j) = vp_V fs j) (hcells : cells + 1 ≤ R.cells) (hslots : slots + N ≤ R.slots) (hdg : decode cc pc = .ok (.new index, 3)) (kk : ∀ (q : Nat) (H1 : Heap), zH G A H0 (ws ++ [(q, .inr (ci, fs))]) H1 locs → H.size ≤ q → (∀ r : Nat, r < H.size → H1[r]? = H[r]?) → W p l e R s m args below meth c H1 locs (cells + 1) (slots + N) Q (F0 m (pc + 3) ls (.ref q :: rest))) : W p l e R s m args below meth c H locs cells slots Q (F0 m pc ls rest) := by
  have hKn := hX.1.1 ci _ hc.1
  refine W.newcK hx hb hown (hts _ hcl) (hts _ hinst) (hts _ hini) rfl hdg hcells hslots hKn.2.1 rfl fun H1 kC hkC e1 z1 o1 => ?_
  have hk : ∀ (k : Nat) (x : Nat × va_E), ws[k]? = some x → H1[x.1]? = H[x.1]? := fun k x hx => o1 x.1 ((hH.1 k x hx).lt)
  refine kk H.size H1 ⟨(hH.1.kept hk).app (zP1 ⟨_, hc.1, (u_born ty hts hc.2.1 hKn hkC e1 hc.2.2.1).to hfs⟩), hH.2.1.push hH.1 rfl (hA _ hH.2.2.1), Nat.le_trans hH.2.2.1 (by omega), fun x h1 h2 => (o1 x (Nat.lt_of_lt_of_le h1 hH.2.2.1)).trans (hH.2.2.2.1 x h1 h2), hH.2.2.2.2⟩ (Nat.le_refl _) o1
theorem z_newa (hx : p.tables.exec = Jvm.exec) (hb : c.code = cc) (hX : zX G dA dS B0 s) {atype : ArrayType} (harr : (Cond.arrayClass (newarray.typeOf atype)).before args s = true) {fty : FieldType} (hty : newarray.typeOf atype = fty) (t0 : Nat) (ht : (ztys dA)[t0]? = some (dA t0, fty)) (hpr : ∀ C, fty ≠ .object C) (hH : zH G A H0 ws H locs) (hA : ∀ q, H0.size ≤ q → A q) {n : Int32} {N' : Nat} (hd0 : defaultValue fty = .int 0) (hn : n = nI N') (hN : N' < 2 ^ 31) (hbytes : N' * componentBytes fty ≤ 536870912) (hcells : cells + 1 ≤ R.cells) (hslots : slots + N' ≤ R.slots) (hdg : decode cc pc = .ok (.newarray atype, 2)) (kk : ∀ (q : Nat) (H1 : Heap), zH G A H0 (ws ++ [(q, .inl (dA t0, N', .inl (fun _ => 0)))]) H1 locs → H.size ≤ q → (∀ r : Nat, r < H.size → H1[r]? = H[r]?) → W p l e R s m args below meth c H1 locs (cells + 1) (slots + N') Q (F0 m (pc + 2) ls (.ref q :: rest))) : W p l e R s m args below meth c H locs cells slots Q (F0 m pc ls (.int n :: rest)) := by
  subst hty
  refine va_newaK hx hb harr rfl hdg rfl (by rw [hn]; exact nI_pos hN) (by rw [hn]; exact nI_clamp hN) hbytes hcells hslots rfl fun H1 cA e1 z1 o1 hAr hNm => ?_
  have hcA : cA = dA t0 := by
    have h2 := (hX.1.2 t0 _ ht).2
    have h3 : s.vm.findClass ("[" ++ (newarray.typeOf atype).toString) = some (dA t0) := by
      revert h2
      cases atype <;> exact fun h => h
    exact Option.some.inj (hNm.symm.trans h3)
  subst hcA
  have hk : ∀ (k : Nat) (x : Nat × va_E), ws[k]? = some x → H1[x.1]? = H[x.1]? := fun k x hx => o1 x.1 ((hH.1 k x hx).lt)
  refine kk H.size H1 ⟨(hH.1.kept hk).app (zP1 ?_), hH.2.1.push hH.1 rfl (hA _ hH.2.2.1), Nat.le_trans hH.2.2.1 (by omega), fun x h1 h2 => (o1 x (Nat.lt_of_lt_of_le h1 hH.2.2.1)).trans (hH.2.2.2.1 x h1 h2), hH.2.2.2.2⟩ (Nat.le_refl _) o1
  show H1[H.size]? = some (vp_cell _ _)
  rw [e1, hd0]
  rfl
theorem z_iret (hx : p.tables.exec = Jvm.exec) (hb : c.code = cc) (hr : meth.sig.returnType = some .int) (hlocks : meth.locks = false) (hH : zH G A s.heap ws H locs) {mc ms : Nat} {v : Int32} {S : Type} {wq : S → va_W} {Rq : S → Heap → Prop} (u : S) {post : Int32 → S → Prop} (hp : post v u) (hw : va_P G zcl (wq u) H ∧ va_D A (wq u)) (hR : Rq u H) (hc1 : cells ≤ mc) (hs1 : slots ≤ ms) (hdg : decode cc pc = .ok (.ireturn, 1)) : W p l e R s m args below meth c H locs cells slots (MQ below (zQi G post wq Rq A) args s mc ms A) (F0 m pc ls [.int v]) := by
  refine W.widen hc1 hs1 ?_
  exact W.iret (v := v) hx hb hr (fun t ht hW => ⟨⟨v, u, rfl, hp, by rw [ht]; exact hw.1, hw.2, by rw [ht]; exact hR⟩, hH.2.2.F ht⟩) hH.2.2.2.2 hdg
theorem z_zret {fty : FieldType} (hx : p.tables.exec = Jvm.exec) (hb : c.code = cc) (hr : meth.sig.returnType = some fty) (hlocks : meth.locks = false) (hH : zH G A s.heap ws H locs) {mc ms : Nat} {v : Int32} (hnar : narrow fty (.int v) = .int v) {S : Type} {wq : S → va_W} {Rq : S → Heap → Prop} (u : S) {post : Int32 → S → Prop} (hp : post v u) (hw : va_P G zcl (wq u) H ∧ va_D A (wq u)) (hR : Rq u H) (hc1 : cells ≤ mc) (hs1 : slots ≤ ms) (hdg : decode cc pc = .ok (.ireturn, 1)) : W p l e R s m args below meth c H locs cells slots (MQ below (zQi G post wq Rq A) args s mc ms A) (F0 m pc ls [.int v]) := by
  refine W.widen hc1 hs1 ?_
  exact W.zret (v := v) hx hb hr hnar (fun t ht hW => ⟨⟨v, u, rfl, hp, by rw [ht]; exact hw.1, hw.2, by rw [ht]; exact hR⟩, hH.2.2.F ht⟩) hH.2.2.2.2 hdg
theorem z_fret (hx : p.tables.exec = Jvm.exec) (hb : c.code = cc) (hr : meth.sig.returnType = some .float) (hlocks : meth.locks = false) (hH : zH G A s.heap ws H locs) {mc ms : Nat} {v : UInt32} {S : Type} {wq : S → va_W} {Rq : S → Heap → Prop} (u : S) {post : UInt32 → S → Prop} (hp : post v u) (hw : va_P G zcl (wq u) H ∧ va_D A (wq u)) (hR : Rq u H) (hc1 : cells ≤ mc) (hs1 : slots ≤ ms) (hdg : decode cc pc = .ok (.freturn, 1)) : W p l e R s m args below meth c H locs cells slots (MQ below (zQf G post wq Rq A) args s mc ms A) (F0 m pc ls [.float v]) := by
  refine W.widen hc1 hs1 ?_
  exact W.fret (v := v) hx hb hr (fun t ht hW => ⟨⟨v, u, rfl, hp, by rw [ht]; exact hw.1, hw.2, by rw [ht]; exact hR⟩, hH.2.2.F ht⟩) hH.2.2.2.2 hdg
theorem z_dret (hx : p.tables.exec = Jvm.exec) (hb : c.code = cc) (hr : meth.sig.returnType = some .double) (hlocks : meth.locks = false) (hH : zH G A s.heap ws H locs) {mc ms : Nat} {v : UInt64} {S : Type} {wq : S → va_W} {Rq : S → Heap → Prop} (u : S) {post : UInt64 → S → Prop} (hp : post v u) (hw : va_P G zcl (wq u) H ∧ va_D A (wq u)) (hR : Rq u H) (hc1 : cells ≤ mc) (hs1 : slots ≤ ms) (hdg : decode cc pc = .ok (.dreturn, 1)) : W p l e R s m args below meth c H locs cells slots (MQ below (zQd G post wq Rq A) args s mc ms A) (F0 m pc ls [.double v]) := by
  refine W.widen hc1 hs1 ?_
  exact W.dret (v := v) hx hb hr (fun t ht hW => ⟨⟨v, u, rfl, hp, by rw [ht]; exact hw.1, hw.2, by rw [ht]; exact hR⟩, hH.2.2.F ht⟩) hH.2.2.2.2 hdg
theorem z_vret (hx : p.tables.exec = Jvm.exec) (hb : c.code = cc) (hr : meth.sig.returnType = none) (hlocks : meth.locks = false) (hH : zH G A s.heap ws H locs) {mc ms : Nat} {S : Type} {wq : S → va_W} {Rq : S → Heap → Prop} (u : S) {post : S → Prop} (hp : post u) (hw : va_P G zcl (wq u) H ∧ va_D A (wq u)) (hR : Rq u H) (hc1 : cells ≤ mc) (hs1 : slots ≤ ms) (hdg : decode cc pc = .ok (.return_, 1)) : W p l e R s m args below meth c H locs cells slots (MQ below (zQv G post wq Rq A) args s mc ms A) (F0 m pc ls []) := by
  refine W.widen hc1 hs1 ?_
  exact W.vret hx hb hr (fun t ht hW => ⟨⟨u, rfl, hp, by rw [ht]; exact hw.1, hw.2, by rw [ht]; exact hR⟩, hH.2.2.F ht⟩) hH.2.2.2.2 hdg
theorem z_qret {fty : FieldType} (hx : p.tables.exec = Jvm.exec) (hb : c.code = cc) (hr : meth.sig.returnType = some fty) (hlocks : meth.locks = false) (hH : zH G A s.heap ws H locs) {mc ms : Nat} (hfty : (∃ n, fty = .object n) ∨ ∃ t, fty = .array t) {v : Option Nat} {S : Type} {wq : S → va_W} {Rq : S → Heap → Prop} (u : S) {post : Option Nat → S → Prop} (hp : post v u) (hw : va_P G zcl (wq u) H ∧ va_D A (wq u)) (hR : Rq u H) (hc1 : cells ≤ mc) (hs1 : slots ≤ ms) (hdg : decode cc pc = .ok (.areturn, 1)) : W p l e R s m args below meth c H locs cells slots (MQ below (zQq G post wq Rq A) args s mc ms A) (F0 m pc ls [va_rf v]) := by
  refine W.widen hc1 hs1 ?_
  exact W.aret (v := va_rf v) hx hb hr hfty (va_rf_or v) (fun t ht hW => ⟨⟨v, u, rfl, hp, by rw [ht]; exact hw.1, hw.2, by rw [ht]; exact hR⟩, hH.2.2.F ht⟩) hH.2.2.2.2 hdg
theorem zPS {As : List Value} {wc : va_W} {Ro : Heap → Prop} (hX : zX G dA dS B0 s) (hH : zH G A s.heap ws H locs) (hB : B0 ≤ s.heap.size) (hAB : ∀ q, A q → B0 ≤ q) (isC : List Nat) (hn : va_nd isC = true) (hC : isC.map (fun i => ws[i]?) = wc.map some) (hR : Ro H) : PreS s H (zP G dA dS B0 As H.size wc Ro) As :=
  ⟨zP.blind, fun U hU hW => ⟨rfl, by rw [hU], Nat.le_trans hB hH.2.2.1, by rw [hU]; exact (hH.sub isC hn hC).1, (hH.sub isC hn hC).2.1.weaken (fun _ q _ h => hAB q.1 h), by rw [hU]; exact hR, hX.here hH hAB hU hW⟩⟩
theorem z_recv {b : Nat} (hX : zX G dA dS B0 s) (hc : zcls ci C T N ty) (h : va_at G zcl (b, .inr (ci, fs)) H) : ∃ cell : Cell, H[b]? = some cell ∧ cell.vm.isStatics = false ∧ s.vm.findClass C = some cell.cls := va_recv hX.1 (zP1 h) hc.1 (q0 := 0) rfl
theorem zPV {As : List Value} {b : Nat} {wc : va_W} {Ro : Heap → Prop} (hX : zX G dA dS B0 s) (hH : zH G A s.heap ws H locs) (hB : B0 ≤ s.heap.size) (hAB : ∀ q, A q → B0 ≤ q) (hcell : ∃ cell : Cell, H[b]? = some cell ∧ cell.vm.isStatics = false ∧ s.vm.findClass C = some cell.cls) (isC : List Nat) (hn : va_nd isC = true) (hC : isC.map (fun i => ws[i]?) = wc.map some) (hR : Ro H) : PreV s H C b (zP G dA dS B0 (.ref b :: As) H.size wc Ro) As :=
  ⟨zP.blind, hcell, (zPS hX hH hB hAB isC hn hC hR).2⟩
theorem z_ci {S : Type} {post : Int32 → S → Prop} {wq : S → va_W} {Rq : S → Heap → Prop} {wc wr : va_W} {st0 : List Value} {a9 : Array Value} {mc ms : Nat} (hr : va_Run p l e R s m args below meth c H locs cells slots mc ms (F0 m pc ls st0) rest (zQi G post wq Rq (va_A wc H.size) a9) (va_A wc H.size)) (hH : zH G A s.heap ws H locs) (hA : ∀ q, s.heap.size ≤ q → A q) (isC isR : List Nat) (hC : isC.map (fun i => ws[i]?) = wc.map some) (hR : isR.map (fun i => ws[i]?) = wr.map some) (hn : va_nd isR = true) (hdis : ∀ i ∈ isR, i ∉ isC) (kk : ∀ (r : Int32) (u : S) (H1 : Heap) (locs1 : List Loc), post r u → zH G A s.heap (wr ++ wq u) H1 locs1 → Rq u H1 → (∀ q : Nat, q < H.size → ¬ va_A wc H.size q → H1[q]? = H[q]?) → W p l e R s m args below meth c H1 locs1 (cells + mc) (slots + ms) Q (F0 m (pc + 3) ls (.int r :: rest))) : W p l e R s m args below meth c H locs cells slots Q (F0 m pc ls st0) := by
  have hFc := va_free hH.2.1 hH.2.2 hA isC hC
  refine va_calli hr hH.2.2 (fun q _ h => hFc q h) hFc (fun r u t H1 locs1 ht hvm hw hB hz1 hk1 hS => ?_)
  obtain ⟨hP1, hD1, hR1⟩ := hB
  rw [ht] at hP1 hR1
  have hj := va_join hH.1 hH.2.1 isC isR hC hR hn hdis hk1 hFc hP1 hD1
  exact kk r u H1 locs1 hw ⟨hj.1, hj.2, hS⟩ hR1 hk1
theorem z_cf {S : Type} {post : UInt32 → S → Prop} {wq : S → va_W} {Rq : S → Heap → Prop} {wc wr : va_W} {st0 : List Value} {a9 : Array Value} {mc ms : Nat} (hr : va_Run p l e R s m args below meth c H locs cells slots mc ms (F0 m pc ls st0) rest (zQf G post wq Rq (va_A wc H.size) a9) (va_A wc H.size)) (hH : zH G A s.heap ws H locs) (hA : ∀ q, s.heap.size ≤ q → A q) (isC isR : List Nat) (hC : isC.map (fun i => ws[i]?) = wc.map some) (hR : isR.map (fun i => ws[i]?) = wr.map some) (hn : va_nd isR = true) (hdis : ∀ i ∈ isR, i ∉ isC) (kk : ∀ (r : UInt32) (u : S) (H1 : Heap) (locs1 : List Loc), post r u → zH G A s.heap (wr ++ wq u) H1 locs1 → Rq u H1 → (∀ q : Nat, q < H.size → ¬ va_A wc H.size q → H1[q]? = H[q]?) → W p l e R s m args below meth c H1 locs1 (cells + mc) (slots + ms) Q (F0 m (pc + 3) ls (.float r :: rest))) : W p l e R s m args below meth c H locs cells slots Q (F0 m pc ls st0) := by
  have hFc := va_free hH.2.1 hH.2.2 hA isC hC
  refine va_callf hr hH.2.2 (fun q _ h => hFc q h) hFc (fun r u t H1 locs1 ht hvm hw hB hz1 hk1 hS => ?_)
  obtain ⟨hP1, hD1, hR1⟩ := hB
  rw [ht] at hP1 hR1
  have hj := va_join hH.1 hH.2.1 isC isR hC hR hn hdis hk1 hFc hP1 hD1
  exact kk r u H1 locs1 hw ⟨hj.1, hj.2, hS⟩ hR1 hk1
theorem z_cd {S : Type} {post : UInt64 → S → Prop} {wq : S → va_W} {Rq : S → Heap → Prop} {wc wr : va_W} {st0 : List Value} {a9 : Array Value} {mc ms : Nat} (hr : va_Run p l e R s m args below meth c H locs cells slots mc ms (F0 m pc ls st0) rest (zQd G post wq Rq (va_A wc H.size) a9) (va_A wc H.size)) (hH : zH G A s.heap ws H locs) (hA : ∀ q, s.heap.size ≤ q → A q) (isC isR : List Nat) (hC : isC.map (fun i => ws[i]?) = wc.map some) (hR : isR.map (fun i => ws[i]?) = wr.map some) (hn : va_nd isR = true) (hdis : ∀ i ∈ isR, i ∉ isC) (kk : ∀ (r : UInt64) (u : S) (H1 : Heap) (locs1 : List Loc), post r u → zH G A s.heap (wr ++ wq u) H1 locs1 → Rq u H1 → (∀ q : Nat, q < H.size → ¬ va_A wc H.size q → H1[q]? = H[q]?) → W p l e R s m args below meth c H1 locs1 (cells + mc) (slots + ms) Q (F0 m (pc + 3) ls (.double r :: rest))) : W p l e R s m args below meth c H locs cells slots Q (F0 m pc ls st0) := by
  have hFc := va_free hH.2.1 hH.2.2 hA isC hC
  refine va_calld hr hH.2.2 (fun q _ h => hFc q h) hFc (fun r u t H1 locs1 ht hvm hw hB hz1 hk1 hS => ?_)
  obtain ⟨hP1, hD1, hR1⟩ := hB
  rw [ht] at hP1 hR1
  have hj := va_join hH.1 hH.2.1 isC isR hC hR hn hdis hk1 hFc hP1 hD1
  exact kk r u H1 locs1 hw ⟨hj.1, hj.2, hS⟩ hR1 hk1
theorem z_cq {S : Type} {post : Option Nat → S → Prop} {wq : S → va_W} {Rq : S → Heap → Prop} {wc wr : va_W} {st0 : List Value} {a9 : Array Value} {mc ms : Nat} (hr : va_Run p l e R s m args below meth c H locs cells slots mc ms (F0 m pc ls st0) rest (zQq G post wq Rq (va_A wc H.size) a9) (va_A wc H.size)) (hH : zH G A s.heap ws H locs) (hA : ∀ q, s.heap.size ≤ q → A q) (isC isR : List Nat) (hC : isC.map (fun i => ws[i]?) = wc.map some) (hR : isR.map (fun i => ws[i]?) = wr.map some) (hn : va_nd isR = true) (hdis : ∀ i ∈ isR, i ∉ isC) (kk : ∀ (r : Option Nat) (u : S) (H1 : Heap) (locs1 : List Loc), post r u → zH G A s.heap (wr ++ wq u) H1 locs1 → Rq u H1 → (∀ q : Nat, q < H.size → ¬ va_A wc H.size q → H1[q]? = H[q]?) → W p l e R s m args below meth c H1 locs1 (cells + mc) (slots + ms) Q (F0 m (pc + 3) ls (va_rf r :: rest))) : W p l e R s m args below meth c H locs cells slots Q (F0 m pc ls st0) := by
  have hFc := va_free hH.2.1 hH.2.2 hA isC hC
  refine va_callq hr hH.2.2 (fun q _ h => hFc q h) hFc (fun r u t H1 locs1 ht hvm hw hB hz1 hk1 hS => ?_)
  obtain ⟨hP1, hD1, hR1⟩ := hB
  rw [ht] at hP1 hR1
  have hj := va_join hH.1 hH.2.1 isC isR hC hR hn hdis hk1 hFc hP1 hD1
  exact kk r u H1 locs1 hw ⟨hj.1, hj.2, hS⟩ hR1 hk1
theorem z_cv {S : Type} {post : S → Prop} {wq : S → va_W} {Rq : S → Heap → Prop} {wc wr : va_W} {st0 : List Value} {a9 : Array Value} {mc ms : Nat} (hr : va_Run p l e R s m args below meth c H locs cells slots mc ms (F0 m pc ls st0) rest (zQv G post wq Rq (va_A wc H.size) a9) (va_A wc H.size)) (hH : zH G A s.heap ws H locs) (hA : ∀ q, s.heap.size ≤ q → A q) (isC isR : List Nat) (hC : isC.map (fun i => ws[i]?) = wc.map some) (hR : isR.map (fun i => ws[i]?) = wr.map some) (hn : va_nd isR = true) (hdis : ∀ i ∈ isR, i ∉ isC) (kk : ∀ (u : S) (H1 : Heap) (locs1 : List Loc), post u → zH G A s.heap (wr ++ wq u) H1 locs1 → Rq u H1 → (∀ q : Nat, q < H.size → ¬ va_A wc H.size q → H1[q]? = H[q]?) → W p l e R s m args below meth c H1 locs1 (cells + mc) (slots + ms) Q (F0 m (pc + 3) ls (rest))) : W p l e R s m args below meth c H locs cells slots Q (F0 m pc ls st0) := by
  have hFc := va_free hH.2.1 hH.2.2 hA isC hC
  refine va_callv hr hH.2.2 (fun q _ h => hFc q h) hFc (fun u t H1 locs1 ht hvm hw hB hz1 hk1 hS => ?_)
  obtain ⟨hP1, hD1, hR1⟩ := hB
  rw [ht] at hP1 hR1
  have hj := va_join hH.1 hH.2.1 isC isR hC hR hn hdis hk1 hFc hP1 hD1
  exact kk u H1 locs1 hw ⟨hj.1, hj.2, hS⟩ hR1 hk1
theorem z_cFi {S : Type} {post : Int32 → S → Prop} {wq : S → va_W} {Rq : S → Heap → Prop} {wc wr : va_W} {st0 : List Value} {a9 : Array Value} {mc ms : Nat} (hr : va_Run5 p l e R s m args below meth c H locs cells slots mc ms (F0 m pc ls st0) rest (zQi G post wq Rq (va_A wc H.size) a9) (va_A wc H.size)) (hH : zH G A s.heap ws H locs) (hA : ∀ q, s.heap.size ≤ q → A q) (isC isR : List Nat) (hC : isC.map (fun i => ws[i]?) = wc.map some) (hR : isR.map (fun i => ws[i]?) = wr.map some) (hn : va_nd isR = true) (hdis : ∀ i ∈ isR, i ∉ isC) (kk : ∀ (r : Int32) (u : S) (H1 : Heap) (locs1 : List Loc), post r u → zH G A s.heap (wr ++ wq u) H1 locs1 → Rq u H1 → (∀ q : Nat, q < H.size → ¬ va_A wc H.size q → H1[q]? = H[q]?) → W p l e R s m args below meth c H1 locs1 (cells + mc) (slots + ms) Q (F0 m (pc + 5) ls (.int r :: rest))) : W p l e R s m args below meth c H locs cells slots Q (F0 m pc ls st0) := by
  have hFc := va_free hH.2.1 hH.2.2 hA isC hC
  refine va_callFi hr hH.2.2 (fun q _ h => hFc q h) hFc (fun r u t H1 locs1 ht hvm hw hB hz1 hk1 hS => ?_)
  obtain ⟨hP1, hD1, hR1⟩ := hB
  rw [ht] at hP1 hR1
  have hj := va_join hH.1 hH.2.1 isC isR hC hR hn hdis hk1 hFc hP1 hD1
  exact kk r u H1 locs1 hw ⟨hj.1, hj.2, hS⟩ hR1 hk1
theorem z_cFq {S : Type} {post : Option Nat → S → Prop} {wq : S → va_W} {Rq : S → Heap → Prop} {wc wr : va_W} {st0 : List Value} {a9 : Array Value} {mc ms : Nat} (hr : va_Run5 p l e R s m args below meth c H locs cells slots mc ms (F0 m pc ls st0) rest (zQq G post wq Rq (va_A wc H.size) a9) (va_A wc H.size)) (hH : zH G A s.heap ws H locs) (hA : ∀ q, s.heap.size ≤ q → A q) (isC isR : List Nat) (hC : isC.map (fun i => ws[i]?) = wc.map some) (hR : isR.map (fun i => ws[i]?) = wr.map some) (hn : va_nd isR = true) (hdis : ∀ i ∈ isR, i ∉ isC) (kk : ∀ (r : Option Nat) (u : S) (H1 : Heap) (locs1 : List Loc), post r u → zH G A s.heap (wr ++ wq u) H1 locs1 → Rq u H1 → (∀ q : Nat, q < H.size → ¬ va_A wc H.size q → H1[q]? = H[q]?) → W p l e R s m args below meth c H1 locs1 (cells + mc) (slots + ms) Q (F0 m (pc + 5) ls (va_rf r :: rest))) : W p l e R s m args below meth c H locs cells slots Q (F0 m pc ls st0) := by
  have hFc := va_free hH.2.1 hH.2.2 hA isC hC
  refine va_callFq hr hH.2.2 (fun q _ h => hFc q h) hFc (fun r u t H1 locs1 ht hvm hw hB hz1 hk1 hS => ?_)
  obtain ⟨hP1, hD1, hR1⟩ := hB
  rw [ht] at hP1 hR1
  have hj := va_join hH.1 hH.2.1 isC isR hC hR hn hdis hk1 hFc hP1 hD1
  exact kk r u H1 locs1 hw ⟨hj.1, hj.2, hS⟩ hR1 hk1
theorem z_cFv {S : Type} {post : S → Prop} {wq : S → va_W} {Rq : S → Heap → Prop} {wc wr : va_W} {st0 : List Value} {a9 : Array Value} {mc ms : Nat} (hr : va_Run5 p l e R s m args below meth c H locs cells slots mc ms (F0 m pc ls st0) rest (zQv G post wq Rq (va_A wc H.size) a9) (va_A wc H.size)) (hH : zH G A s.heap ws H locs) (hA : ∀ q, s.heap.size ≤ q → A q) (isC isR : List Nat) (hC : isC.map (fun i => ws[i]?) = wc.map some) (hR : isR.map (fun i => ws[i]?) = wr.map some) (hn : va_nd isR = true) (hdis : ∀ i ∈ isR, i ∉ isC) (kk : ∀ (u : S) (H1 : Heap) (locs1 : List Loc), post u → zH G A s.heap (wr ++ wq u) H1 locs1 → Rq u H1 → (∀ q : Nat, q < H.size → ¬ va_A wc H.size q → H1[q]? = H[q]?) → W p l e R s m args below meth c H1 locs1 (cells + mc) (slots + ms) Q (F0 m (pc + 5) ls (rest))) : W p l e R s m args below meth c H locs cells slots Q (F0 m pc ls st0) := by
  have hFc := va_free hH.2.1 hH.2.2 hA isC hC
  refine va_callFv hr hH.2.2 (fun q _ h => hFc q h) hFc (fun u t H1 locs1 ht hvm hw hB hz1 hk1 hS => ?_)
  obtain ⟨hP1, hD1, hR1⟩ := hB
  rw [ht] at hP1 hR1
  have hj := va_join hH.1 hH.2.1 isC isR hC hR hn hdis hk1 hFc hP1 hD1
  exact kk u H1 locs1 hw ⟨hj.1, hj.2, hS⟩ hR1 hk1
theorem z_topi {x y : Int32} (h : x = y) (k : W p l e R s m args below meth c H locs cells slots Q (F0 m pc ls (.int y :: rest))) : W p l e R s m args below meth c H locs cells slots Q (F0 m pc ls (.int x :: rest)) := by subst h; exact k
theorem z_st {st st' : List Value} (h : st = st') (k : W p l e R s m args below meth c H locs cells slots Q (F0 m pc ls st')) : W p l e R s m args below meth c H locs cells slots Q (F0 m pc ls st) := by subst h; exact k
theorem z_lv {nL : Nat} {l1 l2 : List (Nat × Value)} (h : lv_has ls nL l1) (e : l1 = l2) : lv_has ls nL l2 := e ▸ h
end ZR
