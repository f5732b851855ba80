/-! THE CLASS's SIDE: what kinds of cells are apart; frozen cells; tails of worlds; the pump as cells -/
/-- kinds of cells: objects of class i of the table, arrays of type i -/
def zknm : Nat ⊕ Nat → String
  | .inr i => (zcl.getD i ("", fun _ => ("", "", "", false), 0)).1
  | .inl i => "[" ++ ([FieldType.int, .boolean, .char, .byte, .object "JokePump$Lifted", .object "java/lang/Object", .object "java/lang/String"].getD i .int).toString
def zkin : Nat ⊕ Nat → Bool
  | .inr i => decide (i < 31)
  | .inl i => decide (i < 7)
def zkid (G : va_G) (dA : Nat → ClassId) : Nat ⊕ Nat → ClassId
  | .inr i => G.1 i
  | .inl i => dA i
theorem zkid_nm {G : va_G} {dA : Nat → ClassId} {dS : Nat → Nat} {B0 : Nat} {s : State} (hX : zX G dA dS B0 s) {k : Nat ⊕ Nat} (hk : zkin k = true) : s.vm.findClass (zknm k) = some (zkid G dA k) := by
  cases k with
  | inr i =>
    have hi : i < 31 := by simpa [zkin] using hk
    have hc : zcl[i]? = some (zcl.getD i ("", fun _ => ("", "", "", false), 0)) := by
      have hl : i < zcl.length := hi
      rw [List.getD_eq_getElem?_getD, List.getElem?_eq_getElem hl]; rfl
    exact (hX.1.1 i _ hc).2.1
  | inl i =>
    have hi : i < 7 := by simpa [zkin] using hk
    rcases (show i = 0 ∨ i = 1 ∨ i = 2 ∨ i = 3 ∨ i = 4 ∨ i = 5 ∨ i = 6 by omega) with e | e | e | e | e | e | e <;> subst e
    · exact (hX.1.2 0 _ rfl).2
    · exact (hX.1.2 1 _ rfl).2
    · exact (hX.1.2 2 _ rfl).2
    · exact (hX.1.2 3 _ rfl).2
    · obtain ⟨_, _, _, _, _, h⟩ := (hX.1.2 4 _ rfl).2; exact h
    · obtain ⟨_, _, _, _, _, h⟩ := (hX.1.2 5 _ rfl).2; exact h
    · obtain ⟨_, _, _, _, _, h⟩ := (hX.1.2 6 _ rfl).2; exact h
theorem zkid_ne {G : va_G} {dA : Nat → ClassId} {dS : Nat → Nat} {B0 : Nat} {s : State} (hX : zX G dA dS B0 s) {k j : Nat ⊕ Nat} (hk : zkin k = true) (hj : zkin j = true) (hn : zknm k ≠ zknm j) : zkid G dA k ≠ zkid G dA j := by
  intro h
  obtain ⟨c1, a1, a2⟩ := Vm.findClass_spec (zkid_nm hX hk)
  obtain ⟨c2, b1, b2⟩ := Vm.findClass_spec (zkid_nm hX hj)
  rw [h, b1] at a1
  cases a1
  exact hn (a2.symm.trans b2)
def zcid (G : va_G) : va_E → ClassId
  | .inl a => a.1
  | .inr o => G.1 o.1
theorem va_at.cid {G : va_G} {q : Nat × va_E} {H : Heap} (h : va_at G zcl q H) : ∃ cell : Cell, H[q.1]? = some cell ∧ cell.cls = zcid G q.2 := by
  obtain ⟨a, e⟩ := q
  cases e with
  | inl x =>
    refine ⟨_, h, ?_⟩
    obtain ⟨t, n, f⟩ := x
    rcases f with f | f | f | f | f <;> rfl
  | inr o =>
    obtain ⟨r, -, cell, h1, h2, -⟩ := h
    exact ⟨cell, h1, h2⟩
/-- cells of different kinds are apart -/
theorem z_ne {G : va_G} {dA : Nat → ClassId} {dS : Nat → Nat} {B0 : Nat} {s : State} (hX : zX G dA dS B0 s) (k j : Nat ⊕ Nat) (hk : (zkin k && zkin j && decide (zknm k ≠ zknm j)) = true) {a b : Nat} {e f : va_E} {H : Heap} (ha : va_at G zcl (a, e) H) (hb : va_at G zcl (b, f) H) (he : zcid G e = zkid G dA k) (hf : zcid G f = zkid G dA j) : a ≠ b := by
  simp only [Bool.and_eq_true, decide_eq_true_eq] at hk
  intro h
  obtain ⟨c1, a1, a2⟩ := ha.cid
  obtain ⟨c2, b1, b2⟩ := hb.cid
  simp only at a1 a2 b1 b2
  rw [h, b1] at a1
  cases a1
  exact zkid_ne hX hk.1.1 hk.1.2 hk.2 (by rw [← he, ← hf, ← a2, ← b2])
/-- an address that is none of a world's -/
def zApart (q : Nat) : va_W → Prop
  | [] => True
  | x :: t => x.1 ≠ q ∧ zApart q t
theorem zApart.ne {q : Nat} : ∀ {ws : va_W}, zApart q ws → ∀ (k : Nat) (x : Nat × va_E), ws[k]? = some x → x.1 ≠ q
  | [], _, k, x, h => by simp at h
  | y :: t, h, 0, x, hx => by cases hx; exact h.1
  | y :: t, h, k + 1, x, hx => zApart.ne h.2 k x (by simpa using hx)
theorem z_na {A : Nat → Prop} {ws : va_W} {n q : Nat} (hAe : ∀ q, A q ↔ va_A ws n q) (hlt : q < n) (h : zApart q ws) : ¬ A q := by
  intro ha
  rcases (hAe q).mp ha with ⟨k, e, hk⟩ | hk
  · exact h.ne k _ hk rfl
  · omega
section FZ
variable {G : va_G} {A : Nat → Prop} {H H0 : Heap} {ws ws0 : va_W} {locs : List Loc}
/-- what was so at the start, of a cell that isn't in the world -/
theorem z_fz (hH : zH G A H0 ws H locs) (hAe : ∀ q, A q ↔ va_A ws0 H0.size q) {q : Nat × va_E} (hf : va_at G zcl q H0) (h : zApart q.1 ws0) : va_at G zcl q H := hH.fz (z_na hAe hf.lt h) hf
theorem z_fz0 (hH : zH G A H0 ws H locs) (hAe : ∀ q, A q ↔ va_A [] H0.size q) {q : Nat × va_E} (hf : va_at G zcl q H0) : va_at G zcl q H := z_fz hH hAe hf trivial
end FZ
/-! tails: a world is a list of cells that are named, and a rest -/
def tlp (k n : Nat) : List Nat := (List.range n).map (k + ·)
theorem tlp_map {X pl : va_W} : (tlp X.length pl.length).map (fun i => (X ++ pl)[i]?) = pl.map some := by
  apply List.ext_getElem?
  intro i
  simp only [tlp, List.map_map, List.getElem?_map]
  by_cases h : i < pl.length
  · rw [List.getElem?_range h, List.getElem?_eq_getElem h]
    simp only [Option.map_some, Function.comp]
    rw [List.getElem?_append_right (Nat.le_add_right _ _), Nat.add_sub_cancel_left, List.getElem?_eq_getElem h]
  · rw [List.getElem?_eq_none (by simp; omega), List.getElem?_eq_none (by omega)]; rfl
theorem tlp_lit {X cx pl : va_W} {is : List Nat} (h : is.map (fun i => X[i]?) = cx.map some) : is.map (fun i => (X ++ pl)[i]?) = cx.map some := by
  rw [← h]
  apply List.map_congr_left
  intro i hi
  have h1 : X[i]? ∈ cx.map some := by rw [← h]; exact List.mem_map.mpr ⟨i, hi, rfl⟩
  obtain ⟨y, -, hy⟩ := List.mem_map.mp h1
  rw [List.getElem?_append_left (List.getElem?_eq_some_iff.mp hy.symm).1]
/-- the places of some named cells and of the rest -/
theorem tlp_c {X cx pl : va_W} {is : List Nat} (h : is.map (fun i => X[i]?) = cx.map some) : (is ++ tlp X.length pl.length).map (fun i => (X ++ pl)[i]?) = (cx ++ pl).map some := by
  rw [List.map_append, List.map_append, tlp_lit h, tlp_map]
theorem va_nd_iff : ∀ {l : List Nat}, va_nd l = true ↔ l.Nodup
  | [] => by simp [va_nd]
  | a :: l => by simp [va_nd, va_nd_iff]
theorem tlp_nd {is : List Nat} {k n : Nat} (h : va_nd is = true) (hl : is.all (fun i => decide (i < k)) = true) : va_nd (is ++ tlp k n) = true := by
  rw [va_nd_iff] at h ⊢
  rw [List.nodup_append]
  refine ⟨h, ?_, fun a ha b hb e => ?_⟩
  · unfold tlp
    exact List.Pairwise.map _ (fun a b hab e => hab (by omega)) List.nodup_range
  · have h1 : a < k := by simpa using List.all_eq_true.mp hl a ha
    obtain ⟨j, -, hj⟩ := List.mem_map.mp hb
    omega
theorem tlp_dis {is js : List Nat} {k n : Nat} (h : ∀ i ∈ is, i ∉ js) (hl : js.all (fun i => decide (i < k)) = true) : ∀ i ∈ is ++ tlp k n, i ∉ js := by
  intro i hi hj
  rcases List.mem_append.mp hi with h1 | h1
  · exact h i h1 hj
  · obtain ⟨j, -, e⟩ := List.mem_map.mp h1
    have h2 : i < k := by simpa using List.all_eq_true.mp hl i hj
    omega
theorem tlp_dis' {is js : List Nat} {k n : Nat} (h : ∀ i ∈ js, i ∉ is) (hl : js.all (fun i => decide (i < k)) = true) : ∀ i ∈ js, i ∉ is ++ tlp k n := by
  intro i hi hj
  rcases List.mem_append.mp hj with h1 | h1
  · exact h i hi h1
  · obtain ⟨j, -, e⟩ := List.mem_map.mp h1
    have h2 : i < k := by simpa using List.all_eq_true.mp hl i hi
    omega
theorem z_swp {G : va_G} {A : Nat → Prop} {H0 H : Heap} {a b c : va_W} {locs : List Loc} (h : zH G A H0 ((a ++ b) ++ c) H locs) : zH G A H0 ((a ++ c) ++ b) H locs := ⟨h.1.swap, h.2.1.swap, h.2.2⟩
theorem z_asc {G : va_G} {A : Nat → Prop} {H0 H : Heap} {a b c : va_W} {locs : List Loc} (h : zH G A H0 (a ++ (b ++ c)) H locs) : zH G A H0 ((a ++ b) ++ c) H locs := by rw [List.append_assoc]; exact h
theorem lw_F {own : String} {idx : Nat} {C : String} {x y : MethodName} {b : ByteArray} {L : Nat} {r : Option FieldType} (h1 : Cond.methodLink own idx x ∈ lw_all) (h2 : Cond.selects C x y ∈ lw_all) (h3 : Cond.instanceMethod y ∈ lw_all) (h4 : Cond.initialized y.cls ∈ lw_all) (h5 : Cond.code y b L r ∈ lw_all) : GoodIn lw_all (va_wsF own idx C x y (ws_ y b L r)) := by
  refine lw_app ?_ (lw_meth h5)
  intro w hw
  simp only [List.mem_cons, List.not_mem_nil, or_false] at hw
  rcases hw with e | e | e | e
  · rw [e]; exact h1
  · rw [e]; exact h2
  · rw [e]; exact h3
  · rw [e]; exact h4
theorem lw_U {own : String} {idx : Nat} {C owner : String} {x y : MethodName} {b : ByteArray} {L : Nat} {r : Option FieldType} (h1 : Cond.methodLink own idx x ∈ lw_all) (h2 : Cond.sameMethod x.cls owner x.name x.desc ∈ lw_all) (h3 : Cond.selects C x y ∈ lw_all) (h4 : Cond.instanceMethod y ∈ lw_all) (h5 : Cond.initialized y.cls ∈ lw_all) (h6 : Cond.code y b L r ∈ lw_all) : GoodIn lw_all (va_wsU own idx C owner x y (ws_ y b L r)) := by
  refine lw_app ?_ (lw_meth h6)
  intro w hw
  simp only [List.mem_cons, List.not_mem_nil, or_false] at hw
  rcases hw with e | e | e | e | e
  · rw [e]; exact h1
  · rw [e]; exact h2
  · rw [e]; exact h3
  · rw [e]; exact h4
  · rw [e]; exact h5
theorem z_F {G : va_G} {dA : Nat → ClassId} {dS : Nat → Nat} {B0 : Nat} {s : State} (hX : zX G dA dS B0 s) (i : Nat) {q : String × MethodName × MethodName} (h : zFl[i]? = some q) : va_Fw q.1 q.2.1 q.2.2 s := hX.2.2.1 q (List.mem_of_getElem? h)
section ZC
variable {p : Program} {l : Launch} {e : Env} {R : Room} {s : State} {m : MethodId} {args : Array Value} {below : List Frame} {meth : Method} {c : Code} {H : Heap} {locs : List Loc} {cells slots : Nat} {Q : State → Prop}
variable {cc : ByteArray} {pc : Nat} {ls : Array Slot} {rest : List Value} {G : va_G} {dA : Nat → ClassId} {dS : Nat → Nat} {B0 : Nat} {a : Nat} {fs : List Value}
/-- a reference is cast to its own class -/
theorem z_ckc (hx : p.tables.exec = Jvm.exec) (hb : c.code = cc) {own nm : String} {index ci : Nat} {T : u_T} {N : Nat} {ty : Nat → FieldType} (hown : s.vm.findClass own = some m.cls) (hlink : (Cond.classLink own index nm).before args s = true) (hX : zX G dA dS B0 s) (hc : zcls ci nm T N ty) (ha : va_at G zcl (a, .inr (ci, fs)) H) (hdg : decode cc pc = .ok (.checkcast index, 3))
    (k : W p l e R s m args below meth c H locs cells slots Q (F0 m (pc + 3) ls (.ref a :: rest))) : W p l e R s m args below meth c H locs cells slots Q (F0 m pc ls (.ref a :: rest)) :=
  va_castS hx hb hown hlink (hX.1.1 ci _ hc.1).2 (z_recv hX hc ha) hdg k
end ZC
/-! the pump -/
/-- addresses (pump 0, list 1, its array 2, lifted 3, known 4, buckets 5, lifted from 6) and capacity 7; modCount; the jokes; the lifted ones -/
abbrev PS : Type := (Nat → Nat) × Int32 × (Nat → Nat) × (Nat → Nat)
abbrev PS.p (S : PS) : Nat := S.1 0
abbrev PS.l (S : PS) : Nat := S.1 1
abbrev PS.a (S : PS) : Nat := S.1 2
abbrev PS.f (S : PS) : Nat := S.1 3
abbrev PS.k (S : PS) : Nat := S.1 4
abbrev PS.b (S : PS) : Nat := S.1 5
abbrev PS.g (S : PS) : Nat := S.1 6
abbrev PS.cp (S : PS) : Nat := S.1 7
abbrev PS.md (S : PS) : Int32 := S.2.1
abbrev PS.J (S : PS) : Nat → Nat := S.2.2.1
abbrev PS.L (S : PS) : Nat → Nat := S.2.2.2
/-- references up to n -/
def eF (n : Nat) (J : Nat → Nat) : Nat → Option Nat := fun k => if k < n then some (J k) else none
theorem eF_lt {n : Nat} {J : Nat → Nat} {k : Nat} (h : k < n) : eF n J k = some (J k) := if_pos h
theorem eF_ge {n : Nat} {J : Nat → Nat} {k : Nat} (h : ¬ k < n) : eF n J k = none := if_neg h
def kF (w : Nat → Nat) : Nat → Int32 := fun s => nI (if s < 64 then bN (kn w s) else 0)
def bF (w : Nat → Nat) : Nat → Int32 := fun k => nI (if k < 4 then w (14 + k) else 0)
def gF (w : Nat → Nat) : Nat → Int32 := fun k => nI (if k < 4 then w (18 + k) else 0)
abbrev cPump (S : PS) (w : Nat → Nat) : va_E := .inr (1, [.ref S.l, .ref S.f, .ref S.k, .ref S.b, .ref S.g, .int (nI (w 6)), .int (nI (w 1)), .int (nI (w 2)), .int (nI (w 3)), .int (nI (w 4)), .int (nI (w 5)), .float (UInt32.ofNat (w 11)), .int (nI (w 7)), .int (nI (w 8)), .int (nI (w 9)), .int (nI (w 10))])
abbrev cList (S : PS) (w : Nat → Nat) : va_E := .inr (23, [.int (S.md), .ref S.a, .int (nI (w 0))])
abbrev cArr (dA : Nat → ClassId) (S : PS) (w : Nat → Nat) : va_E := .inl (dA 5, S.cp, .inr (.inr (.inr (.inr (eF (w 0) S.J)))))
abbrev cLif (dA : Nat → ClassId) (S : PS) (w : Nat → Nat) : va_E := .inl (dA 4, 65, .inr (.inr (.inr (.inr (eF (w 6) S.L)))))
abbrev cJoke (w : Nat → Nat) (k : Nat) : va_E := .inr (4, [.int (nI k), .int (nI (jk w k 0)), .int (nI (jk w k 1)), .int (nI (jk w k 2)), .int (nI (jk w k 3)), .int (nI (jk w k 4))])
abbrev cTold (w : Nat → Nat) (k : Nat) : va_E := .inr (10, [.int (nI (w (82 + 3 * k))), .int (nI (w (82 + 3 * k + 1))), .float (UInt32.ofNat (w (82 + 3 * k + 2)))])
/-- the pump at an address, with the row w -/
def PumpAt (G : va_G) (dA : Nat → ClassId) (S : PS) (w : Nat → Nat) (H : Heap) : Prop :=
  va_at G zcl (S.p, cPump S w) H ∧ va_at G zcl (S.l, cList S w) H ∧ (0 < w 0 → va_at G zcl (S.a, cArr dA S w) H) ∧ va_at G zcl (S.f, cLif dA S w) H ∧
  va_at G zcl (S.k, .inl (dA 1, 64, .inl (kF w))) H ∧ va_at G zcl (S.b, .inl (dA 0, 4, .inl (bF w))) H ∧ va_at G zcl (S.g, .inl (dA 0, 4, .inl (gF w))) H ∧
  (∀ k, k < w 0 → va_at G zcl (S.J k, cJoke w k) H) ∧ (∀ k, k < w 6 → va_at G zcl (S.L k, cTold w k) H) ∧ (w 0 ≤ S.cp ∧ S.cp < 2 ^ 20) ∧ (∀ x, x < w 0 → ∀ y, y < w 0 → S.J x = S.J y → x = y)
section PUMPAT
variable {G : va_G} {dA : Nat → ClassId} {S : PS} {w : Nat → Nat} {H : Heap}
theorem PumpAt.p (h : PumpAt G dA S w H) : va_at G zcl (S.p, cPump S w) H := h.1
theorem PumpAt.l (h : PumpAt G dA S w H) : va_at G zcl (S.l, cList S w) H := h.2.1
theorem PumpAt.a (h : PumpAt G dA S w H) (h0 : 0 < w 0) : va_at G zcl (S.a, cArr dA S w) H := h.2.2.1 h0
theorem PumpAt.f (h : PumpAt G dA S w H) : va_at G zcl (S.f, cLif dA S w) H := h.2.2.2.1
theorem PumpAt.k (h : PumpAt G dA S w H) : va_at G zcl (S.k, .inl (dA 1, 64, .inl (kF w))) H := h.2.2.2.2.1
theorem PumpAt.b (h : PumpAt G dA S w H) : va_at G zcl (S.b, .inl (dA 0, 4, .inl (bF w))) H := h.2.2.2.2.2.1
theorem PumpAt.g (h : PumpAt G dA S w H) : va_at G zcl (S.g, .inl (dA 0, 4, .inl (gF w))) H := h.2.2.2.2.2.2.1
theorem PumpAt.j (h : PumpAt G dA S w H) {k : Nat} (hk : k < w 0) : va_at G zcl (S.J k, cJoke w k) H := h.2.2.2.2.2.2.2.1 k hk
theorem PumpAt.t (h : PumpAt G dA S w H) {k : Nat} (hk : k < w 6) : va_at G zcl (S.L k, cTold w k) H := h.2.2.2.2.2.2.2.2.1 k hk
theorem PumpAt.c (h : PumpAt G dA S w H) : w 0 ≤ S.cp ∧ S.cp < 2 ^ 20 := h.2.2.2.2.2.2.2.2.2.1
theorem PumpAt.i (h : PumpAt G dA S w H) : ∀ x, x < w 0 → ∀ y, y < w 0 → S.J x = S.J y → x = y := h.2.2.2.2.2.2.2.2.2.2
end PUMPAT
theorem PumpAt.to {G : va_G} {dA : Nat → ClassId} {S : PS} {w : Nat → Nat} {H H1 : Heap} (h : PumpAt G dA S w H) (ht : ∀ q : Nat × va_E, va_at G zcl q H → va_at G zcl q H1) : PumpAt G dA S w H1 :=
  ⟨ht _ h.p, ht _ h.l, fun z => ht _ (h.a z), ht _ h.f, ht _ h.k, ht _ h.b, ht _ h.g, fun k hk => ht _ (h.j hk), fun k hk => ht _ (h.t hk), h.c, h.i⟩
theorem z_fzP {G : va_G} {dA : Nat → ClassId} {A : Nat → Prop} {H H0 : Heap} {ws : va_W} {locs : List Loc} {S : PS} {w : Nat → Nat} (hH : zH G A H0 ws H locs) (hAe : ∀ q, A q ↔ va_A [] H0.size q) (h : PumpAt G dA S w H0) : PumpAt G dA S w H := h.to (fun _ hq => z_fz0 hH hAe hq)
