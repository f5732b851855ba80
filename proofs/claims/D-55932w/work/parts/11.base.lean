/-! OUR OWN LAYER: one start, one end for every contract; a world and what is frozen beside it -/
def zB (B0 : Nat) : Nat → Prop := fun q => B0 ≤ q
/-- the classes of arrays: int, boolean, char, byte, Lifted, Object, String -/
abbrev ztys (dA : Nat → ClassId) : List (ClassId × FieldType) := [(dA 0, .int), (dA 1, .boolean), (dA 2, .char), (dA 3, .byte), (dA 4, .object "JokePump$Lifted"), (dA 5, .object "java/lang/Object"), (dA 6, .object "java/lang/String")]
/-- the tables' words that don't ride in the lists -/
def zkind (w : Cond) : Bool := match w with
  | .fieldLinkNest .. => true
  | .methodLinkNest .. => true
  | .castable .. => true
  | .declares .. => true
  | .arrayOver (.object _) => true
  | _ => false
def zW (U : State) : Prop := ∀ w ∈ lw_tbl, zkind w = true → va_Nw w U
theorem zW.warm {s U : State} (hW : s.WarmedH U.vm) (h : zW s) : zW U := by
  intro w hw hk
  have h1 := h w hw hk
  cases w with
  | fieldLinkNest a b c d e f => exact va_Nw.warmF hW h1
  | methodLinkNest a b c d => exact va_Nw.warmM hW h1
  | castable a b => exact va_Nw.warmC hW h1
  | declares a => exact va_Nw.warmD hW h1
  | arrayOver a => cases a with
    | object C => exact va_AO.moved hW.alike h1
    | _ => simp [zkind] at hk
  | _ => simp [zkind] at hk
/-- interfaces: class, the interface's method, the class's own -/
def zFl : List (String × MethodName × MethodName) :=
  [("JokePump$1Funny", ⟨"java/util/Iterator", "hasNext", "()Z"⟩, ⟨"JokePump$1Funny", "hasNext", "()Z"⟩),
   ("JokePump$1Funny", ⟨"java/util/Iterator", "next", "()Ljava/lang/Object;"⟩, ⟨"JokePump$1Funny", "next", "()Ljava/lang/Object;"⟩),
   ("JokePump$Pump$Down", ⟨"java/util/Iterator", "hasNext", "()Z"⟩, ⟨"JokePump$Pump$Down", "hasNext", "()Z"⟩),
   ("JokePump$Pump$Down", ⟨"java/util/Iterator", "next", "()Ljava/lang/Object;"⟩, ⟨"JokePump$Pump$Down", "next", "()Ljava/lang/Object;"⟩),
   ("java/util/ArrayList$Itr", ⟨"java/util/Iterator", "hasNext", "()Z"⟩, ⟨"java/util/ArrayList$Itr", "hasNext", "()Z"⟩),
   ("java/util/ArrayList$Itr", ⟨"java/util/Iterator", "next", "()Ljava/lang/Object;"⟩, ⟨"java/util/ArrayList$Itr", "next", "()Ljava/lang/Object;"⟩),
   ("JokePump$9", ⟨"java/lang/Iterable", "iterator", "()Ljava/util/Iterator;"⟩, ⟨"JokePump$9", "iterator", "()Ljava/util/Iterator;"⟩),
   ("JokePump$Pump$1", ⟨"java/lang/Iterable", "iterator", "()Ljava/util/Iterator;"⟩, ⟨"JokePump$Pump$1", "iterator", "()Ljava/util/Iterator;"⟩)]
def zF (U : State) : Prop := ∀ q ∈ zFl, va_Fw q.1 q.2.1 q.2.2 U
theorem zFl_ok : ∀ q ∈ zFl, q.2.1.cls ≠ "java/lang/invoke/MethodHandle" ∧ q.2.1.cls ≠ "java/lang/invoke/VarHandle" := by decide +kernel
theorem zF.moved {u U : State} (h : u.vm.Alike U.vm) (hZ : zF u) : zF U := fun q hq => va_Fw.moved (zFl_ok q hq) h (hZ q hq)
/-- the texts: "", "!", and the words of commands -/
def zlen : List Nat := [0, 1, 4, 5, 4, 5, 6, 6, 2, 4]
def zbyt : List (List Int32) := [[], [33], [106, 111, 107, 101], [112, 114, 105, 109, 101], [100, 114, 111, 112], [100, 114, 97, 105, 110], [115, 116, 114, 111, 107, 101], [98, 117, 99, 107, 101, 116], [103, 111], [112, 117, 109, 112]]
/-- String constants: class, entry, text, number of the text -/
def zsl : List (String × Nat × String × Nat) :=
  [("JokePump", 39, "", 0), ("JokePump", 325, "!", 1),
   ("JokePump$Reader", 17, "joke", 2), ("JokePump$Reader", 19, "prime", 3), ("JokePump$Reader", 21, "drop", 4), ("JokePump$Reader", 23, "drain", 5), ("JokePump$Reader", 25, "stroke", 6), ("JokePump$Reader", 27, "bucket", 7), ("JokePump$Reader", 29, "go", 8), ("JokePump$Reader", 31, "pump", 9),
   ("JokePump$Command", 32, "joke", 2), ("JokePump$Command", 38, "prime", 3), ("JokePump$Command", 40, "drop", 4), ("JokePump$Command", 42, "drain", 5), ("JokePump$Command", 44, "stroke", 6), ("JokePump$Command", 46, "bucket", 7), ("JokePump$Command", 48, "go", 8)]
/-- Java's hash of a text -/
def zhash (l : List Int32) : Int32 := l.foldl (fun h c => 31 * h + c) 0
/-- what stands still below B0: dS 0 ArrayList's empty array, dS 1 and dS 2 Integer's digits, dS 3 the mirror of Object[], dS (10 + i) text i, dS (30 + i) its bytes -/
def zS (dS : Nat → Nat) (B0 : Nat) (U : State) : Prop :=
  va_Z "java/util/ArrayList" "DEFAULTCAPACITY_EMPTY_ELEMENTDATA" "[Ljava/lang/Object;" (.ref (dS 0)) (zB B0) U U.heap ∧
  va_T (.object "java/lang/Object") (dS 0) 0 (fun _ => .null) (zB B0) U U.heap ∧
  va_Z "java/lang/String" "COMPACT_STRINGS" "Z" (.int 1) (zB B0) U U.heap ∧
  va_Z "java/lang/Integer" "DigitOnes" "[B" (.ref (dS 1)) (zB B0) U U.heap ∧
  va_T .byte (dS 1) 100 (fun j => .int (48 + nI (j % 10))) (zB B0) U U.heap ∧
  va_Z "java/lang/Integer" "DigitTens" "[B" (.ref (dS 2)) (zB B0) U U.heap ∧
  va_T .byte (dS 2) 100 (fun j => .int (48 + nI (j / 10))) (zB B0) U U.heap ∧
  va_Mi "[Ljava/lang/Object;" (dS 3) U ∧
  vk_S 10 zlen zbyt (fun i => dS (10 + i)) (fun i => dS (30 + i)) (zB B0) U U.heap ∧
  (∀ i, i < 10 → va_OF "java/lang/String" "hash" "I" (.int (zhash (zbyt.getD i []))) (dS (10 + i)) (zB B0) U U.heap ∧ va_OF "java/lang/String" "hashIsZero" "Z" (.int (if i = 0 then 1 else 0)) (dS (10 + i)) (zB B0) U U.heap) ∧
  (∀ q ∈ zsl, vk_R q.1 q.2.1 q.2.2.1 (dS (10 + q.2.2.2)) U) ∧
  va_Zq "java/lang/Throwable" "UNASSIGNED_STACK" "[Ljava/lang/StackTraceElement;" (zB B0) U U.heap ∧
  va_Zq "java/lang/Throwable" "SUPPRESSED_SENTINEL" "Ljava/util/List;" (zB B0) U U.heap
theorem zS.to {dS : Nat → Nat} {B0 : Nat} {s U : State} (hW : s.WarmedH U.vm) (hk : ∀ q : Nat, q < s.heap.size → ¬ zB B0 q → U.heap[q]? = s.heap[q]?) (h : zS dS B0 s) : zS dS B0 U := by
  obtain ⟨a, b, c, d, f, g, i, j, k, o, r, t, u⟩ := h
  have hv := hW.alike
  exact ⟨(a.moved hv).kept hk, (b.moved hv).kept hk, (c.moved hv).kept hk, (d.moved hv).kept hk, (f.moved hv).kept hk, (g.moved hv).kept hk, (i.moved hv).kept hk, j.moved hv, (k.moved hv).kept hk,
    fun x hx => ⟨((o x hx).1.moved hv).kept hk, ((o x hx).2.moved hv).kept hk⟩, fun q hq => (r q hq).warm hW, (t.moved hv).kept hk, (u.moved hv).kept hk⟩
/-- what every contract knows of the tables and of what stands still -/
def zX (G : va_G) (dA : Nat → ClassId) (dS : Nat → Nat) (B0 : Nat) (U : State) : Prop := va_K G zcl (ztys dA) U ∧ zW U ∧ zF U ∧ zS dS B0 U
theorem zX.to {G : va_G} {dA : Nat → ClassId} {dS : Nat → Nat} {B0 : Nat} {s U : State} (hW : s.WarmedH U.vm) (hk : ∀ q : Nat, q < s.heap.size → ¬ zB B0 q → U.heap[q]? = s.heap[q]?) (h : zX G dA dS B0 s) : zX G dA dS B0 U :=
  ⟨h.1.moved hW.alike, h.2.1.warm hW, h.2.2.1.moved hW.alike, h.2.2.2.to hW hk⟩
/-- a world, apart, all its cells in A; since H0 nothing outside A has changed -/
def zH (G : va_G) (A : Nat → Prop) (H0 : Heap) (ws : va_W) (H : Heap) (locs : List Loc) : Prop := va_P G zcl ws H ∧ va_D A ws ∧ va_S A H0 H locs
theorem zH.at {G : va_G} {A : Nat → Prop} {H0 H : Heap} {ws : va_W} {locs : List Loc} (h : zH G A H0 ws H locs) (k : Nat) {q : Nat × va_E} (hk : ws[k]? = some q) : va_at G zcl q H := h.1 k q hk
theorem zH.sub {G : va_G} {A : Nat → Prop} {H0 H : Heap} {ws ws' : va_W} {locs : List Loc} (h : zH G A H0 ws H locs) (is : List Nat) (hn : va_nd is = true) (hs : is.map (fun i => ws[i]?) = ws'.map some) : zH G A H0 ws' H locs := by
  refine ⟨h.1.sub is ?_, h.2.1.sub is hn hs, h.2.2⟩
  have h1 : is.filterMap (fun i => ws[i]?) = (is.map (fun i => ws[i]?)).filterMap id := by simp [List.filterMap_map]
  rw [h1, hs]
  simp [List.filterMap_map]
theorem zH.fz {G : va_G} {A : Nat → Prop} {H0 H : Heap} {ws : va_W} {locs : List Loc} {q : Nat × va_E} (h : zH G A H0 ws H locs) (hn : ¬ A q.1) (hf : va_at G zcl q H0) : va_at G zcl q H := hf.kept (h.2.2.2.1 q.1 hf.lt hn)
theorem zP1 {G : va_G} {q : Nat × va_E} {H : Heap} (h : va_at G zcl q H) : va_P G zcl [q] H := by
  intro k r hk
  match k, hk with
  | 0, hk => cases hk; exact h
  | k + 1, hk => simp at hk
theorem zX.here {G : va_G} {dA : Nat → ClassId} {dS : Nat → Nat} {B0 : Nat} {s U : State} {A : Nat → Prop} {H : Heap} {ws : va_W} {locs : List Loc} (h : zX G dA dS B0 s) (hH : zH G A s.heap ws H locs) (hAB : ∀ q, A q → B0 ≤ q) (hU : U.heap = H) (hW : s.WarmedH U.vm) : zX G dA dS B0 U :=
  h.to hW (fun q h1 h2 => by rw [hU]; exact hH.2.2.2.1 q h1 (fun z => h2 (hAB q z)))
/-- a contract's start: its arguments, the heap's size, its world, what it reads beside it -/
def zP (G : va_G) (dA : Nat → ClassId) (dS : Nat → Nat) (B0 : Nat) (av : List Value) (sz : Nat) (ws : va_W) (Ro : Heap → Prop) : Array Value → State → Prop :=
  va_Pc av (fun U => U.heap.size = sz ∧ B0 ≤ sz ∧ va_P G zcl ws U.heap ∧ va_D (zB B0) ws ∧ Ro U.heap ∧ zX G dA dS B0 U)
theorem zP.blind {G : va_G} {dA : Nat → ClassId} {dS : Nat → Nat} {B0 : Nat} {av : List Value} {sz : Nat} {ws : va_W} {Ro : Heap → Prop} : FrameBlind (zP G dA dS B0 av sz ws Ro) := by
  intro a U g mk q
  obtain ⟨q0, q1, q2, q3, q4, q5, q6⟩ := q
  exact ⟨q0, q1, q2, q3, q4, q5, zX.to (s := U) (U := U.calling g mk a) (State.WarmedH.refl U) (fun _ _ _ => rfl) q6⟩
/-- a contract's ends -/
def zQi (G : va_G) {S : Type} (post : Int32 → S → Prop) (wq : S → va_W) (Rq : S → Heap → Prop) (A : Nat → Prop) : Array Value → State → Outcome → State → Prop := va_Qi post (fun u t => va_P G zcl (wq u) t.heap ∧ va_D A (wq u) ∧ Rq u t.heap) A
def zQf (G : va_G) {S : Type} (post : UInt32 → S → Prop) (wq : S → va_W) (Rq : S → Heap → Prop) (A : Nat → Prop) : Array Value → State → Outcome → State → Prop := va_Qf post (fun u t => va_P G zcl (wq u) t.heap ∧ va_D A (wq u) ∧ Rq u t.heap) A
def zQd (G : va_G) {S : Type} (post : UInt64 → S → Prop) (wq : S → va_W) (Rq : S → Heap → Prop) (A : Nat → Prop) : Array Value → State → Outcome → State → Prop := va_Qd post (fun u t => va_P G zcl (wq u) t.heap ∧ va_D A (wq u) ∧ Rq u t.heap) A
def zQv (G : va_G) {S : Type} (post : S → Prop) (wq : S → va_W) (Rq : S → Heap → Prop) (A : Nat → Prop) : Array Value → State → Outcome → State → Prop := va_Qv post (fun u t => va_P G zcl (wq u) t.heap ∧ va_D A (wq u) ∧ Rq u t.heap) A
def zQq (G : va_G) {S : Type} (post : Option Nat → S → Prop) (wq : S → va_W) (Rq : S → Heap → Prop) (A : Nat → Prop) : Array Value → State → Outcome → State → Prop := va_Qq post (fun u t => va_P G zcl (wq u) t.heap ∧ va_D A (wq u) ∧ Rq u t.heap) A
/-- a contract out of its walk -/
theorem zM {l : Launch} {G : va_G} {dA : Nat → ClassId} {dS : Nat → Nat} {B0 : Nat} {y : MethodName} {rm : Room} {av : List Value} {sz : Nat} {ws : va_W} {Ro : Heap → Prop} {Qc : (Nat → Prop) → Array Value → State → Outcome → State → Prop} {mc ms : Nat} {cc : ByteArray} {maxL : Nat} {ret : Option FieldType} (hy : plainName y.cls = true) (hlv : (lg_sl av).length ≤ maxL)
    (body : ∀ (p : Program) (e : Env) (s : State) (m : MethodId) (below : List Frame) (meth : Method) (c : Code) (ls : Array Slot) (A : Nat → Prop) (H : Heap) (locs : List Loc), H = s.heap → p.tables.exec = Jvm.exec → c.code = cc → meth.sig.returnType = ret → meth.locks = false → c.maxLocals = maxL → s.vm.findClass y.cls = some m.cls → meth.name = y.name → (∀ w ∈ lw_all, w.before av.toArray s = true) → zX G dA dS B0 s → s.heap.size = sz → B0 ≤ s.heap.size → (∀ q, A q ↔ va_A ws s.heap.size q) → (∀ q, s.heap.size ≤ q → A q) → (∀ q, A q → B0 ≤ q) → zH G A s.heap ws H locs → Ro s.heap → lv_has ls maxL (lv_args 0 av) →
      W p l e (headSpec (ws_ y cc maxL ret) rm).room s m av.toArray below meth c H locs 0 0 (MQ below (Qc A) av.toArray s mc ms A) (F0 m 0 ls [])) :
    Met l y (ws_ y cc maxL ret) rm (zP G dA dS B0 av sz ws Ro) (Qc (va_A ws sz)) mc ms (va_A ws sz) := by
  refine Met.ofW (cc := cc) (maxL := maxL) (ret := ret) hy rfl ?_
  intro p e s m args below meth c s₁ B hml hv
  obtain ⟨rfl, hsz, hB0, hP, hD0, hR, hX⟩ := hv
  have hts := atoms_spec (ws := ws_ y cc maxL ret) B.pre
  have hts : ∀ w ∈ lw_all, w.before av.toArray s = true := fun w h => hts w (List.mem_cons_of_mem _ h)
  subst hsz
  rw [lg_entry_eq]
  have hl := lv_entry av (n := maxL) hlv
  refine body p e s m below meth c _ (va_A ws s.heap.size) s.heap [] rfl B.exec B.bytes B.returns B.notSynchronized hml (findClass_of_methodNamed B.named) (name_of_methodNamed B.named B.method).1 hts hX rfl hB0 (fun q => Iff.rfl) (fun q h => Or.inr h) ?_ ⟨hP, hD0.self, va_S.rf⟩ hR hl
  intro q h
  rcases h with ⟨k, e, h⟩ | h
  · exact hD0.2 k (q, e) h
  · exact Nat.le_trans hB0 h
/-- the same for a member of a class for which the machine has entries -/
theorem zMF {l : Launch} {G : va_G} {dA : Nat → ClassId} {dS : Nat → Nat} {B0 : Nat} {y : MethodName} {rm : Room} {av : List Value} {sz : Nat} {ws : va_W} {Ro : Heap → Prop} {Qc : (Nat → Prop) → Array Value → State → Outcome → State → Prop} {mc ms : Nat} {cc : ByteArray} {maxL : Nat} {ret : Option FieldType} (hy : plainFor y = true) (hlv : (lg_sl av).length ≤ maxL)
    (body : ∀ (p : Program) (e : Env) (s : State) (m : MethodId) (below : List Frame) (meth : Method) (c : Code) (ls : Array Slot) (A : Nat → Prop) (H : Heap) (locs : List Loc), H = s.heap → p.tables.exec = Jvm.exec → c.code = cc → meth.sig.returnType = ret → meth.locks = false → c.maxLocals = maxL → s.vm.findClass y.cls = some m.cls → meth.name = y.name → (∀ w ∈ lw_all, w.before av.toArray s = true) → zX G dA dS B0 s → s.heap.size = sz → B0 ≤ s.heap.size → (∀ q, A q ↔ va_A ws s.heap.size q) → (∀ q, s.heap.size ≤ q → A q) → (∀ q, A q → B0 ≤ q) → zH G A s.heap ws H locs → Ro s.heap → lv_has ls maxL (lv_args 0 av) →
      W p l e (headSpec (ws_ y cc maxL ret) rm).room s m av.toArray below meth c H locs 0 0 (MQ below (Qc A) av.toArray s mc ms A) (F0 m 0 ls [])) :
    Met l y (ws_ y cc maxL ret) rm (zP G dA dS B0 av sz ws Ro) (Qc (va_A ws sz)) mc ms (va_A ws sz) := by
  refine va_MetF (cc := cc) (maxL := maxL) (ret := ret) hy rfl ?_
  intro p e s m args below meth c s₁ B hml hv
  obtain ⟨rfl, hsz, hB0, hP, hD0, hR, hX⟩ := hv
  have hts := atoms_spec (ws := ws_ y cc maxL ret) B.pre
  have hts : ∀ w ∈ lw_all, w.before av.toArray s = true := fun w h => hts w (List.mem_cons_of_mem _ h)
  subst hsz
  rw [lg_entry_eq]
  have hl := lv_entry av (n := maxL) hlv
  refine body p e s m below meth c _ (va_A ws s.heap.size) s.heap [] rfl B.exec B.bytes B.returns B.notSynchronized hml (findClass_of_methodNamed B.named) (name_of_methodNamed B.named B.method).1 hts hX rfl hB0 (fun q => Iff.rfl) (fun q h => Or.inr h) ?_ ⟨hP, hD0.self, va_S.rf⟩ hR hl
  intro q h
  rcases h with ⟨k, e, h⟩ | h
  · exact hD0.2 k (q, e) h
  · exact Nat.le_trans hB0 h
