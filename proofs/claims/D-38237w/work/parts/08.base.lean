/-! ===== base layer: abstract cells, heaps, worlds, contexts, the judgement Wk, contracts Ct ===== -/
set_option maxRecDepth 100000
/-- a Java int by its value -/
def jI (z : Int) : Value := .int (Int32.ofInt z)
/-- a Java long by its value -/
def jL (z : Int) : Value := .long (Int64.ofInt z)
/-- a reference or null -/
def rf (r : Option Nat) : Value := va_rf r
/-- an object (number of its class, its fields) or an array (kind, length, contents) -/
abbrev Cel : Type := (Nat × List Value) ⊕ (Nat × Nat × (Nat → Value))
/-- an abstract heap: its size, what is known of it -/
abbrev Hp : Type := Nat × (Nat → Option Cel)
/-- a run's world: class ids, slots, array classes, the heap at its start, constants' addresses -/
abbrev Wd : Type := (Nat → ClassId) × (Nat → Nat → Nat) × (Nat → ClassId) × Heap × (Nat → Nat)
abbrev Wd.dC (w : Wd) : Nat → ClassId := w.1
abbrev Wd.dI (w : Wd) : Nat → Nat → Nat := w.2.1
abbrev Wd.aC (w : Wd) : Nat → ClassId := w.2.2.1
abbrev Wd.hz (w : Wd) : Heap := w.2.2.2.1
abbrev Wd.ad (w : Wd) : Nat → Nat := w.2.2.2.2
abbrev Wd.z0 (w : Wd) : Nat := w.hz.size
def TK : u_T := fun _ => ("java/lang/Enum", "ordinal", "I", true)
/-- all classes of objects -/
def clAll : List vw_C := [(RX1, TX1, 3), (RX2, TX2, 3), (RX3, TX3, 7), (RX4, TX4, 4), (RX5, TX5, 2), (RX6, TX6, 5), (RX7, TX7, 3), (RX8, TX8, 8), (RX9, TX9, 8), (RX10, TX10, 2), (RX11, TX11, 4), (RX12, TX12, 3), (RX13, TX13, 6), (RX14, TX14, 1), (RJ2, TJ2, 3), (RJ8, TJ8, 1), (RJ19, TJ19, 4), (RX16, TK, 1), (RX18, TK, 1), (RX17, TK, 1), (RX19, TK, 1)]
/-- all kinds of arrays; 7: the script -/
def aTys : List FieldType := [.int, .boolean, .long, .double, .object "java/lang/Object", .array .int, .array .boolean, .int]
def cAt (w : Wd) (c : Cel) (cell : Cell) : Prop := match c with
  | .inl o => cell.cls = w.dC o.1 ∧ cell.vm = .none ∧ (∃ r : vw_C, clAll[o.1]? = some r ∧ o.2.length = r.2.2) ∧ ∀ (k : Nat) (v : Value), o.2[k]? = some v → cell.slots[w.dI o.1 k]? = some v
  | .inr a => cell.cls = w.aC a.1 ∧ cell.vm = .none ∧ cell.slots.size = a.2.1 ∧ ∀ j : Nat, j < a.2.1 → cell.slots[j]? = some (a.2.2 j)
/-- cells that may lie below the run's own: constants, the script, empty arrays -/
def cOld (c : Cel) : Bool := match c with
  | .inl o => o.1 == 15 || (17 ≤ o.1)
  | .inr a => a.1 == 7 || a.2.1 == 0
/-- the constants: Optional.EMPTY, the four kinds, the empty array of ArrayList -/
def Cst (w : Wd) (h : Hp) : Prop := h.2 (w.ad 0) = some (.inl (15, [.null])) ∧ h.2 (w.ad 1) = some (.inl (17, [jI 0])) ∧ h.2 (w.ad 2) = some (.inl (18, [jI 1])) ∧ h.2 (w.ad 3) = some (.inl (19, [jI 2])) ∧ h.2 (w.ad 4) = some (.inl (20, [jI 3])) ∧ h.2 (w.ad 5) = some (.inr (4, 0, fun _ => rf none)) ∧ ∀ i : Nat, i < 6 → w.ad i < w.z0
def Rel (w : Wd) (h : Hp) (H : Heap) : Prop :=
  h.1 = H.size ∧ w.z0 ≤ H.size ∧ ((∀ q : Nat, q < w.z0 → H[q]? = w.hz[q]?) ∧ Cst w h) ∧
  ∀ (a : Nat) (c : Cel), h.2 a = some c → (∃ cell : Cell, H[a]? = some cell ∧ cAt w c cell ∧ (w.z0 ≤ a → cell.monitor = {})) ∧ (cOld c = false → w.z0 ≤ a)
/-- all that was known stays known -/
def Ext (h h' : Hp) : Prop := h.1 ≤ h'.1 ∧ ∀ (a : Nat) (c : Cel), h.2 a = some c → h'.2 a = some c
/-- ... but at the places S -/
def Upd (h h' : Hp) (S : List Nat) : Prop := h.1 ≤ h'.1 ∧ ∀ (a : Nat) (c : Cel), h.2 a = some c → a ∉ S → h'.2 a = some c
/-- words that don't ride in the lists -/
def nbWord : Cond → Bool
  | .fieldLinkNest _ _ _ _ _ _ => true
  | .methodLinkNest _ _ _ _ => true
  | .declares _ => true
  | .castable _ _ => true
  | .publicMethod _ => true
  | .unhidden _ _ _ => true
  | _ => false
def ClsOk (w : Wd) (s : State) : Prop := ∀ (ci : Nat) (r : vw_C), clAll[ci]? = some r → ClassAt s r.1 (w.dC ci) ∧
  (∀ k : Nat, k < r.2.2 → ∃ cf kf fi fd, s.fieldFound? (r.2.1 k).1 (r.2.1 k).2.1 (r.2.1 k).2.2.1 = some (cf, kf, fi, fd) ∧ fd.slot = w.dI ci k ∧ fd.isStatic = false) ∧
  (∀ j k : Nat, j < r.2.2 → k < r.2.2 → j ≠ k → w.dI ci j ≠ w.dI ci k)
def ArrOk (w : Wd) (s : State) : Prop := ∀ (kd : Nat) (ty : FieldType), aTys[kd]? = some ty → ∃ (kA : Class) (comp : ClassId), s.vm.classes[w.aC kd]? = some kA ∧ kA.kind = .array comp ty ∧ s.vm.findClass ("[" ++ ty.toString) = some (w.aC kd) ∧ (∀ C : String, ty = .object C → s.vm.findClass C = some comp) ∧ (∀ t : FieldType, ty = .array t → s.vm.findClass (FieldType.array t).toString = some comp)
/-- the interface calls: the receiver's class, the method named, the method run -/
def fwAll : List (String × MethodName × MethodName) := [("java/util/ArrayList", ⟨"java/util/List", "size", "()I"⟩, ⟨"java/util/ArrayList", "size", "()I"⟩), ("java/util/ArrayList", ⟨"java/util/List", "get", "(I)Ljava/lang/Object;"⟩, ⟨"java/util/ArrayList", "get", "(I)Ljava/lang/Object;"⟩), ("java/util/ArrayList", ⟨"java/util/List", "add", "(Ljava/lang/Object;)Z"⟩, ⟨"java/util/ArrayList", "add", "(Ljava/lang/Object;)Z"⟩), ("java/util/ArrayList", ⟨"java/util/List", "isEmpty", "()Z"⟩, ⟨"java/util/ArrayList", "isEmpty", "()Z"⟩), ("java/util/ArrayList", ⟨"java/util/List", "set", "(ILjava/lang/Object;)Ljava/lang/Object;"⟩, ⟨"java/util/ArrayList", "set", "(ILjava/lang/Object;)Ljava/lang/Object;"⟩), ("java/util/ArrayList$Itr", ⟨"java/util/Iterator", "hasNext", "()Z"⟩, ⟨"java/util/ArrayList$Itr", "hasNext", "()Z"⟩), ("java/util/ArrayList$Itr", ⟨"java/util/Iterator", "next", "()Ljava/lang/Object;"⟩, ⟨"java/util/ArrayList$Itr", "next", "()Ljava/lang/Object;"⟩)]
/-- statics of references: class, name, descriptor, number of the constant -/
def stAll : List (String × String × String × Nat) := [("java/util/Optional", "EMPTY", "Ljava/util/Optional;", 0), ("Haltingale$Kind", "STOP", "LHaltingale$Kind;", 1), ("Haltingale$Kind", "CYCLE", "LHaltingale$Kind;", 2), ("Haltingale$Kind", "BACK", "LHaltingale$Kind;", 3), ("Haltingale$Kind", "GRAM", "LHaltingale$Kind;", 4), ("java/util/ArrayList", "DEFAULTCAPACITY_EMPTY_ELEMENTDATA", "[Ljava/lang/Object;", 5)]
/-- the calls that land in an interface's default: the entry of Haltingale's, the class -/
def dfAll : List (Nat × String) := [(191, "Haltingale$Machine"), (399, "Haltingale$Tag")]
/-- the exceptions that a handler ahead doesn't take -/
def ncAll : List (String × String) := [("java/lang/IllegalStateException", "java/lang/IllegalArgumentException"), ("java/lang/IllegalArgumentException", "java/lang/IndexOutOfBoundsException"), ("java/lang/IllegalStateException", "java/lang/IndexOutOfBoundsException")]
def dfOk (s : State) : Prop := (∀ d ∈ dfAll, (Cond.methodLink "Haltingale" d.1 ⟨d.2, "count", "()I"⟩).before #[] s = true ∧ (Cond.sameMethod d.2 "Haltingale$Counted" "count" "()I").before #[] s = true ∧ (Cond.landsInDefault d.2 ⟨d.2, "count", "()I"⟩ ⟨"Haltingale$Counted", "count", "()I"⟩).before #[] s = true) ∧ ∀ c ∈ ncAll, va_Nc c.1 c.2 s
def vOld (w : Wd) : Nat → Prop := fun q => w.z0 ≤ q
def Wok (w : Wd) (s : State) : Prop := ClsOk w s ∧ ArrOk w s ∧ (∀ c ∈ lw_tbl, nbWord c = true → va_Nw c s) ∧ (∀ f ∈ fwAll, va_Fw f.1 f.2.1 f.2.2 s) ∧
  (∀ f ∈ stAll, va_Z f.1 f.2.1 f.2.2.1 (.ref (w.ad f.2.2.2)) (vOld w) s w.hz) ∧ va_Z "java/lang/Math" "negativeZeroDoubleBits" "J" (.long (-9223372036854775808)) (vOld w) s w.hz ∧
  vx_Zq Bundle.tN "UNASSIGNED_STACK" Bundle.steD (vOld w) s w.hz ∧ vx_Zq Bundle.tN "SUPPRESSED_SENTINEL" Bundle.listD (vOld w) s w.hz ∧ va_AO "java/lang/Object" s ∧ (Cond.arrayOver (.array .int)).before #[] s = true ∧ (Cond.arrayOver (.array .boolean)).before #[] s = true ∧ va_Mi "[Ljava/lang/Object;" (w.ad 6) s ∧ dfOk s
/-- a method's own circumstances -/
abbrev KT : Type := Program × Launch × Env × Room × State × MethodId × Array Value × List Frame × Method × Code × (State → Prop)
abbrev KT.p (K : KT) : Program := K.1
abbrev KT.l (K : KT) : Launch := K.2.1
abbrev KT.e (K : KT) : Env := K.2.2.1
abbrev KT.R (K : KT) : Room := K.2.2.2.1
abbrev KT.s (K : KT) : State := K.2.2.2.2.1
abbrev KT.m (K : KT) : MethodId := K.2.2.2.2.2.1
abbrev KT.args (K : KT) : Array Value := K.2.2.2.2.2.2.1
abbrev KT.below (K : KT) : List Frame := K.2.2.2.2.2.2.2.1
abbrev KT.meth (K : KT) : Method := K.2.2.2.2.2.2.2.2.1
abbrev KT.c (K : KT) : Code := K.2.2.2.2.2.2.2.2.2.1
abbrev KT.Q (K : KT) : State → Prop := K.2.2.2.2.2.2.2.2.2.2
/-- the locals by their places -/
def lHas (ls : Array Slot) (L : List (Option Value)) : Prop := ∃ lv, lv_has ls L.length lv ∧ ∀ (i : Nat) (v : Value), L[i]? = some (some v) → (i, v) ∈ lv
def Lk (w : Wd) (K : KT) (H : Heap) (locs : List Loc) : Prop := K.s.heap.size ≤ H.size ∧ ∀ q ∈ locs, w.z0 ≤ q.base
/-- THE JUDGEMENT: from the frame at pc, with locals L, stack st, heap h, n cells and k slots made so far, the method comes to its end -/
def Wk (w : Wd) (K : KT) (h : Hp) (n k pc : Nat) (L : List (Option Value)) (st : List Value) : Prop :=
  ∀ (H : Heap) (locs : List Loc) (ls : Array Slot), Rel w h H → Lk w K H locs → lHas ls L → W K.p K.l K.e K.R K.s K.m K.args K.below K.meth K.c H locs n k K.Q (F0 K.m pc ls st)
/-- the same with an exception of class E over the frame -/
def Wx (w : Wd) (K : KT) (h : Hp) (n k pc : Nat) (L : List (Option Value)) (st : List Value) (E : String) : Prop :=
  ∀ (H : Heap) (locs : List Loc) (ls : Array Slot) (q : Nat) (ce : Cell), Rel w h H → Lk w K H locs → lHas ls L → H[q]? = some ce → ce.vm = .none → K.s.vm.findClass E = some ce.cls → vx_W K.p K.l K.e K.R K.s K.m K.args K.below K.meth K.c H locs n k K.Q (F0 K.m pc ls st) q
def Fr (w : Wd) : Addr → Prop := fun q => w.z0 ≤ q
def Qp (w : Wd) (Post : Option Value → Hp → Prop) : Array Value → State → Outcome → State → Prop := fun _ _ oc t => ∃ (v : Option Value) (h' : Hp), oc = .returned v ∧ Rel w h' t.heap ∧ Post v h'
def Xp (w : Wd) (PostX : String → Hp → Prop) : String → State → State → Prop := fun E _ t => ∃ h' : Hp, Rel w h' t.heap ∧ PostX E h'
/-- what is fixed all through a method's body -/
def Cx (w : Wd) (K : KT) (own : String) (cc : ByteArray) (nL : Nat) (ret : Option FieldType) (nm : String) (fr lo mc ms : Nat) : Prop :=
  K.p.tables.exec = Jvm.exec ∧ K.c.code = cc ∧ K.c.maxLocals = nL ∧ K.s.vm.findClass own = some K.m.cls ∧ (∀ c ∈ lw_all, c.before K.args K.s = true) ∧ K.meth.sig.returnType = ret ∧ K.meth.locks = false ∧
  K.R = ({ frames := fr, cells := mc, slots := ms, locals := lo } : Room) ∧ K.l.stackTraces = false ∧ Wok w K.s ∧ (∀ q : Nat, q < w.z0 → K.s.heap[q]? = w.hz[q]?) ∧ w.z0 ≤ K.s.heap.size ∧ K.meth.name = nm
/-- what the body owes at its end -/
def En (w : Wd) (K : KT) (Post : Option Value → Hp → Prop) (PostX : String → Hp → Prop) (mc ms : Nat) : Prop := K.Q = vx_MQ K.below (Qp w Post) (Xp w PostX) K.args K.s mc ms (Fr w)
/-- a contract -/
def Ct (w : Wd) (y : MethodName) (ws : List Cond) (fr lo mc ms : Nat) (A : List Value) (h : Hp) (Post : Option Value → Hp → Prop) (PostX : String → Hp → Prop) : Prop :=
  ∀ l : Launch, l.stackTraces = false → vx_Met l y ws ({ frames := fr, cells := mc, slots := ms, locals := lo } : Room) (fun v U => v = A.toArray ∧ Rel w h U.heap ∧ Wok w U) (Qp w Post) (Xp w PostX) mc ms (Fr w)
abbrev NoX : String → Hp → Prop := fun _ _ => False
/-! ### first laws -/
theorem Ext.refl (h : Hp) : Ext h h := ⟨Nat.le_refl _, fun _ _ q => q⟩
theorem Ext.trans {a b c : Hp} (h1 : Ext a b) (h2 : Ext b c) : Ext a c := ⟨Nat.le_trans h1.1 h2.1, fun x y q => h2.2 x y (h1.2 x y q)⟩
theorem Ext.upd {a b : Hp} (h1 : Ext a b) (S : List Nat) : Upd a b S := ⟨h1.1, fun x y q _ => h1.2 x y q⟩
theorem Upd.ext {a b : Hp} (h1 : Upd a b []) : Ext a b := ⟨h1.1, fun x y q => h1.2 x y q List.not_mem_nil⟩
theorem Upd.trans {a b c : Hp} {S T : List Nat} (h1 : Upd a b S) (h2 : Upd b c T) (h : ∀ x ∈ T, x ∈ S ∨ a.2 x = none) : Upd a c S := by
  refine ⟨Nat.le_trans h1.1 h2.1, fun x y q hx => h2.2 x y (h1.2 x y q hx) (fun ht => ?_)⟩
  rcases h x ht with e | e
  · exact hx e
  · rw [e] at q; cases q
theorem Rel.lt {w : Wd} {h : Hp} {H : Heap} (R : Rel w h H) {a : Nat} {c : Cel} (e : h.2 a = some c) : a < h.1 := by
  obtain ⟨⟨cell, h1, -⟩, -⟩ := R.2.2.2 a c e
  rw [R.1]
  exact (Array.getElem?_eq_some_iff.mp h1).1
theorem cOld_of {w : Wd} {h : Hp} {H : Heap} (R : Rel w h H) {a : Nat} {c : Cel} (e : h.2 a = some c) (hc : cOld c = false) : w.z0 ≤ a := (R.2.2.2 a c e).2 hc
theorem Cst.keep {w : Wd} {h h' : Hp} (h5 : Cst w h) (hk : ∀ q : Nat, q < w.z0 → h'.2 q = h.2 q) : Cst w h' := by
  obtain ⟨e0, e1, e2, e3, e4, e5, e6⟩ := h5
  exact ⟨(hk _ (e6 0 (by omega))).trans e0, (hk _ (e6 1 (by omega))).trans e1, (hk _ (e6 2 (by omega))).trans e2, (hk _ (e6 3 (by omega))).trans e3, (hk _ (e6 4 (by omega))).trans e4, (hk _ (e6 5 (by omega))).trans e5, e6⟩
/-- the heap with a new cell -/
def hN (h : Hp) (c : Cel) : Hp := (h.1 + 1, fun q => if q = h.1 then some c else h.2 q)
/-- the heap with a cell put anew -/
def hU (h : Hp) (a : Nat) (c : Cel) : Hp := (h.1, fun q => if q = a then some c else h.2 q)
theorem Rel.grow {w : Wd} {h : Hp} {H H' : Heap} (R : Rel w h H) (hz : H.size ≤ H'.size) (hk : ∀ q : Nat, q < H.size → H'[q]? = H[q]?) : Rel w (H'.size, h.2) H' := by
  obtain ⟨h1, h2, ⟨h3, h5⟩, h4⟩ := R
  refine ⟨rfl, Nat.le_trans h2 hz, ⟨fun q hq => (hk q (Nat.lt_of_lt_of_le hq h2)).trans (h3 q hq), h5⟩, fun a c e => ?_⟩
  obtain ⟨⟨cell, q1, q2⟩, q3⟩ := h4 a c e
  exact ⟨⟨cell, (hk a (Array.getElem?_eq_some_iff.mp q1).1).trans q1, q2⟩, q3⟩
theorem Rel.new {w : Wd} {h : Hp} {H H' : Heap} {c : Cel} {cell : Cell} (R : Rel w h H) (e : H'[h.1]? = some cell) (hz : H'.size = h.1 + 1) (hk : ∀ q : Nat, q < h.1 → H'[q]? = H[q]?) (hc : cAt w c cell) (hm : cell.monitor = {}) : Rel w (hN h c) H' := by
  obtain ⟨h1, h2, ⟨h3, h5⟩, h4⟩ := R
  refine ⟨hz.symm, by rw [hz, h1]; omega, ⟨fun q hq => (hk q (by omega)).trans (h3 q hq), h5.keep (fun q hq => if_neg (show ¬ q = h.1 by omega))⟩, fun a d ed => ?_⟩
  by_cases ha : a = h.1
  · subst ha
    have e2 : some c = some d := by simpa [hN] using ed
    cases e2
    exact ⟨⟨cell, e, hc, fun _ => hm⟩, fun _ => by omega⟩
  · have e2 : h.2 a = some d := by simpa [hN, ha] using ed
    obtain ⟨⟨cl, q1, q2⟩, q3⟩ := h4 a d e2
    exact ⟨⟨cl, (hk a (by rw [h1]; exact (Array.getElem?_eq_some_iff.mp q1).1)).trans q1, q2⟩, q3⟩
theorem Rel.put {w : Wd} {h : Hp} {H H' : Heap} {c : Cel} {cell : Cell} {a : Nat} (R : Rel w h H) (ha : w.z0 ≤ a) (e : H'[a]? = some cell) (hz : H'.size = H.size) (hk : ∀ q : Nat, q ≠ a → H'[q]? = H[q]?) (hc : cAt w c cell) (hm : cell.monitor = {}) : Rel w (hU h a c) H' := by
  obtain ⟨h1, h2, ⟨h3, h5⟩, h4⟩ := R
  refine ⟨h1.trans hz.symm, by rw [hz]; exact h2, ⟨fun q hq => (hk q (by omega)).trans (h3 q hq), h5.keep (fun q hq => if_neg (show ¬ q = a by omega))⟩, fun b d ed => ?_⟩
  by_cases hb : b = a
  · subst hb
    have e2 : some c = some d := by simpa [hU] using ed
    cases e2
    exact ⟨⟨cell, e, hc, fun _ => hm⟩, fun _ => ha⟩
  · have e2 : h.2 b = some d := by simpa [hU, hb] using ed
    obtain ⟨⟨cl, q1, q2⟩, q3⟩ := h4 b d e2
    exact ⟨⟨cl, (hk b hb).trans q1, q2⟩, q3⟩
theorem Wk.eqh {w : Wd} {K : KT} {h h' : Hp} {n k pc : Nat} {L : List (Option Value)} {st : List Value} (e : h = h') (kk : Wk w K h' n k pc L st) : Wk w K h n k pc L st := e ▸ kk
/-- what is known lies in the heap -/
theorem Wk.wf {w : Wd} {K : KT} {h : Hp} {n k pc : Nat} {L : List (Option Value)} {st : List Value} (kk : (∀ (a : Nat) (c : Cel), h.2 a = some c → a < h.1) → (∀ (a : Nat) (c : Cel), h.2 a = some c → cOld c = false → w.z0 ≤ a) → w.z0 ≤ h.1 → Cst w h → Wk w K h n k pc L st) : Wk w K h n k pc L st :=
  fun H locs ls R => kk (fun a c e => R.lt e) (fun a c e hc => cOld_of R e hc) (by rw [R.1]; exact R.2.1) R.2.2.1.2 H locs ls R
theorem Wk.widen {w : Wd} {K : KT} {h : Hp} {n k n' k' pc : Nat} {L : List (Option Value)} {st : List Value} (h1 : n ≤ n') (h2 : k ≤ k') (kk : Wk w K h n' k' pc L st) : Wk w K h n k pc L st :=
  fun H locs ls R hl hL => W.widen h1 h2 (kk H locs ls R hl hL)
/-- fewer locals known -/
def Lle : List (Option Value) → List (Option Value) → Prop
  | [], [] => True
  | none :: a, _ :: b => Lle a b
  | some x :: a, y :: b => y = some x ∧ Lle a b
  | _, _ => False
theorem Lle.len : ∀ {a b : List (Option Value)}, Lle a b → a.length = b.length
  | [], [], _ => rfl
  | none :: a, _ :: b, h => congrArg (· + 1) (Lle.len (a := a) (b := b) h)
  | some _ :: a, _ :: b, h => congrArg (· + 1) (Lle.len (a := a) (b := b) h.2)
  | [], _ :: _, h => h.elim
  | none :: _, [], h => h.elim
  | some _ :: _, [], h => h.elim
theorem Lle.get : ∀ {a b : List (Option Value)}, Lle a b → ∀ (i : Nat) (v : Value), a[i]? = some (some v) → b[i]? = some (some v)
  | [], [], _, i, v, e => by simp at e
  | none :: a, y :: b, h, 0, v, e => by simp at e
  | none :: a, y :: b, h, i + 1, v, e => by
    have h' : Lle a b := h
    simpa using Lle.get h' i v (by simpa using e)
  | some x :: a, y :: b, h, 0, v, e => by
    have e1 : x = v := by simpa using e
    rw [h.1, e1]; rfl
  | some x :: a, y :: b, h, i + 1, v, e => by simpa using Lle.get h.2 i v (by simpa using e)
  | [], _ :: _, h, _, _, _ => h.elim
  | none :: _, [], h, _, _, _ => h.elim
  | some _ :: _, [], h, _, _, _ => h.elim
theorem Wk.sub {w : Wd} {K : KT} {h : Hp} {n k pc : Nat} {L L' : List (Option Value)} {st : List Value} (hs : Lle L' L) (kk : Wk w K h n k pc L' st) : Wk w K h n k pc L st := by
  intro H locs ls R hl ⟨lv, h1, h2⟩
  exact kk H locs ls R hl ⟨lv, by rw [hs.len]; exact h1, fun i v e => h2 i v (hs.get i v e)⟩
theorem lHas.at {ls : Array Slot} {L : List (Option Value)} (h : lHas ls L) {i : Nat} {v : Value} (e : L[i]? = some (some v)) : ls[i]? = some (.val v) := by
  obtain ⟨lv, h1, h2⟩ := h
  exact h1.2.2 (i, v) (h2 i v e)
theorem lHas.size {ls : Array Slot} {L : List (Option Value)} (h : lHas ls L) : ls.size = L.length := by
  obtain ⟨lv, h1, h2⟩ := h
  exact h1.1
/-- the place ahead holds no long and no double -/
def lOne (L : List (Option Value)) (i : Nat) : Bool := match i with
  | 0 => true
  | j + 1 => match L[j]? with
    | some (some v) => !(v.category == 2)
    | _ => true
theorem lHas.set1 {L : List (Option Value)} {i : Nat} {v : Value} {lv : List (Nat × Value)} (h2 : ∀ (i : Nat) (v : Value), L[i]? = some (some v) → (i, v) ∈ lv) (ho : lOne L i = true) :
    ∀ (j : Nat) (u : Value), (L.set i (some v))[j]? = some (some u) → (j, u) ∈ (i, v) :: lv.filter (fun q => !(q.1 == i) && !(q.1 + 1 == i && q.2.category == 2)) := by
  intro j u e
  by_cases hj : i = j
  · subst hj
    rw [List.getElem?_set] at e
    by_cases hl : i < L.length
    · simp [hl] at e; subst e; exact List.mem_cons_self
    · simp [hl] at e
  · rw [List.getElem?_set, if_neg hj] at e
    refine List.mem_cons_of_mem _ (List.mem_filter.mpr ⟨h2 j u e, ?_⟩)
    have h3 : (j == i) = false := by simpa using fun q => hj q.symm
    simp only [h3, Bool.not_false, Bool.true_and]
    by_cases h4 : j + 1 = i
    · subst h4
      simp only [lOne, e] at ho
      simpa using ho
    · simp [h4]
theorem lHas.set2 {L : List (Option Value)} {i : Nat} {v : Value} {lv : List (Nat × Value)} (h2 : ∀ (i : Nat) (v : Value), L[i]? = some (some v) → (i, v) ∈ lv) (ho : lOne L i = true) :
    ∀ (j : Nat) (u : Value), ((L.set i (some v)).set (i + 1) none)[j]? = some (some u) → (j, u) ∈ (i, v) :: lv.filter (fun q => !(q.1 == i) && (!(q.1 == i + 1) && !(q.1 + 1 == i && q.2.category == 2))) := by
  intro j u e
  rw [List.getElem?_set] at e
  by_cases hj1 : i + 1 = j
  · subst hj1
    by_cases hl : i + 1 < (L.set i (some v)).length
    · simp [hl] at e
    · simp [hl] at e
  · rw [if_neg hj1] at e
    by_cases hj : i = j
    · subst hj
      rw [List.getElem?_set] at e
      by_cases hl : i < L.length
      · simp [hl] at e; subst e; exact List.mem_cons_self
      · simp [hl] at e
    · rw [List.getElem?_set, if_neg hj] at e
      refine List.mem_cons_of_mem _ (List.mem_filter.mpr ⟨h2 j u e, ?_⟩)
      have h3 : (j == i) = false := by simpa using fun q => hj q.symm
      have h3' : (j == i + 1) = false := by simpa using fun q => hj1 q.symm
      simp only [h3, h3', Bool.not_false, Bool.true_and]
      by_cases h4 : j + 1 = i
      · subst h4
        simp only [lOne, e] at ho
        simpa using ho
      · simp [h4]
/-! ### ints -/
theorem oi_add (a b : Int) : Int32.ofInt a + Int32.ofInt b = Int32.ofInt (a + b) := (Int32.ofInt_add a b).symm
theorem oi_sub (a b : Int) : Int32.ofInt a - Int32.ofInt b = Int32.ofInt (a - b) := (Int32.ofInt_sub a b).symm
theorem oi_mul (a b : Int) : Int32.ofInt a * Int32.ofInt b = Int32.ofInt (a * b) := (Int32.ofInt_mul a b).symm
theorem oi_neg (a : Int) : -Int32.ofInt a = Int32.ofInt (-a) := (Int32.ofInt_neg a).symm
theorem oi_toInt {a : Int} (h1 : -2147483648 ≤ a) (h2 : a < 2147483648) : (Int32.ofInt a).toInt = a := Int32.toInt_ofInt_of_le (by simpa using h1) (by simpa using h2)
theorem oi_self (x : Int32) : Int32.ofInt x.toInt = x := Int32.ofInt_toInt x
theorem oi_eq {a b : Int} (h : -2147483648 ≤ a ∧ a < 2147483648 ∧ -2147483648 ≤ b ∧ b < 2147483648) : Int32.ofInt a = Int32.ofInt b ↔ a = b := by
  rw [← Int32.toInt_inj, oi_toInt h.1 h.2.1, oi_toInt h.2.2.1 h.2.2.2]
theorem oi_lt {a b : Int} (h : -2147483648 ≤ a ∧ a < 2147483648 ∧ -2147483648 ≤ b ∧ b < 2147483648) : Int32.ofInt a < Int32.ofInt b ↔ a < b := by
  rw [Int32.lt_iff_toInt_lt, oi_toInt h.1 h.2.1, oi_toInt h.2.2.1 h.2.2.2]
theorem oi_le {a b : Int} (h : -2147483648 ≤ a ∧ a < 2147483648 ∧ -2147483648 ≤ b ∧ b < 2147483648) : Int32.ofInt a ≤ Int32.ofInt b ↔ a ≤ b := by
  rw [Int32.le_iff_toInt_le, oi_toInt h.1 h.2.1, oi_toInt h.2.2.1 h.2.2.2]
theorem oi_clamp {a : Int} (h1 : 0 ≤ a) (h2 : a < 2147483648) : (Int32.ofInt a).toNatClampNeg = a.toNat := by
  show (Int32.ofInt a).toInt.toNat = a.toNat
  rw [oi_toInt (by omega) h2]
theorem oi_in {a : Int} {n : Nat} (h1 : 0 ≤ a) (h2 : a < n) (h3 : n < 2147483648) : ¬ (Int32.ofInt a < 0 ∨ n ≤ (Int32.ofInt a).toNatClampNeg) := by
  have e0 : (0 : Int32) = Int32.ofInt 0 := rfl
  rw [e0, oi_lt (by omega), oi_clamp h1 (by omega)]
  omega
