/-! ===== methods of classes of which it isn't said that they are initialised (the bodies of the enum's constants): a call of an object's method needs no such word ===== -/
set_option maxRecDepth 100000
/-- a callee that returns or throws, whatever its class's state -/
def vc_Met (l : Launch) (y : MethodName) (ws : List Cond) (rm : Room) (Pc : Array Value → State → Prop) (Qc : Array Value → State → Outcome → State → Prop) (XC : String → State → State → Prop) (mc ms : Nat) (free : Addr → Prop) : Prop :=
  ∀ (p : Program) (e : Env), l.admits e → FairCas e.choices → FairClock e.choices → ∀ (s : State) (m : MethodId) (args : Array Value) (below : List Frame), s.frames = .invoking m args :: below →
    (s.status = .running ∧ s.curStatus? = some .runnable ∧ s.alone = true ∧ s.methodNamed? y = some m ∧ s.hears m below = true ∧ s.hasRoom e.platform (headSpec ws rm).room = true ∧ (headSpec ws rm).pre.before args s = true) → Pc args s →
    ∃ n o, (∀ k, k < n → Within (stepsAlone p.tables e k s) below) ∧ (stepsAlone p.tables e n s).status = .running ∧ Ended (stepsAlone p.tables e n s) below o ∧ vx_Q Qc XC mc ms free args s o (stepsAlone p.tables e n s)
section VC
variable {l : Launch} {R : Room} {p : Program} {e : Env} {below : List Frame} {s : State} {sargs : Array Value} {y : MethodName} {len W9 : Nat}
theorem vc_ofW {ws ws' : List Cond} {rm : Room} {Pc : Array Value → State → Prop} {Qc : Array Value → State → Outcome → State → Prop} {XC : String → State → State → Prop} {mc ms : Nat} {free : Addr → Prop} {cc : ByteArray} {maxL : Nat} {ret : Option FieldType}
    (hy : plainName y.cls = true) (hw : ws = Cond.code y cc maxL ret :: ws')
    (body : ∀ (p : Program) (e : Env) (s : State) (m : MethodId) (args : Array Value) (below : List Frame) (meth : Method) (c : Code), p.tables.exec = Jvm.exec → c.code = cc → c.maxLocals = maxL → s.methodNamed? y = some m → s.vm.method? m = some meth → (∀ w ∈ ws, w.before args s = true) → meth.sig.returnType = ret → meth.locks = false → (∀ x ∈ c.exceptionTable.toList, False) → Pc args s →
      W p l e (headSpec ws rm).room s m args below meth c s.heap [] 0 0 (vx_MQ below Qc XC args s mc ms free) (entryFrame m args maxL)) : vc_Met l y ws rm Pc Qc XC mc ms free := by
  intro p e ha hc hk s m args below hf ⟨hrun, hable, halone, hname, hhears, hroom, hpre⟩ hP
  have hws := atoms_spec (ws := ws) hpre
  obtain ⟨meth, c, hmeth, hcode, hbytes, hlocals, hret, hlocks, htab, -⟩ := Cond.code_spec hname (hws _ (by rw [hw]; exact List.mem_cons_self))
  have hcur := State.cur_lt_of_frames hf
  have hf1 : (s.setFrames (.java (entryFrame m args maxL) :: below)).frames = .java (entryFrame m args maxL) :: below := State.frames_setFrames _ hcur
  have ht1 := State.topJava?_of_frames hf1
  have hplain : (s.setFrames (.java (entryFrame m args maxL) :: below)).plainMethod m := State.plainMethod.of_named (s := s) (plainFor_of_name hy) hname hmeth
  have hAt : At (s.setFrames (.java (entryFrame m args maxL) :: below)) m c below :=
    ⟨by rw [ht1]; rfl, ⟨[], by rw [hf1]; rfl⟩, hrun, by simpa using hable, by simpa using halone, by rw [State.code?_eq]; simp [State.setFrames, hmeth, hcode], hplain⟩
  have hstep : (stepThread p.tables e s).1 = (s.setFrames (.java (entryFrame m args maxL) :: below)).setTop (entryFrame m args maxL) := by
    have hfull : e.platform.stackFull (s.setFrames below).me (s.setFrames below).frames c.maxLocals = false := by
      obtain ⟨-, h1, -, h2⟩ := State.hasRoom_stack hroom
      rw [hf, List.length_cons] at h1
      rw [State.localsInUse_invoking hf hmeth hcode] at h2
      have hw := stackUse_le_stackWeight below
      rw [State.frames_setFrames _ hcur]
      exact Platform.stackFull_eq_false (by rw [State.stackLimits_setFrames]; omega) (by rw [State.stackLimits_setFrames]; omega)
    rw [stepThread_invoking hf, (doInvoke_java (s := s.setFrames below) (e := e) (meth := meth) (code := c) hmeth hcode hlocks hfull).1, State.setTop_self ht1]
    simp only [State.pushFrame, State.frames_setFrames _ hcur, State.setFrames_setFrames, hlocals, entryFrame]
  have ht : ∀ x ∈ c.exceptionTable.toList, False := by
    intro x hx
    rw [Array.isEmpty_iff.mp htab] at hx
    cases hx
  obtain ⟨t0, ht0, -⟩ := State.frames_cons hf
  have hStand : Stand p l e (headSpec ws rm).room s m args below meth c (s.setFrames (.java (entryFrame m args maxL) :: below)) [] 0 0 :=
    ⟨ha, hc, hk, hf, hroom, hhears, hmeth, hcode, hAt, by rw [hf1]; rfl, State.WarmedH.refl s, State.stackLimits_setFrames .., State.stackBytes_setFrames .., (State.sameButNew.refl s ht0).setFrames (.java (entryFrame m args maxL) :: below) hcur⟩
  obtain ⟨t, a1, o, b1, b2, b3⟩ := body p e s m args below meth c (by cases p <;> rfl) hbytes hlocals hname hmeth hws hret hlocks ht hP (s.setFrames (.java (entryFrame m args maxL) :: below)) rfl hStand
  obtain ⟨n, hn, hw⟩ := Steps.head (tb := p.tables) (e := e) ⟨hrun, hable, halone⟩ ⟨[.invoking m args], hf, by simp, by simp⟩ (hstep ▸ a1)
  exact ⟨n, o, hw, hn ▸ b1, hn ▸ b2, hn ▸ b3⟩
theorem vc_back {ws : List Cond} {rm : Room} {Pc : Array Value → State → Prop} {Qc : Array Value → State → Outcome → State → Prop} {XC : String → State → State → Prop} {mc ms : Nat} {free : Addr → Prop} {bytes : ByteArray} {maxL : Nat} {ret : Option FieldType}
    (hM : vc_Met l y ws rm Pc Qc XC mc ms free) (hblind : FrameBlind Pc) (hrc : rm.cells = mc) (hrs : rm.slots = ms)
    (hframes : rm.frames + 1 ≤ R.frames) (hlocals : W9 + (maxL + 11) + rm.locals ≤ R.locals)
    (hws : ∀ w ∈ ws, ∀ a' U, s.WarmedH U.vm → w.before a' U = true) (hcode : Cond.code y bytes maxL ret ∈ ws) :
    vx_Back l R p e below s sargs y len W9 (PreOf R mc ms Pc) (PostOf Qc mc ms free) (vx_Post XC mc ms free) := by
  intro m meth c A g ig mk a X hg hsize hdg hW hn hp
  have h1 : (headSpec ws rm).pre.before a A.U = true := atoms_intro fun w hw => hws w hw _ _ X.warmed
  have h2 : (Cond.code y bytes maxL ret).before a A.U = true := hws _ hcode _ _ X.warmed
  have h4 : A.cells + (headSpec ws rm).room.cells ≤ R.cells := by rw [show (headSpec ws rm).room.cells = mc from hrc]; exact hp.1
  have h5 : A.slots + (headSpec ws rm).room.slots ≤ R.slots := by rw [show (headSpec ws rm).room.slots = ms from hrs]; exact hp.2.1
  have hPc : Pc a (A.U.calling g mk a) := hblind _ _ _ _ hp.2.2
  obtain ⟨U, Ls, c0, s0⟩ := A
  dsimp only [Pt.U, Pt.locs, Pt.cells, Pt.slots] at h1 h2 h4 h5 X hn hPc ⊢
  obtain ⟨methY, cY, hmY, hcY, -, hlY, -, -, -, -⟩ := Cond.code_spec hn h2
  have h : At U g.method c below := by rw [hg]; exact X.here
  have hlocals9 : W9 + (maxL + 11) + (headSpec ws rm).room.locals ≤ R.locals := hlocals
  have hroom : (U.calling g mk a).hasRoom e.platform (headSpec ws rm).room = true := X.room_calling (g := g) (R' := (headSpec ws rm).room) hsize hmY hcY hframes (by rw [hlY]; omega) h4 h5
  have hcd : (U.calling g mk a).code? g.method = some c := by
    have := h.code
    rw [State.code?_eq] at this ⊢
    simpa [State.calling, State.pushFrame, State.setFrames] using this
  have hfc : (U.calling g mk a).frames = .invoking mk a :: (U.setTop g).frames := by rw [State.frames_calling h.top g mk a, State.frames_setTop' g h.top]
  have hrun : (U.calling g mk a).status = .running := h.running
  have hable : (U.calling g mk a).curStatus? = some .runnable := by simpa [State.calling] using h.runnable
  have halone : (U.calling g mk a).alone = true := by simpa [State.calling] using h.alone
  have hhears : (U.calling g mk a).hears mk (U.setTop g).frames = true := by rw [State.frames_setTop' g h.top]; simp [State.hears, hcd, hdg, Except.toOption]
  have hpre : (headSpec ws rm).pre.before a (U.calling g mk a) = true := by rw [State.calling_eq h.top, Cond.before_setFrames]; exact h1
  have hgo : (U.calling g mk a).goesOn := ⟨hrun, hable, halone⟩
  obtain ⟨mid, hmid⟩ := h.above
  have hfr : (U.setTop g).frames = (.java g :: mid) ++ below := by rw [State.frames_setTop' g h.top, hmid]; rfl
  obtain ⟨t, ht, -⟩ := State.frames_cons hfr
  obtain ⟨n, o, hw, hr0, hend, hq⟩ := hM p e X.admits X.cas X.clock (U.calling g mk a) mk a (U.setTop g).frames hfc ⟨hrun, hable, halone, hn, hhears, hroom, hpre⟩ hPc
  have hstep : (stepThread p.tables e (U.calling g mk a)).1 = (doInvoke e (U.setTop g) [] mk a).1 := by
    rw [stepThread_invoking hfc, doInvoke_state e (U.setTop g) [], State.calling, State.pushFrame, State.setFrames_setFrames, State.setFrames_self ht]
  obtain ⟨s₂, hs2, hsteps⟩ : ∃ s₂, s₂ = stepsAlone p.tables e n (U.calling g mk a) ∧ Steps p.tables e below (doInvoke e (U.setTop g) [] mk a).1 s₂ := by
    cases n with
    | zero => exact absurd ⟨[.invoking mk a], hfc, by simp, by simp⟩ hend.not_within
    | succ k =>
      rw [stepsAlone_succ _ hgo, hstep]
      refine ⟨_, rfl, k, rfl, fun j hj => ?_⟩
      have := hw (j + 1) (by omega)
      rw [stepsAlone_succ _ hgo, hstep, hfr] at this
      exact this.weaken
  rw [← hs2] at hend hq
  have hq' : vx_Q Qc XC mc ms free a (U.calling g mk a) o s₂ := hq
  rw [State.frames_setTop' g h.top] at hend
  obtain ⟨g₀, hg0⟩ := Option.isSome_iff_exists.mp h.top
  obtain ⟨r, hr⟩ := State.topJava?_eq_some.mp hg0
  have hr' : (({ U with heap := s₂.heap, slotsUsed := s₂.slotsUsed } : State).setVm s₂.vm).frames = .java g₀ :: r := hr
  rcases hq' with ⟨hqc, L, hfe, hL⟩ | ⟨q, rfl, E, ce, L, hx, hce, hcv, hcl, hW₂, hsm, hL⟩
  · obtain ⟨⟨v, rfl⟩, hW₂, e2, q2, q3, q4, q5, q6⟩ := id hfe
    have e3 : s₂ = ({ (U.calling g mk a).setFrames s₂.frames with heap := s₂.heap, slotsUsed := s₂.slotsUsed } : State).setVm s₂.vm := by
      have : s₂ = ({ s₂ with vm := (U.calling g mk a).vm } : State).setVm s₂.vm := rfl
      rw [e2] at this
      exact this
    obtain ⟨c₂, i₂, len₂, hc₂, hd₂, hf₂⟩ := hend
    have hW' : U.WarmedH s₂.vm := hW₂
    have hcc : c₂ = c := by
      have h1 : s₂.code? g.method = U.code? g.method := by
        rw [State.code?_eq, State.code?_eq, hW'.alike.method?]
      exact Option.some.inj (hc₂.symm.trans (h1.trans h.code))
    subst hcc
    have hlen : len₂ = len := by rw [hdg] at hd₂; cases hd₂; rfl
    subst hlen
    have hs₂ : s₂ = (({ U with heap := s₂.heap, slotsUsed := s₂.slotsUsed } : State).setVm s₂.vm).setTop { g with pc := g.pc + len₂, stack := v.toList ++ g.stack } := by
      refine e3.trans ?_
      rw [hf₂, State.calling_eq h.top, State.setFrames_setFrames, State.setTop_of_frames _ hr', hr]
      rfl
    have hsame : U.sameButNew ({ U with heap := s₂.heap, slotsUsed := s₂.slotsUsed } : State) L mc ms := by
      refine ⟨?_, q2, q3, q4, q5, q6⟩
      obtain ⟨t, ht, -⟩ := State.frames_cons hr
      show ({ U with heap := s₂.heap, slotsUsed := s₂.slotsUsed } : State) = { U.setFrames U.frames with heap := s₂.heap, slotsUsed := s₂.slotsUsed }
      rw [State.setFrames_self ht]
    subst hg
    refine Or.inl ⟨v, ⟨(({ U with heap := s₂.heap, slotsUsed := s₂.slotsUsed } : State).setVm s₂.vm), Ls ++ L, c0 + mc, s0 + ms⟩,
      ⟨X.admits, X.cas, X.clock, X.frames, X.room, X.hears, X.method, X.code, (X.here.setHeapUsed s₂.heap s₂.slotsUsed).setVm hW'.alike, X.tail, State.WarmedH.trans X.warmed hW', X.limits, X.bytes, X.same.trans (hsame.setVm s.vm)⟩,
      ⟨g, mk, s₂, L, rfl, rfl, hqc, rfl, hL, rfl, rfl⟩, ?_⟩
    show Steps p.tables e below _ ((({ U with heap := s₂.heap, slotsUsed := s₂.slotsUsed } : State).setVm s₂.vm).setTop { g with pc := g.pc + len₂, stack := v.toList ++ g.stack })
    rw [← hs₂]
    exact hsteps
  · obtain ⟨e2, q2, q3, q4, q5, q6⟩ := id hsm
    have e3 : s₂ = ({ (U.calling g mk a).setFrames s₂.frames with heap := s₂.heap, slotsUsed := s₂.slotsUsed } : State).setVm s₂.vm := by
      have : s₂ = ({ s₂ with vm := (U.calling g mk a).vm } : State).setVm s₂.vm := rfl
      rw [e2] at this
      exact this
    have hf₂ : s₂.frames = .throwing q :: .java g :: U.frames.tail := hend
    have hW' : U.WarmedH s₂.vm := hW₂
    have hs₂ : s₂ = ((({ U with heap := s₂.heap, slotsUsed := s₂.slotsUsed } : State).setVm s₂.vm).setTop g).pushFrame (.throwing q) := by
      refine e3.trans ?_
      rw [hf₂, State.calling_eq h.top, State.setFrames_setFrames, State.pushFrame, State.frames_setTop _ hr', State.setTop_of_frames _ hr', State.setFrames_setFrames, hr]
      rfl
    have hsame : U.sameButNew ({ U with heap := s₂.heap, slotsUsed := s₂.slotsUsed } : State) L mc ms := by
      refine ⟨?_, q2, q3, q4, q5, q6⟩
      obtain ⟨t, ht, -⟩ := State.frames_cons hr
      show ({ U with heap := s₂.heap, slotsUsed := s₂.slotsUsed } : State) = { U.setFrames U.frames with heap := s₂.heap, slotsUsed := s₂.slotsUsed }
      rw [State.setFrames_self ht]
    subst hg
    refine Or.inr ⟨q, ⟨(({ U with heap := s₂.heap, slotsUsed := s₂.slotsUsed } : State).setVm s₂.vm), Ls ++ L, c0 + mc, s0 + ms⟩,
      ⟨X.admits, X.cas, X.clock, X.frames, X.room, X.hears, X.method, X.code, (X.here.setHeapUsed s₂.heap s₂.slotsUsed).setVm hW'.alike, X.tail, State.WarmedH.trans X.warmed hW', X.limits, X.bytes, X.same.trans (hsame.setVm s.vm)⟩,
      ⟨g, mk, s₂, L, E, ce, rfl, rfl, hx, hce, hcv, hcl, rfl, hL, rfl, rfl⟩, ?_⟩
    show Steps p.tables e below _ (((({ U with heap := s₂.heap, slotsUsed := s₂.slotsUsed } : State).setVm s₂.vm).setTop g).pushFrame (.throwing q))
    rw [← hs₂]
    exact hsteps
end VC
section VCR
variable {p : Program} {l : Launch} {e : Env} {R : Room} {s : State} {m : MethodId} {args : Array Value} {below : List Frame} {meth : Method} {c : Code} {H : Heap} {locs : List Loc} {cells slots : Nat}
theorem vc_runU {x y : MethodName} {bytes cc : ByteArray} {maxL nL mc ms n index : Nat} {ret : Option FieldType} {ws : List Cond} {rm : Room} {Pc : Array Value → State → Prop} {Qc : Array Value → State → Outcome → State → Prop} {XC : String → State → State → Prop} {free : Addr → Prop} {Ts : List Cond} {own C owner : String} {b : Addr} {As rest : List Value} {g : JFrame}
    (S : CallFix p m c cc nL s args Ts own) (hM : vc_Met l y ws rm Pc Qc XC mc ms free) (hrc : rm.cells = mc) (hrs : rm.slots = ms) (hfr : rm.frames + 1 ≤ R.frames) (hlo : 8 + (maxL + 11) + rm.locals ≤ R.locals) (hws : ∀ w ∈ ws, ∀ (a' : Array Value) (U : State), s.WarmedH U.vm → w.before a' U = true) (hcw : Cond.code y bytes maxL ret ∈ ws)
    (hlink : (Cond.methodLink own index x).before args s = true) (hsame : (Cond.sameMethod x.cls owner x.name x.desc).before args s = true) (hdecl : va_Decl s ⟨owner, x.name, x.desc⟩) (howner : owner ≠ "java/lang/invoke/MethodHandle" ∧ owner ≠ "java/lang/invoke/VarHandle")
    (hsel : (Cond.selects C x y).before args s = true) (hinst : (Cond.instanceMethod y).before args s = true) (hcode : (Cond.code y bytes maxL ret).before args s = true) (hlen : ∀ sig, parseMethodDescriptor x.desc = some sig → n = sig.parameters.length) (hp : PreV s H C b Pc As)
    (hg : g.method = m) (hn : As.length = n) (hsize : g.locals.size = nL) (hstack : g.stack = As.reverse ++ .ref b :: rest) (hW : 2 * g.monitorRoom + (rest.map fun v => v.category).sum ≤ 8) (hdg : decode cc g.pc = .ok (.invokevirtual index, 3)) (hf : cells + mc ≤ R.cells ∧ slots + ms ≤ R.slots) :
    vx_Run p l e R s m args below meth c H locs cells slots mc ms g rest (Qc (Value.ref b :: As).toArray) XC free := by
  have hK : vx_Back l R p e below s args y 3 8 (PreOf R mc ms Pc) (PostOf Qc mc ms free) (vx_Post XC mc ms free) := vc_back (bytes := bytes) (maxL := maxL) (ret := ret) hM hp.1 hrc hrs hfr hlo hws hcw
  obtain ⟨hx, hb, hml, ho, -⟩ := S
  obtain ⟨-, ⟨cellB, hcB, hoB, hclB⟩, hPc⟩ := hp
  intro T hT X
  rcases vx_callVU X hx (C := C) (owner := owner) (bytes := bytes) (maxL := maxL) (ret := ret) ho hlink hsame hdecl howner hsel hinst hcode hK (by rw [hT]; exact hcB) hoB hclB hg (hsize.trans hml.symm) (argsL := As) (rest := rest) (fun sig h => hn.trans (hlen sig h)) hstack hW (by rw [hb]; exact hdg)
    (fun vm₁ hW₁ => ⟨hf.1, hf.2, hPc (T.setVm vm₁) hT hW₁⟩) with ⟨v, vm₁, ⟨U', l2, c2, s2⟩, hW₁, X', ⟨g', mk, t, L, e1, e2, hq, h1, hL, h2, h3⟩, st⟩ | ⟨q, vm₁, ⟨U', l2, c2, s2⟩, hW₁, X', ⟨g', mk, t, L, E, ce, e1, e2, hq, hce, hcv, hcl, h1, hL, h2, h3⟩, st⟩
  · dsimp only [Pt.U, Pt.locs, Pt.cells, Pt.slots] at X' e1 e2 h1 h2 h3 st
    subst h1; subst h2; subst h3
    exact Or.inl ⟨v, (T.setVm vm₁).calling g' mk (Value.ref b :: As).toArray, t, U', L, hT, X', hL, e1, e2, hq, st⟩
  · dsimp only [Pt.U, Pt.locs, Pt.cells, Pt.slots] at X' e1 e2 h1 h2 h3 st hcl
    subst h1; subst h2; subst h3
    exact Or.inr ⟨q, (T.setVm vm₁).calling g' mk (Value.ref b :: As).toArray, t, U', L, E, ce, hT, X', hL, e1, e2, hq, hce, hcv, vx_cls hW₁ hcl, st⟩
end VCR
/-- a contract of such a method -/
def CtC (w : Wd) (y : MethodName) (ws : List Cond) (fr lo mc ms : Nat) (A : List Value) (h : Hp) (Post : Option Value → Hp → Prop) (PostX : String → Hp → Prop) : Prop :=
  ∀ l : Launch, l.stackTraces = false → vc_Met l y ws ({ frames := fr, cells := mc, slots := ms, locals := lo } : Room) (fun v U => v = A.toArray ∧ Rel w h U.heap ∧ Wok w U) (Qp w Post) (Xp w PostX) mc ms (Fr w)
section CTC
variable {w : Wd} {y : MethodName} {cc : ByteArray} {nL : Nat} {ret : Option FieldType} {fr lo mc ms : Nat} {h : Hp} {A : List Value} {Post : Option Value → Hp → Prop} {PostX : String → Hp → Prop}
theorem CtC.of (hy : plainName y.cls = true) (L : List (Option Value)) (hL : lArgs A nL = L) (hn : (lA A).length ≤ nL)
    (body : ∀ K : KT, Cx w K y.cls cc nL ret y.name fr lo mc ms → En w K Post PostX mc ms → (∀ x ∈ K.c.exceptionTable.toList, False) → Wk w K h 0 0 0 L []) : CtC w y (ws_ y cc nL ret) fr lo mc ms A h Post PostX := by
  intro l hl
  refine vc_ofW (cc := cc) (maxL := nL) (ret := ret) hy rfl ?_
  intro p e s m args below meth c hx hb hml hnm hmt hts hret hlk htab hv
  obtain ⟨rfl, hR, hW⟩ := hv
  have hts : ∀ w ∈ lw_all, w.before _ s = true := fun w h => hts w (List.mem_cons_of_mem _ h)
  have hbd := body (p, l, e, { frames := fr, cells := mc, slots := ms, locals := lo }, s, m, A.toArray, below, meth, c, vx_MQ below (Qp w Post) (Xp w PostX) A.toArray s mc ms (Fr w))
    ⟨hx, hb, hml, findClass_of_methodNamed hnm, hts, hret, hlk, rfl, hl, hW, hR.2.2.1.1, hR.2.1, (name_of_methodNamed hnm hmt).1⟩ rfl htab
  subst hL
  rw [lg_entry_eq]
  exact hbd s.heap [] _ hR ⟨Nat.le_refl _, fun q hq => absurd hq List.not_mem_nil⟩ (lHas.entry A hn)
end CTC
/-- a call of a method that the named one only declares: own idx names x, declared by owner; on an object of class ci runs y -/
def McC (own : String) (idx ci : Nat) (owner : String) (x y : MethodName) (b : ByteArray) (nLy : Nat) (ry : Option FieldType) (nA : Nat) : Prop :=
  ∃ r : vw_C, clAll[ci]? = some r ∧ Cond.methodLink own idx x ∈ lw_all ∧ Cond.sameMethod x.cls owner x.name x.desc ∈ lw_all ∧ Cond.selects r.1 x y ∈ lw_all ∧ Cond.instanceMethod y ∈ lw_all ∧ Cond.code y b nLy ry ∈ lw_all ∧ Cond.declares ⟨owner, x.name, x.desc⟩ ∈ lw_tbl ∧
  (owner ≠ "java/lang/invoke/MethodHandle" ∧ owner ≠ "java/lang/invoke/VarHandle") ∧ (parseMethodDescriptor x.desc).map (fun d => d.parameters.length) = some nA
section KXC
variable {w : Wd} {K : KT} {own nm : String} {cc : ByteArray} {nL : Nat} {ret : Option FieldType} {fr lo mc ms : Nat} {h : Hp} {n k pc : Nat} {L : List (Option Value)} {st rest : List Value}
variable {Post : Option Value → Hp → Prop} {PostX : String → Hp → Prop} {mc' ms' : Nat}
theorem kx_C {ci bb idx nLy nA fr' lo' : Nat} {owner : String} {x y : MethodName} {b : ByteArray} {ry : Option FieldType} {A fs : List Value} (C : Cx w K own cc nL ret nm fr lo mc ms) (hL0 : L.length = nL) (M : McC own idx ci owner x y b nLy ry nA) (hd : decode cc pc = .ok (.invokevirtual idx, 3)) (hM : CtC w y (ws_ y b nLy ry) fr' lo' mc' ms' (.ref bb :: A) h Post PostX) (hh : h.2 bb = some (.inl (ci, fs))) (hA : A.length = nA) (hs : st = psh (.ref bb :: A) rest) (hcat : (rest.map fun v => v.category).sum ≤ 8) (hR : fr' + 1 ≤ fr ∧ 8 + (nLy + 11) + lo' ≤ lo) (hm : n + mc' ≤ mc ∧ k + ms' ≤ ms)
    (kk : ∀ (v : Option Value) (h' : Hp), Post v h' → Wk w K h' (n + mc') (k + ms') (pc + 3) L (v.toList ++ rest)) (kx : ∀ (E : String) (h' : Hp), PostX E h' → Wx w K h' (n + mc') (k + ms') pc L rest E) : Wk w K h n k pc L st := by
  obtain ⟨r, hr, q1, q2, q3, q4, q5, q6, hy, hp⟩ := M
  subst hs
  rw [psh, psh_eq]
  refine Wk.run3 (A' := (.ref bb :: A).toArray) (fun H locs ls R hl hL => ?_) kk kx
  have hG : GoodIn lw_all (ws_ y b nLy ry) := lw_meth q5
  exact vc_runU (C := r.1) (owner := owner) (fix C) (hM K.l C.2.2.2.2.2.2.2.2.1) rfl rfl (by rw [C.room]; exact hR.1) (by rw [C.room]; exact hR.2) (pay_in C.hts hG) List.mem_cons_self (C.hts _ q1) (C.hts _ q2) (va_Decl.abs (C.nbw q6 rfl)) hy (C.hts _ q3) (C.hts _ q4) (C.hts _ q5) (fun sig e => by rw [e] at hp; exact (Option.some.inj hp).symm) (preV C R hh hr) rfl hA (by rw [← hL0]; exact hL.size) rfl (by simpa using hcat) hd (by rw [C.room]; exact hm)
/-- the same, the class told as initialised: the method is another's, handed down -/
theorem kx_U {ci bb idx nLy nA fr' lo' : Nat} {owner : String} {x y : MethodName} {b : ByteArray} {ry : Option FieldType} {A fs : List Value} (C : Cx w K own cc nL ret nm fr lo mc ms) (hL0 : L.length = nL) (M : McC own idx ci owner x y b nLy ry nA) (hi : Cond.initialized y.cls ∈ lw_all) (hd : decode cc pc = .ok (.invokevirtual idx, 3)) (hM : Ct w y (ws_ y b nLy ry) fr' lo' mc' ms' (.ref bb :: A) h Post PostX) (hh : h.2 bb = some (.inl (ci, fs))) (hA : A.length = nA) (hs : st = psh (.ref bb :: A) rest) (hcat : (rest.map fun v => v.category).sum ≤ 8) (hR : fr' + 1 ≤ fr ∧ 8 + (nLy + 11) + lo' ≤ lo) (hm : n + mc' ≤ mc ∧ k + ms' ≤ ms)
    (kk : ∀ (v : Option Value) (h' : Hp), Post v h' → Wk w K h' (n + mc') (k + ms') (pc + 3) L (v.toList ++ rest)) (kx : ∀ (E : String) (h' : Hp), PostX E h' → Wx w K h' (n + mc') (k + ms') pc L rest E) : Wk w K h n k pc L st := by
  obtain ⟨r, hr, q1, q2, q3, q4, q5, q6, hy, hp⟩ := M
  subst hs
  rw [psh, psh_eq]
  refine Wk.run3 (A' := (.ref bb :: A).toArray) (fun H locs ls R hl hL => ?_) kk kx
  have hG : GoodIn lw_all (ws_ y b nLy ry) := lw_meth q5
  exact vx_runU (C := r.1) (owner := owner) (fix C) (hM K.l C.2.2.2.2.2.2.2.2.1) ⟨⟨rfl, rfl, by rw [C.room]; exact hR.1, by rw [C.room]; exact hR.2, pay_in C.hts hG, List.mem_cons_self⟩, C.hts _ q5, C.hts _ hi, hy, fun sig e => by rw [e] at hp; exact (Option.some.inj hp).symm, C.hts _ q1, C.hts _ q2, va_Decl.abs (C.nbw q6 rfl), C.hts _ q3, C.hts _ q4⟩ (preV C R hh hr) rfl hA (by rw [← hL0]; exact hL.size) rfl (by simpa using hcat) hd (by rw [C.room]; exact hm)
end KXC
