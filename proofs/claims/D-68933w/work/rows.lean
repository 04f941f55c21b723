section
/-! ===== BEGIN words of one list among another's, by their places ===== -/
theorem goodIn_r {big : List Cond} (ws : List Cond) (ps : List Nat) (hp : ws = ps.filterMap (fun i => big[i]?)) (h : ws.all goodWord = true) : GoodIn big ws := by
  intro w hw
  have h1 := List.all_eq_true.mp h w hw
  rw [hp] at hw
  obtain ⟨i, -, hi⟩ := List.mem_filterMap.mp hw
  have hm : w ∈ big := by first | exact List.mem_of_getElem? hi | exact List.getElem?_mem hi
  exact ⟨hm, good_of_word h1⟩
theorem goodIn_app {big a b : List Cond} (ha : GoodIn big a) (hb : GoodIn big b) : GoodIn big (a ++ b) := fun w h => (List.mem_append.mp h).elim (ha w) (hb w)
theorem goodIn_ca {big a b : List Cond} {c : Cond} (ha : GoodIn big (c :: a)) (hb : GoodIn big b) : GoodIn big (c :: (a ++ b)) := fun w h => (List.mem_cons.mp h).elim (fun e => ha w (List.mem_cons.mpr (Or.inl e))) (fun h => (List.mem_append.mp h).elim (fun h => ha w (List.mem_cons.mpr (Or.inr h))) (hb w))
theorem goodIn_sub {big ws : List Cond} (hm : ∀ w ∈ ws, w ∈ big) (h : ws.all goodWord = true) : GoodIn big ws := fun w hw => ⟨hm w hw, good_of_word (List.all_eq_true.mp h w hw)⟩
/-! ===== END ===== -/
/-! ===== BEGIN exceptions that leave a method, and their catching by the caller (launches without stack traces) ===== -/
section VXA
/-! The laws vx_back, vx_callV, vx_callS, vx_callSW, vx_throw0, vx_throwS follow proofs of the library, with one case more: JvmDerived/Free/Laws.lean (Back.of_free), Shelf42/LK1.lean (callV, callS), Shelf/KitTraced.lean (throwNew0V, throwNewS). -/
/-- where a method has thrown q: the class by its name, the cell, what was written, the world -/
def vx_T (XC : String → State → State → Prop) (st : State) (q : Addr) (t : State) (mc ms : Nat) (free : Addr → Prop) : Prop :=
  ∃ (E : String) (ce : Cell) (L : List Loc), XC E st t ∧ t.heap[q]? = some ce ∧ ce.vm = .none ∧ st.vm.findClass E = some ce.cls ∧ st.WarmedH t.vm ∧ st.sameButNew ({ t with vm := st.vm } : State) L mc ms ∧ ∀ z ∈ L, free z.base
def vx_Q (Qc : Array Value → State → Outcome → State → Prop) (XC : String → State → State → Prop) (mc ms : Nat) (free : Addr → Prop) : Array Value → State → Outcome → State → Prop := fun a st o t =>
  (Qc a st o t ∧ ∃ L, FrameEnd st o t L mc ms ∧ ∀ q ∈ L, free q.base) ∨ ∃ q, o = .threw q ∧ vx_T XC st q t mc ms free
/-- a callee that returns or throws -/
def vx_Met (l : Launch) (y : MethodName) (ws : List Cond) (rm : Room) (Pc : Array Value → State → Prop) (Qc : Array Value → State → Outcome → State → Prop) (XC : String → State → State → Prop) (mc ms : Nat) (free : Addr → Prop) : Prop :=
  MetFree l y (headSpec ws rm) Pc (fun _ _ _ _ _ => True) (vx_Q Qc XC mc ms free)
def vx_Post (XC : String → State → State → Prop) (mc ms : Nat) (free : Addr → Prop) : Pt → Array Value → Addr → Pt → Prop := fun A a q B =>
  ∃ (g : JFrame) (mk : MethodId) (t : State) (L : List Loc) (E : String) (ce : Cell), B.U.heap = t.heap ∧ B.U.vm = t.vm ∧ XC E (A.U.calling g mk a) t ∧ t.heap[q]? = some ce ∧ ce.vm = .none ∧ A.U.vm.findClass E = some ce.cls ∧ B.locs = A.locs ++ L ∧ (∀ z ∈ L, free z.base) ∧ B.cells = A.cells + mc ∧ B.slots = A.slots + ms
def vx_Back (l : Launch) (R : Room) (p : Program) (e : Env) (below : List Frame) (s : State) (sargs : Array Value) (y : MethodName) (len W9 : Nat)
    (Pre : Pt → Array Value → Prop) (Post : Pt → Array Value → Option Value → Pt → Prop) (PostX : Pt → Array Value → Addr → Pt → Prop) : Prop :=
  ∀ (m : MethodId) (meth : Method) (c : Code) (A : Pt) (g : JFrame) (ig : Instr) (mk : MethodId) (a : Array Value),
    Stand p l e R s m sargs below meth c A.U A.locs A.cells A.slots → g.method = m → g.locals.size = c.maxLocals → decode c.code g.pc = .ok (ig, len) →
    2 * g.monitorRoom + (g.stack.map fun v => v.category).sum ≤ W9 → A.U.methodNamed? y = some mk → Pre A a →
    (∃ (v : Option Value) (B : Pt), Stand p l e R s m sargs below meth c B.U B.locs B.cells B.slots ∧ Post A a v B ∧
      Steps p.tables e below (doInvoke e (A.U.setTop g) [] mk a).1 (B.U.setTop { g with pc := g.pc + len, stack := v.toList ++ g.stack })) ∨
    (∃ (q : Addr) (B : Pt), Stand p l e R s m sargs below meth c B.U B.locs B.cells B.slots ∧ PostX A a q B ∧
      Steps p.tables e below (doInvoke e (A.U.setTop g) [] mk a).1 ((B.U.setTop g).pushFrame (.throwing q)))
section Payer
variable {l : Launch} {R : Room} {p : Program} {e : Env} {below : List Frame} {s : State} {sargs : Array Value} {y : MethodName} {len W9 : Nat}
theorem vx_back {ws : List Cond} {rm : Room} {Pc : Array Value → State → Prop} {Qc : Array Value → State → Outcome → State → Prop} {XC : String → State → State → Prop} {mc ms : Nat} {free : Addr → Prop} {bytes : ByteArray} {maxL : Nat} {ret : Option FieldType}
    (hM : vx_Met l y ws rm Pc Qc XC mc ms free) (hblind : FrameBlind Pc) (hrc : rm.cells = mc) (hrs : rm.slots = ms)
    (hframes : rm.frames + 1 ≤ R.frames) (hlocals : W9 + (maxL + 11) + rm.locals ≤ R.locals)
    (hws : ∀ w ∈ ws, ∀ a' U, s.WarmedH U.vm → w.before a' U = true) (hcode : Cond.code y bytes maxL ret ∈ ws) (hinit : ∀ a' U, s.WarmedH U.vm → (Cond.initialized y.cls).before a' U = true) :
    vx_Back l R p e below s sargs y len W9 (PreOf R mc ms Pc) (PostOf Qc mc ms free) (vx_Post XC mc ms free) := by
  intro m meth c A g ig mk a X hg hsize hdg hW hn hp
  have h1 : (headSpec ws rm).pre.before a A.U = true := atoms_intro fun w hw => hws w hw _ _ X.warmed
  have h2 : (Cond.code y bytes maxL ret).before a A.U = true := hws _ hcode _ _ X.warmed
  have h3 : (Cond.initialized y.cls).before a A.U = true := hinit _ _ X.warmed
  have h4 : A.cells + (headSpec ws rm).room.cells ≤ R.cells := by rw [show (headSpec ws rm).room.cells = mc from hrc]; exact hp.1
  have h5 : A.slots + (headSpec ws rm).room.slots ≤ R.slots := by rw [show (headSpec ws rm).room.slots = ms from hrs]; exact hp.2.1
  have hPc : Pc a (A.U.calling g mk a) := hblind _ _ _ _ hp.2.2
  obtain ⟨U, Ls, c0, s0⟩ := A
  dsimp only [Pt.U, Pt.locs, Pt.cells, Pt.slots] at h1 h2 h3 h4 h5 X hn hPc ⊢
  obtain ⟨methY, cY, hmY, hcY, -, hlY, -, -, -, -⟩ := Cond.code_spec hn h2
  obtain ⟨kY, hkY, -⟩ := className_of_methodNamed hn
  have hinitY : kY.init = .initialized := Cond.initialized_spec (findClass_of_methodNamed hn) hkY h3
  have h : At U g.method c below := by rw [hg]; exact X.here
  have hlocals9 : W9 + (maxL + 11) + (headSpec ws rm).room.locals ≤ R.locals := hlocals
  have happ : (headSpec ws rm).appliesLoose y e.platform (U.calling g mk a) = true :=
    Spec.appliesLoose_calling (g := g) h hdg hn hkY hinitY
      (X.room_calling (g := g) (R' := (headSpec ws rm).room) hsize hmY hcY hframes (by rw [hlY]; omega) h4 h5) h1
  obtain ⟨mid, hmid⟩ := h.above
  have hfr : (U.setTop g).frames = (.java g :: mid) ++ below := by rw [State.frames_setTop' g h.top, hmid]; rfl
  obtain ⟨o, s₂, hsteps, -, hend, hq⟩ := Steps.callFree hM p X.admits X.cas X.clock (acts := []) hfr happ hPc trivial
  have hq' : vx_Q Qc XC mc ms free a (U.calling g mk a) o s₂ := hq
  rw [State.frames_setTop' g h.top] at hend
  obtain ⟨g₀, hg0⟩ := Option.isSome_iff_exists.mp h.top
  obtain ⟨r, hr⟩ := State.topJava?_eq_some.mp hg0
  have hr' : (({ U with heap := s₂.heap, slotsUsed := s₂.slotsUsed } : State).setVm s₂.vm).frames = .java g₀ :: r := hr
  rcases hq' with ⟨hqc, L, hfe, hL⟩ | ⟨q, rfl, E, ce, L, hx, hce, hcv, hcl, hW₂, hsm, hL⟩
  · obtain ⟨⟨v, rfl⟩, hW₂, e2, q2, q3, q4, q5, q6⟩ := id hfe
    have e3 : s₂ = ({ (U.calling g mk a).setFrames s₂.frames with heap := s₂.heap, slotsUsed := s₂.slotsUsed } : State).setVm s₂.vm := by
      have : s₂ = ({ s₂ with vm := (U.calling g mk a).vm } : State).setVm s₂.vm := rfl
      rw [e2] at this
      exact this
    obtain ⟨c₂, i₂, len₂, hc₂, hd₂, hf₂⟩ := hend
    have hW' : U.WarmedH s₂.vm := hW₂
    have hcc : c₂ = c := by
      have h1 : s₂.code? g.method = U.code? g.method := by
        rw [State.code?_eq, State.code?_eq, hW'.alike.method?]
      exact Option.some.inj (hc₂.symm.trans (h1.trans h.code))
    subst hcc
    have hlen : len₂ = len := by rw [hdg] at hd₂; cases hd₂; rfl
    subst hlen
    have hs₂ : s₂ = (({ U with heap := s₂.heap, slotsUsed := s₂.slotsUsed } : State).setVm s₂.vm).setTop { g with pc := g.pc + len₂, stack := v.toList ++ g.stack } := by
      refine e3.trans ?_
      rw [hf₂, State.calling_eq h.top, State.setFrames_setFrames, State.setTop_of_frames _ hr', hr]
      rfl
    have hsame : U.sameButNew ({ U with heap := s₂.heap, slotsUsed := s₂.slotsUsed } : State) L mc ms := by
      refine ⟨?_, q2, q3, q4, q5, q6⟩
      obtain ⟨t, ht, -⟩ := State.frames_cons hr
      show ({ U with heap := s₂.heap, slotsUsed := s₂.slotsUsed } : State) = { U.setFrames U.frames with heap := s₂.heap, slotsUsed := s₂.slotsUsed }
      rw [State.setFrames_self ht]
    subst hg
    refine Or.inl ⟨v, ⟨(({ U with heap := s₂.heap, slotsUsed := s₂.slotsUsed } : State).setVm s₂.vm), Ls ++ L, c0 + mc, s0 + ms⟩,
      ⟨X.admits, X.cas, X.clock, X.frames, X.room, X.hears, X.method, X.code, (X.here.setHeapUsed s₂.heap s₂.slotsUsed).setVm hW'.alike, X.tail, State.WarmedH.trans X.warmed hW', X.limits, X.bytes, X.same.trans (hsame.setVm s.vm)⟩,
      ⟨g, mk, s₂, L, rfl, rfl, hqc, rfl, hL, rfl, rfl⟩, ?_⟩
    show Steps p.tables e below _ ((({ U with heap := s₂.heap, slotsUsed := s₂.slotsUsed } : State).setVm s₂.vm).setTop { g with pc := g.pc + len₂, stack := v.toList ++ g.stack })
    rw [← hs₂]
    exact hsteps
  · obtain ⟨e2, q2, q3, q4, q5, q6⟩ := id hsm
    have e3 : s₂ = ({ (U.calling g mk a).setFrames s₂.frames with heap := s₂.heap, slotsUsed := s₂.slotsUsed } : State).setVm s₂.vm := by
      have : s₂ = ({ s₂ with vm := (U.calling g mk a).vm } : State).setVm s₂.vm := rfl
      rw [e2] at this
      exact this
    have hf₂ : s₂.frames = .throwing q :: .java g :: U.frames.tail := hend
    have hW' : U.WarmedH s₂.vm := hW₂
    have hs₂ : s₂ = ((({ U with heap := s₂.heap, slotsUsed := s₂.slotsUsed } : State).setVm s₂.vm).setTop g).pushFrame (.throwing q) := by
      refine e3.trans ?_
      rw [hf₂, State.calling_eq h.top, State.setFrames_setFrames, State.pushFrame, State.frames_setTop _ hr', State.setTop_of_frames _ hr', State.setFrames_setFrames, hr]
      rfl
    have hsame : U.sameButNew ({ U with heap := s₂.heap, slotsUsed := s₂.slotsUsed } : State) L mc ms := by
      refine ⟨?_, q2, q3, q4, q5, q6⟩
      obtain ⟨t, ht, -⟩ := State.frames_cons hr
      show ({ U with heap := s₂.heap, slotsUsed := s₂.slotsUsed } : State) = { U.setFrames U.frames with heap := s₂.heap, slotsUsed := s₂.slotsUsed }
      rw [State.setFrames_self ht]
    subst hg
    refine Or.inr ⟨q, ⟨(({ U with heap := s₂.heap, slotsUsed := s₂.slotsUsed } : State).setVm s₂.vm), Ls ++ L, c0 + mc, s0 + ms⟩,
      ⟨X.admits, X.cas, X.clock, X.frames, X.room, X.hears, X.method, X.code, (X.here.setHeapUsed s₂.heap s₂.slotsUsed).setVm hW'.alike, X.tail, State.WarmedH.trans X.warmed hW', X.limits, X.bytes, X.same.trans (hsame.setVm s.vm)⟩,
      ⟨g, mk, s₂, L, E, ce, rfl, rfl, hx, hce, hcv, hcl, rfl, hL, rfl, rfl⟩, ?_⟩
    show Steps p.tables e below _ (((({ U with heap := s₂.heap, slotsUsed := s₂.slotsUsed } : State).setVm s₂.vm).setTop g).pushFrame (.throwing q))
    rw [← hs₂]
    exact hsteps
end Payer
section Calls
variable {p : Program} {l : Launch} {e : Env} {R : Room} {s : State} {m : MethodId} {args : Array Value} {below : List Frame} {meth : Method} {c : Code} {T : State} {locs : List Loc} {cells slots : Nat}
theorem vx_callV (X : Stand p l e R s m args below meth c T locs cells slots) (hexec : p.tables.exec = Jvm.exec) {own C : String} {index : Nat} {y : MethodName} {bytes : ByteArray} {maxL : Nat} {ret : Option FieldType}
    (hown : s.vm.findClass own = some m.cls) (hlink : (Cond.methodLink own index y).before args s = true) (hinst : (Cond.instanceMethod y).before args s = true) (hsel : (Cond.selects C y y).before args s = true)
    (hcode : (Cond.code y bytes maxL ret).before args s = true) (hy : y.cls ≠ "java/lang/invoke/MethodHandle" ∧ y.cls ≠ "java/lang/invoke/VarHandle")
    {W9 : Nat} {Pre : Pt → Array Value → Prop} {Post : Pt → Array Value → Option Value → Pt → Prop} {PostX : Pt → Array Value → Addr → Pt → Prop} (hK : vx_Back l R p e below s args y 3 W9 Pre Post PostX)
    {b : Addr} {cellB : Cell} (hcell : T.heap[b]? = some cellB) (hobj : cellB.vm.isStatics = false) (hcls : s.vm.findClass C = some cellB.cls)
    {g : JFrame} (hg : g.method = m) (hsize : g.locals.size = c.maxLocals) {argsL rest : List Value} (hlen : ∀ sig, parseMethodDescriptor y.desc = some sig → argsL.length = sig.parameters.length)
    (hstack : g.stack = argsL.reverse ++ .ref b :: rest) (hW : 2 * g.monitorRoom + (rest.map fun v => v.category).sum ≤ W9) (hdg : decode c.code g.pc = .ok (.invokevirtual index, 3))
    (hpre : ∀ vm₁, s.WarmedH vm₁ → Pre ⟨T.setVm vm₁, locs, cells, slots⟩ (Value.ref b :: argsL).toArray) :
    (∃ (v : Option Value) (vm₁ : Vm) (B : Pt), s.WarmedH vm₁ ∧ Stand p l e R s m args below meth c B.U B.locs B.cells B.slots ∧ Post ⟨T.setVm vm₁, locs, cells, slots⟩ (Value.ref b :: argsL).toArray v B ∧
      ∀ target, Steps p.tables e below (B.U.setTop { g with pc := g.pc + 3, stack := v.toList ++ rest }) target → Steps p.tables e below (T.setTop g) target) ∨
    (∃ (q : Addr) (vm₁ : Vm) (B : Pt), s.WarmedH vm₁ ∧ Stand p l e R s m args below meth c B.U B.locs B.cells B.slots ∧ PostX ⟨T.setVm vm₁, locs, cells, slots⟩ (Value.ref b :: argsL).toArray q B ∧
      Steps p.tables e below (T.setTop g) ((B.U.setTop { g with stack := rest }).pushFrame (.throwing q))) := by
  obtain ⟨mk, methM, hnamed, hmethM, hstM, habM⟩ := Cond.instanceMethod_spec hinst
  obtain ⟨methM', cM, hmethM', -, -, -, -, -, -, hsigM⟩ := Cond.code_spec hnamed hcode
  cases hmethM.symm.trans hmethM'
  obtain ⟨c2, r2, m2, q1, q2, q3, q4, kP, hkP, hkPi⟩ := Cond.selects_spec hsel
  cases hcls.symm.trans q1
  cases (State.methodFound?_of_named hnamed hy).symm.trans q2
  cases hnamed.symm.trans q3
  have hselP : selectMethod e.platform s.vm cellB.cls mk = .method mk := by rw [Launch.admits_selectMethod X.admits]; exact q4
  obtain ⟨vm₁, X₁, hstep₁⟩ := X.invokevirtual hexec hown hlink hnamed hmethM hstM hkP hkPi hy (a := b) (cell := cellB) hcell
    (fun z h => by rw [h] at hobj; cases hobj) hselP hmethM habM hkP hkPi (g := g) hg (argsL := argsL) (rest := rest) (hlen _ hsigM) hstack hdg
  rcases hK m meth c ⟨T.setVm vm₁, locs, cells, slots⟩ { g with stack := rest } (.invokevirtual index) mk (Value.ref b :: argsL).toArray X₁ hg hsize hdg hW (X₁.named hnamed) (hpre vm₁ X₁.warmed) with ⟨v, B, X', hpost, hsteps⟩ | ⟨q, B, X', hpost, hsteps⟩
  · exact Or.inl ⟨v, vm₁, B, X₁.warmed, X', hpost, fun target h => hstep₁ _ fun acts => by rw [doInvoke_state]; exact hsteps.trans h⟩
  · exact Or.inr ⟨q, vm₁, B, X₁.warmed, X', hpost, hstep₁ _ fun acts => by rw [doInvoke_state]; exact hsteps⟩
theorem vx_callS (X : Stand p l e R s m args below meth c T locs cells slots) (hexec : p.tables.exec = Jvm.exec) {own : String} {index : Nat} {y : MethodName} {bytes : ByteArray} {maxL : Nat} {ret : Option FieldType}
    (hown : s.vm.findClass own = some m.cls) (hlink : (Cond.methodLink own index y).before args s = true) (hstat : (Cond.static y).before args s = true) (hinit : (Cond.initialized y.cls).before args s = true)
    (hcode : (Cond.code y bytes maxL ret).before args s = true) (hy : y.cls ≠ "java/lang/invoke/MethodHandle" ∧ y.cls ≠ "java/lang/invoke/VarHandle")
    {W9 : Nat} {Pre : Pt → Array Value → Prop} {Post : Pt → Array Value → Option Value → Pt → Prop} {PostX : Pt → Array Value → Addr → Pt → Prop} (hK : vx_Back l R p e below s args y 3 W9 Pre Post PostX)
    {g : JFrame} (hg : g.method = m) (hsize : g.locals.size = c.maxLocals) {argsL rest : List Value} (hlen : ∀ sig, parseMethodDescriptor y.desc = some sig → argsL.length = sig.parameters.length)
    (hstack : g.stack = argsL.reverse ++ rest) (hW : 2 * g.monitorRoom + (rest.map fun v => v.category).sum ≤ W9) (hdg : decode c.code g.pc = .ok (.invokestatic index, 3))
    (hpre : ∀ vm₁, s.WarmedH vm₁ → Pre ⟨T.setVm vm₁, locs, cells, slots⟩ argsL.toArray) :
    (∃ (v : Option Value) (vm₁ : Vm) (B : Pt), s.WarmedH vm₁ ∧ Stand p l e R s m args below meth c B.U B.locs B.cells B.slots ∧ Post ⟨T.setVm vm₁, locs, cells, slots⟩ argsL.toArray v B ∧
      ∀ target, Steps p.tables e below (B.U.setTop { g with pc := g.pc + 3, stack := v.toList ++ rest }) target → Steps p.tables e below (T.setTop g) target) ∨
    (∃ (q : Addr) (vm₁ : Vm) (B : Pt), s.WarmedH vm₁ ∧ Stand p l e R s m args below meth c B.U B.locs B.cells B.slots ∧ PostX ⟨T.setVm vm₁, locs, cells, slots⟩ argsL.toArray q B ∧
      Steps p.tables e below (T.setTop g) ((B.U.setTop { g with stack := rest }).pushFrame (.throwing q))) := by
  obtain ⟨mk, hnamed⟩ := Cond.code_named hcode
  obtain ⟨methM, cM, hmethM, -, -, -, -, -, -, hsigM⟩ := Cond.code_spec hnamed hcode
  have hstatic : methM.isStatic = true := Cond.static_spec hnamed hmethM hstat
  obtain ⟨kP, hkP, -⟩ := className_of_methodNamed hnamed
  have hinitP : kP.init = .initialized := Cond.initialized_spec (findClass_of_methodNamed hnamed) hkP hinit
  obtain ⟨vm₁, X₁, hstep₁⟩ := X.invokestatic hexec hown hlink hnamed hmethM hstatic hkP hinitP hy (g := g) hg (argsL := argsL) (rest := rest) (hlen _ hsigM) hstack hdg
  rcases hK m meth c ⟨T.setVm vm₁, locs, cells, slots⟩ { g with stack := rest } (.invokestatic index) mk argsL.toArray X₁ hg hsize hdg hW (X₁.named hnamed) (hpre vm₁ X₁.warmed) with ⟨v, B, X', hpost, hsteps⟩ | ⟨q, B, X', hpost, hsteps⟩
  · exact Or.inl ⟨v, vm₁, B, X₁.warmed, X', hpost, fun target h => hstep₁ _ fun acts => by rw [doInvoke_state]; exact hsteps.trans h⟩
  · exact Or.inr ⟨q, vm₁, B, X₁.warmed, X', hpost, hstep₁ _ fun acts => by rw [doInvoke_state]; exact hsteps⟩
end Calls
theorem vx_cls {s : State} {T : State} {vm₁ : Vm} {E : String} {k : ClassId} (hW : s.WarmedH vm₁) (h : (T.setVm vm₁).vm.findClass E = some k) : s.vm.findClass E = some k := by
  have h1 : vm₁.findClass E = some k := h
  rw [hW.alike.findClass] at h1
  exact h1
/-- the method's frame g, with q thrown over it -/
def vx_W (p : Program) (l : Launch) (e : Env) (R : Room) (s : State) (m : MethodId) (args : Array Value) (below : List Frame) (meth : Method) (c : Code) (H : Heap) (locs : List Loc) (cells slots : Nat) (Q : State → Prop) (g : JFrame) (q : Addr) : Prop :=
  ∀ T : State, T.heap = H → Stand p l e R s m args below meth c T locs cells slots → ∃ t, Steps p.tables e below ((T.setTop g).pushFrame (.throwing q)) t ∧ Q t
def vx_Run (p : Program) (l : Launch) (e : Env) (R : Room) (s : State) (m : MethodId) (args : Array Value) (below : List Frame) (meth : Method) (c : Code) (H : Heap) (locs : List Loc) (cells slots mc ms : Nat) (g : JFrame) (rest : List Value) (Qa : State → Outcome → State → Prop) (XC : String → State → State → Prop) (free : Addr → Prop) : Prop :=
  ∀ T : State, T.heap = H → Stand p l e R s m args below meth c T locs cells slots →
    (∃ (v : Option Value) (st₀ t T' : State) (L : List Loc), st₀.heap = H ∧ Stand p l e R s m args below meth c T' (locs ++ L) (cells + mc) (slots + ms) ∧ (∀ q ∈ L, free q.base) ∧ T'.heap = t.heap ∧ T'.vm = t.vm ∧ Qa st₀ (.returned v) t ∧
      Goes p e below T g T' { g with pc := g.pc + 3, stack := v.toList ++ rest }) ∨
    (∃ (q : Addr) (st₀ t T' : State) (L : List Loc) (E : String) (ce : Cell), st₀.heap = H ∧ Stand p l e R s m args below meth c T' (locs ++ L) (cells + mc) (slots + ms) ∧ (∀ z ∈ L, free z.base) ∧ T'.heap = t.heap ∧ T'.vm = t.vm ∧ XC E st₀ t ∧ t.heap[q]? = some ce ∧ ce.vm = .none ∧ s.vm.findClass E = some ce.cls ∧
      Steps p.tables e below (T.setTop g) ((T'.setTop { g with stack := rest }).pushFrame (.throwing q)))
def vx_X {S : Type} (px : S → Prop) (B : String → S → State → Prop) (A : Nat → Prop) : String → State → State → Prop := fun E st t => ∃ u : S, px u ∧ B E u t ∧ va_F A st t
section Runs
variable {p : Program} {l : Launch} {e : Env} {R : Room} {s : State} {m : MethodId} {args : Array Value} {below : List Frame} {meth : Method} {c : Code} {H : Heap} {locs : List Loc} {cells slots : Nat}
variable {y : MethodName} {bytes cc : ByteArray} {maxL nL mc ms n index : Nat} {ret : Option FieldType} {ws : List Cond} {rm : Room} {Pc : Array Value → State → Prop} {Qc : Array Value → State → Outcome → State → Prop} {XC : String → State → State → Prop} {free : Addr → Prop} {Ts : List Cond} {own C : String} {b : Addr} {As rest : List Value} {g : JFrame}
theorem vx_callBack (cb : CallB R s args own index y bytes maxL ret ws rm mc ms n) (hM : vx_Met l y ws rm Pc Qc XC mc ms free) (hbl : FrameBlind Pc) : vx_Back l R p e below s args y 3 8 (PreOf R mc ms Pc) (PostOf Qc mc ms free) (vx_Post XC mc ms free) := by
  obtain ⟨hrc, hrs, hfr, hlo, hws, hcw, -, hini, -⟩ := cb
  exact vx_back (bytes := bytes) (maxL := maxL) (ret := ret) hM hbl hrc hrs hfr hlo hws hcw (fun a' U hW => word_at hW (Or.inl (by first | rfl | simp [Cond.onTables, Cond.keeps, Cond.steady])) hini)
theorem vx_runV (S : CallFix p m c cc nL s args Ts own) (hM : vx_Met l y ws rm Pc Qc XC mc ms free) (cw : CallW R s args own C index y bytes maxL ret ws rm mc ms n) (hp : PreV s H C b Pc As)
    (hg : g.method = m) (hn : As.length = n) (hsize : g.locals.size = nL) (hstack : g.stack = As.reverse ++ .ref b :: rest) (hW : 2 * g.monitorRoom + (rest.map fun v => v.category).sum ≤ 8) (hdg : decode cc g.pc = .ok (.invokevirtual index, 3)) (hf : cells + mc ≤ R.cells ∧ slots + ms ≤ R.slots) :
    vx_Run p l e R s m args below meth c H locs cells slots mc ms g rest (Qc (Value.ref b :: As).toArray) XC free := by
  have hK : vx_Back l R p e below s args y 3 8 (PreOf R mc ms Pc) (PostOf Qc mc ms free) (vx_Post XC mc ms free) := vx_callBack cw.1 hM hp.1
  obtain ⟨⟨-, -, -, -, -, -, hcode, -, hy, hlen, hl⟩, hin, hse⟩ := cw
  obtain ⟨hx, hb, hml, ho, -⟩ := S
  obtain ⟨-, ⟨cellB, hcB, hoB, hclB⟩, hPc⟩ := hp
  intro T hT X
  rcases vx_callV X hx (C := C) (bytes := bytes) (maxL := maxL) (ret := ret) ho hl hin hse hcode hy hK (by rw [hT]; exact hcB) hoB hclB hg (hsize.trans hml.symm) (argsL := As) (rest := rest) (fun sig h => hn.trans (hlen sig h)) hstack hW (by rw [hb]; exact hdg)
    (fun vm₁ hW₁ => ⟨hf.1, hf.2, hPc (T.setVm vm₁) hT hW₁⟩) with ⟨v, vm₁, ⟨U', l2, c2, s2⟩, hW₁, X', ⟨g', mk, t, L, e1, e2, hq, h1, hL, h2, h3⟩, st⟩ | ⟨q, vm₁, ⟨U', l2, c2, s2⟩, hW₁, X', ⟨g', mk, t, L, E, ce, e1, e2, hq, hce, hcv, hcl, h1, hL, h2, h3⟩, st⟩
  · dsimp only [Pt.U, Pt.locs, Pt.cells, Pt.slots] at X' e1 e2 h1 h2 h3 st
    subst h1; subst h2; subst h3
    exact Or.inl ⟨v, (T.setVm vm₁).calling g' mk (Value.ref b :: As).toArray, t, U', L, hT, X', hL, e1, e2, hq, st⟩
  · dsimp only [Pt.U, Pt.locs, Pt.cells, Pt.slots] at X' e1 e2 h1 h2 h3 st hcl
    subst h1; subst h2; subst h3
    exact Or.inr ⟨q, (T.setVm vm₁).calling g' mk (Value.ref b :: As).toArray, t, U', L, E, ce, hT, X', hL, e1, e2, hq, hce, hcv, vx_cls hW₁ hcl, st⟩
theorem vx_runS (S : CallFix p m c cc nL s args Ts own) (hM : vx_Met l y ws rm Pc Qc XC mc ms free) (cw : CallB R s args own index y bytes maxL ret ws rm mc ms n ∧ (Cond.static y).before args s = true) (hp : PreS s H Pc As)
    (hg : g.method = m) (hn : As.length = n) (hsize : g.locals.size = nL) (hstack : g.stack = As.reverse ++ rest) (hW : 2 * g.monitorRoom + (rest.map fun v => v.category).sum ≤ 8) (hdg : decode cc g.pc = .ok (.invokestatic index, 3)) (hf : cells + mc ≤ R.cells ∧ slots + ms ≤ R.slots) :
    vx_Run p l e R s m args below meth c H locs cells slots mc ms g rest (Qc As.toArray) XC free := by
  have hK : vx_Back l R p e below s args y 3 8 (PreOf R mc ms Pc) (PostOf Qc mc ms free) (vx_Post XC mc ms free) := vx_callBack cw.1 hM hp.1
  obtain ⟨⟨-, -, -, -, -, -, hcode, hini, hy, hlen, hl⟩, hstt⟩ := cw
  obtain ⟨hx, hb, hml, ho, -⟩ := S
  intro T hT X
  rcases vx_callS X hx (bytes := bytes) (maxL := maxL) (ret := ret) ho hl hstt hini hcode hy hK hg (hsize.trans hml.symm) (argsL := As) (rest := rest) (fun sig h => hn.trans (hlen sig h)) hstack hW (by rw [hb]; exact hdg)
    (fun vm₁ hW₁ => ⟨hf.1, hf.2, hp.2 (T.setVm vm₁) hT hW₁⟩) with ⟨v, vm₁, ⟨U', l2, c2, s2⟩, hW₁, X', ⟨g', mk, t, L, e1, e2, hq, h1, hL, h2, h3⟩, st⟩ | ⟨q, vm₁, ⟨U', l2, c2, s2⟩, hW₁, X', ⟨g', mk, t, L, E, ce, e1, e2, hq, hce, hcv, hcl, h1, hL, h2, h3⟩, st⟩
  · dsimp only [Pt.U, Pt.locs, Pt.cells, Pt.slots] at X' e1 e2 h1 h2 h3 st
    subst h1; subst h2; subst h3
    exact Or.inl ⟨v, (T.setVm vm₁).calling g' mk As.toArray, t, U', L, hT, X', hL, e1, e2, hq, st⟩
  · dsimp only [Pt.U, Pt.locs, Pt.cells, Pt.slots] at X' e1 e2 h1 h2 h3 st hcl
    subst h1; subst h2; subst h3
    exact Or.inr ⟨q, (T.setVm vm₁).calling g' mk As.toArray, t, U', L, E, ce, hT, X', hL, e1, e2, hq, hce, hcv, vx_cls hW₁ hcl, st⟩
end Runs
section Rows
variable {p : Program} {l : Launch} {e : Env} {R : Room} {s : State} {m : MethodId} {args : Array Value} {below : List Frame} {meth : Method} {c : Code} {H : Heap} {locs : List Loc} {cells slots : Nat} {Q : State → Prop}
variable {mc ms : Nat} {free : Addr → Prop} {A0 A1 : Nat → Prop} {H0 : Heap} {a : Array Value} {pc : Nat} {ls : Array Slot} {st0 rest : List Value}
theorem vx_keep {st₀ t T' : State} {L : List Loc} (h0 : st₀.heap = H) (e1 : T'.heap = t.heap) (hS : va_S A0 H0 H locs) (hA : ∀ q, q < H.size → A1 q → A0 q) (hf : ∀ q, free q → A0 q) (hL : ∀ q ∈ L, free q.base) (hF : va_F A1 st₀ t) :
    H.size ≤ T'.heap.size ∧ (∀ q : Nat, q < H.size → ¬ A1 q → T'.heap[q]? = H[q]?) ∧ va_S A0 H0 T'.heap (locs ++ L) := by
  obtain ⟨hz, hk⟩ := hF
  rw [h0] at hz hk
  exact ⟨by rw [e1]; exact hz, fun q h1 h2 => by rw [e1]; exact hk q h1 h2,
    ⟨Nat.le_trans hS.1 (by rw [e1]; exact hz), fun q h1 h2 => by rw [e1, hk q (Nat.lt_of_lt_of_le h1 hS.1) (fun z => h2 (hA q (Nat.lt_of_lt_of_le h1 hS.1) z))]; exact hS.2.1 q h1 h2, fun q hq => by
      rcases List.mem_append.mp hq with h | h
      · exact hS.2.2 q h
      · exact hf _ (hL q h)⟩⟩
theorem vx_calli {S SX : Type} {post : Int32 → S → Prop} {px : SX → Prop} {B : S → State → Prop} {BX : String → SX → State → Prop} {AX : Nat → Prop} (hr : vx_Run p l e R s m args below meth c H locs cells slots mc ms (F0 m pc ls st0) rest (va_Qi post B A1 a) (vx_X px BX AX) free) (hS : va_S A0 H0 H locs) (hA : ∀ q, q < H.size → A1 q → A0 q) (hf : ∀ q, free q → A0 q) (hAX : ∀ q, q < H.size → AX q → A0 q)
    (kx : ∀ (E : String) (ce : Cell) (q9 : Addr) (u : SX) (t : State) (H1 : Heap) (locs1 : List Loc), t.heap = H1 → s.vm.Alike t.vm → px u → BX E u t → H.size ≤ H1.size → (∀ q : Nat, q < H.size → ¬ AX q → H1[q]? = H[q]?) → va_S A0 H0 H1 locs1 → H1[q9]? = some ce → ce.vm = .none → s.vm.findClass E = some ce.cls → vx_W p l e R s m args below meth c H1 locs1 (cells + mc) (slots + ms) Q (F0 m pc ls rest) q9)
    (kk : ∀ (r : Int32) (u : S) (t : State) (H1 : Heap) (locs1 : List Loc), t.heap = H1 → s.vm.Alike t.vm → post r u → B u t → H.size ≤ H1.size → (∀ q : Nat, q < H.size → ¬ A1 q → H1[q]? = H[q]?) → va_S A0 H0 H1 locs1 → W p l e R s m args below meth c H1 locs1 (cells + mc) (slots + ms) Q (F0 m (pc + 3) ls (.int r :: rest))) : W p l e R s m args below meth c H locs cells slots Q (F0 m pc ls st0) := by
  intro T hT X
  rcases hr T hT X with ⟨v, st₀, t, T', L, h0, X', hL, e1, e2, ⟨⟨r, u, hv, hp, hb⟩, hF⟩, st⟩ | ⟨q, st₀, t, T', L, E, ce, h0, X', hL, e1, e2, ⟨u, hp, hb, hF⟩, hce, hcv, hcl, st⟩
  · cases hv
    obtain ⟨k1, k2, k3⟩ := vx_keep h0 e1 hS hA hf hL hF
    obtain ⟨t2, a1, b1⟩ := kk r u t T'.heap (locs ++ L) e1.symm (by rw [← e2]; exact X'.warmed.alike) hp hb k1 k2 k3 T' rfl X'
    exact ⟨t2, st t2 a1, b1⟩
  · obtain ⟨k1, k2, k3⟩ := vx_keep h0 e1 hS hAX hf hL hF
    obtain ⟨t2, a1, b1⟩ := kx E ce q u t T'.heap (locs ++ L) e1.symm (by rw [← e2]; exact X'.warmed.alike) hp hb k1 k2 k3 (by rw [e1]; exact hce) hcv hcl T' rfl X'
    exact ⟨t2, st.trans a1, b1⟩
theorem vx_calll {S SX : Type} {post : Int64 → S → Prop} {px : SX → Prop} {B : S → State → Prop} {BX : String → SX → State → Prop} {AX : Nat → Prop} (hr : vx_Run p l e R s m args below meth c H locs cells slots mc ms (F0 m pc ls st0) rest (va_Ql post B A1 a) (vx_X px BX AX) free) (hS : va_S A0 H0 H locs) (hA : ∀ q, q < H.size → A1 q → A0 q) (hf : ∀ q, free q → A0 q) (hAX : ∀ q, q < H.size → AX q → A0 q)
    (kx : ∀ (E : String) (ce : Cell) (q9 : Addr) (u : SX) (t : State) (H1 : Heap) (locs1 : List Loc), t.heap = H1 → s.vm.Alike t.vm → px u → BX E u t → H.size ≤ H1.size → (∀ q : Nat, q < H.size → ¬ AX q → H1[q]? = H[q]?) → va_S A0 H0 H1 locs1 → H1[q9]? = some ce → ce.vm = .none → s.vm.findClass E = some ce.cls → vx_W p l e R s m args below meth c H1 locs1 (cells + mc) (slots + ms) Q (F0 m pc ls rest) q9)
    (kk : ∀ (r : Int64) (u : S) (t : State) (H1 : Heap) (locs1 : List Loc), t.heap = H1 → s.vm.Alike t.vm → post r u → B u t → H.size ≤ H1.size → (∀ q : Nat, q < H.size → ¬ A1 q → H1[q]? = H[q]?) → va_S A0 H0 H1 locs1 → W p l e R s m args below meth c H1 locs1 (cells + mc) (slots + ms) Q (F0 m (pc + 3) ls (.long r :: rest))) : W p l e R s m args below meth c H locs cells slots Q (F0 m pc ls st0) := by
  intro T hT X
  rcases hr T hT X with ⟨v, st₀, t, T', L, h0, X', hL, e1, e2, ⟨⟨r, u, hv, hp, hb⟩, hF⟩, st⟩ | ⟨q, st₀, t, T', L, E, ce, h0, X', hL, e1, e2, ⟨u, hp, hb, hF⟩, hce, hcv, hcl, st⟩
  · cases hv
    obtain ⟨k1, k2, k3⟩ := vx_keep h0 e1 hS hA hf hL hF
    obtain ⟨t2, a1, b1⟩ := kk r u t T'.heap (locs ++ L) e1.symm (by rw [← e2]; exact X'.warmed.alike) hp hb k1 k2 k3 T' rfl X'
    exact ⟨t2, st t2 a1, b1⟩
  · obtain ⟨k1, k2, k3⟩ := vx_keep h0 e1 hS hAX hf hL hF
    obtain ⟨t2, a1, b1⟩ := kx E ce q u t T'.heap (locs ++ L) e1.symm (by rw [← e2]; exact X'.warmed.alike) hp hb k1 k2 k3 (by rw [e1]; exact hce) hcv hcl T' rfl X'
    exact ⟨t2, st.trans a1, b1⟩
theorem vx_callf {S SX : Type} {post : UInt32 → S → Prop} {px : SX → Prop} {B : S → State → Prop} {BX : String → SX → State → Prop} {AX : Nat → Prop} (hr : vx_Run p l e R s m args below meth c H locs cells slots mc ms (F0 m pc ls st0) rest (va_Qf post B A1 a) (vx_X px BX AX) free) (hS : va_S A0 H0 H locs) (hA : ∀ q, q < H.size → A1 q → A0 q) (hf : ∀ q, free q → A0 q) (hAX : ∀ q, q < H.size → AX q → A0 q)
    (kx : ∀ (E : String) (ce : Cell) (q9 : Addr) (u : SX) (t : State) (H1 : Heap) (locs1 : List Loc), t.heap = H1 → s.vm.Alike t.vm → px u → BX E u t → H.size ≤ H1.size → (∀ q : Nat, q < H.size → ¬ AX q → H1[q]? = H[q]?) → va_S A0 H0 H1 locs1 → H1[q9]? = some ce → ce.vm = .none → s.vm.findClass E = some ce.cls → vx_W p l e R s m args below meth c H1 locs1 (cells + mc) (slots + ms) Q (F0 m pc ls rest) q9)
    (kk : ∀ (r : UInt32) (u : S) (t : State) (H1 : Heap) (locs1 : List Loc), t.heap = H1 → s.vm.Alike t.vm → post r u → B u t → H.size ≤ H1.size → (∀ q : Nat, q < H.size → ¬ A1 q → H1[q]? = H[q]?) → va_S A0 H0 H1 locs1 → W p l e R s m args below meth c H1 locs1 (cells + mc) (slots + ms) Q (F0 m (pc + 3) ls (.float r :: rest))) : W p l e R s m args below meth c H locs cells slots Q (F0 m pc ls st0) := by
  intro T hT X
  rcases hr T hT X with ⟨v, st₀, t, T', L, h0, X', hL, e1, e2, ⟨⟨r, u, hv, hp, hb⟩, hF⟩, st⟩ | ⟨q, st₀, t, T', L, E, ce, h0, X', hL, e1, e2, ⟨u, hp, hb, hF⟩, hce, hcv, hcl, st⟩
  · cases hv
    obtain ⟨k1, k2, k3⟩ := vx_keep h0 e1 hS hA hf hL hF
    obtain ⟨t2, a1, b1⟩ := kk r u t T'.heap (locs ++ L) e1.symm (by rw [← e2]; exact X'.warmed.alike) hp hb k1 k2 k3 T' rfl X'
    exact ⟨t2, st t2 a1, b1⟩
  · obtain ⟨k1, k2, k3⟩ := vx_keep h0 e1 hS hAX hf hL hF
    obtain ⟨t2, a1, b1⟩ := kx E ce q u t T'.heap (locs ++ L) e1.symm (by rw [← e2]; exact X'.warmed.alike) hp hb k1 k2 k3 (by rw [e1]; exact hce) hcv hcl T' rfl X'
    exact ⟨t2, st.trans a1, b1⟩
theorem vx_calld {S SX : Type} {post : UInt64 → S → Prop} {px : SX → Prop} {B : S → State → Prop} {BX : String → SX → State → Prop} {AX : Nat → Prop} (hr : vx_Run p l e R s m args below meth c H locs cells slots mc ms (F0 m pc ls st0) rest (va_Qd post B A1 a) (vx_X px BX AX) free) (hS : va_S A0 H0 H locs) (hA : ∀ q, q < H.size → A1 q → A0 q) (hf : ∀ q, free q → A0 q) (hAX : ∀ q, q < H.size → AX q → A0 q)
    (kx : ∀ (E : String) (ce : Cell) (q9 : Addr) (u : SX) (t : State) (H1 : Heap) (locs1 : List Loc), t.heap = H1 → s.vm.Alike t.vm → px u → BX E u t → H.size ≤ H1.size → (∀ q : Nat, q < H.size → ¬ AX q → H1[q]? = H[q]?) → va_S A0 H0 H1 locs1 → H1[q9]? = some ce → ce.vm = .none → s.vm.findClass E = some ce.cls → vx_W p l e R s m args below meth c H1 locs1 (cells + mc) (slots + ms) Q (F0 m pc ls rest) q9)
    (kk : ∀ (r : UInt64) (u : S) (t : State) (H1 : Heap) (locs1 : List Loc), t.heap = H1 → s.vm.Alike t.vm → post r u → B u t → H.size ≤ H1.size → (∀ q : Nat, q < H.size → ¬ A1 q → H1[q]? = H[q]?) → va_S A0 H0 H1 locs1 → W p l e R s m args below meth c H1 locs1 (cells + mc) (slots + ms) Q (F0 m (pc + 3) ls (.double r :: rest))) : W p l e R s m args below meth c H locs cells slots Q (F0 m pc ls st0) := by
  intro T hT X
  rcases hr T hT X with ⟨v, st₀, t, T', L, h0, X', hL, e1, e2, ⟨⟨r, u, hv, hp, hb⟩, hF⟩, st⟩ | ⟨q, st₀, t, T', L, E, ce, h0, X', hL, e1, e2, ⟨u, hp, hb, hF⟩, hce, hcv, hcl, st⟩
  · cases hv
    obtain ⟨k1, k2, k3⟩ := vx_keep h0 e1 hS hA hf hL hF
    obtain ⟨t2, a1, b1⟩ := kk r u t T'.heap (locs ++ L) e1.symm (by rw [← e2]; exact X'.warmed.alike) hp hb k1 k2 k3 T' rfl X'
    exact ⟨t2, st t2 a1, b1⟩
  · obtain ⟨k1, k2, k3⟩ := vx_keep h0 e1 hS hAX hf hL hF
    obtain ⟨t2, a1, b1⟩ := kx E ce q u t T'.heap (locs ++ L) e1.symm (by rw [← e2]; exact X'.warmed.alike) hp hb k1 k2 k3 (by rw [e1]; exact hce) hcv hcl T' rfl X'
    exact ⟨t2, st.trans a1, b1⟩
theorem vx_callv {S SX : Type} {post : S → Prop} {px : SX → Prop} {B : S → State → Prop} {BX : String → SX → State → Prop} {AX : Nat → Prop} (hr : vx_Run p l e R s m args below meth c H locs cells slots mc ms (F0 m pc ls st0) rest (va_Qv post B A1 a) (vx_X px BX AX) free) (hS : va_S A0 H0 H locs) (hA : ∀ q, q < H.size → A1 q → A0 q) (hf : ∀ q, free q → A0 q) (hAX : ∀ q, q < H.size → AX q → A0 q)
    (kx : ∀ (E : String) (ce : Cell) (q9 : Addr) (u : SX) (t : State) (H1 : Heap) (locs1 : List Loc), t.heap = H1 → s.vm.Alike t.vm → px u → BX E u t → H.size ≤ H1.size → (∀ q : Nat, q < H.size → ¬ AX q → H1[q]? = H[q]?) → va_S A0 H0 H1 locs1 → H1[q9]? = some ce → ce.vm = .none → s.vm.findClass E = some ce.cls → vx_W p l e R s m args below meth c H1 locs1 (cells + mc) (slots + ms) Q (F0 m pc ls rest) q9)
    (kk : ∀ (u : S) (t : State) (H1 : Heap) (locs1 : List Loc), t.heap = H1 → s.vm.Alike t.vm → post u → B u t → H.size ≤ H1.size → (∀ q : Nat, q < H.size → ¬ A1 q → H1[q]? = H[q]?) → va_S A0 H0 H1 locs1 → W p l e R s m args below meth c H1 locs1 (cells + mc) (slots + ms) Q (F0 m (pc + 3) ls (rest))) : W p l e R s m args below meth c H locs cells slots Q (F0 m pc ls st0) := by
  intro T hT X
  rcases hr T hT X with ⟨v, st₀, t, T', L, h0, X', hL, e1, e2, ⟨⟨u, hv, hp, hb⟩, hF⟩, st⟩ | ⟨q, st₀, t, T', L, E, ce, h0, X', hL, e1, e2, ⟨u, hp, hb, hF⟩, hce, hcv, hcl, st⟩
  · cases hv
    obtain ⟨k1, k2, k3⟩ := vx_keep h0 e1 hS hA hf hL hF
    obtain ⟨t2, a1, b1⟩ := kk u t T'.heap (locs ++ L) e1.symm (by rw [← e2]; exact X'.warmed.alike) hp hb k1 k2 k3 T' rfl X'
    exact ⟨t2, st t2 a1, b1⟩
  · obtain ⟨k1, k2, k3⟩ := vx_keep h0 e1 hS hAX hf hL hF
    obtain ⟨t2, a1, b1⟩ := kx E ce q u t T'.heap (locs ++ L) e1.symm (by rw [← e2]; exact X'.warmed.alike) hp hb k1 k2 k3 (by rw [e1]; exact hce) hcv hcl T' rfl X'
    exact ⟨t2, st.trans a1, b1⟩
/-- caught by the row x of this method's table; the rows ahead don't take it -/
theorem vx_catch {own name : String} {E : String} {ce : Cell} {q : Addr} (hown : s.vm.findClass own = some m.cls) (pre : List ExceptionTableEntry) (x : ExceptionTableEntry) (suf : List ExceptionTableEntry) (hsplit : c.exceptionTable.toList = pre ++ x :: suf)
    (hpass : ∀ z ∈ pre, covers z pc = false ∨ (z.catchType ≠ 0 ∧ ∃ nm : String, (Cond.classLink own z.catchType nm).before args s = true ∧ va_Nc E nm s)) (hx : covers x pc = true) (h0 : x.catchType ≠ 0)
    (hlink : (Cond.classLink own x.catchType name).before args s = true) (hcast : (Cond.castable E name).before args s = true) (hcell : H[q]? = some ce) (hv : ce.vm = .none) (hcl : s.vm.findClass E = some ce.cls)
    (kk : W p l e R s m args below meth c H locs cells slots Q (F0 m x.handlerPc ls [.ref q])) : vx_W p l e R s m args below meth c H locs cells slots Q (F0 m pc ls rest) q := by
  intro T hT X
  have hpl : e.platform.magicAccessors = ({} : Platform).magicAccessors := by rw [X.admits.platform]
  obtain ⟨c3, c4, hc3, hc4, hasg⟩ := Cond.castable_spec hcast
  cases Option.some.inj (hc3.symm.trans hcl)
  obtain ⟨c5, hc5, hcl5⟩ := Cond.classLink_spec hown hlink e.platform hpl
  cases Option.some.inj (hc4.symm.trans hc5)
  obtain ⟨vm', X', st⟩ := X.thenCaughtThrough q (g := F0 m pc ls rest) rfl (Steps.refl _) (by rw [hT]; exact hcell) (by rw [hv]; rfl) (by obtain ⟨k9, h9, -⟩ := Vm.findClass_spec hcl; exact ⟨k9, h9⟩) pre x suf hsplit
    (fun z hz => by
      rcases hpass z hz with h | ⟨hz0, nm, hl1, hn1⟩
      · exact Or.inl h
      · obtain ⟨c6, hc6, hcl6⟩ := Cond.classLink_spec hown hl1 e.platform hpl
        obtain ⟨a8, b8, h1, h2, h3⟩ := hn1
        cases Option.some.inj (h1.symm.trans hcl)
        cases Option.some.inj (h2.symm.trans hc6)
        exact Or.inr ⟨hz0, _, hcl6, h3⟩) hx (Or.inr ⟨h0, c4, hcl5, hasg⟩)
  obtain ⟨t, a1, b1⟩ := kk (T.setVm vm') hT X'
  exact ⟨t, st.trans a1, b1⟩
end Rows
section Ends
variable {p : Program} {l : Launch} {e : Env} {R : Room} {s : State} {m : MethodId} {args : Array Value} {below : List Frame} {meth : Method} {c : Code} {H : Heap} {locs : List Loc} {cells slots : Nat} {Q : State → Prop}
variable {mc ms : Nat} {free : Addr → Prop} {A0 A1 : Nat → Prop} {H0 : Heap} {a : Array Value} {ls : Array Slot} {st0 rest : List Value}
variable {Qc : Array Value → State → Outcome → State → Prop} {XC : String → State → State → Prop}
/-- what a body that may throw owes at its end -/
def vx_MQ (below : List Frame) (Qc : Array Value → State → Outcome → State → Prop) (XC : String → State → State → Prop) (a : Array Value) (s : State) (mc ms : Nat) (free : Addr → Prop) : State → Prop := fun t =>
  ∃ o, t.status = .running ∧ Ended t below o ∧ vx_Q Qc XC mc ms free a s o t
theorem vx_ret {g : JFrame} {mc ms : Nat} (k : W p l e R s m args below meth c H locs cells slots (MQ below Qc args s mc ms free) g) : W p l e R s m args below meth c H locs cells slots (vx_MQ below Qc XC args s mc ms free) g := by
  intro T hT X
  obtain ⟨t, a1, o, b1, b2, b3, b4⟩ := k T hT X
  exact ⟨t, a1, o, b1, b2, Or.inl ⟨b3, b4⟩⟩
/-- not caught here: it goes on to the caller -/
theorem vx_widen {g : JFrame} {q : Addr} {k n : Nat} (h1 : cells ≤ k) (h2 : slots ≤ n) (kk : vx_W p l e R s m args below meth c H locs k n Q g q) : vx_W p l e R s m args below meth c H locs cells slots Q g q := fun T hT X => kk T hT (stand_widen X h1 h2)
theorem vx_out {pc : Nat} {E : String} {ce : Cell} {q : Addr} {mc ms : Nat} (hout : ∀ x ∈ c.exceptionTable.toList, covers x pc = false) (hlocks : meth.locks = false) (hcell : H[q]? = some ce) (hv : ce.vm = .none) (hcl : s.vm.findClass E = some ce.cls)
    (hx : ∀ t : State, t.heap = H → s.vm.Alike t.vm → XC E s t) (hf : ∀ z ∈ locs, free z.base) (hc : cells ≤ mc) (hs : slots ≤ ms) :
    vx_W p l e R s m args below meth c H locs cells slots (vx_MQ below Qc XC args s mc ms free) (F0 m pc ls rest) q := by
  intro T hT X
  obtain ⟨st1, hrun, hend, hW, hsm⟩ := X.leaveThrown q (g := F0 m pc ls rest) rfl rfl rfl hout hlocks
  have hcell9 : (T.setFrames (.throwing q :: below)).heap[q]? = some ce := by
    show T.heap[q]? = some ce
    rw [hT]; exact hcell
  exact ⟨_, st1, .threw q, hrun, hend, Or.inr ⟨q, rfl, E, ce, locs, hx _ hT hW.alike, hcell9, hv, hcl, hW, hsm.mono hc hs, hf⟩⟩
theorem vx_frame {U : State} {k n : Nat} (h : s.sameButNew ({ U with vm := s.vm } : State) locs k n) : s.heap.size ≤ U.heap.size ∧ ∀ q : Nat, q < s.heap.size → (∀ z ∈ locs, z.base ≠ q) → U.heap[q]? = s.heap[q]? := by
  obtain ⟨-, h2, -, -, -, h6⟩ := h
  refine ⟨h2, fun q hq hz => ?_⟩
  obtain ⟨c9, e1, e2, e3, e4⟩ := h6 q _ (Array.getElem?_eq_getElem hq)
  have hs : c9.slots = (s.heap[q]).slots := Array.ext_getElem? fun i => e4 i fun hm => hz _ hm rfl
  have h9 : c9 = s.heap[q] := by
    rw [hs] at e2
    exact e2
  have e5 : U.heap[q]? = some c9 := e1
  rw [e5, h9, Array.getElem?_eq_getElem hq]
/-- the words of a throw but the four that speak of the heap -/
def vx_no (w : Cond) : Bool := decide (w ≠ .isRef (.static Bundle.tN "UNASSIGNED_STACK" Bundle.steD)) && decide (w ≠ .isRef (.static Bundle.tN "SUPPRESSED_SENTINEL" Bundle.listD)) && decide (w ≠ .laysStatic Bundle.tN "UNASSIGNED_STACK" Bundle.steD) && decide (w ≠ .laysStatic Bundle.tN "SUPPRESSED_SENTINEL" Bundle.listD)
def vx_at0 (own : String) (ic : Nat) (X : String) (names : List String) : List Cond := (Bundle.ownAtoms0 own ic X names).filter vx_no
def vx_atS (own : String) (ic : Nat) (X : String) (names : List String) : List Cond := (Bundle.ownAtoms own ic X names).filter vx_no
/-- a word that the tables alone decide, or a good one -/
def vx_ot (w : Cond) : Bool := w.onTables || goodWord w
theorem vx_ot_at {args a' : Array Value} {s U : State} {w : Cond} (hW : s.WarmedH U.vm) (hvm : s.vm = U.vm) (hg : vx_ot w = true) (h : w.before args s = true) : w.before a' U = true := by
  simp only [vx_ot, Bool.or_eq_true] at hg
  rcases hg with hg | hg
  · exact va_tabs hg hvm h
  · exact word_at hW (good_of_word hg) h
/-- a list's words: the good ones out of the method's own list, the others by premises of their own -/
theorem vx_hat {args : Array Value} {s : State} {L B : List Cond} (h1 : ∀ w ∈ L.filter goodWord, w.before args s = true) (h2 : ∀ w ∈ L.filter (fun w => !goodWord w), w ∈ B) (h3 : ∀ w ∈ B, w.before args s = true) : ∀ w ∈ L, w.before args s = true := by
  intro w hw
  by_cases g : goodWord w = true
  · exact h1 w (List.mem_filter.mpr ⟨hw, g⟩)
  · refine h3 w (h2 w (List.mem_filter.mpr ⟨hw, ?_⟩))
    show (!goodWord w) = true
    cases hgw : goodWord w
    · rfl
    · exact absurd hgw g
theorem vx_c {args : Array Value} {s : State} {w : Cond} {B : List Cond} (h : w.before args s = true) (t : ∀ w ∈ B, w.before args s = true) : ∀ w' ∈ w :: B, w'.before args s = true := fun w' h' => (List.mem_cons.mp h').elim (fun e => by rw [e]; exact h) (t w')
theorem vx_n {args : Array Value} {s : State} : ∀ w ∈ ([] : List Cond), w.before args s = true := fun _ h => nomatch h
theorem vx_own {args : Array Value} {s : State} {L : List Cond} (h1 : ∀ w ∈ L.filter vx_no, w.before args s = true)
    (hU : (Cond.isRef (.static Bundle.tN "UNASSIGNED_STACK" Bundle.steD)).before args s = true) (hN : (Cond.isRef (.static Bundle.tN "SUPPRESSED_SENTINEL" Bundle.listD)).before args s = true)
    (lU : (Cond.laysStatic Bundle.tN "UNASSIGNED_STACK" Bundle.steD).before args s = true) (lN : (Cond.laysStatic Bundle.tN "SUPPRESSED_SENTINEL" Bundle.listD).before args s = true) : ∀ w ∈ L, w.before args s = true := by
  intro w hw
  by_cases e1 : w = .isRef (.static Bundle.tN "UNASSIGNED_STACK" Bundle.steD)
  · rw [e1]; exact hU
  · by_cases e2 : w = .isRef (.static Bundle.tN "SUPPRESSED_SENTINEL" Bundle.listD)
    · rw [e2]; exact hN
    · by_cases e3 : w = .laysStatic Bundle.tN "UNASSIGNED_STACK" Bundle.steD
      · rw [e3]; exact lU
      · by_cases e4 : w = .laysStatic Bundle.tN "SUPPRESSED_SENTINEL" Bundle.listD
        · rw [e4]; exact lN
        · exact h1 w (List.mem_filter.mpr ⟨hw, by unfold vx_no; rw [decide_eq_true e1, decide_eq_true e2, decide_eq_true e3, decide_eq_true e4]; rfl⟩)
/-- where a static field lies, its class's statics cell in H -/
def vx_L (C n d : String) (A : Nat → Prop) (U : State) (H : Heap) : Prop := ∃ (c : ClassId) (k : Class) (i : Nat) (f : Field) (a : Nat) (cell : Cell), U.vm.findClass C = some c ∧ U.fieldFound? C n d = some (c, k, i, f) ∧ f.isStatic = true ∧ k.statics = some a ∧ H[a]? = some cell ∧ cell.vm.isStatics = true ∧ cell.cls = c ∧ f.slot < cell.slots.size ∧ k.staticTypes[f.slot]? = some f.type ∧ ¬ A a
theorem vx_L.moved {C n d : String} {A : Nat → Prop} {u U : State} {H : Heap} (hvm : u.vm.Alike U.vm) (h : vx_L C n d A u H) : vx_L C n d A U H := by
  obtain ⟨c, k, i, f, a, cell, h1, h2, h3, h4, h5, h6, h7, h8, h9, h10⟩ := h
  obtain ⟨k', hi', he⟩ := State.fieldFound?_setVm hvm h2
  exact ⟨c, k', i, f, a, cell, by rw [hvm.findClass]; exact h1, hi', h3, by rw [he]; exact h4, h5, h6, h7, h8, by rw [he]; exact h9, h10⟩
theorem vx_L.kept {C n d : String} {A : Nat → Prop} {U : State} {H H1 : Heap} (h : vx_L C n d A U H) (hq : ∀ a : Nat, a < H.size → ¬ A a → H1[a]? = H[a]?) : vx_L C n d A U H1 := by
  obtain ⟨c, k, i, f, a, cell, h1, h2, h3, h4, h5, h6, h7, h8, h9, h10⟩ := h
  exact ⟨c, k, i, f, a, cell, h1, h2, h3, h4, by rw [hq a (Array.getElem?_eq_some_iff.mp h5).1 h10]; exact h5, h6, h7, h8, h9, h10⟩
theorem vx_L.narrow {C n d : String} {A B : Nat → Prop} {U : State} {H : Heap} (h : vx_L C n d A U H) (hAB : ∀ q, B q → A q) : vx_L C n d B U H := by
  obtain ⟨c, k, i, f, a, cell, h1, h2, h3, h4, h5, h6, h7, h8, h9, h10⟩ := h
  exact ⟨c, k, i, f, a, cell, h1, h2, h3, h4, h5, h6, h7, h8, h9, fun z => h10 (hAB _ z)⟩
theorem vx_L.word {C n d : String} {A : Nat → Prop} {s : State} {args : Array Value} (h : vx_L C n d A s s.heap) : (Cond.laysStatic C n d).before args s = true := by
  obtain ⟨c, k, i, f, a, cell, h1, h2, h3, h4, h5, h6, h7, h8, h9, -⟩ := h
  show (Cond.laysStatic C n d).holds args s none s [] = true
  exact Cond.laysStatic_of h1 h2 h3 h4 h5 h6 h7 h8 h9
/-- .. and what it holds: null or some reference -/
def vx_Zq (C n d : String) (A : Nat → Prop) (U : State) (H : Heap) : Prop := va_Zq C n d A U H ∧ vx_L C n d A U H
theorem vx_Zq.moved {C n d : String} {A : Nat → Prop} {u U : State} {H : Heap} (hvm : u.vm.Alike U.vm) (h : vx_Zq C n d A u H) : vx_Zq C n d A U H := ⟨va_Zq.moved hvm h.1, vx_L.moved hvm h.2⟩
theorem vx_Zq.kept {C n d : String} {A : Nat → Prop} {U : State} {H H1 : Heap} (h : vx_Zq C n d A U H) (hq : ∀ a : Nat, a < H.size → ¬ A a → H1[a]? = H[a]?) : vx_Zq C n d A U H1 := ⟨va_Zq.kept h.1 hq, vx_L.kept h.2 hq⟩
theorem vx_Zq.narrow {C n d : String} {A B : Nat → Prop} {U : State} {H : Heap} (h : vx_Zq C n d A U H) (hAB : ∀ q, B q → A q) : vx_Zq C n d B U H := ⟨va_Zq.narrow h.1 hAB, vx_L.narrow h.2 hAB⟩
theorem vx_Zqof {args : Array Value} {s : State} {C n d : String} {A : Nat → Prop} (hl : (Cond.laysStatic C n d).before args s = true) (hini : (Cond.initialized C).before args s = true) (h : (Cond.isRef (.static C n d)).before args s = true) (hA : ∀ a : Nat, a < s.heap.size → ¬ A a) : vx_Zq C n d A s s.heap := by
  refine ⟨va_Zqof hl hini h hA, ?_⟩
  obtain ⟨c, k, i, f, a, cell, h1, h2, h3, h4, h5, h6, h7, h8, h9⟩ := Cond.laysStatic_spec hl
  exact ⟨c, k, i, f, a, cell, h1, h2, h3, h4, h5, h6, h7, h8, h9, hA a (Array.getElem?_eq_some_iff.mp h5).1⟩
theorem vx_isRef {C n d : String} {v : Value} {A : Nat → Prop} {s : State} {args : Array Value} (h : va_Z C n d v A s s.heap) (hv : v.isRef = true) : (Cond.isRef (.static C n d)).before args s = true := by
  obtain ⟨cf, kf, fi, f, a, cell, h1, h2, h3, h4, h5, h6, h7, -⟩ := h
  have he : (Term.static C n d).eval args s none [] s = some v := by
    simp [Term.eval, State.fieldNamed?, h1, h2, h4, h5, h6, h7]
  simp only [Cond.before, Cond.holds, Cond.value, he]
  cases v <;> simp_all [Value.isRef]
theorem vx_isRefq {C n d : String} {A : Nat → Prop} {s : State} {args : Array Value} (h : va_Zq C n d A s s.heap) : (Cond.isRef (.static C n d)).before args s = true := by
  rcases h with h | ⟨t, h⟩
  · exact vx_isRef h rfl
  · exact vx_isRef h rfl
/-- the same frame, seen from here: as if the method were called anew in this heap -/
theorem vx_rebase {T : State} (X : Stand p l e R s m args below meth c T locs cells slots) {R' : Room} (hf : R'.frames ≤ R.frames) (hl : R'.locals ≤ R.locals) (hc : cells + R'.cells ≤ R.cells) (hs : slots + R'.slots ≤ R.slots) :
    Stand p l e R' ((T.setVm s.vm).setFrames (.invoking m args :: below)) m args below meth c T [] 0 0 := by
  have htop : (T.setVm s.vm).topJava?.isSome := X.here.top
  have hF : ((T.setVm s.vm).setFrames (.invoking m args :: below)).frames = .invoking m args :: below := State.frames_setFrames _ (State.cur_lt_of_top htop)
  obtain ⟨g₀, hg0⟩ := Option.isSome_iff_exists.mp htop
  obtain ⟨r, hr⟩ := State.topJava?_eq_some.mp hg0
  have hl9 : e.platform.stackLimits (T.setVm s.vm).me = e.platform.stackLimits s.me := X.limits
  have hb9 : (T.setVm s.vm).me.stackBytes = s.me.stackBytes := X.bytes
  refine ⟨X.admits, X.cas, X.clock, hF, ?_, X.hears, X.method, X.code, X.here, X.tail, X.warmed, ?_, ?_, ?_⟩
  · have h := X.room
    have hU : ((T.setVm s.vm).setFrames (.invoking m args :: below)).localsInUse = s.localsInUse := by
      rw [State.localsInUse_invoking hF (meth := meth) (c := c) X.method X.code, State.localsInUse_invoking X.frames X.method X.code]
    simp only [State.hasRoom, Bool.and_eq_true, decide_eq_true_eq] at h ⊢
    obtain ⟨⟨⟨⟨h1, h2, h3, h4, h5, h6⟩, h7⟩, h8⟩, h9⟩ := h
    rw [X.frames, List.length_cons] at h2 h3
    have q1 := X.heapSize
    have q2 := X.used
    simp only [hF, hU, List.length_cons, State.stackLimits_setFrames, State.stackBytes_setFrames, hl9, hb9]
    refine ⟨⟨⟨⟨by omega, by omega, by omega, by omega, by omega, h6⟩, ?_⟩, ?_⟩, X.book⟩
    · show T.heap.size + R'.cells ≤ e.platform.maxCells
      omega
    · show T.slotsUsed + R'.slots ≤ e.platform.maxSlots
      omega
  · rw [State.stackLimits_setFrames]; rfl
  · rw [State.stackBytes_setFrames]; rfl
  · refine ⟨?_, Nat.le_refl _, Nat.le_refl _, ?_, ?_, fun a c9 h9 => ⟨c9, h9, rfl, rfl, fun _ _ => rfl⟩⟩
    · obtain ⟨t, ht, -⟩ := State.frames_cons hr
      show T.setVm s.vm = { ((T.setVm s.vm).setFrames (.invoking m args :: below)).setFrames (T.setVm s.vm).frames with heap := T.heap, slotsUsed := T.slotsUsed }
      rw [State.setFrames_setFrames, State.setFrames_self ht]
      rfl
    · show T.slotsUsed = T.slotsUsed + ((T.heap.toList.drop T.heap.size).map (·.slots.size)).sum
      rw [List.drop_eq_nil_of_le (Nat.le_of_eq Array.length_toList)]
      rfl
    · show ((T.heap.toList.drop T.heap.size).map (·.slots.size)).sum ≤ 0
      rw [List.drop_eq_nil_of_le (Nat.le_of_eq Array.length_toList)]
      exact Nat.le_refl _
/-- 'throw new E()': new; dup; invokespecial; athrow -/
theorem vx_throw0 {cc : ByteArray} {pc : Nat} (hexec : p.tables.exec = Jvm.exec) (hb : c.code = cc) (hl : l.stackTraces = false) {own cls : String} {names : List String} {ik ic mc ms : Nat} {A : Nat → Prop}
    (hown : s.vm.findClass own = some m.cls) (hcls : Bundle.fit cls = true) (hnames : ∀ n ∈ names, Bundle.fit n = true)
    (hk : (Cond.classLink own ik cls).before args s = true) (hini : (Cond.initialized cls).before args s = true) (hat : ∀ w ∈ vx_at0 own ic cls names, w.before args s = true)
    (hgood : ∀ w ∈ Cond.classLink own ik cls :: Cond.initialized cls :: vx_at0 own ic cls names, vx_ot w = true)
    (hU : vx_Zq Bundle.tN "UNASSIGNED_STACK" Bundle.steD A s s.heap) (hN : vx_Zq Bundle.tN "SUPPRESSED_SENTINEL" Bundle.listD A s s.heap) (hS : va_S A s.heap H locs) (hsize : ls.size = c.maxLocals)
    (d0 : decode cc pc = .ok (.new ik, 3)) (d3 : decode cc (pc + 3) = .ok (.dup, 1)) (d4 : decode cc (pc + 4) = .ok (.invokespecial ic, 3)) (d7 : decode cc (pc + 7) = .ok (.athrow, 1))
    (hout : ∀ x ∈ c.exceptionTable.toList, covers x (pc + 7) = false)
    (hRframes : names.length + 3 < R.frames) (hRlocals : (rest.map fun v => v.category).sum + (13 * (names.length + 1) + 42) ≤ R.locals) (hRcells : cells + 1 ≤ R.cells) (hRslots : slots + 6 ≤ R.slots) (hlocks : meth.locks = false)
    (hx : ∀ t : State, s.vm.Alike t.vm → H.size ≤ t.heap.size → (∀ q : Nat, q < H.size → t.heap[q]? = H[q]?) → XC cls s t)
    (hf : ∀ z ∈ locs, free z.base) (hc : cells + 1 ≤ mc) (hs : slots + 6 ≤ ms) :
    W p l e R s m args below meth c H locs cells slots (vx_MQ below Qc XC args s mc ms free) (F0 m pc ls rest) := by
  intro T hT X
  have htr : e.platform.stackTraces = false := (show e.platform.stackTraces = l.stackTraces by rw [X.admits.platform]).trans hl
  have Y := vx_rebase X (R' := { frames := R.frames, locals := R.locals, cells := 1, slots := 6 }) (Nat.le_refl _) (Nat.le_refl _) hRcells hRslots
  obtain ⟨s', hA⟩ : ∃ z, z = (T.setVm s.vm).setFrames (.invoking m args :: below) := ⟨_, rfl⟩
  rw [← hA] at Y
  have hvm : s'.vm = s.vm := by rw [hA]; rfl
  have hhp : s'.heap = H := by rw [hA]; exact hT
  have hW0 : s.WarmedH s'.vm := by rw [hvm]; exact State.WarmedH.refl s
  have hat' : ∀ w ∈ vx_at0 own ic cls names, w.before args s' = true := fun w hw => vx_ot_at hW0 hvm.symm (hgood w (List.mem_cons_of_mem _ (List.mem_cons_of_mem _ hw))) (hat w hw)
  have hk' : (Cond.classLink own ik cls).before args s' = true := vx_ot_at hW0 hvm.symm (hgood _ List.mem_cons_self) hk
  have hini' : (Cond.initialized cls).before args s' = true := vx_ot_at hW0 hvm.symm (hgood _ (List.mem_cons_of_mem _ List.mem_cons_self)) hini
  have hU' : vx_Zq Bundle.tN "UNASSIGNED_STACK" Bundle.steD A s' s'.heap := by rw [hhp]; exact vx_Zq.moved hW0.alike (hU.kept hS.2.1)
  have hN' : vx_Zq Bundle.tN "SUPPRESSED_SENTINEL" Bundle.listD A s' s'.heap := by rw [hhp]; exact vx_Zq.moved hW0.alike (hN.kept hS.2.1)
  have h : ∀ w ∈ Bundle.ownAtoms0 own ic cls names, w.before args s' = true := vx_own hat' (vx_isRefq hU'.1) (vx_isRefq hN'.1) hU'.2.word hN'.2.word
  have hown' : s'.vm.findClass own = some m.cls := by rw [hvm]; exact hown
  have hins : (Cond.instantiable cls 6).before args s' = true := h _ (by simp [Bundle.ownAtoms0])
  obtain ⟨vm₁, cX, kX, hfX, hkX, -, -, X₁, st1⟩ := Y.newCold hexec (own := own) (C := cls) (index := ik) (n := 6) hown' hk' hins hini'
    (g := F0 m pc ls rest) rfl (by rw [hb]; exact d0) (Nat.le_refl _) (Nat.le_refl _)
  generalize hT1 : (T.setVm vm₁).pushCell { cls := cX, slots := kX.instanceTypes.map defaultValue, vm := .none } = T1 at X₁ st1
  have hcat : (Value.ref T.heap.size).category = 1 := rfl
  have hcellA : T1.heap[T.heap.size]? = some (freshCell cX kX) := by rw [← hT1]; exact State.heap_pushCell_size _ _
  have d3' : decode c.code (pc + 3) = .ok (.dup, 1) := by rw [hb]; exact d3
  obtain ⟨U, hsteps, hrun, hend, hW, hsame, ce, hce, hO⟩ := X₁.ctorThrow0 hexec htr (own := own) (cls := cls) (names := names) (ic := ic) hown' hcls hnames h (fun x hx => nomatch hx) hfX hkX hcellA (by rw [hhp, hT]; exact Nat.le_refl _)
    (g := { method := m, pc := pc + 4, locals := ls, stack := .ref T.heap.size :: .ref T.heap.size :: rest, locked := none }) rfl hsize rfl rfl (rest := rest) rfl
    (by rw [hb]; exact d4) (by rw [hb]; exact d7) hout hRframes (by simp only [List.map_cons, List.sum_cons, hcat]; omega) hlocks
  obtain ⟨f1, f2⟩ := vx_frame hsame
  rw [hhp] at f1 f2
  have hWs : s.WarmedH U.vm := State.WarmedH.trans hW0 hW
  have hcl : s.vm.findClass cls = some ce.cls := by
    have h9 := hO.cls
    rw [hvm] at h9
    exact h9
  have hall : s.sameButNew ({ U with vm := s.vm } : State) locs mc ms := by
    subst hA
    obtain ⟨e1, e2⟩ := hsame
    rw [State.setFrames_setFrames] at e1
    have h2 : (T.setVm s.vm).sameButNew ({ U with vm := s.vm } : State) [] (0 + 1) (0 + 6) := ⟨e1, e2⟩
    have h3 := X.same.trans h2
    rw [List.append_nil] at h3
    exact h3.mono hc hs
  refine ⟨U, ?_, .threw T.heap.size, hrun, hend, Or.inr ⟨T.heap.size, rfl, cls, ce, locs, hx U hWs.alike f1 (fun q hq => f2 q hq (fun z hz => nomatch hz)), hce, hO.vm, hcl, hWs, hall, hf⟩⟩
  refine st1 _ ?_
  show Steps p.tables e below (T1.setTop { method := m, pc := pc + 3, locals := ls, stack := .ref T.heap.size :: rest, locked := none }) _
  jvm_step X₁.here [X₁.here.top, hexec, d3', Value.category]
  exact hsteps
/-- 'throw new E("text")': new; dup; ldc; invokespecial; athrow -/
theorem vx_throwS {cc : ByteArray} {pc : Nat} (hexec : p.tables.exec = Jvm.exec) (hb : c.code = cc) (hl : l.stackTraces = false) {own cls text : String} {names : List String} {ik is ic mc ms sa : Nat} {A : Nat → Prop}
    (hown : s.vm.findClass own = some m.cls) (hcls : Bundle.fit cls = true) (hnames : ∀ n ∈ names, Bundle.fit n = true)
    (hk : (Cond.classLink own ik cls).before args s = true) (hini : (Cond.initialized cls).before args s = true) (hstr : vk_R own is text sa s) (hat : ∀ w ∈ vx_atS own ic cls names, w.before args s = true)
    (hgood : ∀ w ∈ Cond.classLink own ik cls :: Cond.initialized cls :: vx_atS own ic cls names, vx_ot w = true)
    (hU : vx_Zq Bundle.tN "UNASSIGNED_STACK" Bundle.steD A s s.heap) (hN : vx_Zq Bundle.tN "SUPPRESSED_SENTINEL" Bundle.listD A s s.heap) (hS : va_S A s.heap H locs) (hsize : ls.size = c.maxLocals)
    (d0 : decode cc pc = .ok (.new ik, 3)) (d3 : decode cc (pc + 3) = .ok (.dup, 1)) (d4 : decode cc (pc + 4) = .ok (.ldc is, 2)) (d6 : decode cc (pc + 6) = .ok (.invokespecial ic, 3)) (d9 : decode cc (pc + 9) = .ok (.athrow, 1))
    (hout : ∀ x ∈ c.exceptionTable.toList, covers x (pc + 9) = false)
    (hRframes : names.length + 3 < R.frames) (hRlocals : (rest.map fun v => v.category).sum + (13 * (names.length + 1) + 43) ≤ R.locals) (hRcells : cells + 1 ≤ R.cells) (hRslots : slots + 6 ≤ R.slots) (hlocks : meth.locks = false)
    (hx : ∀ t : State, s.vm.Alike t.vm → H.size ≤ t.heap.size → (∀ q : Nat, q < H.size → t.heap[q]? = H[q]?) → XC cls s t)
    (hf : ∀ z ∈ locs, free z.base) (hc : cells + 1 ≤ mc) (hs : slots + 6 ≤ ms) :
    W p l e R s m args below meth c H locs cells slots (vx_MQ below Qc XC args s mc ms free) (F0 m pc ls rest) := by
  intro T hT X
  have htr : e.platform.stackTraces = false := (show e.platform.stackTraces = l.stackTraces by rw [X.admits.platform]).trans hl
  have Y := vx_rebase X (R' := { frames := R.frames, locals := R.locals, cells := 1, slots := 6 }) (Nat.le_refl _) (Nat.le_refl _) hRcells hRslots
  obtain ⟨s', hA⟩ : ∃ z, z = (T.setVm s.vm).setFrames (.invoking m args :: below) := ⟨_, rfl⟩
  rw [← hA] at Y
  have hvm : s'.vm = s.vm := by rw [hA]; rfl
  have hhp : s'.heap = H := by rw [hA]; exact hT
  have hW0 : s.WarmedH s'.vm := by rw [hvm]; exact State.WarmedH.refl s
  have hat' : ∀ w ∈ vx_atS own ic cls names, w.before args s' = true := fun w hw => vx_ot_at hW0 hvm.symm (hgood w (List.mem_cons_of_mem _ (List.mem_cons_of_mem _ hw))) (hat w hw)
  have hk' : (Cond.classLink own ik cls).before args s' = true := vx_ot_at hW0 hvm.symm (hgood _ List.mem_cons_self) hk
  have hini' : (Cond.initialized cls).before args s' = true := vx_ot_at hW0 hvm.symm (hgood _ (List.mem_cons_of_mem _ List.mem_cons_self)) hini
  have hU' : vx_Zq Bundle.tN "UNASSIGNED_STACK" Bundle.steD A s' s'.heap := by rw [hhp]; exact vx_Zq.moved hW0.alike (hU.kept hS.2.1)
  have hN' : vx_Zq Bundle.tN "SUPPRESSED_SENTINEL" Bundle.listD A s' s'.heap := by rw [hhp]; exact vx_Zq.moved hW0.alike (hN.kept hS.2.1)
  have h : ∀ w ∈ Bundle.ownAtoms own ic cls names, w.before args s' = true := vx_own hat' (vx_isRefq hU'.1) (vx_isRefq hN'.1) hU'.2.word hN'.2.word
  have hown' : s'.vm.findClass own = some m.cls := by rw [hvm]; exact hown
  have hins : (Cond.instantiable cls 6).before args s' = true := h _ (by simp [Bundle.ownAtoms])
  obtain ⟨vm₁, cX, kX, hfX, hkX, -, -, X₁, st1⟩ := Y.newCold hexec (own := own) (C := cls) (index := ik) (n := 6) hown' hk' hins hini'
    (g := F0 m pc ls rest) rfl (by rw [hb]; exact d0) (Nat.le_refl _) (Nat.le_refl _)
  generalize hT1 : (T.setVm vm₁).pushCell { cls := cX, slots := kX.instanceTypes.map defaultValue, vm := .none } = T1 at X₁ st1
  have hcat : (Value.ref T.heap.size).category = 1 := rfl
  have hcellA : T1.heap[T.heap.size]? = some (freshCell cX kX) := by rw [← hT1]; exact State.heap_pushCell_size _ _
  have d3' : decode c.code (pc + 3) = .ok (.dup, 1) := by rw [hb]; exact d3
  have d4' : decode c.code (pc + 4) = .ok (.ldc is, 2) := by rw [hb]; exact d4
  have hstr' : vk_R own is text sa s' := vk_R.warm hW0 hstr
  obtain ⟨U, hsteps, hrun, hend, hW, hsame, ce, hce, hO⟩ := X₁.ctorThrowS hexec htr (own := own) (cls := cls) (names := names) (ic := ic) hown' hcls hnames h (fun x hx => nomatch hx) hfX hkX hcellA (by rw [hhp, hT]; exact Nat.le_refl _) (msg := .ref sa) rfl
    (g := { method := m, pc := pc + 6, locals := ls, stack := .ref sa :: .ref T.heap.size :: .ref T.heap.size :: rest, locked := none }) rfl hsize rfl rfl (rest := rest) rfl
    (by rw [hb]; exact d6) (by rw [hb]; exact d9) hout hRframes (by simp only [List.map_cons, List.sum_cons, hcat]; omega) hlocks
  obtain ⟨f1, f2⟩ := vx_frame hsame
  rw [hhp] at f1 f2
  have hWs : s.WarmedH U.vm := State.WarmedH.trans hW0 hW
  have hcl : s.vm.findClass cls = some ce.cls := by
    have h9 := hO.cls
    rw [hvm] at h9
    exact h9
  have hall : s.sameButNew ({ U with vm := s.vm } : State) locs mc ms := by
    subst hA
    obtain ⟨e1, e2⟩ := hsame
    rw [State.setFrames_setFrames] at e1
    have h2 : (T.setVm s.vm).sameButNew ({ U with vm := s.vm } : State) [] (0 + 1) (0 + 6) := ⟨e1, e2⟩
    have h3 := X.same.trans h2
    rw [List.append_nil] at h3
    exact h3.mono hc hs
  refine ⟨U, ?_, .threw T.heap.size, hrun, hend, Or.inr ⟨T.heap.size, rfl, cls, ce, locs, hx U hWs.alike f1 (fun q hq => f2 q hq (fun z hz => nomatch hz)), hce, hO.vm, hcl, hWs, hall, hf⟩⟩
  refine st1 _ ?_
  show Steps p.tables e below (T1.setTop { method := m, pc := pc + 3, locals := ls, stack := .ref T.heap.size :: rest, locked := none }) _
  jvm_step X₁.here [X₁.here.top, hexec, d3', Value.category]
  exact X₁.ldcString hexec (own := own) (text := text) (index := is) (a := sa) hown' hstr'.1 hstr'.2
    (g := { method := m, pc := pc + 4, locals := ls, stack := .ref T.heap.size :: .ref T.heap.size :: rest, locked := none }) rfl d4' _ hsteps
/-- 'throw new E("text")', the text by a wide index -/
theorem vx_throwSW {cc : ByteArray} {pc : Nat} (hexec : p.tables.exec = Jvm.exec) (hb : c.code = cc) (hl : l.stackTraces = false) {own cls text : String} {names : List String} {ik is ic mc ms sa : Nat} {A : Nat → Prop}
    (hown : s.vm.findClass own = some m.cls) (hcls : Bundle.fit cls = true) (hnames : ∀ n ∈ names, Bundle.fit n = true)
    (hk : (Cond.classLink own ik cls).before args s = true) (hini : (Cond.initialized cls).before args s = true) (hstr : vk_R own is text sa s) (hat : ∀ w ∈ vx_atS own ic cls names, w.before args s = true)
    (hgood : ∀ w ∈ Cond.classLink own ik cls :: Cond.initialized cls :: vx_atS own ic cls names, vx_ot w = true)
    (hU : vx_Zq Bundle.tN "UNASSIGNED_STACK" Bundle.steD A s s.heap) (hN : vx_Zq Bundle.tN "SUPPRESSED_SENTINEL" Bundle.listD A s s.heap) (hS : va_S A s.heap H locs) (hsize : ls.size = c.maxLocals)
    (d0 : decode cc pc = .ok (.new ik, 3)) (d3 : decode cc (pc + 3) = .ok (.dup, 1)) (d4 : decode cc (pc + 4) = .ok (.ldc_w is, 3)) (d7 : decode cc (pc + 7) = .ok (.invokespecial ic, 3)) (d10 : decode cc (pc + 10) = .ok (.athrow, 1))
    (hout : ∀ x ∈ c.exceptionTable.toList, covers x (pc + 10) = false)
    (hRframes : names.length + 3 < R.frames) (hRlocals : (rest.map fun v => v.category).sum + (13 * (names.length + 1) + 43) ≤ R.locals) (hRcells : cells + 1 ≤ R.cells) (hRslots : slots + 6 ≤ R.slots) (hlocks : meth.locks = false)
    (hx : ∀ t : State, s.vm.Alike t.vm → H.size ≤ t.heap.size → (∀ q : Nat, q < H.size → t.heap[q]? = H[q]?) → XC cls s t)
    (hf : ∀ z ∈ locs, free z.base) (hc : cells + 1 ≤ mc) (hs : slots + 6 ≤ ms) :
    W p l e R s m args below meth c H locs cells slots (vx_MQ below Qc XC args s mc ms free) (F0 m pc ls rest) := by
  intro T hT X
  have htr : e.platform.stackTraces = false := (show e.platform.stackTraces = l.stackTraces by rw [X.admits.platform]).trans hl
  have Y := vx_rebase X (R' := { frames := R.frames, locals := R.locals, cells := 1, slots := 6 }) (Nat.le_refl _) (Nat.le_refl _) hRcells hRslots
  obtain ⟨s', hA⟩ : ∃ z, z = (T.setVm s.vm).setFrames (.invoking m args :: below) := ⟨_, rfl⟩
  rw [← hA] at Y
  have hvm : s'.vm = s.vm := by rw [hA]; rfl
  have hhp : s'.heap = H := by rw [hA]; exact hT
  have hW0 : s.WarmedH s'.vm := by rw [hvm]; exact State.WarmedH.refl s
  have hat' : ∀ w ∈ vx_atS own ic cls names, w.before args s' = true := fun w hw => vx_ot_at hW0 hvm.symm (hgood w (List.mem_cons_of_mem _ (List.mem_cons_of_mem _ hw))) (hat w hw)
  have hk' : (Cond.classLink own ik cls).before args s' = true := vx_ot_at hW0 hvm.symm (hgood _ List.mem_cons_self) hk
  have hini' : (Cond.initialized cls).before args s' = true := vx_ot_at hW0 hvm.symm (hgood _ (List.mem_cons_of_mem _ List.mem_cons_self)) hini
  have hU' : vx_Zq Bundle.tN "UNASSIGNED_STACK" Bundle.steD A s' s'.heap := by rw [hhp]; exact vx_Zq.moved hW0.alike (hU.kept hS.2.1)
  have hN' : vx_Zq Bundle.tN "SUPPRESSED_SENTINEL" Bundle.listD A s' s'.heap := by rw [hhp]; exact vx_Zq.moved hW0.alike (hN.kept hS.2.1)
  have h : ∀ w ∈ Bundle.ownAtoms own ic cls names, w.before args s' = true := vx_own hat' (vx_isRefq hU'.1) (vx_isRefq hN'.1) hU'.2.word hN'.2.word
  have hown' : s'.vm.findClass own = some m.cls := by rw [hvm]; exact hown
  have hins : (Cond.instantiable cls 6).before args s' = true := h _ (by simp [Bundle.ownAtoms])
  obtain ⟨vm₁, cX, kX, hfX, hkX, -, -, X₁, st1⟩ := Y.newCold hexec (own := own) (C := cls) (index := ik) (n := 6) hown' hk' hins hini'
    (g := F0 m pc ls rest) rfl (by rw [hb]; exact d0) (Nat.le_refl _) (Nat.le_refl _)
  generalize hT1 : (T.setVm vm₁).pushCell { cls := cX, slots := kX.instanceTypes.map defaultValue, vm := .none } = T1 at X₁ st1
  have hcat : (Value.ref T.heap.size).category = 1 := rfl
  have hcellA : T1.heap[T.heap.size]? = some (freshCell cX kX) := by rw [← hT1]; exact State.heap_pushCell_size _ _
  have d3' : decode c.code (pc + 3) = .ok (.dup, 1) := by rw [hb]; exact d3
  have d4' : decode c.code (pc + 4) = .ok (.ldc_w is, 3) := by rw [hb]; exact d4
  have hstr' : vk_R own is text sa s' := vk_R.warm hW0 hstr
  obtain ⟨U, hsteps, hrun, hend, hW, hsame, ce, hce, hO⟩ := X₁.ctorThrowS hexec htr (own := own) (cls := cls) (names := names) (ic := ic) hown' hcls hnames h (fun x hx => nomatch hx) hfX hkX hcellA (by rw [hhp, hT]; exact Nat.le_refl _) (msg := .ref sa) rfl
    (g := { method := m, pc := pc + 7, locals := ls, stack := .ref sa :: .ref T.heap.size :: .ref T.heap.size :: rest, locked := none }) rfl hsize rfl rfl (rest := rest) rfl
    (by rw [hb]; exact d7) (by rw [hb]; exact d10) hout hRframes (by simp only [List.map_cons, List.sum_cons, hcat]; omega) hlocks
  obtain ⟨f1, f2⟩ := vx_frame hsame
  rw [hhp] at f1 f2
  have hWs : s.WarmedH U.vm := State.WarmedH.trans hW0 hW
  have hcl : s.vm.findClass cls = some ce.cls := by
    have h9 := hO.cls
    rw [hvm] at h9
    exact h9
  have hall : s.sameButNew ({ U with vm := s.vm } : State) locs mc ms := by
    subst hA
    obtain ⟨e1, e2⟩ := hsame
    rw [State.setFrames_setFrames] at e1
    have h2 : (T.setVm s.vm).sameButNew ({ U with vm := s.vm } : State) [] (0 + 1) (0 + 6) := ⟨e1, e2⟩
    have h3 := X.same.trans h2
    rw [List.append_nil] at h3
    exact h3.mono hc hs
  refine ⟨U, ?_, .threw T.heap.size, hrun, hend, Or.inr ⟨T.heap.size, rfl, cls, ce, locs, hx U hWs.alike f1 (fun q hq => f2 q hq (fun z hz => nomatch hz)), hce, hO.vm, hcl, hWs, hall, hf⟩⟩
  refine st1 _ ?_
  show Steps p.tables e below (T1.setTop { method := m, pc := pc + 3, locals := ls, stack := .ref T.heap.size :: rest, locked := none }) _
  jvm_step X₁.here [X₁.here.top, hexec, d3', Value.category]
  exact X₁.ldcStringW hexec (own := own) (text := text) (index := is) (a := sa) hown' hstr'.1 hstr'.2
    (g := { method := m, pc := pc + 4, locals := ls, stack := .ref T.heap.size :: .ref T.heap.size :: rest, locked := none }) rfl d4' _ hsteps
end Ends
section Bodies
variable {l : Launch}
theorem vx_ofW {y : MethodName} {ws ws' : List Cond} {rm : Room} {Pc : Array Value → State → Prop} {Qc : Array Value → State → Outcome → State → Prop} {XC : String → State → State → Prop} {mc ms : Nat} {free : Addr → Prop} {cc : ByteArray} {maxL : Nat} {ret : Option FieldType}
    (hy : plainName y.cls = true) (hw : ws = Cond.code y cc maxL ret :: ws')
    (body : ∀ p e s m args below meth c s₁, BodyLoose p l y (headSpec ws rm) cc maxL ret e s m args below meth c s₁ → c.maxLocals = maxL → (∀ x ∈ c.exceptionTable.toList, False) → Pc args s →
      W p l e (headSpec ws rm).room s m args below meth c s.heap [] 0 0 (vx_MQ below Qc XC args s mc ms free) (entryFrame m args maxL)) : vx_Met l y ws rm Pc Qc XC mc ms free := by
  refine MetFree.of_bodyS (code := cc) (maxLocals := maxL) (ret := ret) hy ?_ ?_
  · intro args s m h hn
    obtain ⟨meth, c, h1, h2, h3, h4, h5, h6, -, -⟩ := Cond.code_spec hn (atoms_spec (ws := ws) h _ (by rw [hw]; exact List.mem_cons_self))
    exact ⟨meth, c, h1, h2, h3, h4, h5, h6⟩
  · intro p e s m args below meth c s₁ B hml hP _
    have hh0 : s₁.heap = s.heap := by rw [B.state]; rfl
    have ht : ∀ x ∈ c.exceptionTable.toList, False := by
      obtain ⟨meth9, c9, h1, h2, -, -, -, -, h7, -⟩ := Cond.code_spec B.named (atoms_spec (ws := ws) B.pre _ (by rw [hw]; exact List.mem_cons_self))
      cases Option.some.inj (h1.symm.trans B.method)
      cases Option.some.inj (h2.symm.trans (Stand.of_body B).code)
      intro x hx
      rw [Array.isEmpty_iff.mp h7] at hx
      cases hx
    obtain ⟨t, a1, o, b1, b2, b3⟩ := body p e s m args below meth c s₁ B hml ht hP s₁ hh0 (Stand.of_body B)
    exact ⟨t, o, a1, b1, b2, b3⟩
/-- the table of a body with handlers -/
theorem vx_table {p : Program} {x y : MethodName} {S : Spec} {cc bytes : ByteArray} {maxL maxL' : Nat} {ret ret' : Option FieldType} {e : Env} {s s₁ : State} {m : MethodId} {args : Array Value} {below : List Frame} {meth : Method} {c : Code} {hh : List (Nat × Nat × Nat × Nat)}
    (B : BodyLoose p l y S cc maxL ret e s m args below meth c s₁) (h : (Cond.codeWith y bytes maxL' ret' hh).before args s = true) : c.exceptionTable.toList = tableOf hh := by
  obtain ⟨m9, meth9, c9, hn9, h1, h2, -, -, h6, -⟩ := Cond.codeWith_spec h
  cases Option.some.inj (hn9.symm.trans B.named)
  cases Option.some.inj (h1.symm.trans B.method)
  cases Option.some.inj (h2.symm.trans (Stand.of_body B).code)
  rw [← h6, table_eq]
end Bodies
end VXA
/-! ===== END ===== -/
/-! ===== BEGIN a static call of a method with an exception table ===== -/
section VXS
variable {p : Program} {l : Launch} {e : Env} {R : Room} {s : State} {m : MethodId} {args : Array Value} {below : List Frame} {meth : Method} {c : Code} {T : State} {H : Heap} {locs : List Loc} {cells slots : Nat}
abbrev vx_CSW (R : Room) (s : State) (args : Array Value) (own : String) (index : Nat) (y : MethodName) (bytes : ByteArray) (maxL : Nat) (ret : Option FieldType) (hh : List (Nat × Nat × Nat × Nat)) (ws : List Cond) (rm : Room) (mc ms n : Nat) : Prop :=
  (rm.cells = mc ∧ rm.slots = ms ∧ rm.frames + 1 ≤ R.frames ∧ 8 + (maxL + 11) + rm.locals ≤ R.locals ∧ (∀ w ∈ ws, ∀ (a' : Array Value) (U : State), s.WarmedH U.vm → w.before a' U = true) ∧ Cond.codeWith y bytes maxL ret hh ∈ ws) ∧
  (Cond.codeWith y bytes maxL ret hh).before args s = true ∧ (Cond.initialized y.cls).before args s = true ∧ (y.cls ≠ "java/lang/invoke/MethodHandle" ∧ y.cls ≠ "java/lang/invoke/VarHandle") ∧
  (∀ sig, parseMethodDescriptor y.desc = some sig → n = sig.parameters.length) ∧ (Cond.methodLink own index y).before args s = true ∧ (Cond.static y).before args s = true
theorem vx_cwSW {own : String} {index maxL mc ms : Nat} {y : MethodName} {bytes : ByteArray} {ret : Option FieldType} {hh : List (Nat × Nat × Nat × Nat)} {Ts ws ws' : List Cond} {rm : Room} (n : Nat) (ht : ∀ w ∈ Ts, w.before args s = true) (hT : GoodIn Ts (va_wsS own index y ws)) (hw : ws = Cond.codeWith y bytes maxL ret hh :: ws') (hrc : rm.cells = mc) (hrs : rm.slots = ms)
    (hd : y.cls ≠ "java/lang/invoke/MethodHandle" ∧ y.cls ≠ "java/lang/invoke/VarHandle" ∧ (parseMethodDescriptor y.desc).map (fun d => d.parameters.length) = some n) (hR : rm.frames + 1 ≤ R.frames ∧ 8 + (maxL + 11) + rm.locals ≤ R.locals) :
    vx_CSW R s args own index y bytes maxL ret hh ws rm mc ms n := by
  have ok : ∀ w ∈ va_wsS own index y ws, w.before args s = true := fun w h => ht w (hT w h).1
  have hG : GoodIn Ts ws := fun w h => hT w (by unfold va_wsS; exact List.mem_append_right _ h)
  have hc : Cond.codeWith y bytes maxL ret hh ∈ ws := by rw [hw]; exact List.mem_cons_self
  refine ⟨⟨hrc, hrs, hR.1, hR.2, pay_in ht hG, hc⟩, ht _ (hG _ hc).1, ok _ (by simp [va_wsS]), ⟨hd.1, hd.2.1⟩, fun sig h => ?_, ok _ (by simp [va_wsS]), ok _ (by simp [va_wsS])⟩
  have h2 := hd.2.2
  rw [h] at h2
  exact (Option.some.inj h2).symm
theorem vx_callSW (X : Stand p l e R s m args below meth c T locs cells slots) (hexec : p.tables.exec = Jvm.exec) {own : String} {index : Nat} {y : MethodName} {bytes : ByteArray} {maxL : Nat} {ret : Option FieldType} {hh : List (Nat × Nat × Nat × Nat)}
    (hown : s.vm.findClass own = some m.cls) (hlink : (Cond.methodLink own index y).before args s = true) (hstat : (Cond.static y).before args s = true) (hinit : (Cond.initialized y.cls).before args s = true)
    (hcode : (Cond.codeWith y bytes maxL ret hh).before args s = true) (hy : y.cls ≠ "java/lang/invoke/MethodHandle" ∧ y.cls ≠ "java/lang/invoke/VarHandle")
    {W9 : Nat} {Pre : Pt → Array Value → Prop} {Post : Pt → Array Value → Option Value → Pt → Prop} (hK : Back l R p e below s args y 3 W9 Pre Post)
    {g : JFrame} (hg : g.method = m) (hsize : g.locals.size = c.maxLocals) {argsL rest : List Value} (hlen : ∀ sig, parseMethodDescriptor y.desc = some sig → argsL.length = sig.parameters.length)
    (hstack : g.stack = argsL.reverse ++ rest) (hW : 2 * g.monitorRoom + (rest.map fun v => v.category).sum ≤ W9) (hdg : decode c.code g.pc = .ok (.invokestatic index, 3))
    (hpre : ∀ vm₁, s.WarmedH vm₁ → Pre ⟨T.setVm vm₁, locs, cells, slots⟩ argsL.toArray) :
    ∃ (v : Option Value) (vm₁ : Vm) (B : Pt), s.WarmedH vm₁ ∧ Stand p l e R s m args below meth c B.U B.locs B.cells B.slots ∧ Post ⟨T.setVm vm₁, locs, cells, slots⟩ argsL.toArray v B ∧
      ∀ target, Steps p.tables e below (B.U.setTop { g with pc := g.pc + 3, stack := v.toList ++ rest }) target → Steps p.tables e below (T.setTop g) target := by
  obtain ⟨mk, methM, cM, hnamed, hmethM, -, -, -, -, -, -, hsigM⟩ := Cond.codeWith_spec hcode
  have hstatic : methM.isStatic = true := Cond.static_spec hnamed hmethM hstat
  obtain ⟨kP, hkP, -⟩ := className_of_methodNamed hnamed
  have hinitP : kP.init = .initialized := Cond.initialized_spec (findClass_of_methodNamed hnamed) hkP hinit
  obtain ⟨vm₁, X₁, hstep₁⟩ := X.invokestatic hexec hown hlink hnamed hmethM hstatic hkP hinitP hy (g := g) hg (argsL := argsL) (rest := rest) (hlen _ hsigM) hstack hdg
  obtain ⟨v, B, X', hpost, hsteps⟩ := hK m meth c ⟨T.setVm vm₁, locs, cells, slots⟩ { g with stack := rest } (.invokestatic index) mk argsL.toArray X₁ hg hsize hdg hW (X₁.named hnamed) (hpre vm₁ X₁.warmed)
  exact ⟨v, vm₁, B, X₁.warmed, X', hpost, fun target h => hstep₁ _ fun acts => by rw [doInvoke_state]; exact hsteps.trans h⟩
theorem vx_runSW {y : MethodName} {bytes cc : ByteArray} {maxL nL mc ms n index : Nat} {ret : Option FieldType} {hh : List (Nat × Nat × Nat × Nat)} {ws : List Cond} {rm : Room} {Pc : Array Value → State → Prop} {Qc : Array Value → State → Outcome → State → Prop} {free : Addr → Prop} {Ts : List Cond} {own : String} {As rest : List Value} {g : JFrame}
    (S : CallFix p m c cc nL s args Ts own) (hM : Met l y ws rm Pc Qc mc ms free) (cw : vx_CSW R s args own index y bytes maxL ret hh ws rm mc ms n) (hp : PreS s H Pc As)
    (hg : g.method = m) (hn : As.length = n) (hsize : g.locals.size = nL) (hstack : g.stack = As.reverse ++ rest) (hW : 2 * g.monitorRoom + (rest.map fun v => v.category).sum ≤ 8) (hdg : decode cc g.pc = .ok (.invokestatic index, 3)) (hf : cells + mc ≤ R.cells ∧ slots + ms ≤ R.slots) :
    va_Run p l e R s m args below meth c H locs cells slots mc ms g rest (Qc As.toArray) (free) := by
  obtain ⟨⟨hrc, hrs, hfr, hlo, hws, hcw⟩, hcode, hini, hy, hlen, hl, hstt⟩ := cw
  have hK : Back l R p e below s args y 3 8 (PreOf R mc ms Pc) (PostOf Qc mc ms free) := va_backW (hh := hh) (bytes := bytes) (maxL := maxL) (ret := ret) hM hp.1 hrc hrs hfr hlo hws hcw (fun a' U hW => word_at hW (Or.inl (by first | rfl | simp [Cond.onTables, Cond.keeps, Cond.steady])) hini)
  obtain ⟨hx, hb, hml, ho, -⟩ := S
  intro T hT X
  obtain ⟨v, vm₁, ⟨U', l2, c2, s2⟩, hW₁, X', ⟨g', mk, t, L, e1, e2, hq, h1, hL, h2, h3⟩, st⟩ := vx_callSW X hx (hh := hh) (bytes := bytes) (maxL := maxL) (ret := ret) ho hl hstt hini hcode hy hK hg (hsize.trans hml.symm) (argsL := As) (rest := rest) (fun sig h => hn.trans (hlen sig h)) hstack hW (by rw [hb]; exact hdg)
    (fun vm₁ hW₁ => ⟨hf.1, hf.2, hp.2 (T.setVm vm₁) hT hW₁⟩)
  dsimp only [Pt.U, Pt.locs, Pt.cells, Pt.slots] at X' e1 e2 h1 h2 h3 st
  subst h1; subst h2; subst h3
  exact ⟨v, (T.setVm vm₁).calling g' mk As.toArray, t, U', L, hT, X', hL, e1, e2, hq, st⟩
/-- not caught here, past rows that name other classes: it goes on to the caller -/
theorem vx_outP {p : Program} {l : Launch} {e : Env} {R : Room} {s : State} {m : MethodId} {args : Array Value} {below : List Frame} {meth : Method} {c : Code} {H : Heap} {locs : List Loc} {cells slots : Nat} {free : Addr → Prop} {ls : Array Slot} {rest : List Value} {Qc : Array Value → State → Outcome → State → Prop} {XC : String → State → State → Prop}
    {pc : Nat} {own E : String} {ce : Cell} {q : Addr} {mc ms : Nat} (hown : s.vm.findClass own = some m.cls) (hlocks : meth.locks = false)
    (hpass : ∀ z ∈ c.exceptionTable.toList, covers z pc = false ∨ (z.catchType ≠ 0 ∧ ∃ nm : String, (Cond.classLink own z.catchType nm).before args s = true ∧ va_Nc E nm s)) (hcell : H[q]? = some ce) (hv : ce.vm = .none) (hcl : s.vm.findClass E = some ce.cls)
    (hx : ∀ t : State, t.heap = H → s.vm.Alike t.vm → XC E s t) (hf : ∀ z ∈ locs, free z.base) (hc : cells ≤ mc) (hs : slots ≤ ms) :
    vx_W p l e R s m args below meth c H locs cells slots (vx_MQ below Qc XC args s mc ms free) (F0 m pc ls rest) q := by
  intro T hT X
  have hpl : e.platform.magicAccessors = ({} : Platform).magicAccessors := by rw [X.admits.platform]
  obtain ⟨vm', hW', X', st⟩ := X.outThrough hlocks q (g := F0 m pc ls rest) rfl rfl rfl (cell := ce) (by rw [hT]; exact hcell) (by rw [hv]; rfl)
    (by obtain ⟨k9, h9, -⟩ := Vm.findClass_spec hcl; exact ⟨k9, h9⟩) (fun z hz => by
      rcases hpass z hz with h | ⟨hz0, nm, hl1, hn1⟩
      · exact Or.inl h
      · obtain ⟨c6, hc6, hcl6⟩ := Cond.classLink_spec hown hl1 e.platform hpl
        obtain ⟨a8, b8, h1, h2, h3⟩ := hn1
        cases Option.some.inj (h1.symm.trans hcl)
        cases Option.some.inj (h2.symm.trans hc6)
        exact Or.inr ⟨hz0, _, hcl6, h3⟩)
  obtain ⟨g₀, hfr⟩ := X'.frames_eq
  have hcell9 : ((T.setVm vm').setFrames (.throwing q :: below)).heap[q]? = some ce := by
    show T.heap[q]? = some ce
    rw [hT]; exact hcell
  have hend : Ended ((T.setVm vm').setFrames (.throwing q :: below)) below (.threw q) := State.frames_setFrames _ (State.cur_lt_of_frames hfr)
  refine ⟨(T.setVm vm').setFrames (.throwing q :: below), ?_, .threw q, X'.here.running, hend, Or.inr ⟨q, rfl, E, ce, locs, hx _ hT (X'.ends _).1.alike, hcell9, hv, hcl, (X'.ends _).1, (X'.ends _).2.mono hc hs, hf⟩⟩
  rw [X.pushThrowing_eq]
  exact st
/-- a thing of a world lies in the heap -/
theorem vx_lt {D : va_G} {cl : List vw_C} {ws : va_W} {H1 : Heap} (h : va_P D cl ws H1) {k : Nat} {q : Nat × va_E} (hk : ws[k]? = some q) : q.1 < H1.size := (h k q hk).lt
end VXS
/-! ===== END ===== -/
/-! ===== BEGIN methods with a table of their own: called by a name, returning or throwing ===== -/
section VXH
/-! vx_backW, vx_callVX, vx_callSX, vx_callVW, vx_runVW, vx_runVX, vx_runSX, vx_ofWH follow the same proofs as their sisters above (Free/Laws.lean, Shelf42/LK1.lean); vx_outP calls Shelf42/NT130.lean (outThrough). -/
section
variable {l : Launch} {R : Room} {p : Program} {e : Env} {below : List Frame} {s : State} {sargs : Array Value} {y : MethodName} {len W9 : Nat}
theorem vx_backW {ws : List Cond} {rm : Room} {Pc : Array Value → State → Prop} {Qc : Array Value → State → Outcome → State → Prop} {XC : String → State → State → Prop} {mc ms : Nat} {free : Addr → Prop} {bytes : ByteArray} {maxL : Nat} {ret : Option FieldType} {hh : List (Nat × Nat × Nat × Nat)}
    (hM : vx_Met l y ws rm Pc Qc XC mc ms free) (hblind : FrameBlind Pc) (hrc : rm.cells = mc) (hrs : rm.slots = ms)
    (hframes : rm.frames + 1 ≤ R.frames) (hlocals : W9 + (maxL + 11) + rm.locals ≤ R.locals)
    (hws : ∀ w ∈ ws, ∀ a' U, s.WarmedH U.vm → w.before a' U = true) (hcode : Cond.codeWith y bytes maxL ret hh ∈ ws) (hinit : ∀ a' U, s.WarmedH U.vm → (Cond.initialized y.cls).before a' U = true) :
    vx_Back l R p e below s sargs y len W9 (PreOf R mc ms Pc) (PostOf Qc mc ms free) (vx_Post XC mc ms free) := by
  intro m meth c A g ig mk a X hg hsize hdg hW hn hp
  have h1 : (headSpec ws rm).pre.before a A.U = true := atoms_intro fun w hw => hws w hw _ _ X.warmed
  have h2 : (Cond.codeWith y bytes maxL ret hh).before a A.U = true := hws _ hcode _ _ X.warmed
  have h3 : (Cond.initialized y.cls).before a A.U = true := hinit _ _ X.warmed
  have h4 : A.cells + (headSpec ws rm).room.cells ≤ R.cells := by rw [show (headSpec ws rm).room.cells = mc from hrc]; exact hp.1
  have h5 : A.slots + (headSpec ws rm).room.slots ≤ R.slots := by rw [show (headSpec ws rm).room.slots = ms from hrs]; exact hp.2.1
  have hPc : Pc a (A.U.calling g mk a) := hblind _ _ _ _ hp.2.2
  obtain ⟨U, Ls, c0, s0⟩ := A
  dsimp only [Pt.U, Pt.locs, Pt.cells, Pt.slots] at h1 h2 h3 h4 h5 X hn hPc ⊢
  obtain ⟨m9, methY, cY, hn9, hmY, hcY, -, hlY, -⟩ := Cond.codeWith_spec h2
  cases Option.some.inj (hn9.symm.trans hn)
  obtain ⟨kY, hkY, -⟩ := className_of_methodNamed hn
  have hinitY : kY.init = .initialized := Cond.initialized_spec (findClass_of_methodNamed hn) hkY h3
  have h : At U g.method c below := by rw [hg]; exact X.here
  have hlocals9 : W9 + (maxL + 11) + (headSpec ws rm).room.locals ≤ R.locals := hlocals
  have happ : (headSpec ws rm).appliesLoose y e.platform (U.calling g mk a) = true :=
    Spec.appliesLoose_calling (g := g) h hdg hn hkY hinitY
      (X.room_calling (g := g) (R' := (headSpec ws rm).room) hsize hmY hcY hframes (by rw [hlY]; omega) h4 h5) h1
  obtain ⟨mid, hmid⟩ := h.above
  have hfr : (U.setTop g).frames = (.java g :: mid) ++ below := by rw [State.frames_setTop' g h.top, hmid]; rfl
  obtain ⟨o, s₂, hsteps, -, hend, hq⟩ := Steps.callFree hM p X.admits X.cas X.clock (acts := []) hfr happ hPc trivial
  have hq' : vx_Q Qc XC mc ms free a (U.calling g mk a) o s₂ := hq
  rw [State.frames_setTop' g h.top] at hend
  obtain ⟨g₀, hg0⟩ := Option.isSome_iff_exists.mp h.top
  obtain ⟨r, hr⟩ := State.topJava?_eq_some.mp hg0
  have hr' : (({ U with heap := s₂.heap, slotsUsed := s₂.slotsUsed } : State).setVm s₂.vm).frames = .java g₀ :: r := hr
  rcases hq' with ⟨hqc, L, hfe, hL⟩ | ⟨q, rfl, E, ce, L, hx, hce, hcv, hcl, hW₂, hsm, hL⟩
  · obtain ⟨⟨v, rfl⟩, hW₂, e2, q2, q3, q4, q5, q6⟩ := id hfe
    have e3 : s₂ = ({ (U.calling g mk a).setFrames s₂.frames with heap := s₂.heap, slotsUsed := s₂.slotsUsed } : State).setVm s₂.vm := by
      have : s₂ = ({ s₂ with vm := (U.calling g mk a).vm } : State).setVm s₂.vm := rfl
      rw [e2] at this
      exact this
    obtain ⟨c₂, i₂, len₂, hc₂, hd₂, hf₂⟩ := hend
    have hW' : U.WarmedH s₂.vm := hW₂
    have hcc : c₂ = c := by
      have h1 : s₂.code? g.method = U.code? g.method := by
        rw [State.code?_eq, State.code?_eq, hW'.alike.method?]
      exact Option.some.inj (hc₂.symm.trans (h1.trans h.code))
    subst hcc
    have hlen : len₂ = len := by rw [hdg] at hd₂; cases hd₂; rfl
    subst hlen
    have hs₂ : s₂ = (({ U with heap := s₂.heap, slotsUsed := s₂.slotsUsed } : State).setVm s₂.vm).setTop { g with pc := g.pc + len₂, stack := v.toList ++ g.stack } := by
      refine e3.trans ?_
      rw [hf₂, State.calling_eq h.top, State.setFrames_setFrames, State.setTop_of_frames _ hr', hr]
      rfl
    have hsame : U.sameButNew ({ U with heap := s₂.heap, slotsUsed := s₂.slotsUsed } : State) L mc ms := by
      refine ⟨?_, q2, q3, q4, q5, q6⟩
      obtain ⟨t, ht, -⟩ := State.frames_cons hr
      show ({ U with heap := s₂.heap, slotsUsed := s₂.slotsUsed } : State) = { U.setFrames U.frames with heap := s₂.heap, slotsUsed := s₂.slotsUsed }
      rw [State.setFrames_self ht]
    subst hg
    refine Or.inl ⟨v, ⟨(({ U with heap := s₂.heap, slotsUsed := s₂.slotsUsed } : State).setVm s₂.vm), Ls ++ L, c0 + mc, s0 + ms⟩,
      ⟨X.admits, X.cas, X.clock, X.frames, X.room, X.hears, X.method, X.code, (X.here.setHeapUsed s₂.heap s₂.slotsUsed).setVm hW'.alike, X.tail, State.WarmedH.trans X.warmed hW', X.limits, X.bytes, X.same.trans (hsame.setVm s.vm)⟩,
      ⟨g, mk, s₂, L, rfl, rfl, hqc, rfl, hL, rfl, rfl⟩, ?_⟩
    show Steps p.tables e below _ ((({ U with heap := s₂.heap, slotsUsed := s₂.slotsUsed } : State).setVm s₂.vm).setTop { g with pc := g.pc + len₂, stack := v.toList ++ g.stack })
    rw [← hs₂]
    exact hsteps
  · obtain ⟨e2, q2, q3, q4, q5, q6⟩ := id hsm
    have e3 : s₂ = ({ (U.calling g mk a).setFrames s₂.frames with heap := s₂.heap, slotsUsed := s₂.slotsUsed } : State).setVm s₂.vm := by
      have : s₂ = ({ s₂ with vm := (U.calling g mk a).vm } : State).setVm s₂.vm := rfl
      rw [e2] at this
      exact this
    have hf₂ : s₂.frames = .throwing q :: .java g :: U.frames.tail := hend
    have hW' : U.WarmedH s₂.vm := hW₂
    have hs₂ : s₂ = ((({ U with heap := s₂.heap, slotsUsed := s₂.slotsUsed } : State).setVm s₂.vm).setTop g).pushFrame (.throwing q) := by
      refine e3.trans ?_
      rw [hf₂, State.calling_eq h.top, State.setFrames_setFrames, State.pushFrame, State.frames_setTop _ hr', State.setTop_of_frames _ hr', State.setFrames_setFrames, hr]
      rfl
    have hsame : U.sameButNew ({ U with heap := s₂.heap, slotsUsed := s₂.slotsUsed } : State) L mc ms := by
      refine ⟨?_, q2, q3, q4, q5, q6⟩
      obtain ⟨t, ht, -⟩ := State.frames_cons hr
      show ({ U with heap := s₂.heap, slotsUsed := s₂.slotsUsed } : State) = { U.setFrames U.frames with heap := s₂.heap, slotsUsed := s₂.slotsUsed }
      rw [State.setFrames_self ht]
    subst hg
    refine Or.inr ⟨q, ⟨(({ U with heap := s₂.heap, slotsUsed := s₂.slotsUsed } : State).setVm s₂.vm), Ls ++ L, c0 + mc, s0 + ms⟩,
      ⟨X.admits, X.cas, X.clock, X.frames, X.room, X.hears, X.method, X.code, (X.here.setHeapUsed s₂.heap s₂.slotsUsed).setVm hW'.alike, X.tail, State.WarmedH.trans X.warmed hW', X.limits, X.bytes, X.same.trans (hsame.setVm s.vm)⟩,
      ⟨g, mk, s₂, L, E, ce, rfl, rfl, hx, hce, hcv, hcl, rfl, hL, rfl, rfl⟩, ?_⟩
    show Steps p.tables e below _ (((({ U with heap := s₂.heap, slotsUsed := s₂.slotsUsed } : State).setVm s₂.vm).setTop g).pushFrame (.throwing q))
    rw [← hs₂]
    exact hsteps
end
variable {p : Program} {l : Launch} {e : Env} {R : Room} {s : State} {m : MethodId} {args : Array Value} {below : List Frame} {meth : Method} {c : Code} {T : State} {H : Heap} {locs : List Loc} {cells slots : Nat}
theorem vx_callVX (X : Stand p l e R s m args below meth c T locs cells slots) (hexec : p.tables.exec = Jvm.exec) {own C : String} {index : Nat} {y : MethodName} {bytes : ByteArray} {maxL : Nat} {ret : Option FieldType} {hh : List (Nat × Nat × Nat × Nat)}
    (hown : s.vm.findClass own = some m.cls) (hlink : (Cond.methodLink own index y).before args s = true) (hinst : (Cond.instanceMethod y).before args s = true) (hsel : (Cond.selects C y y).before args s = true)
    (hcode : (Cond.codeWith y bytes maxL ret hh).before args s = true) (hy : y.cls ≠ "java/lang/invoke/MethodHandle" ∧ y.cls ≠ "java/lang/invoke/VarHandle")
    {W9 : Nat} {Pre : Pt → Array Value → Prop} {Post : Pt → Array Value → Option Value → Pt → Prop} {PostX : Pt → Array Value → Addr → Pt → Prop} (hK : vx_Back l R p e below s args y 3 W9 Pre Post PostX)
    {b : Addr} {cellB : Cell} (hcell : T.heap[b]? = some cellB) (hobj : cellB.vm.isStatics = false) (hcls : s.vm.findClass C = some cellB.cls)
    {g : JFrame} (hg : g.method = m) (hsize : g.locals.size = c.maxLocals) {argsL rest : List Value} (hlen : ∀ sig, parseMethodDescriptor y.desc = some sig → argsL.length = sig.parameters.length)
    (hstack : g.stack = argsL.reverse ++ .ref b :: rest) (hW : 2 * g.monitorRoom + (rest.map fun v => v.category).sum ≤ W9) (hdg : decode c.code g.pc = .ok (.invokevirtual index, 3))
    (hpre : ∀ vm₁, s.WarmedH vm₁ → Pre ⟨T.setVm vm₁, locs, cells, slots⟩ (Value.ref b :: argsL).toArray) :
    (∃ (v : Option Value) (vm₁ : Vm) (B : Pt), s.WarmedH vm₁ ∧ Stand p l e R s m args below meth c B.U B.locs B.cells B.slots ∧ Post ⟨T.setVm vm₁, locs, cells, slots⟩ (Value.ref b :: argsL).toArray v B ∧
      ∀ target, Steps p.tables e below (B.U.setTop { g with pc := g.pc + 3, stack := v.toList ++ rest }) target → Steps p.tables e below (T.setTop g) target) ∨
    (∃ (q : Addr) (vm₁ : Vm) (B : Pt), s.WarmedH vm₁ ∧ Stand p l e R s m args below meth c B.U B.locs B.cells B.slots ∧ PostX ⟨T.setVm vm₁, locs, cells, slots⟩ (Value.ref b :: argsL).toArray q B ∧
      Steps p.tables e below (T.setTop g) ((B.U.setTop { g with stack := rest }).pushFrame (.throwing q))) := by
  obtain ⟨mk, methM, hnamed, hmethM, hstM, habM⟩ := Cond.instanceMethod_spec hinst
  obtain ⟨m8, methM', cM, hn8, hmethM', -, -, -, -, -, -, hsigM⟩ := Cond.codeWith_spec hcode
  cases Option.some.inj (hn8.symm.trans hnamed)
  cases hmethM.symm.trans hmethM'
  obtain ⟨c2, r2, m2, q1, q2, q3, q4, kP, hkP, hkPi⟩ := Cond.selects_spec hsel
  cases hcls.symm.trans q1
  cases (State.methodFound?_of_named hnamed hy).symm.trans q2
  cases hnamed.symm.trans q3
  have hselP : selectMethod e.platform s.vm cellB.cls mk = .method mk := by rw [Launch.admits_selectMethod X.admits]; exact q4
  obtain ⟨vm₁, X₁, hstep₁⟩ := X.invokevirtual hexec hown hlink hnamed hmethM hstM hkP hkPi hy (a := b) (cell := cellB) hcell
    (fun z h => by rw [h] at hobj; cases hobj) hselP hmethM habM hkP hkPi (g := g) hg (argsL := argsL) (rest := rest) (hlen _ hsigM) hstack hdg
  rcases hK m meth c ⟨T.setVm vm₁, locs, cells, slots⟩ { g with stack := rest } (.invokevirtual index) mk (Value.ref b :: argsL).toArray X₁ hg hsize hdg hW (X₁.named hnamed) (hpre vm₁ X₁.warmed) with ⟨v, B, X', hpost, hsteps⟩ | ⟨q, B, X', hpost, hsteps⟩
  · exact Or.inl ⟨v, vm₁, B, X₁.warmed, X', hpost, fun target h => hstep₁ _ fun acts => by rw [doInvoke_state]; exact hsteps.trans h⟩
  · exact Or.inr ⟨q, vm₁, B, X₁.warmed, X', hpost, hstep₁ _ fun acts => by rw [doInvoke_state]; exact hsteps⟩
theorem vx_callSX (X : Stand p l e R s m args below meth c T locs cells slots) (hexec : p.tables.exec = Jvm.exec) {own : String} {index : Nat} {y : MethodName} {bytes : ByteArray} {maxL : Nat} {ret : Option FieldType} {hh : List (Nat × Nat × Nat × Nat)}
    (hown : s.vm.findClass own = some m.cls) (hlink : (Cond.methodLink own index y).before args s = true) (hstat : (Cond.static y).before args s = true) (hinit : (Cond.initialized y.cls).before args s = true)
    (hcode : (Cond.codeWith y bytes maxL ret hh).before args s = true) (hy : y.cls ≠ "java/lang/invoke/MethodHandle" ∧ y.cls ≠ "java/lang/invoke/VarHandle")
    {W9 : Nat} {Pre : Pt → Array Value → Prop} {Post : Pt → Array Value → Option Value → Pt → Prop} {PostX : Pt → Array Value → Addr → Pt → Prop} (hK : vx_Back l R p e below s args y 3 W9 Pre Post PostX)
    {g : JFrame} (hg : g.method = m) (hsize : g.locals.size = c.maxLocals) {argsL rest : List Value} (hlen : ∀ sig, parseMethodDescriptor y.desc = some sig → argsL.length = sig.parameters.length)
    (hstack : g.stack = argsL.reverse ++ rest) (hW : 2 * g.monitorRoom + (rest.map fun v => v.category).sum ≤ W9) (hdg : decode c.code g.pc = .ok (.invokestatic index, 3))
    (hpre : ∀ vm₁, s.WarmedH vm₁ → Pre ⟨T.setVm vm₁, locs, cells, slots⟩ argsL.toArray) :
    (∃ (v : Option Value) (vm₁ : Vm) (B : Pt), s.WarmedH vm₁ ∧ Stand p l e R s m args below meth c B.U B.locs B.cells B.slots ∧ Post ⟨T.setVm vm₁, locs, cells, slots⟩ argsL.toArray v B ∧
      ∀ target, Steps p.tables e below (B.U.setTop { g with pc := g.pc + 3, stack := v.toList ++ rest }) target → Steps p.tables e below (T.setTop g) target) ∨
    (∃ (q : Addr) (vm₁ : Vm) (B : Pt), s.WarmedH vm₁ ∧ Stand p l e R s m args below meth c B.U B.locs B.cells B.slots ∧ PostX ⟨T.setVm vm₁, locs, cells, slots⟩ argsL.toArray q B ∧
      Steps p.tables e below (T.setTop g) ((B.U.setTop { g with stack := rest }).pushFrame (.throwing q))) := by
  obtain ⟨mk, methM, cM, hnamed, hmethM, -, -, -, -, -, -, hsigM⟩ := Cond.codeWith_spec hcode
  have hstatic : methM.isStatic = true := Cond.static_spec hnamed hmethM hstat
  obtain ⟨kP, hkP, -⟩ := className_of_methodNamed hnamed
  have hinitP : kP.init = .initialized := Cond.initialized_spec (findClass_of_methodNamed hnamed) hkP hinit
  obtain ⟨vm₁, X₁, hstep₁⟩ := X.invokestatic hexec hown hlink hnamed hmethM hstatic hkP hinitP hy (g := g) hg (argsL := argsL) (rest := rest) (hlen _ hsigM) hstack hdg
  rcases hK m meth c ⟨T.setVm vm₁, locs, cells, slots⟩ { g with stack := rest } (.invokestatic index) mk argsL.toArray X₁ hg hsize hdg hW (X₁.named hnamed) (hpre vm₁ X₁.warmed) with ⟨v, B, X', hpost, hsteps⟩ | ⟨q, B, X', hpost, hsteps⟩
  · exact Or.inl ⟨v, vm₁, B, X₁.warmed, X', hpost, fun target h => hstep₁ _ fun acts => by rw [doInvoke_state]; exact hsteps.trans h⟩
  · exact Or.inr ⟨q, vm₁, B, X₁.warmed, X', hpost, hstep₁ _ fun acts => by rw [doInvoke_state]; exact hsteps⟩
theorem vx_callVW (X : Stand p l e R s m args below meth c T locs cells slots) (hexec : p.tables.exec = Jvm.exec) {own C : String} {index : Nat} {y : MethodName} {bytes : ByteArray} {maxL : Nat} {ret : Option FieldType} {hh : List (Nat × Nat × Nat × Nat)}
    (hown : s.vm.findClass own = some m.cls) (hlink : (Cond.methodLink own index y).before args s = true) (hinst : (Cond.instanceMethod y).before args s = true) (hsel : (Cond.selects C y y).before args s = true)
    (hcode : (Cond.codeWith y bytes maxL ret hh).before args s = true) (hy : y.cls ≠ "java/lang/invoke/MethodHandle" ∧ y.cls ≠ "java/lang/invoke/VarHandle")
    {W9 : Nat} {Pre : Pt → Array Value → Prop} {Post : Pt → Array Value → Option Value → Pt → Prop} (hK : Back l R p e below s args y 3 W9 Pre Post)
    {b : Addr} {cellB : Cell} (hcell : T.heap[b]? = some cellB) (hobj : cellB.vm.isStatics = false) (hcls : s.vm.findClass C = some cellB.cls)
    {g : JFrame} (hg : g.method = m) (hsize : g.locals.size = c.maxLocals) {argsL rest : List Value} (hlen : ∀ sig, parseMethodDescriptor y.desc = some sig → argsL.length = sig.parameters.length)
    (hstack : g.stack = argsL.reverse ++ .ref b :: rest) (hW : 2 * g.monitorRoom + (rest.map fun v => v.category).sum ≤ W9) (hdg : decode c.code g.pc = .ok (.invokevirtual index, 3))
    (hpre : ∀ vm₁, s.WarmedH vm₁ → Pre ⟨T.setVm vm₁, locs, cells, slots⟩ (Value.ref b :: argsL).toArray) :
    ∃ (v : Option Value) (vm₁ : Vm) (B : Pt), s.WarmedH vm₁ ∧ Stand p l e R s m args below meth c B.U B.locs B.cells B.slots ∧ Post ⟨T.setVm vm₁, locs, cells, slots⟩ (Value.ref b :: argsL).toArray v B ∧
      ∀ target, Steps p.tables e below (B.U.setTop { g with pc := g.pc + 3, stack := v.toList ++ rest }) target → Steps p.tables e below (T.setTop g) target := by
  obtain ⟨mk, methM, hnamed, hmethM, hstM, habM⟩ := Cond.instanceMethod_spec hinst
  obtain ⟨m8, methM', cM, hn8, hmethM', -, -, -, -, -, -, hsigM⟩ := Cond.codeWith_spec hcode
  cases Option.some.inj (hn8.symm.trans hnamed)
  cases hmethM.symm.trans hmethM'
  obtain ⟨c2, r2, m2, q1, q2, q3, q4, kP, hkP, hkPi⟩ := Cond.selects_spec hsel
  cases hcls.symm.trans q1
  cases (State.methodFound?_of_named hnamed hy).symm.trans q2
  cases hnamed.symm.trans q3
  have hselP : selectMethod e.platform s.vm cellB.cls mk = .method mk := by rw [Launch.admits_selectMethod X.admits]; exact q4
  obtain ⟨vm₁, X₁, hstep₁⟩ := X.invokevirtual hexec hown hlink hnamed hmethM hstM hkP hkPi hy (a := b) (cell := cellB) hcell
    (fun z h => by rw [h] at hobj; cases hobj) hselP hmethM habM hkP hkPi (g := g) hg (argsL := argsL) (rest := rest) (hlen _ hsigM) hstack hdg
  obtain ⟨v, B, X', hpost, hsteps⟩ := hK m meth c ⟨T.setVm vm₁, locs, cells, slots⟩ { g with stack := rest } (.invokevirtual index) mk (Value.ref b :: argsL).toArray X₁ hg hsize hdg hW (X₁.named hnamed) (hpre vm₁ X₁.warmed)
  exact ⟨v, vm₁, B, X₁.warmed, X', hpost, fun target h => hstep₁ _ fun acts => by rw [doInvoke_state]; exact hsteps.trans h⟩
abbrev vx_CVW (R : Room) (s : State) (args : Array Value) (own C : String) (index : Nat) (y : MethodName) (bytes : ByteArray) (maxL : Nat) (ret : Option FieldType) (hh : List (Nat × Nat × Nat × Nat)) (ws : List Cond) (rm : Room) (mc ms n : Nat) : Prop :=
  (rm.cells = mc ∧ rm.slots = ms ∧ rm.frames + 1 ≤ R.frames ∧ 8 + (maxL + 11) + rm.locals ≤ R.locals ∧ (∀ w ∈ ws, ∀ (a' : Array Value) (U : State), s.WarmedH U.vm → w.before a' U = true) ∧ Cond.codeWith y bytes maxL ret hh ∈ ws) ∧
  (Cond.codeWith y bytes maxL ret hh).before args s = true ∧ (Cond.initialized y.cls).before args s = true ∧ (y.cls ≠ "java/lang/invoke/MethodHandle" ∧ y.cls ≠ "java/lang/invoke/VarHandle") ∧
  (∀ sig, parseMethodDescriptor y.desc = some sig → n = sig.parameters.length) ∧ (Cond.methodLink own index y).before args s = true ∧ (Cond.instanceMethod y).before args s = true ∧ (Cond.selects C y y).before args s = true
theorem vx_cwVW {own C : String} {index maxL mc ms : Nat} {y : MethodName} {bytes : ByteArray} {ret : Option FieldType} {hh : List (Nat × Nat × Nat × Nat)} {Ts ws ws' : List Cond} {rm : Room} (n : Nat) (ht : ∀ w ∈ Ts, w.before args s = true) (hT : GoodIn Ts (wsV own index C y ws)) (hw : ws = Cond.codeWith y bytes maxL ret hh :: ws') (hrc : rm.cells = mc) (hrs : rm.slots = ms)
    (hd : y.cls = C ∧ y.cls ≠ "java/lang/invoke/MethodHandle" ∧ y.cls ≠ "java/lang/invoke/VarHandle" ∧ (parseMethodDescriptor y.desc).map (fun d => d.parameters.length) = some n) (hR : rm.frames + 1 ≤ R.frames ∧ 8 + (maxL + 11) + rm.locals ≤ R.locals) :
    vx_CVW R s args own C index y bytes maxL ret hh ws rm mc ms n := by
  obtain ⟨hC, hd⟩ := hd
  subst hC
  have ok : ∀ w ∈ wsV own index y.cls y ws, w.before args s = true := fun w h => ht w (hT w h).1
  have hG : GoodIn Ts ws := fun w h => hT w (by unfold wsV; exact List.mem_append_right _ h)
  have hc : Cond.codeWith y bytes maxL ret hh ∈ ws := by rw [hw]; exact List.mem_cons_self
  refine ⟨⟨hrc, hrs, hR.1, hR.2, pay_in ht hG, hc⟩, ht _ (hG _ hc).1, ok _ (by simp [wsV]), ⟨hd.1, hd.2.1⟩, fun sig h => ?_, ok _ (by simp [wsV]), ok _ (by simp [wsV]), ok _ (by simp [wsV])⟩
  have h2 := hd.2.2
  rw [h] at h2
  exact (Option.some.inj h2).symm
theorem vx_runVW {y : MethodName} {bytes cc : ByteArray} {maxL nL mc ms n index : Nat} {ret : Option FieldType} {hh : List (Nat × Nat × Nat × Nat)} {ws : List Cond} {rm : Room} {Pc : Array Value → State → Prop} {Qc : Array Value → State → Outcome → State → Prop} {free : Addr → Prop} {Ts : List Cond} {own C : String} {b : Addr} {As rest : List Value} {g : JFrame}
    (S : CallFix p m c cc nL s args Ts own) (hM : Met l y ws rm Pc Qc mc ms free) (cw : vx_CVW R s args own C index y bytes maxL ret hh ws rm mc ms n) (hp : PreV s H C b Pc As)
    (hg : g.method = m) (hn : As.length = n) (hsize : g.locals.size = nL) (hstack : g.stack = As.reverse ++ .ref b :: rest) (hW : 2 * g.monitorRoom + (rest.map fun v => v.category).sum ≤ 8) (hdg : decode cc g.pc = .ok (.invokevirtual index, 3)) (hf : cells + mc ≤ R.cells ∧ slots + ms ≤ R.slots) :
    va_Run p l e R s m args below meth c H locs cells slots mc ms g rest (Qc (Value.ref b :: As).toArray) free := by
  obtain ⟨⟨hrc, hrs, hfr, hlo, hws, hcw⟩, hcode, hini, hy, hlen, hl, hin, hse⟩ := cw
  have hK : Back l R p e below s args y 3 8 (PreOf R mc ms Pc) (PostOf Qc mc ms free) := va_backW (hh := hh) (bytes := bytes) (maxL := maxL) (ret := ret) hM hp.1 hrc hrs hfr hlo hws hcw (fun a' U hW => word_at hW (Or.inl (by first | rfl | simp [Cond.onTables, Cond.keeps, Cond.steady])) hini)
  obtain ⟨hx, hb, hml, ho, -⟩ := S
  obtain ⟨-, ⟨cellB, hcB, hoB, hclB⟩, hPc⟩ := hp
  intro T hT X
  obtain ⟨v, vm₁, ⟨U', l2, c2, s2⟩, hW₁, X', ⟨g', mk, t, L, e1, e2, hq, h1, hL, h2, h3⟩, st⟩ := vx_callVW X hx (C := C) (hh := hh) (bytes := bytes) (maxL := maxL) (ret := ret) ho hl hin hse hcode hy hK (by rw [hT]; exact hcB) hoB hclB hg (hsize.trans hml.symm) (argsL := As) (rest := rest) (fun sig h => hn.trans (hlen sig h)) hstack hW (by rw [hb]; exact hdg)
    (fun vm₁ hW₁ => ⟨hf.1, hf.2, hPc (T.setVm vm₁) hT hW₁⟩)
  dsimp only [Pt.U, Pt.locs, Pt.cells, Pt.slots] at X' e1 e2 h1 h2 h3 st
  subst h1; subst h2; subst h3
  exact ⟨v, (T.setVm vm₁).calling g' mk (Value.ref b :: As).toArray, t, U', L, hT, X', hL, e1, e2, hq, st⟩
section
variable {y : MethodName} {bytes cc : ByteArray} {maxL nL mc ms n index : Nat} {ret : Option FieldType} {ws : List Cond} {rm : Room} {Pc : Array Value → State → Prop} {Qc : Array Value → State → Outcome → State → Prop} {XC : String → State → State → Prop} {free : Addr → Prop} {Ts : List Cond} {own C : String} {b : Addr} {As rest : List Value} {g : JFrame}
theorem vx_runVX {hh : List (Nat × Nat × Nat × Nat)} (S : CallFix p m c cc nL s args Ts own) (hM : vx_Met l y ws rm Pc Qc XC mc ms free) (cw : vx_CVW R s args own C index y bytes maxL ret hh ws rm mc ms n) (hp : PreV s H C b Pc As)
    (hg : g.method = m) (hn : As.length = n) (hsize : g.locals.size = nL) (hstack : g.stack = As.reverse ++ .ref b :: rest) (hW : 2 * g.monitorRoom + (rest.map fun v => v.category).sum ≤ 8) (hdg : decode cc g.pc = .ok (.invokevirtual index, 3)) (hf : cells + mc ≤ R.cells ∧ slots + ms ≤ R.slots) :
    vx_Run p l e R s m args below meth c H locs cells slots mc ms g rest (Qc (Value.ref b :: As).toArray) XC free := by
  obtain ⟨⟨hrc, hrs, hfr, hlo, hws, hcw⟩, hcode, hini, hy, hlen, hl, hin, hse⟩ := cw
  have hK : vx_Back l R p e below s args y 3 8 (PreOf R mc ms Pc) (PostOf Qc mc ms free) (vx_Post XC mc ms free) := vx_backW (hh := hh) (bytes := bytes) (maxL := maxL) (ret := ret) hM hp.1 hrc hrs hfr hlo hws hcw (fun a' U hW => word_at hW (Or.inl (by first | rfl | simp [Cond.onTables, Cond.keeps, Cond.steady])) hini)
  obtain ⟨hx, hb, hml, ho, -⟩ := S
  obtain ⟨-, ⟨cellB, hcB, hoB, hclB⟩, hPc⟩ := hp
  intro T hT X
  rcases vx_callVX X hx (C := C) (hh := hh) (bytes := bytes) (maxL := maxL) (ret := ret) ho hl hin hse hcode hy hK (by rw [hT]; exact hcB) hoB hclB hg (hsize.trans hml.symm) (argsL := As) (rest := rest) (fun sig h => hn.trans (hlen sig h)) hstack hW (by rw [hb]; exact hdg)
    (fun vm₁ hW₁ => ⟨hf.1, hf.2, hPc (T.setVm vm₁) hT hW₁⟩) with ⟨v, vm₁, ⟨U', l2, c2, s2⟩, hW₁, X', ⟨g', mk, t, L, e1, e2, hq, h1, hL, h2, h3⟩, st⟩ | ⟨q, vm₁, ⟨U', l2, c2, s2⟩, hW₁, X', ⟨g', mk, t, L, E, ce, e1, e2, hq, hce, hcv, hcl, h1, hL, h2, h3⟩, st⟩
  · dsimp only [Pt.U, Pt.locs, Pt.cells, Pt.slots] at X' e1 e2 h1 h2 h3 st
    subst h1; subst h2; subst h3
    exact Or.inl ⟨v, (T.setVm vm₁).calling g' mk (Value.ref b :: As).toArray, t, U', L, hT, X', hL, e1, e2, hq, st⟩
  · dsimp only [Pt.U, Pt.locs, Pt.cells, Pt.slots] at X' e1 e2 h1 h2 h3 st hcl
    subst h1; subst h2; subst h3
    exact Or.inr ⟨q, (T.setVm vm₁).calling g' mk (Value.ref b :: As).toArray, t, U', L, E, ce, hT, X', hL, e1, e2, hq, hce, hcv, vx_cls hW₁ hcl, st⟩
theorem vx_runSX {hh : List (Nat × Nat × Nat × Nat)} (S : CallFix p m c cc nL s args Ts own) (hM : vx_Met l y ws rm Pc Qc XC mc ms free) (cw : vx_CSW R s args own index y bytes maxL ret hh ws rm mc ms n) (hp : PreS s H Pc As)
    (hg : g.method = m) (hn : As.length = n) (hsize : g.locals.size = nL) (hstack : g.stack = As.reverse ++ rest) (hW : 2 * g.monitorRoom + (rest.map fun v => v.category).sum ≤ 8) (hdg : decode cc g.pc = .ok (.invokestatic index, 3)) (hf : cells + mc ≤ R.cells ∧ slots + ms ≤ R.slots) :
    vx_Run p l e R s m args below meth c H locs cells slots mc ms g rest (Qc As.toArray) XC free := by
  obtain ⟨⟨hrc, hrs, hfr, hlo, hws, hcw⟩, hcode, hini, hy, hlen, hl, hstt⟩ := cw
  have hK : vx_Back l R p e below s args y 3 8 (PreOf R mc ms Pc) (PostOf Qc mc ms free) (vx_Post XC mc ms free) := vx_backW (hh := hh) (bytes := bytes) (maxL := maxL) (ret := ret) hM hp.1 hrc hrs hfr hlo hws hcw (fun a' U hW => word_at hW (Or.inl (by first | rfl | simp [Cond.onTables, Cond.keeps, Cond.steady])) hini)
  obtain ⟨hx, hb, hml, ho, -⟩ := S
  intro T hT X
  rcases vx_callSX X hx (hh := hh) (bytes := bytes) (maxL := maxL) (ret := ret) ho hl hstt hini hcode hy hK hg (hsize.trans hml.symm) (argsL := As) (rest := rest) (fun sig h => hn.trans (hlen sig h)) hstack hW (by rw [hb]; exact hdg)
    (fun vm₁ hW₁ => ⟨hf.1, hf.2, hp.2 (T.setVm vm₁) hT hW₁⟩) with ⟨v, vm₁, ⟨U', l2, c2, s2⟩, hW₁, X', ⟨g', mk, t, L, e1, e2, hq, h1, hL, h2, h3⟩, st⟩ | ⟨q, vm₁, ⟨U', l2, c2, s2⟩, hW₁, X', ⟨g', mk, t, L, E, ce, e1, e2, hq, hce, hcv, hcl, h1, hL, h2, h3⟩, st⟩
  · dsimp only [Pt.U, Pt.locs, Pt.cells, Pt.slots] at X' e1 e2 h1 h2 h3 st
    subst h1; subst h2; subst h3
    exact Or.inl ⟨v, (T.setVm vm₁).calling g' mk As.toArray, t, U', L, hT, X', hL, e1, e2, hq, st⟩
  · dsimp only [Pt.U, Pt.locs, Pt.cells, Pt.slots] at X' e1 e2 h1 h2 h3 st hcl
    subst h1; subst h2; subst h3
    exact Or.inr ⟨q, (T.setVm vm₁).calling g' mk As.toArray, t, U', L, E, ce, hT, X', hL, e1, e2, hq, hce, hcv, vx_cls hW₁ hcl, st⟩
end
end VXH
theorem vx_ofWH {l : Launch} {y : MethodName} {ws ws' : List Cond} {rm : Room} {Pc : Array Value → State → Prop} {Qc : Array Value → State → Outcome → State → Prop} {XC : String → State → State → Prop} {mc ms : Nat} {free : Addr → Prop} {cc : ByteArray} {maxL : Nat} {ret : Option FieldType} {hh : List (Nat × Nat × Nat × Nat)}
    (hy : plainName y.cls = true) (hw : ws = Cond.codeWith y cc maxL ret hh :: ws')
    (body : ∀ p e s m args below meth c s₁, BodyLoose p l y (headSpec ws rm) cc maxL ret e s m args below meth c s₁ → c.maxLocals = maxL → Pc args s →
      W p l e (headSpec ws rm).room s m args below meth c s.heap [] 0 0 (vx_MQ below Qc XC args s mc ms free) (entryFrame m args maxL)) : vx_Met l y ws rm Pc Qc XC mc ms free := by
  refine MetFree.of_bodyS (code := cc) (maxLocals := maxL) (ret := ret) hy ?_ ?_
  · intro args s m h hn
    obtain ⟨m9, meth, c, hn9, h1, h2, h3, h4, -, h5, h6, -⟩ := Cond.codeWith_spec (atoms_spec (ws := ws) h _ (by rw [hw]; exact List.mem_cons_self))
    cases hn.symm.trans hn9
    exact ⟨meth, c, h1, h2, h3, h4, h5, h6⟩
  · intro p e s m args below meth c s₁ B hml hP _
    have hh0 : s₁.heap = s.heap := by rw [B.state]; rfl
    obtain ⟨t, a1, o, b1, b2, b3⟩ := body p e s m args below meth c s₁ B hml hP s₁ hh0 (Stand.of_body B)
    exact ⟨t, o, a1, b1, b2, b3⟩
/-! ===== END ===== -/
/-! ===== BEGIN what the machine throws by itself, no traces kept ===== -/
section VXM
set_option maxHeartbeats 1000000 in
/-- the machine throws cls with the message text, no traces kept: from its note over the frame g to 'throwing' over the same frame (follows the proofs of Stand.vmThrowsMessage, Shelf/KitTracedVmS.lean, and Stand.throwsMessageColdBareV, StandMessageColdV.lean, without the step out of the frame) -/
theorem vx_vmAt {p : Program} {l : Launch} {e : Env} {R : Room} {s : State} {m₀ : MethodId} {args : Array Value} {below : List Frame} {meth : Method} {c : Code} {W : State} {locs : List Loc} {cells slots : Nat}
    (X : Stand p l e R s m₀ args below meth c W locs cells slots) (hexec : p.tables.exec = Jvm.exec) (htr : e.platform.stackTraces = false) {cls : String} {names : List String} {text : String}
    (hcls : Bundle.fit cls = true) (hnames : ∀ n ∈ names, Bundle.fit n = true) (hsoe : (cls == "java/lang/StackOverflowError") = false) (hoom : (cls == "java/lang/OutOfMemoryError") = false)
    (h : ∀ a ∈ Bundle.messageArmAtoms cls names, a.before args s = true)
    (hlocs : ∀ x ∈ locs, ∀ cell, s.heap[x.base]? = some cell → cell.vm.isStatics = false)
    (htext : (text == notModelled) = false) (hlimit : ¬ (stringBytes (stringToUtf16 text)).size > e.platform.arrayLengthLimit) (hheap : ¬ (stringBytes (stringToUtf16 text)).size * componentBytes .byte > e.platform.maxHeapBytes)
    {g : JFrame} (hg : g.method = m₀) (hsize : g.locals.size = c.maxLocals)
    (hRframes : names.length + 4 < R.frames) (hRlocals : 2 * g.monitorRoom + (g.stack.map fun v => v.category).sum + 10240 ≤ R.locals) (hshort : 13 * names.length + 55 ≤ 10240)
    (hRcells : cells + 3 ≤ R.cells) (hRslots : slots + ((stringBytes (stringToUtf16 text)).size + 4 + 6) ≤ R.slots) (hlocks : meth.locks = false) :
    ∃ (S : State) (q : Addr) (ce : Cell), (∀ target, Steps p.tables e below ((S.setTop g).pushFrame (.throwing q)) target → Steps p.tables e below ((W.setTop g).pushFrame (.throwNew cls (some text) none)) target) ∧
      Stand p l e R s m₀ args below meth c S locs (cells + 3) (slots + ((stringBytes (stringToUtf16 text)).size + 4 + 6)) ∧ S.heap[q]? = some ce ∧ s.vm.findClass cls = some ce.cls ∧ ce.vm = .none := by
  have howns : e.platform.frameOwnsMonitors = true := by rw [X.admits.platform]
  have hfin : e.platform.finalization = false := by rw [X.admits.platform]
  have hpl : e.platform.magicAccessors = ({} : Platform).magicAccessors := by rw [X.admits.platform]
  have a : ∀ x, x ∈ Bundle.messageArmAtoms cls names → x.holds args s none s [] = true := fun x hx => h x hx
  obtain ⟨T, Z0, L, -, Y⟩ := ThrowableC.of_atoms (args := args) howns hfin hpl (fun x hx => h x (by simp [Bundle.messageArmAtoms, hx]))
  obtain ⟨Z, M, LZ, LM, hnZ⟩ := Init0T.ofS_atoms (args := args) hpl L Y (fun x hx => h x (by simp [Bundle.messageArmAtoms, hx]))
  obtain ⟨P1, Ps, hlen, L1, hL, hP1m, hlink1, hlink⟩ := Bundle.chainS (args := args) hpl hnZ names cls hcls hnames (fun x hx => h x (by simp [Bundle.messageArmAtoms, hx]))
  obtain ⟨Zs, LZs, hn4, hfitv, hfitc⟩ := StringT.of_atoms (args := args) (fun x hx => h x (by simp [Bundle.messageArmAtoms, hx]))
  have hfound : s.vm.findClass cls = some P1.m.cls := findClass_of_methodNamed hP1m
  obtain ⟨c1, kX, hc1, hk, hord, -, -, hn6⟩ := Cond.instantiable_spec (a (.instantiable cls 6) (by simp [Bundle.messageArmAtoms]))
  cases Option.some.inj (hc1.symm.trans hfound)
  have hinit := Cond.initialized_spec hfound hk (a (.initialized cls) (by simp [Bundle.messageArmAtoms]))
  have hctor : kX.findMethod "<init>" "(Ljava/lang/String;)V" = some P1.m.idx := findMethod_of_methodNamed hP1m hk
  have hsel0 : selectMethod e.platform s.vm P1.m.cls T.fill0 = .method T.fill0 := by
    obtain ⟨c2, r2, m2, q1, q2, q3, q4, -⟩ := Cond.selects_spec (a (.selects cls Bundle.tFill0 Bundle.tFill0) (by simp [Bundle.messageArmAtoms]))
    cases Option.some.inj (q1.symm.trans hfound)
    cases Option.some.inj (q2.symm.trans (State.methodFound?_of_named Y.fill0 (by decide)))
    cases Option.some.inj (q3.symm.trans Y.fill0)
    rw [Launch.admits_selectMethod X.admits]; exact q4
  have hselF : selectMethod e.platform s.vm P1.m.cls T.fill = .method T.fill := by
    obtain ⟨c2, r2, m2, q1, q2, q3, q4, -⟩ := Cond.selects_spec (a (.selects cls Bundle.tFill Bundle.tFill) (by simp [Bundle.messageArmAtoms]))
    cases Option.some.inj (q1.symm.trans hfound)
    cases Option.some.inj (q2.symm.trans (State.methodFound?_of_named Y.fill (by decide)))
    cases Option.some.inj (q3.symm.trans Y.fill)
    rw [Launch.admits_selectMethod X.admits]; exact q4
  obtain ⟨cellS0, hcS0, hiss⟩ := Y.statics
  obtain ⟨u0, hu0⟩ := Cond.staticRefV Y.unassigned L.unassignedStatic L.statics hcS0 hiss (a (.isRef (.static Bundle.tN "UNASSIGNED_STACK" Bundle.steD)) (by simp [Bundle.messageArmAtoms]))
  obtain ⟨sen, hsen⟩ := Cond.staticRefV Y.sentinel L.sentinelStatic L.statics hcS0 hiss (a (.isRef (.static Bundle.tN "SUPPRESSED_SENTINEL" Bundle.listD)) (by simp [Bundle.messageArmAtoms]))
  obtain ⟨ci198, i198, fB, hk198, hg198, ha198, hsB, -, hnB, htB, hffB⟩ := Cond.ownField (t := .object "java/lang/Object") Y.found L.cls (by decide +kernel) (a (.fieldLink Bundle.tN 198 Bundle.tN "backtrace" "Ljava/lang/Object;") (by simp [Bundle.messageArmAtoms])) (a (.lays Bundle.tN Bundle.tN "backtrace" "Ljava/lang/Object;") (by simp [Bundle.messageArmAtoms])) e.platform hpl
  obtain ⟨cellS, hcS', heS, -, hkeep⟩ := X.same.2.2.2.2.2 T.aS cellS0 hcS0
  have hcellS : W.heap[T.aS]? = some cellS := hcS'
  have hout' : ∀ i, (⟨T.aS, i⟩ : Loc) ∉ locs := fun i hmem => by
    have := hlocs _ hmem cellS0 hcS0
    rw [hiss] at this; cases this
  have hknownS : cellS.vm ≠ .unknown := by
    rw [heS]; intro hu
    rw [show cellS0.vm = .unknown from hu] at hiss
    cases hiss
  have hvU : cellS.slots[T.fUnassigned.slot]? = some u0.v := by rw [hkeep _ (hout' _)]; exact hu0
  have hvSen : cellS.slots[T.fSentinel.slot]? = some sen.v := by rw [hkeep _ (hout' _)]; exact hsen
  obtain ⟨iM, hffM⟩ := Y.msg
  obtain ⟨tyC, dC, hdC, hdnC⟩ := Cond.laysAt hfound hk Y.cause (a (.lays cls Bundle.tN "cause" "Ljava/lang/Throwable;") (by simp [Bundle.messageArmAtoms]))
  obtain ⟨tyS, dS, hdS, hdnS⟩ := Cond.laysAt hfound hk Y.stack (a (.lays cls Bundle.tN "stackTrace" Bundle.steD) (by simp [Bundle.messageArmAtoms]))
  obtain ⟨tyP, dP, hdP, hdnP⟩ := Cond.laysAt hfound hk Y.supp (a (.lays cls Bundle.tN "suppressedExceptions" Bundle.listD) (by simp [Bundle.messageArmAtoms]))
  obtain ⟨tyM, dM, hdM, hdnM⟩ := Cond.laysAt hfound hk hffM (a (.lays cls Bundle.tN "detailMessage" "Ljava/lang/String;") (by simp [Bundle.messageArmAtoms]))
  obtain ⟨tyB, dB, hdB, hdnB⟩ := Cond.laysAt hfound hk hffB (a (.lays cls Bundle.tN "backtrace" "Ljava/lang/Object;") (by simp [Bundle.messageArmAtoms]))
  have bC := Cond.laysApart hdB hdC hdnB hdnC (by rw [hnB, Y.causeName]; decide)
  have bS := Cond.laysApart hdB hdS hdnB hdnS (by rw [hnB, Y.stackName]; decide)
  have bP := Cond.laysApart hdB hdP hdnB hdnP (by rw [hnB, Y.suppName]; decide)
  have hbk : ((preparedCellV T.toThrowableT (freshCell P1.m.cls kX) (W.heap.size + 2) u0 sen).withEntry W.cur).slots[fB.slot]? = some .null := by
    have := fresh_default (c := P1.m.cls) tyB
    rw [htB] at this
    simpa [preparedCellV, Cell.setSlot, Cell.withEntry, Array.getElem?_setIfInBounds, bC, bS, bP, bC.symm, bS.symm, bP.symm, defaultValue] using this
  have tkC := Takes.of_laid (v := .ref (W.heap.size + 2)) hk hord tyC (by rw [Y.causeType]; rfl)
  have tkS := Takes.of_laid (v := u0.v) hk hord tyS (by rw [Y.stackType]; exact fits_refV_array _ u0)
  have tkP := Takes.of_laid (v := sen.v) hk hord tyP (by rw [Y.suppType]; exact fits_refV_object _ sen)
  have tkM := Takes.of_laid (v := .ref (W.heap.size + 1)) hk hord tyM (by rw [Y.msgType]; rfl)
  have hskip : SkipFacts T e.platform s (fun u => u) u0 ((preparedCellV T.toThrowableT (freshCell P1.m.cls kX) (W.heap.size + 2) u0 sen).withEntry W.cur) := ⟨{ ci198 := ci198, i198 := i198, fBack := fB }, ⟨hk198, hg198, ha198, hsB⟩, hbk, fun _ _ => rfl⟩
  have h0 : At W g.method c below := by rw [hg]; exact X.here
  obtain ⟨hbeyond, hfreeW⟩ := X.vmMayThrow hsize (.throwNew cls (some text) none) (fun f hf => by cases hf) rfl hRlocals
  have hfr' : W.frames.length + Ps.length + 4 < (e.platform.stackLimits W.me).1 := by have := X.framesAbove hRframes; omega
  have hwd' : (stackUse (.java g :: W.frames.tail)).2 + 13 * Ps.length + 55 ≤ (e.platform.stackLimits W.me).2 := by have := X.stackAbove hsize (K := 13 * Ps.length + 55) (by omega); omega
  have hslots : W.slotsUsed + (stringBytes (stringToUtf16 text)).size + Zs.kS.instanceTypes.size + kX.instanceTypes.size ≤ e.platform.maxSlots := by
    have := X.slotsAbove hRslots
    rw [hn4, hn6]
    omega
  obtain ⟨vm', hW', st⟩ := Steps.vmThrowsMessageColdByV p (s₀ := s) (S := W) (g := g) h0 hexec T L Z LZ M LM X.warmed (t := W.cur) rfl Zs LZs P1 L1 Ps hL hlink1 hlink hsoe hoom hfound hk hinit hord hctor
    (Launch.admits_hotImplicitExceptions X.admits) hbeyond hfreeW htext hlimit hheap (X.cellsAbove hRcells) hslots (hfitv _) (hfitc _)
    (Nn := fun u => u) heapOnly_id (fun _ _ => rfl) (fun _ => rfl) (fun u x y => setCell_twice _ _ _ _) (fun _ => Nat.le_refl _) (cN := ((preparedCellV T.toThrowableT (freshCell P1.m.cls kX) (W.heap.size + 2) u0 sen).withEntry W.cur))
    hsel0 hcellS hknownS hvU tkS (fun _ hu => hu) (fun _ hu => hu) rfl rfl rfl (by simp [preparedCellV, Cell.setSlot, Cell.withEntry]) hskip (fun _ _ hA hW _ hroom _ hrest => L.nativeOff p htr hA hW hroom hrest) hselF hvSen tkC tkP tkM Y.objLocals rfl hfr' hwd'
  rw [plainBareV_eq T.toThrowableT (W.heap.size + 2) u0 sen (.ref (W.heap.size + 1)) W.cur rfl rfl] at st
  obtain ⟨-, -, w3, w4, -, -, -⟩ := withThrown_facts e.platform W Zs text P1.m.cls kX
  have X3 := ((X.pushed (bytesOf Zs.cB (stringToUtf16 text))).pushed (stringAt Zs.cS Zs.kS Zs.fv Zs.fc (stringToUtf16 text) W.heap.size)).pushed (freshCell P1.m.cls kX)
  rw [← withString_eq] at X3
  have X4 := X3.noted hW'
  have ha : (W.heap.size + 2) < ((withThrown W Zs text P1.m.cls kX).setVm vm').heap.size := by show _ < (withThrown W Zs text P1.m.cls kX).heap.size; rw [w3]; omega
  have hcell : ((withThrown W Zs text P1.m.cls kX).setVm vm').heap[(W.heap.size + 2)]? = some (freshCell P1.m.cls kX) := w4
  have X5 := ((((X4.stored hcell T.fCause.slot (.ref (W.heap.size + 2))).storedAgain ha T.fStack.slot u0.v).storedAgain ha T.fSupp.slot sen.v).storedAgain ha T.fStack.slot u0.v).storedAgain ha T.fMsg.slot (.ref (W.heap.size + 1))
  obtain ⟨g₁, hfrM⟩ := X5.frames_eq
  have hU : ((((withThrown W Zs text P1.m.cls kX).setVm vm').setCell (W.heap.size + 2) (plainBareV T.toThrowableT (freshCell P1.m.cls kX) (W.heap.size + 2) u0 sen (.ref (W.heap.size + 1)))).setTop g).pushFrame (.throwing (W.heap.size + 2)) = (((withThrown W Zs text P1.m.cls kX).setVm vm').setCell (W.heap.size + 2) (plainBareV T.toThrowableT (freshCell P1.m.cls kX) (W.heap.size + 2) u0 sen (.ref (W.heap.size + 1)))).setFrames (.throwing (W.heap.size + 2) :: .java g :: below) := by
    rw [State.pushFrame, State.frames_setTop _ hfrM, State.setTop_of_frames _ hfrM, State.setFrames_setFrames]
  have b1 : (bytesOf Zs.cB (stringToUtf16 text)).slots.size = (stringBytes (stringToUtf16 text)).size := by
    rw [(Cell.writeAll_facts _ _).2.2]; simp [bytes0]
  have b2 : (stringAt Zs.cS Zs.kS Zs.fv Zs.fc (stringToUtf16 text) W.heap.size).slots.size = 4 := by simp [string0, Cell.setSlot, hn4]
  have b3 : (freshCell P1.m.cls kX).slots.size = 6 := by simp [hn6]
  rw [b1, b2, b3] at X5
  have e9 : slots + (stringBytes (stringToUtf16 text)).size + 4 + 6 = slots + ((stringBytes (stringToUtf16 text)).size + 4 + 6) := by omega
  rw [e9] at X5
  simp only [List.append_assoc, List.cons_append, List.nil_append] at X5
  refine ⟨((withThrown W Zs text P1.m.cls kX).setVm vm').setCell (W.heap.size + 2) (plainBareV T.toThrowableT (freshCell P1.m.cls kX) (W.heap.size + 2) u0 sen (.ref (W.heap.size + 1))), W.heap.size + 2, _, fun target ht => st _ (by rw [X.tail, ← hU]; exact ht),
    X5.forget (fun y hy => ?_), heapAt_setCell_self _ ha, hfound, rfl⟩
  simp only [List.mem_cons, List.not_mem_nil, or_false] at hy
  have hge : s.heap.size ≤ W.heap.size := X.same.2.1
  rcases hy with rfl | rfl | rfl | rfl | rfl <;> exact Nat.le_trans hge (Nat.le_add_right _ 2)
set_option maxHeartbeats 1000000 in
/-- the machine throws NullPointerException, no traces kept: from its note over the frame g to 'throwing' over the same frame (follows the proof of Stand.vmThrowsNpe, Shelf42/KT2.lean; throwsNpeColdBareVAt, Shelf42/NT91.lean, called) -/
theorem vx_npeAt {p : Program} {l : Launch} {e : Env} {R : Room} {s : State} {m₀ : MethodId} {args : Array Value} {below : List Frame} {meth : Method} {c : Code} {W : State} {locs : List Loc} {cells slots : Nat}
    (X : Stand p l e R s m₀ args below meth c W locs cells slots) (hexec : p.tables.exec = Jvm.exec) (htr : e.platform.stackTraces = false) {n : Nat}
    (h : ∀ a ∈ Bundle.npeArmAtoms n, a.before args s = true)
    (hlocs : ∀ x ∈ locs, ∀ cell, s.heap[x.base]? = some cell → cell.vm.isStatics = false)
    {g : JFrame} (hg : g.method = m₀) (hsize : g.locals.size = c.maxLocals)
    (hRframes : 7 < R.frames) (hRlocals : 2 * g.monitorRoom + (g.stack.map fun v => v.category).sum + 10240 ≤ R.locals)
    (hRcells : cells + 1 ≤ R.cells) (hRslots : slots + n ≤ R.slots) (hlocks : meth.locks = false) :
    ∃ (S : State) (q : Addr) (ce : Cell), (∀ target, Steps p.tables e below ((S.setTop g).pushFrame (.throwing q)) target → Steps p.tables e below ((W.setTop g).pushFrame (.throwNew "java/lang/NullPointerException" none none)) target) ∧
      Stand p l e R s m₀ args below meth c S locs (cells + 1) (slots + n) ∧ S.heap[q]? = some ce ∧ s.vm.findClass "java/lang/NullPointerException" = some ce.cls ∧ ce.vm = .none := by
  have howns : e.platform.frameOwnsMonitors = true := by rw [X.admits.platform]
  have hfin : e.platform.finalization = false := by rw [X.admits.platform]
  have hpl : e.platform.magicAccessors = ({} : Platform).magicAccessors := by rw [X.admits.platform]
  have hpl2 : e.platform.arrayCloneIsPublic = true := by rw [X.admits.platform]
  have a' : ∀ x, x ∈ Bundle.npeArmAtoms n → x.holds args s none s [] = true := fun x hx => h x hx
  obtain ⟨T, Z, L, LZ, Y⟩ := ThrowableC.of_atoms (args := args) howns hfin hpl (fun x hx => h x (by simp [Bundle.npeArmAtoms, hx]))
  obtain ⟨N, LN, hcN, hnNF, hordN, hffS⟩ := NpeC.of_atoms (args := args) hpl hpl2 L Y (fun x hx => h x (by simp [Bundle.npeArmAtoms, hx]))
  obtain ⟨P1, L1, hP1m, hP1s⟩ := PassC.of_atoms (args := args) (s := s) hpl (X := Bundle.nN) (Y := Bundle.rN) (by decide) (by decide) LibCode.NullPointerException.Init0.at_0 LibCode.NullPointerException.Init0.at_1 LibCode.NullPointerException.Init0.at_4 (fun x hx => h x (by simp [Bundle.npeArmAtoms, hx]))
  obtain ⟨PR, LR, hPRm, hPRs⟩ := PassC.of_atoms (args := args) (s := s) hpl (X := Bundle.rN) (Y := Bundle.eN) (by decide) (by decide) LibCode.RuntimeException.Init0.at_0 LibCode.RuntimeException.Init0.at_1 LibCode.RuntimeException.Init0.at_4 (fun x hx => h x (by simp [Bundle.npeArmAtoms, hx]))
  obtain ⟨PE, LEx, hPEm, hPEs⟩ := PassC.of_atoms (args := args) (s := s) hpl (X := Bundle.eN) (Y := Bundle.tN) (by decide) (by decide) LibCode.Exception.Init0.at_0 LibCode.Exception.Init0.at_1 LibCode.Exception.Init0.at_4 (fun x hx => h x (by simp [Bundle.npeArmAtoms, hx]))
  have hfound : s.vm.findClass Bundle.nN = some P1.m.cls := findClass_of_methodNamed hP1m
  have ecls : N.cN = P1.m.cls := Option.some.inj (hcN.symm.trans hfound)
  have hk : s.vm.classes[P1.m.cls]? = some N.kN := by rw [← ecls]; exact LN.cls
  have hinit := Cond.initialized_spec hfound hk (a' (.initialized Bundle.nN) (by simp [Bundle.npeArmAtoms]))
  have hctor : N.kN.findMethod "<init>" "()V" = some P1.m.idx := findMethod_of_methodNamed hP1m hk
  obtain ⟨c1, k1, hc1, hk1, -, -, -, hn⟩ := Cond.instantiable_spec (a' (.instantiable Bundle.nN n) (by simp [Bundle.npeArmAtoms]))
  cases Option.some.inj (hc1.symm.trans hfound)
  cases Option.some.inj (hk1.symm.trans hk)
  have hfsz : (freshCell P1.m.cls N.kN).slots.size = n := by simp [hn]
  have hlink1 : P1.sup = PR.m := Option.some.inj (hP1s.symm.trans hPRm)
  have hlinkR : PR.sup = PE.m := Option.some.inj (hPRs.symm.trans hPEm)
  have hlinkE : PE.sup = Z.m T.toThrowableT := Option.some.inj (hPEs.symm.trans Y.init0)
  have hLs : ∀ P, P ∈ [PR, PE] → P.Links0 e.platform s := fun P hP => by
    simp only [List.mem_cons, List.not_mem_nil, or_false] at hP
    rcases hP with rfl | rfl
    · exact LR
    · exact LEx
  have hsel0 : selectMethod e.platform s.vm P1.m.cls T.fill0 = .method T.fill0 := by
    obtain ⟨c2, r2, m2, q1, q2, q3, q4, -⟩ := Cond.selects_spec (a' (.selects Bundle.nN Bundle.tFill0 Bundle.tFill0) (by simp [Bundle.npeArmAtoms]))
    cases Option.some.inj (q1.symm.trans hfound)
    cases Option.some.inj (q2.symm.trans (State.methodFound?_of_named Y.fill0 (by decide)))
    cases Option.some.inj (q3.symm.trans Y.fill0)
    rw [Launch.admits_selectMethod X.admits]; exact q4
  have hselF : selectMethod e.platform s.vm P1.m.cls T.fill = .method N.fill := by
    obtain ⟨c2, r2, m2, q1, q2, q3, q4, -⟩ := Cond.selects_spec (a' (.selects Bundle.nN Bundle.tFill Bundle.nFill) (by simp [Bundle.npeArmAtoms]))
    cases Option.some.inj (q1.symm.trans hfound)
    cases Option.some.inj (q2.symm.trans (State.methodFound?_of_named Y.fill (by decide)))
    cases Option.some.inj (q3.symm.trans hnNF)
    rw [Launch.admits_selectMethod X.admits]; exact q4
  obtain ⟨cellS0, hcS0, hiss⟩ := Y.statics
  obtain ⟨u0, hu0⟩ := Cond.staticRefV Y.unassigned L.unassignedStatic L.statics hcS0 hiss (a' (.isRef (.static Bundle.tN "UNASSIGNED_STACK" Bundle.steD)) (by simp [Bundle.npeArmAtoms]))
  obtain ⟨sen, hsen⟩ := Cond.staticRefV Y.sentinel L.sentinelStatic L.statics hcS0 hiss (a' (.isRef (.static Bundle.tN "SUPPRESSED_SENTINEL" Bundle.listD)) (by simp [Bundle.npeArmAtoms]))
  obtain ⟨ci198, i198, fB, hk198, hg198, ha198, hsB, -, hnB, htB, hffB⟩ := Cond.ownField (t := .object "java/lang/Object") Y.found L.cls (by decide +kernel) (a' (.fieldLink Bundle.tN 198 Bundle.tN "backtrace" Bundle.objD) (by simp [Bundle.npeArmAtoms])) (a' (.lays Bundle.tN Bundle.tN "backtrace" Bundle.objD) (by simp [Bundle.npeArmAtoms])) e.platform hpl
  obtain ⟨cellS, hcS', heS, -, hkeep⟩ := X.same.2.2.2.2.2 T.aS cellS0 hcS0
  have hcellS : W.heap[T.aS]? = some cellS := hcS'
  have hout' : ∀ i, (⟨T.aS, i⟩ : Loc) ∉ locs := fun i hmem => by
    have := hlocs _ hmem cellS0 hcS0
    rw [hiss] at this; cases this
  have hknownS : cellS.vm ≠ .unknown := by
    rw [heS]; intro hu
    rw [show cellS0.vm = .unknown from hu] at hiss
    cases hiss
  have hvU : cellS.slots[T.fUnassigned.slot]? = some u0.v := by rw [hkeep _ (hout' _)]; exact hu0
  have hvSen : cellS.slots[T.fSentinel.slot]? = some sen.v := by rw [hkeep _ (hout' _)]; exact hsen
  obtain ⟨tyC, dC, hdC, hdnC⟩ := Cond.laysAt hfound hk Y.cause (a' (.lays Bundle.nN Bundle.tN "cause" "Ljava/lang/Throwable;") (by simp [Bundle.npeArmAtoms]))
  obtain ⟨tyS, dS, hdS, hdnS⟩ := Cond.laysAt hfound hk Y.stack (a' (.lays Bundle.nN Bundle.tN "stackTrace" Bundle.steD) (by simp [Bundle.npeArmAtoms]))
  obtain ⟨tyP, dP, hdP, hdnP⟩ := Cond.laysAt hfound hk Y.supp (a' (.lays Bundle.nN Bundle.tN "suppressedExceptions" Bundle.listD) (by simp [Bundle.npeArmAtoms]))
  obtain ⟨tyX, dX, hdX, hdnX⟩ := Cond.laysAt hfound hk hffS (a' (.lays Bundle.nN Bundle.nN "extendedMessageState" "I") (by simp [Bundle.npeArmAtoms, Bundle.npeAtoms]))
  obtain ⟨hnX, htX⟩ := State.fieldFound?_type hffS (t := .int) (by decide +kernel)
  have xC := Cond.laysApart hdC hdX hdnC hdnX (by rw [hnX, Y.causeName]; decide)
  have xS := Cond.laysApart hdS hdX hdnS hdnX (by rw [hnX, Y.stackName]; decide)
  have xP := Cond.laysApart hdP hdX hdnP hdnX (by rw [hnX, Y.suppName]; decide)
  have hv0 : (freshCell P1.m.cls N.kN).slots[N.fState.slot]? = some (.int 0) := by
    have := fresh_default (c := P1.m.cls) tyX
    rw [htX] at this; exact this
  obtain ⟨tyB, dB, hdB, hdnB⟩ := Cond.laysAt hfound hk hffB (a' (.lays Bundle.nN Bundle.tN "backtrace" Bundle.objD) (by simp [Bundle.npeArmAtoms]))
  have bC := Cond.laysApart hdB hdC hdnB hdnC (by rw [hnB, Y.causeName]; decide)
  have bS := Cond.laysApart hdB hdS hdnB hdnS (by rw [hnB, Y.stackName]; decide)
  have bP := Cond.laysApart hdB hdP hdnB hdnP (by rw [hnB, Y.suppName]; decide)
  have bX := Cond.laysApart hdB hdX hdnB hdnX (by rw [hnB, hnX]; decide)
  have hbk : ((npeCell N.toNpeT (preparedCellV T.toThrowableT (freshCell P1.m.cls N.kN) W.heap.size u0 sen) W.cur).withEntry W.cur).slots[fB.slot]? = some .null := by
    have := fresh_default (c := P1.m.cls) tyB
    rw [htB] at this
    simpa [npeCell, preparedCellV, Cell.setSlot, Cell.withEntry, Array.getElem?_setIfInBounds, bC, bS, bP, bX, bC.symm, bS.symm, bP.symm, bX.symm, defaultValue] using this
  have tkC := Takes.of_laid (v := .ref W.heap.size) hk hordN tyC (by rw [Y.causeType]; rfl)
  have tkS := Takes.of_laid (v := u0.v) hk hordN tyS (by rw [Y.stackType]; exact fits_refV_array _ u0)
  have tkP := Takes.of_laid (v := sen.v) hk hordN tyP (by rw [Y.suppType]; exact fits_refV_object _ sen)
  have tkX := Takes.of_laid (v := .int 1) hk hordN tyX (by rw [htX]; rfl)
  have hskip : SkipFacts T e.platform s (fun u => u) u0 ((npeCell N.toNpeT (preparedCellV T.toThrowableT (freshCell P1.m.cls N.kN) W.heap.size u0 sen) W.cur).withEntry W.cur) := ⟨{ ci198 := ci198, i198 := i198, fBack := fB }, ⟨hk198, hg198, ha198, hsB⟩, hbk, fun _ _ => rfl⟩
  obtain ⟨vm', X3, st, -⟩ := X.throwsNpeColdBareVAt hexec hg hsize T L Z LZ N LN P1 L1 [PR, PE] hLs hlink1 ⟨hlinkR, hlinkE, trivial⟩ hfound hk hinit hordN hctor hsel0 hselF hcellS hknownS hvU hvSen
    hv0 xC xS xP tkC tkS tkP tkX Y.objLocals hskip (fun _ _ hA hW _ hroom _ hrest => L.nativeOff p htr hA hW hroom hrest) (by simpa using hRframes) hRlocals (by simp) hRcells (by rw [hn]; exact hRslots)
  have hlt : W.heap.size < ((W.pushCell (freshCell P1.m.cls N.kN)).setVm vm').heap.size := by
    show W.heap.size < (W.pushCell (freshCell P1.m.cls N.kN)).heap.size
    rw [State.heap_size_pushCell]; omega
  rw [hfsz] at X3
  obtain ⟨g₁, hfrM⟩ := X3.frames_eq
  have hU : ((((W.pushCell (freshCell P1.m.cls N.kN)).setVm vm').setCell W.heap.size (npeBareV T.toThrowableT N.toNpeT (freshCell P1.m.cls N.kN) W.heap.size u0 sen)).setTop g).pushFrame (.throwing W.heap.size) = (((W.pushCell (freshCell P1.m.cls N.kN)).setVm vm').setCell W.heap.size (npeBareV T.toThrowableT N.toNpeT (freshCell P1.m.cls N.kN) W.heap.size u0 sen)).setFrames (.throwing W.heap.size :: .java g :: below) := by
    rw [State.pushFrame, State.frames_setTop _ hfrM, State.setTop_of_frames _ hfrM, State.setFrames_setFrames]
  refine ⟨_, W.heap.size, _, fun target ht => st.trans (by rw [← hU]; exact ht), X3.forget (fun y hy => ?_), heapAt_setCell_self _ hlt, hfound, rfl⟩
  simp only [List.mem_cons, List.not_mem_nil, or_false] at hy
  have hge : s.heap.size ≤ W.heap.size := X.same.2.1
  rcases hy with rfl | rfl | rfl | rfl | rfl <;> exact hge
/-- the words of a machine's NullPointerException, but the four that speak of the heap -/
def vx_atN (n : Nat) : List Cond := (Bundle.npeArmAtoms n).filter vx_no
/-- the words of a machine's throw with a message, but the four that speak of the heap -/
def vx_atM (X : String) (names : List String) : List Cond := (Bundle.messageArmAtoms X names).filter vx_no
section
variable {p : Program} {l : Launch} {e : Env} {R : Room} {s : State} {m : MethodId} {args : Array Value} {below : List Frame} {meth : Method} {c : Code} {H : Heap} {locs : List Loc} {cells slots : Nat}
/-- a frame seen from a rebased start, seen from the first start again -/
theorem vx_back9 {T S : State} {R' : Room} {k n : Nat} (X : Stand p l e R s m args below meth c T locs cells slots) (Y : Stand p l e R' ((T.setVm s.vm).setFrames (.invoking m args :: below)) m args below meth c T [] 0 0) (Z : Stand p l e R' ((T.setVm s.vm).setFrames (.invoking m args :: below)) m args below meth c S [] k n) :
    Stand p l e R s m args below meth c S locs (cells + k) (slots + n) := by
  have hW0 : s.WarmedH ((T.setVm s.vm).setFrames (.invoking m args :: below)).vm := State.WarmedH.refl s
  refine { admits := X.admits, cas := X.cas, clock := X.clock, frames := X.frames, room := X.room, hears := X.hears, method := X.method, code := X.code, here := Z.here, tail := Z.tail, warmed := State.WarmedH.trans hW0 Z.warmed, limits := Z.limits.trans (Y.limits.symm.trans X.limits), bytes := Z.bytes.trans (Y.bytes.symm.trans X.bytes), same := ?_ }
  obtain ⟨e1, e2⟩ := Z.same
  rw [State.setFrames_setFrames] at e1
  have h2 : (T.setVm s.vm).sameButNew (S.setVm s.vm) [] k n := ⟨e1, e2⟩
  have h3 := X.same.trans h2
  rw [List.append_nil] at h3
  exact h3
/-- from the machine's note that E is thrown here with this text -/
def vx_Note (p : Program) (l : Launch) (e : Env) (R : Room) (s : State) (m : MethodId) (args : Array Value) (below : List Frame) (meth : Method) (c : Code) (H : Heap) (locs : List Loc) (cells slots : Nat) (Q : State → Prop) (g : JFrame) (E text : String) : Prop :=
  ∀ T : State, T.heap = H → Stand p l e R s m args below meth c T locs cells slots → ∃ t, Steps p.tables e below ((T.setTop g).pushFrame (.throwNew E (some text) none)) t ∧ Q t
theorem vx_vm {pc : Nat} {ls : Array Slot} {rest : List Value} {Q : State → Prop} (hexec : p.tables.exec = Jvm.exec) (hl : l.stackTraces = false) {cls text : String} {names : List String} {nb : Nat} {A : Nat → Prop}
    (hcls : Bundle.fit cls = true) (hnames : ∀ n ∈ names, Bundle.fit n = true) (hsoe : (cls == "java/lang/StackOverflowError") = false) (hoom : (cls == "java/lang/OutOfMemoryError") = false)
    (hat : ∀ w ∈ vx_atM cls names, w.before args s = true) (hgood : ∀ w ∈ vx_atM cls names, vx_ot w = true)
    (hU : vx_Zq Bundle.tN "UNASSIGNED_STACK" Bundle.steD A s s.heap) (hN : vx_Zq Bundle.tN "SUPPRESSED_SENTINEL" Bundle.listD A s s.heap) (hS : va_S A s.heap H locs) (hsize : ls.size = c.maxLocals)
    (htext : (text == notModelled) = false) (hnb : (stringBytes (stringToUtf16 text)).size ≤ nb) (hnb1 : nb ≤ 1000)
    (hRframes : names.length + 4 < R.frames) (hRlocals : (rest.map fun v => v.category).sum + 10240 ≤ R.locals) (hshort : 13 * names.length + 55 ≤ 10240) (hRcells : cells + 3 ≤ R.cells) (hRslots : slots + (nb + 10) ≤ R.slots) (hlocks : meth.locks = false)
    (k : ∀ (H1 : Heap) (q9 : Addr) (ce : Cell), H.size ≤ H1.size → (∀ q : Nat, q < H.size → H1[q]? = H[q]?) → va_S A s.heap H1 locs → H1[q9]? = some ce → ce.vm = .none → s.vm.findClass cls = some ce.cls → vx_W p l e R s m args below meth c H1 locs (cells + 3) (slots + (nb + 10)) Q (F0 m pc ls rest) q9) :
    vx_Note p l e R s m args below meth c H locs cells slots Q (F0 m pc ls rest) cls text := by
  intro T hT X
  have htr : e.platform.stackTraces = false := (show e.platform.stackTraces = l.stackTraces by rw [X.admits.platform]).trans hl
  have Y := vx_rebase X (R' := { frames := R.frames, locals := R.locals, cells := 3, slots := nb + 10 }) (Nat.le_refl _) (Nat.le_refl _) hRcells hRslots
  have hhp : ((T.setVm s.vm).setFrames (.invoking m args :: below)).heap = H := hT
  have hW0 : s.WarmedH ((T.setVm s.vm).setFrames (.invoking m args :: below)).vm := State.WarmedH.refl s
  have hat' : ∀ w ∈ vx_atM cls names, w.before args ((T.setVm s.vm).setFrames (.invoking m args :: below)) = true := fun w hw => vx_ot_at hW0 rfl (hgood w hw) (hat w hw)
  have hU' : vx_Zq Bundle.tN "UNASSIGNED_STACK" Bundle.steD A ((T.setVm s.vm).setFrames (.invoking m args :: below)) ((T.setVm s.vm).setFrames (.invoking m args :: below)).heap := by rw [hhp]; exact vx_Zq.moved hW0.alike (hU.kept hS.2.1)
  have hN' : vx_Zq Bundle.tN "SUPPRESSED_SENTINEL" Bundle.listD A ((T.setVm s.vm).setFrames (.invoking m args :: below)) ((T.setVm s.vm).setFrames (.invoking m args :: below)).heap := by rw [hhp]; exact vx_Zq.moved hW0.alike (hN.kept hS.2.1)
  obtain ⟨S, q, ce, st, Z, hce, hcl', hv⟩ := vx_vmAt Y hexec htr (cls := cls) (names := names) (text := text) hcls hnames hsoe hoom (vx_own hat' (vx_isRefq hU'.1) (vx_isRefq hN'.1) hU'.2.word hN'.2.word) (fun x hx => nomatch hx) htext
    (by rw [Launch.admits_arrayLengthLimit X.admits]; omega) (by rw [Launch.admits_maxHeapBytes X.admits]; simp only [componentBytes]; omega)
    (g := F0 m pc ls rest) rfl hsize hRframes (by show 2 * 0 + (rest.map fun v => v.category).sum + 10240 ≤ R.locals; omega) hshort (by show 0 + 3 ≤ 3; omega) (by show 0 + (_ + 4 + 6) ≤ nb + 10; omega) hlocks
  obtain ⟨f1, f2⟩ := vx_frame Z.same
  have f1' : H.size ≤ S.heap.size := by rw [← hT]; exact f1
  have f2' : ∀ q : Nat, q < H.size → S.heap[q]? = H[q]? := fun q hq => by
    rw [← hT]
    exact f2 q (by rw [← hT] at hq; exact hq) (fun z hz => nomatch hz)
  have X5 := vx_back9 X Y Z
  have X6 : Stand p l e R s m args below meth c S locs (cells + 3) (slots + (nb + 10)) := { X5 with same := X5.same.mono (by omega) (by omega) }
  obtain ⟨t, a1, b1⟩ := k S.heap q ce f1' f2' ⟨Nat.le_trans hS.1 f1', fun q h1 h2 => (f2' q (Nat.lt_of_lt_of_le h1 hS.1)).trans (hS.2.1 q h1 h2), hS.2.2⟩ hce hv hcl' S rfl X6
  exact ⟨t, st t a1, b1⟩
/-- from the machine's note that NullPointerException is thrown here -/
def vx_NoteN (p : Program) (l : Launch) (e : Env) (R : Room) (s : State) (m : MethodId) (args : Array Value) (below : List Frame) (meth : Method) (c : Code) (H : Heap) (locs : List Loc) (cells slots : Nat) (Q : State → Prop) (g : JFrame) : Prop :=
  ∀ T : State, T.heap = H → Stand p l e R s m args below meth c T locs cells slots → ∃ t, Steps p.tables e below ((T.setTop g).pushFrame (.throwNew "java/lang/NullPointerException" none none)) t ∧ Q t
theorem vx_npe {pc : Nat} {ls : Array Slot} {rest : List Value} {Q : State → Prop} (hexec : p.tables.exec = Jvm.exec) (hl : l.stackTraces = false) {nb : Nat} {A : Nat → Prop}
    (hat : ∀ w ∈ vx_atN nb, w.before args s = true) (hgood : ∀ w ∈ vx_atN nb, vx_ot w = true)
    (hU : vx_Zq Bundle.tN "UNASSIGNED_STACK" Bundle.steD A s s.heap) (hN : vx_Zq Bundle.tN "SUPPRESSED_SENTINEL" Bundle.listD A s s.heap) (hS : va_S A s.heap H locs) (hsize : ls.size = c.maxLocals)
    (hRframes : 7 < R.frames) (hRlocals : (rest.map fun v => v.category).sum + 10240 ≤ R.locals) (hRcells : cells + 1 ≤ R.cells) (hRslots : slots + nb ≤ R.slots) (hlocks : meth.locks = false)
    (k : ∀ (H1 : Heap) (q9 : Addr) (ce : Cell), H.size ≤ H1.size → (∀ q : Nat, q < H.size → H1[q]? = H[q]?) → va_S A s.heap H1 locs → H1[q9]? = some ce → ce.vm = .none → s.vm.findClass "java/lang/NullPointerException" = some ce.cls → vx_W p l e R s m args below meth c H1 locs (cells + 1) (slots + nb) Q (F0 m pc ls rest) q9) :
    vx_NoteN p l e R s m args below meth c H locs cells slots Q (F0 m pc ls rest) := by
  intro T hT X
  have htr : e.platform.stackTraces = false := (show e.platform.stackTraces = l.stackTraces by rw [X.admits.platform]).trans hl
  have Y := vx_rebase X (R' := { frames := R.frames, locals := R.locals, cells := 1, slots := nb }) (Nat.le_refl _) (Nat.le_refl _) hRcells hRslots
  have hhp : ((T.setVm s.vm).setFrames (.invoking m args :: below)).heap = H := hT
  have hW0 : s.WarmedH ((T.setVm s.vm).setFrames (.invoking m args :: below)).vm := State.WarmedH.refl s
  have hat' : ∀ w ∈ vx_atN nb, w.before args ((T.setVm s.vm).setFrames (.invoking m args :: below)) = true := fun w hw => vx_ot_at hW0 rfl (hgood w hw) (hat w hw)
  have hU' : vx_Zq Bundle.tN "UNASSIGNED_STACK" Bundle.steD A ((T.setVm s.vm).setFrames (.invoking m args :: below)) ((T.setVm s.vm).setFrames (.invoking m args :: below)).heap := by rw [hhp]; exact vx_Zq.moved hW0.alike (hU.kept hS.2.1)
  have hN' : vx_Zq Bundle.tN "SUPPRESSED_SENTINEL" Bundle.listD A ((T.setVm s.vm).setFrames (.invoking m args :: below)) ((T.setVm s.vm).setFrames (.invoking m args :: below)).heap := by rw [hhp]; exact vx_Zq.moved hW0.alike (hN.kept hS.2.1)
  obtain ⟨S, q, ce, st, Z, hce, hcl', hv⟩ := vx_npeAt Y hexec htr (n := nb) (vx_own hat' (vx_isRefq hU'.1) (vx_isRefq hN'.1) hU'.2.word hN'.2.word) (fun x hx => nomatch hx)
    (g := F0 m pc ls rest) rfl hsize hRframes (by show 2 * 0 + (rest.map fun v => v.category).sum + 10240 ≤ R.locals; omega) (by show 0 + 1 ≤ 1; omega) (by show 0 + nb ≤ nb; omega) hlocks
  obtain ⟨f1, f2⟩ := vx_frame Z.same
  have f1' : H.size ≤ S.heap.size := by rw [← hT]; exact f1
  have f2' : ∀ q : Nat, q < H.size → S.heap[q]? = H[q]? := fun q hq => by
    rw [← hT]
    exact f2 q (by rw [← hT] at hq; exact hq) (fun z hz => nomatch hz)
  have X5 := vx_back9 X Y Z
  have X6 : Stand p l e R s m args below meth c S locs (cells + 1) (slots + nb) := { X5 with same := X5.same.mono (by omega) (by omega) }
  obtain ⟨t, a1, b1⟩ := k S.heap q ce f1' f2' ⟨Nat.le_trans hS.1 f1', fun q h1 h2 => (f2' q (Nat.lt_of_lt_of_le h1 hS.1)).trans (hS.2.1 q h1 h2), hS.2.2⟩ hce hv hcl' S rfl X6
  exact ⟨t, st t a1, b1⟩
variable {Q : State → Prop} {cc : ByteArray} {pc : Nat} {ls : Array Slot} {rest : List Value}
theorem vx_idivZ (hexec : p.tables.exec = Jvm.exec) (hb : c.code = cc) {a b : Int32} (h0 : b = 0) (d : decode cc pc = .ok (.idiv, 1)) (k : vx_Note p l e R s m args below meth c H locs cells slots Q (F0 m pc ls rest) "java/lang/ArithmeticException" "/ by zero") :
    W p l e R s m args below meth c H locs cells slots Q (F0 m pc ls (.int b :: .int a :: rest)) := by
  intro T hT X
  obtain ⟨t, st, q⟩ := k T hT X
  exact ⟨t, X.idivZero hexec (g := F0 m pc ls (.int b :: .int a :: rest)) rfl (a := a) (rest := rest) (by rw [h0]) (by rw [hb]; exact d) t st, q⟩
theorem vx_iremZ (hexec : p.tables.exec = Jvm.exec) (hb : c.code = cc) {a b : Int32} (h0 : b = 0) (d : decode cc pc = .ok (.irem, 1)) (k : vx_Note p l e R s m args below meth c H locs cells slots Q (F0 m pc ls rest) "java/lang/ArithmeticException" "/ by zero") :
    W p l e R s m args below meth c H locs cells slots Q (F0 m pc ls (.int b :: .int a :: rest)) := by
  intro T hT X
  obtain ⟨t, st, q⟩ := k T hT X
  exact ⟨t, X.iremZero hexec (g := F0 m pc ls (.int b :: .int a :: rest)) rfl (a := a) (rest := rest) (by rw [h0]) (by rw [hb]; exact d) t st, q⟩
theorem vx_ldivZ (hexec : p.tables.exec = Jvm.exec) (hb : c.code = cc) {a b : Int64} (h0 : b = 0) (d : decode cc pc = .ok (.ldiv, 1)) (k : vx_Note p l e R s m args below meth c H locs cells slots Q (F0 m pc ls rest) "java/lang/ArithmeticException" "/ by zero") :
    W p l e R s m args below meth c H locs cells slots Q (F0 m pc ls (.long b :: .long a :: rest)) := by
  intro T hT X
  obtain ⟨t, st, q⟩ := k T hT X
  exact ⟨t, X.ldivZero hexec (g := F0 m pc ls (.long b :: .long a :: rest)) rfl (a := a) (rest := rest) (by rw [h0]) (by rw [hb]; exact d) t st, q⟩
theorem vx_lremZ (hexec : p.tables.exec = Jvm.exec) (hb : c.code = cc) {a b : Int64} (h0 : b = 0) (d : decode cc pc = .ok (.lrem, 1)) (k : vx_Note p l e R s m args below meth c H locs cells slots Q (F0 m pc ls rest) "java/lang/ArithmeticException" "/ by zero") :
    W p l e R s m args below meth c H locs cells slots Q (F0 m pc ls (.long b :: .long a :: rest)) := by
  intro T hT X
  obtain ⟨t, st, q⟩ := k T hT X
  exact ⟨t, X.lremZero hexec (g := F0 m pc ls (.long b :: .long a :: rest)) rfl (a := a) (rest := rest) (by rw [h0]) (by rw [hb]; exact d) t st, q⟩
theorem vx_ialdZ {D : va_G} {cl : List vw_C} {ws : va_W} {tys : List (ClassId × FieldType)} {a : Nat} (hexec : p.tables.exec = Jvm.exec) (hb : c.code = cc) (hK : va_K D cl tys s) (hP : va_P D cl ws H) (q0 t0 : Nat) {cA : ClassId} {n : Nat} {f : Nat → Int32} (ha : ws[q0]? = some (a, .inl (cA, n, .inl f))) (ht : tys[t0]? = some (cA, .int)) {i : Int32} (hout : ¬ vp_in i n) (hdg : decode cc pc = .ok (.iaload, 1))
    (k : ∀ tx : String, tx = (toString "Index " ++ toString i ++ toString " out of bounds for length " ++ toString n : String) → vx_Note p l e R s m args below meth c H locs cells slots Q (F0 m pc ls rest) "java/lang/ArrayIndexOutOfBoundsException" tx) : W p l e R s m args below meth c H locs cells slots Q (F0 m pc ls (.int i :: .ref a :: rest)) := by
  intro T hT X
  obtain ⟨t, st, q⟩ := k _ rfl T hT X
  refine ⟨t, ?_, q⟩
  have h1 := X.ialoadOut hexec (by rw [hT]; exact hP q0 _ ha) ((hK.2 t0 _ ht).1 n (fun j => .int (f j))) (j := i) (by show (i < 0 ∨ (arrV _ _ _).slots.size ≤ _); rw [arrV_size]; exact Classical.byContradiction hout) (g := F0 m pc ls (.int i :: .ref a :: rest)) rfl (rest := rest) rfl (by rw [hb]; exact hdg) t
  simp only [arrV_size] at h1
  exact h1 st
theorem vx_iastZ {D : va_G} {cl : List vw_C} {ws : va_W} {tys : List (ClassId × FieldType)} {a : Nat} (hexec : p.tables.exec = Jvm.exec) (hb : c.code = cc) (hK : va_K D cl tys s) (hP : va_P D cl ws H) (q0 t0 : Nat) {cA : ClassId} {n : Nat} {f : Nat → Int32} (ha : ws[q0]? = some (a, .inl (cA, n, .inl f))) (ht : tys[t0]? = some (cA, .int)) {i : Int32} {x : Int32} (hout : ¬ vp_in i n) (hdg : decode cc pc = .ok (.iastore, 1))
    (k : ∀ tx : String, tx = (toString "Index " ++ toString i ++ toString " out of bounds for length " ++ toString n : String) → vx_Note p l e R s m args below meth c H locs cells slots Q (F0 m pc ls rest) "java/lang/ArrayIndexOutOfBoundsException" tx) : W p l e R s m args below meth c H locs cells slots Q (F0 m pc ls (.int x :: .int i :: .ref a :: rest)) := by
  intro T hT X
  obtain ⟨t, st, q⟩ := k _ rfl T hT X
  refine ⟨t, ?_, q⟩
  have h1 := X.iastoreOut hexec (by rw [hT]; exact hP q0 _ ha) ((hK.2 t0 _ ht).1 n (fun j => .int (f j))) (j := i) (by show (i < 0 ∨ (arrV _ _ _).slots.size ≤ _); rw [arrV_size]; exact Classical.byContradiction hout) (g := F0 m pc ls (.int x :: .int i :: .ref a :: rest)) rfl (rest := rest) rfl (by rw [hb]; exact hdg) t
  simp only [arrV_size] at h1
  exact h1 st
theorem vx_baldZ {D : va_G} {cl : List vw_C} {ws : va_W} {tys : List (ClassId × FieldType)} {a : Nat} (hexec : p.tables.exec = Jvm.exec) (hb : c.code = cc) (hK : va_K D cl tys s) (hP : va_P D cl ws H) (q0 t0 : Nat) {cA : ClassId} {n : Nat} {f : Nat → Int32} (ha : ws[q0]? = some (a, .inl (cA, n, .inl f))) (ht : tys[t0]? = some (cA, .byte)) {i : Int32} (hout : ¬ vp_in i n) (hdg : decode cc pc = .ok (.baload, 1))
    (k : ∀ tx : String, tx = (toString "Index " ++ toString i ++ toString " out of bounds for length " ++ toString n : String) → vx_Note p l e R s m args below meth c H locs cells slots Q (F0 m pc ls rest) "java/lang/ArrayIndexOutOfBoundsException" tx) : W p l e R s m args below meth c H locs cells slots Q (F0 m pc ls (.int i :: .ref a :: rest)) := by
  intro T hT X
  obtain ⟨t, st, q⟩ := k _ rfl T hT X
  refine ⟨t, ?_, q⟩
  have h1 := X.baloadOut hexec (by rw [hT]; exact hP q0 _ ha) ((hK.2 t0 _ ht).1 n (fun j => .int (f j))) (j := i) (by show (i < 0 ∨ (arrV _ _ _).slots.size ≤ _); rw [arrV_size]; exact Classical.byContradiction hout) (g := F0 m pc ls (.int i :: .ref a :: rest)) rfl (rest := rest) rfl (by rw [hb]; exact hdg) t
  simp only [arrV_size] at h1
  exact h1 st
theorem vx_bastZ {D : va_G} {cl : List vw_C} {ws : va_W} {tys : List (ClassId × FieldType)} {a : Nat} (hexec : p.tables.exec = Jvm.exec) (hb : c.code = cc) (hK : va_K D cl tys s) (hP : va_P D cl ws H) (q0 t0 : Nat) {cA : ClassId} {n : Nat} {f : Nat → Int32} (ha : ws[q0]? = some (a, .inl (cA, n, .inl f))) (ht : tys[t0]? = some (cA, .byte)) {i : Int32} {x : Int32} (hout : ¬ vp_in i n) (hdg : decode cc pc = .ok (.bastore, 1))
    (k : ∀ tx : String, tx = (toString "Index " ++ toString i ++ toString " out of bounds for length " ++ toString n : String) → vx_Note p l e R s m args below meth c H locs cells slots Q (F0 m pc ls rest) "java/lang/ArrayIndexOutOfBoundsException" tx) : W p l e R s m args below meth c H locs cells slots Q (F0 m pc ls (.int x :: .int i :: .ref a :: rest)) := by
  intro T hT X
  obtain ⟨t, st, q⟩ := k _ rfl T hT X
  refine ⟨t, ?_, q⟩
  have h1 := X.bastoreOut hexec (by rw [hT]; exact hP q0 _ ha) ((hK.2 t0 _ ht).1 n (fun j => .int (f j))) (j := i) (by show (i < 0 ∨ (arrV _ _ _).slots.size ≤ _); rw [arrV_size]; exact Classical.byContradiction hout) (g := F0 m pc ls (.int x :: .int i :: .ref a :: rest)) rfl (rest := rest) rfl (by rw [hb]; exact hdg) t
  simp only [arrV_size] at h1
  exact h1 st
theorem vx_zaldZ {D : va_G} {cl : List vw_C} {ws : va_W} {tys : List (ClassId × FieldType)} {a : Nat} (hexec : p.tables.exec = Jvm.exec) (hb : c.code = cc) (hK : va_K D cl tys s) (hP : va_P D cl ws H) (q0 t0 : Nat) {cA : ClassId} {n : Nat} {f : Nat → Int32} (ha : ws[q0]? = some (a, .inl (cA, n, .inl f))) (ht : tys[t0]? = some (cA, .boolean)) {i : Int32} (hout : ¬ vp_in i n) (hdg : decode cc pc = .ok (.baload, 1))
    (k : ∀ tx : String, tx = (toString "Index " ++ toString i ++ toString " out of bounds for length " ++ toString n : String) → vx_Note p l e R s m args below meth c H locs cells slots Q (F0 m pc ls rest) "java/lang/ArrayIndexOutOfBoundsException" tx) : W p l e R s m args below meth c H locs cells slots Q (F0 m pc ls (.int i :: .ref a :: rest)) := by
  intro T hT X
  obtain ⟨t, st, q⟩ := k _ rfl T hT X
  refine ⟨t, ?_, q⟩
  have h1 := X.baloadOut hexec (by rw [hT]; exact hP q0 _ ha) ((hK.2 t0 _ ht).1 n (fun j => .int (f j))) (j := i) (by show (i < 0 ∨ (arrV _ _ _).slots.size ≤ _); rw [arrV_size]; exact Classical.byContradiction hout) (g := F0 m pc ls (.int i :: .ref a :: rest)) rfl (rest := rest) rfl (by rw [hb]; exact hdg) t
  simp only [arrV_size] at h1
  exact h1 st
theorem vx_zastZ {D : va_G} {cl : List vw_C} {ws : va_W} {tys : List (ClassId × FieldType)} {a : Nat} (hexec : p.tables.exec = Jvm.exec) (hb : c.code = cc) (hK : va_K D cl tys s) (hP : va_P D cl ws H) (q0 t0 : Nat) {cA : ClassId} {n : Nat} {f : Nat → Int32} (ha : ws[q0]? = some (a, .inl (cA, n, .inl f))) (ht : tys[t0]? = some (cA, .boolean)) {i : Int32} {x : Int32} (hout : ¬ vp_in i n) (hdg : decode cc pc = .ok (.bastore, 1))
    (k : ∀ tx : String, tx = (toString "Index " ++ toString i ++ toString " out of bounds for length " ++ toString n : String) → vx_Note p l e R s m args below meth c H locs cells slots Q (F0 m pc ls rest) "java/lang/ArrayIndexOutOfBoundsException" tx) : W p l e R s m args below meth c H locs cells slots Q (F0 m pc ls (.int x :: .int i :: .ref a :: rest)) := by
  intro T hT X
  obtain ⟨t, st, q⟩ := k _ rfl T hT X
  refine ⟨t, ?_, q⟩
  have h1 := X.bastoreOut hexec (by rw [hT]; exact hP q0 _ ha) ((hK.2 t0 _ ht).1 n (fun j => .int (f j))) (j := i) (by show (i < 0 ∨ (arrV _ _ _).slots.size ≤ _); rw [arrV_size]; exact Classical.byContradiction hout) (g := F0 m pc ls (.int x :: .int i :: .ref a :: rest)) rfl (rest := rest) rfl (by rw [hb]; exact hdg) t
  simp only [arrV_size] at h1
  exact h1 st
theorem vx_caldZ {D : va_G} {cl : List vw_C} {ws : va_W} {tys : List (ClassId × FieldType)} {a : Nat} (hexec : p.tables.exec = Jvm.exec) (hb : c.code = cc) (hK : va_K D cl tys s) (hP : va_P D cl ws H) (q0 t0 : Nat) {cA : ClassId} {n : Nat} {f : Nat → Int32} (ha : ws[q0]? = some (a, .inl (cA, n, .inl f))) (ht : tys[t0]? = some (cA, .char)) {i : Int32} (hout : ¬ vp_in i n) (hdg : decode cc pc = .ok (.caload, 1))
    (k : ∀ tx : String, tx = (toString "Index " ++ toString i ++ toString " out of bounds for length " ++ toString n : String) → vx_Note p l e R s m args below meth c H locs cells slots Q (F0 m pc ls rest) "java/lang/ArrayIndexOutOfBoundsException" tx) : W p l e R s m args below meth c H locs cells slots Q (F0 m pc ls (.int i :: .ref a :: rest)) := by
  intro T hT X
  obtain ⟨t, st, q⟩ := k _ rfl T hT X
  refine ⟨t, ?_, q⟩
  have h1 := X.caloadOut hexec (by rw [hT]; exact hP q0 _ ha) ((hK.2 t0 _ ht).1 n (fun j => .int (f j))) (j := i) (by show (i < 0 ∨ (arrV _ _ _).slots.size ≤ _); rw [arrV_size]; exact Classical.byContradiction hout) (g := F0 m pc ls (.int i :: .ref a :: rest)) rfl (rest := rest) rfl (by rw [hb]; exact hdg) t
  simp only [arrV_size] at h1
  exact h1 st
theorem vx_castZ {D : va_G} {cl : List vw_C} {ws : va_W} {tys : List (ClassId × FieldType)} {a : Nat} (hexec : p.tables.exec = Jvm.exec) (hb : c.code = cc) (hK : va_K D cl tys s) (hP : va_P D cl ws H) (q0 t0 : Nat) {cA : ClassId} {n : Nat} {f : Nat → Int32} (ha : ws[q0]? = some (a, .inl (cA, n, .inl f))) (ht : tys[t0]? = some (cA, .char)) {i : Int32} {x : Int32} (hout : ¬ vp_in i n) (hdg : decode cc pc = .ok (.castore, 1))
    (k : ∀ tx : String, tx = (toString "Index " ++ toString i ++ toString " out of bounds for length " ++ toString n : String) → vx_Note p l e R s m args below meth c H locs cells slots Q (F0 m pc ls rest) "java/lang/ArrayIndexOutOfBoundsException" tx) : W p l e R s m args below meth c H locs cells slots Q (F0 m pc ls (.int x :: .int i :: .ref a :: rest)) := by
  intro T hT X
  obtain ⟨t, st, q⟩ := k _ rfl T hT X
  refine ⟨t, ?_, q⟩
  have h1 := X.castoreOut hexec (by rw [hT]; exact hP q0 _ ha) ((hK.2 t0 _ ht).1 n (fun j => .int (f j))) (j := i) (by show (i < 0 ∨ (arrV _ _ _).slots.size ≤ _); rw [arrV_size]; exact Classical.byContradiction hout) (g := F0 m pc ls (.int x :: .int i :: .ref a :: rest)) rfl (rest := rest) rfl (by rw [hb]; exact hdg) t
  simp only [arrV_size] at h1
  exact h1 st
theorem vx_saldZ {D : va_G} {cl : List vw_C} {ws : va_W} {tys : List (ClassId × FieldType)} {a : Nat} (hexec : p.tables.exec = Jvm.exec) (hb : c.code = cc) (hK : va_K D cl tys s) (hP : va_P D cl ws H) (q0 t0 : Nat) {cA : ClassId} {n : Nat} {f : Nat → Int32} (ha : ws[q0]? = some (a, .inl (cA, n, .inl f))) (ht : tys[t0]? = some (cA, .short)) {i : Int32} (hout : ¬ vp_in i n) (hdg : decode cc pc = .ok (.saload, 1))
    (k : ∀ tx : String, tx = (toString "Index " ++ toString i ++ toString " out of bounds for length " ++ toString n : String) → vx_Note p l e R s m args below meth c H locs cells slots Q (F0 m pc ls rest) "java/lang/ArrayIndexOutOfBoundsException" tx) : W p l e R s m args below meth c H locs cells slots Q (F0 m pc ls (.int i :: .ref a :: rest)) := by
  intro T hT X
  obtain ⟨t, st, q⟩ := k _ rfl T hT X
  refine ⟨t, ?_, q⟩
  have h1 := X.saloadOut hexec (by rw [hT]; exact hP q0 _ ha) ((hK.2 t0 _ ht).1 n (fun j => .int (f j))) (j := i) (by show (i < 0 ∨ (arrV _ _ _).slots.size ≤ _); rw [arrV_size]; exact Classical.byContradiction hout) (g := F0 m pc ls (.int i :: .ref a :: rest)) rfl (rest := rest) rfl (by rw [hb]; exact hdg) t
  simp only [arrV_size] at h1
  exact h1 st
theorem vx_sastZ {D : va_G} {cl : List vw_C} {ws : va_W} {tys : List (ClassId × FieldType)} {a : Nat} (hexec : p.tables.exec = Jvm.exec) (hb : c.code = cc) (hK : va_K D cl tys s) (hP : va_P D cl ws H) (q0 t0 : Nat) {cA : ClassId} {n : Nat} {f : Nat → Int32} (ha : ws[q0]? = some (a, .inl (cA, n, .inl f))) (ht : tys[t0]? = some (cA, .short)) {i : Int32} {x : Int32} (hout : ¬ vp_in i n) (hdg : decode cc pc = .ok (.sastore, 1))
    (k : ∀ tx : String, tx = (toString "Index " ++ toString i ++ toString " out of bounds for length " ++ toString n : String) → vx_Note p l e R s m args below meth c H locs cells slots Q (F0 m pc ls rest) "java/lang/ArrayIndexOutOfBoundsException" tx) : W p l e R s m args below meth c H locs cells slots Q (F0 m pc ls (.int x :: .int i :: .ref a :: rest)) := by
  intro T hT X
  obtain ⟨t, st, q⟩ := k _ rfl T hT X
  refine ⟨t, ?_, q⟩
  have h1 := X.sastoreOut hexec (by rw [hT]; exact hP q0 _ ha) ((hK.2 t0 _ ht).1 n (fun j => .int (f j))) (j := i) (by show (i < 0 ∨ (arrV _ _ _).slots.size ≤ _); rw [arrV_size]; exact Classical.byContradiction hout) (g := F0 m pc ls (.int x :: .int i :: .ref a :: rest)) rfl (rest := rest) rfl (by rw [hb]; exact hdg) t
  simp only [arrV_size] at h1
  exact h1 st
theorem vx_laldZ {D : va_G} {cl : List vw_C} {ws : va_W} {tys : List (ClassId × FieldType)} {a : Nat} (hexec : p.tables.exec = Jvm.exec) (hb : c.code = cc) (hK : va_K D cl tys s) (hP : va_P D cl ws H) (q0 t0 : Nat) {cA : ClassId} {n : Nat} {f : Nat → Int64} (ha : ws[q0]? = some (a, .inl (cA, n, .inr (.inl f)))) (ht : tys[t0]? = some (cA, .long)) {i : Int32} (hout : ¬ vp_in i n) (hdg : decode cc pc = .ok (.laload, 1))
    (k : ∀ tx : String, tx = (toString "Index " ++ toString i ++ toString " out of bounds for length " ++ toString n : String) → vx_Note p l e R s m args below meth c H locs cells slots Q (F0 m pc ls rest) "java/lang/ArrayIndexOutOfBoundsException" tx) : W p l e R s m args below meth c H locs cells slots Q (F0 m pc ls (.int i :: .ref a :: rest)) := by
  intro T hT X
  obtain ⟨t, st, q⟩ := k _ rfl T hT X
  refine ⟨t, ?_, q⟩
  have h1 := X.laloadOut hexec (by rw [hT]; exact hP q0 _ ha) ((hK.2 t0 _ ht).1 n (fun j => .long (f j))) (j := i) (by show (i < 0 ∨ (arrV _ _ _).slots.size ≤ _); rw [arrV_size]; exact Classical.byContradiction hout) (g := F0 m pc ls (.int i :: .ref a :: rest)) rfl (rest := rest) rfl (by rw [hb]; exact hdg) t
  simp only [arrV_size] at h1
  exact h1 st
theorem vx_lastZ {D : va_G} {cl : List vw_C} {ws : va_W} {tys : List (ClassId × FieldType)} {a : Nat} (hexec : p.tables.exec = Jvm.exec) (hb : c.code = cc) (hK : va_K D cl tys s) (hP : va_P D cl ws H) (q0 t0 : Nat) {cA : ClassId} {n : Nat} {f : Nat → Int64} (ha : ws[q0]? = some (a, .inl (cA, n, .inr (.inl f)))) (ht : tys[t0]? = some (cA, .long)) {i : Int32} {x : Int64} (hout : ¬ vp_in i n) (hdg : decode cc pc = .ok (.lastore, 1))
    (k : ∀ tx : String, tx = (toString "Index " ++ toString i ++ toString " out of bounds for length " ++ toString n : String) → vx_Note p l e R s m args below meth c H locs cells slots Q (F0 m pc ls rest) "java/lang/ArrayIndexOutOfBoundsException" tx) : W p l e R s m args below meth c H locs cells slots Q (F0 m pc ls (.long x :: .int i :: .ref a :: rest)) := by
  intro T hT X
  obtain ⟨t, st, q⟩ := k _ rfl T hT X
  refine ⟨t, ?_, q⟩
  have h1 := X.lastoreOut hexec (by rw [hT]; exact hP q0 _ ha) ((hK.2 t0 _ ht).1 n (fun j => .long (f j))) (j := i) (by show (i < 0 ∨ (arrV _ _ _).slots.size ≤ _); rw [arrV_size]; exact Classical.byContradiction hout) (g := F0 m pc ls (.long x :: .int i :: .ref a :: rest)) rfl (rest := rest) rfl (by rw [hb]; exact hdg) t
  simp only [arrV_size] at h1
  exact h1 st
theorem vx_faldZ {D : va_G} {cl : List vw_C} {ws : va_W} {tys : List (ClassId × FieldType)} {a : Nat} (hexec : p.tables.exec = Jvm.exec) (hb : c.code = cc) (hK : va_K D cl tys s) (hP : va_P D cl ws H) (q0 t0 : Nat) {cA : ClassId} {n : Nat} {f : Nat → UInt32} (ha : ws[q0]? = some (a, .inl (cA, n, .inr (.inr (.inl f))))) (ht : tys[t0]? = some (cA, .float)) {i : Int32} (hout : ¬ vp_in i n) (hdg : decode cc pc = .ok (.faload, 1))
    (k : ∀ tx : String, tx = (toString "Index " ++ toString i ++ toString " out of bounds for length " ++ toString n : String) → vx_Note p l e R s m args below meth c H locs cells slots Q (F0 m pc ls rest) "java/lang/ArrayIndexOutOfBoundsException" tx) : W p l e R s m args below meth c H locs cells slots Q (F0 m pc ls (.int i :: .ref a :: rest)) := by
  intro T hT X
  obtain ⟨t, st, q⟩ := k _ rfl T hT X
  refine ⟨t, ?_, q⟩
  have h1 := X.faloadOut hexec (by rw [hT]; exact hP q0 _ ha) ((hK.2 t0 _ ht).1 n (fun j => .float (f j))) (j := i) (by show (i < 0 ∨ (arrV _ _ _).slots.size ≤ _); rw [arrV_size]; exact Classical.byContradiction hout) (g := F0 m pc ls (.int i :: .ref a :: rest)) rfl (rest := rest) rfl (by rw [hb]; exact hdg) t
  simp only [arrV_size] at h1
  exact h1 st
theorem vx_fastZ {D : va_G} {cl : List vw_C} {ws : va_W} {tys : List (ClassId × FieldType)} {a : Nat} (hexec : p.tables.exec = Jvm.exec) (hb : c.code = cc) (hK : va_K D cl tys s) (hP : va_P D cl ws H) (q0 t0 : Nat) {cA : ClassId} {n : Nat} {f : Nat → UInt32} (ha : ws[q0]? = some (a, .inl (cA, n, .inr (.inr (.inl f))))) (ht : tys[t0]? = some (cA, .float)) {i : Int32} {x : UInt32} (hout : ¬ vp_in i n) (hdg : decode cc pc = .ok (.fastore, 1))
    (k : ∀ tx : String, tx = (toString "Index " ++ toString i ++ toString " out of bounds for length " ++ toString n : String) → vx_Note p l e R s m args below meth c H locs cells slots Q (F0 m pc ls rest) "java/lang/ArrayIndexOutOfBoundsException" tx) : W p l e R s m args below meth c H locs cells slots Q (F0 m pc ls (.float x :: .int i :: .ref a :: rest)) := by
  intro T hT X
  obtain ⟨t, st, q⟩ := k _ rfl T hT X
  refine ⟨t, ?_, q⟩
  have h1 := X.fastoreOut hexec (by rw [hT]; exact hP q0 _ ha) ((hK.2 t0 _ ht).1 n (fun j => .float (f j))) (j := i) (by show (i < 0 ∨ (arrV _ _ _).slots.size ≤ _); rw [arrV_size]; exact Classical.byContradiction hout) (g := F0 m pc ls (.float x :: .int i :: .ref a :: rest)) rfl (rest := rest) rfl (by rw [hb]; exact hdg) t
  simp only [arrV_size] at h1
  exact h1 st
theorem vx_daldZ {D : va_G} {cl : List vw_C} {ws : va_W} {tys : List (ClassId × FieldType)} {a : Nat} (hexec : p.tables.exec = Jvm.exec) (hb : c.code = cc) (hK : va_K D cl tys s) (hP : va_P D cl ws H) (q0 t0 : Nat) {cA : ClassId} {n : Nat} {f : Nat → UInt64} (ha : ws[q0]? = some (a, .inl (cA, n, .inr (.inr (.inr (.inl f)))))) (ht : tys[t0]? = some (cA, .double)) {i : Int32} (hout : ¬ vp_in i n) (hdg : decode cc pc = .ok (.daload, 1))
    (k : ∀ tx : String, tx = (toString "Index " ++ toString i ++ toString " out of bounds for length " ++ toString n : String) → vx_Note p l e R s m args below meth c H locs cells slots Q (F0 m pc ls rest) "java/lang/ArrayIndexOutOfBoundsException" tx) : W p l e R s m args below meth c H locs cells slots Q (F0 m pc ls (.int i :: .ref a :: rest)) := by
  intro T hT X
  obtain ⟨t, st, q⟩ := k _ rfl T hT X
  refine ⟨t, ?_, q⟩
  have h1 := X.daloadOut hexec (by rw [hT]; exact hP q0 _ ha) ((hK.2 t0 _ ht).1 n (fun j => .double (f j))) (j := i) (by show (i < 0 ∨ (arrV _ _ _).slots.size ≤ _); rw [arrV_size]; exact Classical.byContradiction hout) (g := F0 m pc ls (.int i :: .ref a :: rest)) rfl (rest := rest) rfl (by rw [hb]; exact hdg) t
  simp only [arrV_size] at h1
  exact h1 st
theorem vx_dastZ {D : va_G} {cl : List vw_C} {ws : va_W} {tys : List (ClassId × FieldType)} {a : Nat} (hexec : p.tables.exec = Jvm.exec) (hb : c.code = cc) (hK : va_K D cl tys s) (hP : va_P D cl ws H) (q0 t0 : Nat) {cA : ClassId} {n : Nat} {f : Nat → UInt64} (ha : ws[q0]? = some (a, .inl (cA, n, .inr (.inr (.inr (.inl f)))))) (ht : tys[t0]? = some (cA, .double)) {i : Int32} {x : UInt64} (hout : ¬ vp_in i n) (hdg : decode cc pc = .ok (.dastore, 1))
    (k : ∀ tx : String, tx = (toString "Index " ++ toString i ++ toString " out of bounds for length " ++ toString n : String) → vx_Note p l e R s m args below meth c H locs cells slots Q (F0 m pc ls rest) "java/lang/ArrayIndexOutOfBoundsException" tx) : W p l e R s m args below meth c H locs cells slots Q (F0 m pc ls (.double x :: .int i :: .ref a :: rest)) := by
  intro T hT X
  obtain ⟨t, st, q⟩ := k _ rfl T hT X
  refine ⟨t, ?_, q⟩
  have h1 := X.dastoreOut hexec (by rw [hT]; exact hP q0 _ ha) ((hK.2 t0 _ ht).1 n (fun j => .double (f j))) (j := i) (by show (i < 0 ∨ (arrV _ _ _).slots.size ≤ _); rw [arrV_size]; exact Classical.byContradiction hout) (g := F0 m pc ls (.double x :: .int i :: .ref a :: rest)) rfl (rest := rest) rfl (by rw [hb]; exact hdg) t
  simp only [arrV_size] at h1
  exact h1 st
theorem vx_arraylengthN (hexec : p.tables.exec = Jvm.exec) (hb : c.code = cc) (hdg : decode cc pc = .ok (.arraylength, 1)) (k : vx_NoteN p l e R s m args below meth c H locs cells slots Q (F0 m pc ls rest)) : W p l e R s m args below meth c H locs cells slots Q (F0 m pc ls (.null :: rest)) := by
  intro T hT X
  obtain ⟨t, st, q⟩ := k T hT X
  exact ⟨t, X.arraylengthNull hexec (g := F0 m pc ls (.null :: rest)) rfl (rest := rest) rfl (by rw [hb]; exact hdg) t st, q⟩
theorem vx_ialoadN (hexec : p.tables.exec = Jvm.exec) (hb : c.code = cc) {i : Int32} (hdg : decode cc pc = .ok (.iaload, 1)) (k : vx_NoteN p l e R s m args below meth c H locs cells slots Q (F0 m pc ls rest)) : W p l e R s m args below meth c H locs cells slots Q (F0 m pc ls (.int i :: .null :: rest)) := by
  intro T hT X
  obtain ⟨t, st, q⟩ := k T hT X
  exact ⟨t, X.ialoadNull hexec (g := F0 m pc ls (.int i :: .null :: rest)) rfl (rest := rest) rfl (by rw [hb]; exact hdg) t st, q⟩
theorem vx_laloadN (hexec : p.tables.exec = Jvm.exec) (hb : c.code = cc) {i : Int32} (hdg : decode cc pc = .ok (.laload, 1)) (k : vx_NoteN p l e R s m args below meth c H locs cells slots Q (F0 m pc ls rest)) : W p l e R s m args below meth c H locs cells slots Q (F0 m pc ls (.int i :: .null :: rest)) := by
  intro T hT X
  obtain ⟨t, st, q⟩ := k T hT X
  exact ⟨t, X.laloadNull hexec (g := F0 m pc ls (.int i :: .null :: rest)) rfl (rest := rest) rfl (by rw [hb]; exact hdg) t st, q⟩
theorem vx_faloadN (hexec : p.tables.exec = Jvm.exec) (hb : c.code = cc) {i : Int32} (hdg : decode cc pc = .ok (.faload, 1)) (k : vx_NoteN p l e R s m args below meth c H locs cells slots Q (F0 m pc ls rest)) : W p l e R s m args below meth c H locs cells slots Q (F0 m pc ls (.int i :: .null :: rest)) := by
  intro T hT X
  obtain ⟨t, st, q⟩ := k T hT X
  exact ⟨t, X.faloadNull hexec (g := F0 m pc ls (.int i :: .null :: rest)) rfl (rest := rest) rfl (by rw [hb]; exact hdg) t st, q⟩
theorem vx_daloadN (hexec : p.tables.exec = Jvm.exec) (hb : c.code = cc) {i : Int32} (hdg : decode cc pc = .ok (.daload, 1)) (k : vx_NoteN p l e R s m args below meth c H locs cells slots Q (F0 m pc ls rest)) : W p l e R s m args below meth c H locs cells slots Q (F0 m pc ls (.int i :: .null :: rest)) := by
  intro T hT X
  obtain ⟨t, st, q⟩ := k T hT X
  exact ⟨t, X.daloadNull hexec (g := F0 m pc ls (.int i :: .null :: rest)) rfl (rest := rest) rfl (by rw [hb]; exact hdg) t st, q⟩
theorem vx_aaloadN (hexec : p.tables.exec = Jvm.exec) (hb : c.code = cc) {i : Int32} (hdg : decode cc pc = .ok (.aaload, 1)) (k : vx_NoteN p l e R s m args below meth c H locs cells slots Q (F0 m pc ls rest)) : W p l e R s m args below meth c H locs cells slots Q (F0 m pc ls (.int i :: .null :: rest)) := by
  intro T hT X
  obtain ⟨t, st, q⟩ := k T hT X
  exact ⟨t, X.aaloadNull hexec (g := F0 m pc ls (.int i :: .null :: rest)) rfl (rest := rest) rfl (by rw [hb]; exact hdg) t st, q⟩
theorem vx_baloadN (hexec : p.tables.exec = Jvm.exec) (hb : c.code = cc) {i : Int32} (hdg : decode cc pc = .ok (.baload, 1)) (k : vx_NoteN p l e R s m args below meth c H locs cells slots Q (F0 m pc ls rest)) : W p l e R s m args below meth c H locs cells slots Q (F0 m pc ls (.int i :: .null :: rest)) := by
  intro T hT X
  obtain ⟨t, st, q⟩ := k T hT X
  exact ⟨t, X.baloadNull hexec (g := F0 m pc ls (.int i :: .null :: rest)) rfl (rest := rest) rfl (by rw [hb]; exact hdg) t st, q⟩
theorem vx_caloadN (hexec : p.tables.exec = Jvm.exec) (hb : c.code = cc) {i : Int32} (hdg : decode cc pc = .ok (.caload, 1)) (k : vx_NoteN p l e R s m args below meth c H locs cells slots Q (F0 m pc ls rest)) : W p l e R s m args below meth c H locs cells slots Q (F0 m pc ls (.int i :: .null :: rest)) := by
  intro T hT X
  obtain ⟨t, st, q⟩ := k T hT X
  exact ⟨t, X.caloadNull hexec (g := F0 m pc ls (.int i :: .null :: rest)) rfl (rest := rest) rfl (by rw [hb]; exact hdg) t st, q⟩
theorem vx_saloadN (hexec : p.tables.exec = Jvm.exec) (hb : c.code = cc) {i : Int32} (hdg : decode cc pc = .ok (.saload, 1)) (k : vx_NoteN p l e R s m args below meth c H locs cells slots Q (F0 m pc ls rest)) : W p l e R s m args below meth c H locs cells slots Q (F0 m pc ls (.int i :: .null :: rest)) := by
  intro T hT X
  obtain ⟨t, st, q⟩ := k T hT X
  exact ⟨t, X.saloadNull hexec (g := F0 m pc ls (.int i :: .null :: rest)) rfl (rest := rest) rfl (by rw [hb]; exact hdg) t st, q⟩
theorem vx_iastoreN (hexec : p.tables.exec = Jvm.exec) (hb : c.code = cc) {x : Int32} {i : Int32} (hdg : decode cc pc = .ok (.iastore, 1)) (k : vx_NoteN p l e R s m args below meth c H locs cells slots Q (F0 m pc ls rest)) : W p l e R s m args below meth c H locs cells slots Q (F0 m pc ls (.int x :: .int i :: .null :: rest)) := by
  intro T hT X
  obtain ⟨t, st, q⟩ := k T hT X
  exact ⟨t, X.iastoreNull hexec (g := F0 m pc ls (.int x :: .int i :: .null :: rest)) rfl (rest := rest) rfl (by rw [hb]; exact hdg) t st, q⟩
theorem vx_lastoreN (hexec : p.tables.exec = Jvm.exec) (hb : c.code = cc) {x : Int64} {i : Int32} (hdg : decode cc pc = .ok (.lastore, 1)) (k : vx_NoteN p l e R s m args below meth c H locs cells slots Q (F0 m pc ls rest)) : W p l e R s m args below meth c H locs cells slots Q (F0 m pc ls (.long x :: .int i :: .null :: rest)) := by
  intro T hT X
  obtain ⟨t, st, q⟩ := k T hT X
  exact ⟨t, X.lastoreNull hexec (g := F0 m pc ls (.long x :: .int i :: .null :: rest)) rfl (rest := rest) rfl (by rw [hb]; exact hdg) t st, q⟩
theorem vx_fastoreN (hexec : p.tables.exec = Jvm.exec) (hb : c.code = cc) {x : UInt32} {i : Int32} (hdg : decode cc pc = .ok (.fastore, 1)) (k : vx_NoteN p l e R s m args below meth c H locs cells slots Q (F0 m pc ls rest)) : W p l e R s m args below meth c H locs cells slots Q (F0 m pc ls (.float x :: .int i :: .null :: rest)) := by
  intro T hT X
  obtain ⟨t, st, q⟩ := k T hT X
  exact ⟨t, X.fastoreNull hexec (g := F0 m pc ls (.float x :: .int i :: .null :: rest)) rfl (rest := rest) rfl (by rw [hb]; exact hdg) t st, q⟩
theorem vx_dastoreN (hexec : p.tables.exec = Jvm.exec) (hb : c.code = cc) {x : UInt64} {i : Int32} (hdg : decode cc pc = .ok (.dastore, 1)) (k : vx_NoteN p l e R s m args below meth c H locs cells slots Q (F0 m pc ls rest)) : W p l e R s m args below meth c H locs cells slots Q (F0 m pc ls (.double x :: .int i :: .null :: rest)) := by
  intro T hT X
  obtain ⟨t, st, q⟩ := k T hT X
  exact ⟨t, X.dastoreNull hexec (g := F0 m pc ls (.double x :: .int i :: .null :: rest)) rfl (rest := rest) rfl (by rw [hb]; exact hdg) t st, q⟩
theorem vx_bastoreN (hexec : p.tables.exec = Jvm.exec) (hb : c.code = cc) {x : Int32} {i : Int32} (hdg : decode cc pc = .ok (.bastore, 1)) (k : vx_NoteN p l e R s m args below meth c H locs cells slots Q (F0 m pc ls rest)) : W p l e R s m args below meth c H locs cells slots Q (F0 m pc ls (.int x :: .int i :: .null :: rest)) := by
  intro T hT X
  obtain ⟨t, st, q⟩ := k T hT X
  exact ⟨t, X.bastoreNull hexec (g := F0 m pc ls (.int x :: .int i :: .null :: rest)) rfl (rest := rest) rfl (by rw [hb]; exact hdg) t st, q⟩
theorem vx_castoreN (hexec : p.tables.exec = Jvm.exec) (hb : c.code = cc) {x : Int32} {i : Int32} (hdg : decode cc pc = .ok (.castore, 1)) (k : vx_NoteN p l e R s m args below meth c H locs cells slots Q (F0 m pc ls rest)) : W p l e R s m args below meth c H locs cells slots Q (F0 m pc ls (.int x :: .int i :: .null :: rest)) := by
  intro T hT X
  obtain ⟨t, st, q⟩ := k T hT X
  exact ⟨t, X.castoreNull hexec (g := F0 m pc ls (.int x :: .int i :: .null :: rest)) rfl (rest := rest) rfl (by rw [hb]; exact hdg) t st, q⟩
theorem vx_sastoreN (hexec : p.tables.exec = Jvm.exec) (hb : c.code = cc) {x : Int32} {i : Int32} (hdg : decode cc pc = .ok (.sastore, 1)) (k : vx_NoteN p l e R s m args below meth c H locs cells slots Q (F0 m pc ls rest)) : W p l e R s m args below meth c H locs cells slots Q (F0 m pc ls (.int x :: .int i :: .null :: rest)) := by
  intro T hT X
  obtain ⟨t, st, q⟩ := k T hT X
  exact ⟨t, X.sastoreNull hexec (g := F0 m pc ls (.int x :: .int i :: .null :: rest)) rfl (rest := rest) rfl (by rw [hb]; exact hdg) t st, q⟩
theorem vx_invokeN {own C : String} {index maxL : Nat} {y : MethodName} {bytes : ByteArray} {ret : Option FieldType} (hexec : p.tables.exec = Jvm.exec) (hb : c.code = cc) (hown : s.vm.findClass own = some m.cls) (hlink : (Cond.methodLink own index y).before args s = true) (hinst : (Cond.instanceMethod y).before args s = true) (hcode : (Cond.code y bytes maxL ret).before args s = true) (hsel : (Cond.selects C y y).before args s = true)
    (hx : y.cls ≠ "java/lang/invoke/MethodHandle" ∧ y.cls ≠ "java/lang/invoke/VarHandle") {As : List Value} (hlen : (parseMethodDescriptor y.desc).map (fun d => d.parameters.length) = some As.length) (hdg : decode cc pc = .ok (.invokevirtual index, 3))
    (k : vx_NoteN p l e R s m args below meth c H locs cells slots Q (F0 m pc ls rest)) {st0 : List Value} (hst : st0 = As.reverse ++ .null :: rest) : W p l e R s m args below meth c H locs cells slots Q (F0 m pc ls st0) := by
  intro T hT X
  obtain ⟨r0, r, hn, hrm, hstR, hsigR⟩ := va_Decl.of hinst hcode
  obtain ⟨c2, r2, m2, q1, q2, q3, q4, kP, hkP, hkPi⟩ := Cond.selects_spec hsel
  cases hn.symm.trans q3
  have hl9 : As.length = r.sig.parameters.length := by
    rw [hsigR] at hlen
    exact (Option.some.inj hlen).symm
  obtain ⟨vm', X1, st1⟩ := X.invokevirtualNull hexec hown hlink hn hrm hstR hkP hkPi hx (g := F0 m pc ls st0) rfl (argsL := As) (rest := rest) hl9 hst (by rw [hb]; exact hdg)
  obtain ⟨t, st, q⟩ := k (T.setVm vm') hT X1
  exact ⟨t, st1 t st, q⟩
theorem vx_newarrayZ {atype : ArrayType} (hexec : p.tables.exec = Jvm.exec) (hb : c.code = cc) {n : Int32} (h0 : n < 0) (hdg : decode cc pc = .ok (.newarray atype, 2)) (k : ∀ tx : String, tx = toString n → vx_Note p l e R s m args below meth c H locs cells slots Q (F0 m pc ls rest) "java/lang/NegativeArraySizeException" tx) : W p l e R s m args below meth c H locs cells slots Q (F0 m pc ls (.int n :: rest)) := by
  intro T hT X
  obtain ⟨t, st, q⟩ := k _ rfl T hT X
  exact ⟨t, X.newarrayNegative hexec (g := F0 m pc ls (.int n :: rest)) rfl h0 (rest := rest) rfl (by rw [hb]; exact hdg) t st, q⟩
end
end VXM
/-! ===== END ===== -/
/-! ===== BEGIN an exception as an object: made, kept, thrown later (no traces kept) ===== -/
section VXK
variable {p : Program} {l : Launch} {e : Env} {R : Room} {s : State} {m₀ : MethodId} {args : Array Value} {below : List Frame} {meth : Method} {c : Code} {W : State} {locs : List Loc} {cells slots : Nat}
set_option maxHeartbeats 1000000 in
theorem vx_ctorMadeS (X : Stand p l e R s m₀ args below meth c W locs cells slots) (hexec : p.tables.exec = Jvm.exec) (htr : e.platform.stackTraces = false) {own cls : String} {names : List String} {ic : Nat}
    (hown : s.vm.findClass own = some m₀.cls) (hcls : Bundle.fit cls = true) (hnames : ∀ n ∈ names, Bundle.fit n = true)
    (h : ∀ a ∈ Bundle.ownAtoms own ic cls names, a.before args s = true)
    (hlocs : ∀ x ∈ locs, ∀ cell, s.heap[x.base]? = some cell → cell.vm.isStatics = false)
    {a : Addr} {cX : ClassId} {kX : Class} (hfoundX : s.vm.findClass cls = some cX) (hkX : s.vm.classes[cX]? = some kX) (hcell : W.heap[a]? = some (freshCell cX kX)) (hnew : s.heap.size ≤ a)
    {msg : Value} (hmsg : msg.isRef = true)
    {g : JFrame} (hg : g.method = m₀) (hsize : g.locals.size = c.maxLocals) {rest : List Value} (hstack : g.stack = msg :: .ref a :: .ref a :: rest)
    (hd6 : decode c.code g.pc = .ok (.invokespecial ic, 3))
    (hRframes : names.length + 3 < R.frames) (hRlocals : 2 * g.monitorRoom + ((Value.ref a :: rest).map fun v => v.category).sum + (13 * (names.length + 1) + 42) ≤ R.locals) :
    ∃ (V : State) (ce : Cell) (L : List Loc), Stand p l e R s m₀ args below meth c (V.setCell a ce) (locs ++ L) cells slots ∧ (∀ y ∈ L, y.base = a) ∧ a < V.heap.size ∧ ce.cls = cX ∧ ce.vm = .none ∧
      ∀ target, Steps p.tables e below ((V.setCell a ce).setTop { g with stack := .ref a :: rest, pc := g.pc + 3 }) target → Steps p.tables e below (W.setTop g) target := by
  have howns : e.platform.frameOwnsMonitors = true := by rw [X.admits.platform]
  have hfin : e.platform.finalization = false := by rw [X.admits.platform]
  have hpl : e.platform.magicAccessors = ({} : Platform).magicAccessors := by rw [X.admits.platform]
  have a' : ∀ x, x ∈ Bundle.ownAtoms own ic cls names → x.holds args s none s [] = true := fun x hx => h x hx
  obtain ⟨T, Z0, L, -, Y⟩ := ThrowableC.of_atoms (args := args) howns hfin hpl (fun x hx => h x (by simp [Bundle.ownAtoms, hx]))
  obtain ⟨Z, M, LZ, LM, hnZ⟩ := Init0T.ofS_atoms (args := args) hpl L Y (fun x hx => h x (by simp [Bundle.ownAtoms, hx]))
  obtain ⟨P1, Ps, hlen, L1, hL, hP1m, hlink1, hlink⟩ := Bundle.chainS (args := args) hpl hnZ names cls hcls hnames (fun x hx => h x (by simp [Bundle.ownAtoms, hx]))
  have hfound : s.vm.findClass cls = some P1.m.cls := findClass_of_methodNamed hP1m
  cases Option.some.inj (hfoundX.symm.trans hfound)
  obtain ⟨c1, kX', hc1, hk, hord, -, -, hn6⟩ := Cond.instantiable_spec (a' (.instantiable cls 6) (by simp [Bundle.ownAtoms]))
  cases Option.some.inj (hc1.symm.trans hfound)
  cases Option.some.inj (hkX.symm.trans hk)
  have hsel0 : selectMethod e.platform s.vm P1.m.cls T.fill0 = .method T.fill0 := by
    obtain ⟨c2, r2, m2, q1, q2, q3, q4, -⟩ := Cond.selects_spec (a' (.selects cls Bundle.tFill0 Bundle.tFill0) (by simp [Bundle.ownAtoms]))
    cases Option.some.inj (q1.symm.trans hfound)
    cases Option.some.inj (q2.symm.trans (State.methodFound?_of_named Y.fill0 (by decide)))
    cases Option.some.inj (q3.symm.trans Y.fill0)
    rw [Launch.admits_selectMethod X.admits]; exact q4
  have hselF : selectMethod e.platform s.vm P1.m.cls T.fill = .method T.fill := by
    obtain ⟨c2, r2, m2, q1, q2, q3, q4, -⟩ := Cond.selects_spec (a' (.selects cls Bundle.tFill Bundle.tFill) (by simp [Bundle.ownAtoms]))
    cases Option.some.inj (q1.symm.trans hfound)
    cases Option.some.inj (q2.symm.trans (State.methodFound?_of_named Y.fill (by decide)))
    cases Option.some.inj (q3.symm.trans Y.fill)
    rw [Launch.admits_selectMethod X.admits]; exact q4
  obtain ⟨cellS0, hcS0, hiss⟩ := Y.statics
  obtain ⟨u0, hu0⟩ := Cond.staticRefV Y.unassigned L.unassignedStatic L.statics hcS0 hiss (a' (.isRef (.static Bundle.tN "UNASSIGNED_STACK" Bundle.steD)) (by simp [Bundle.ownAtoms]))
  obtain ⟨sen, hsen⟩ := Cond.staticRefV Y.sentinel L.sentinelStatic L.statics hcS0 hiss (a' (.isRef (.static Bundle.tN "SUPPRESSED_SENTINEL" Bundle.listD)) (by simp [Bundle.ownAtoms]))
  obtain ⟨ci198, i198, fB, hk198, hg198, ha198, hsB, -, hnB, htB, hffB⟩ := Cond.ownField (t := .object "java/lang/Object") Y.found L.cls (by decide +kernel) (a' (.fieldLink Bundle.tN 198 Bundle.tN "backtrace" "Ljava/lang/Object;") (by simp [Bundle.ownAtoms])) (a' (.lays Bundle.tN Bundle.tN "backtrace" "Ljava/lang/Object;") (by simp [Bundle.ownAtoms])) e.platform hpl
  obtain ⟨cellS, hcS', heS, -, hkeep⟩ := X.same.2.2.2.2.2 T.aS cellS0 hcS0
  have hcellS : W.heap[T.aS]? = some cellS := hcS'
  have hout' : ∀ i, (⟨T.aS, i⟩ : Loc) ∉ locs := fun i hmem => by
    have := hlocs _ hmem cellS0 hcS0
    rw [hiss] at this; cases this
  have hknownS : cellS.vm ≠ .unknown := by
    rw [heS]; intro hu
    rw [show cellS0.vm = .unknown from hu] at hiss
    cases hiss
  have hneS : T.aS ≠ a := Nat.ne_of_lt (Nat.lt_of_lt_of_le (Array.getElem?_eq_some_iff.mp hcS0).1 hnew)
  obtain ⟨iM, hffM⟩ := Y.msg
  obtain ⟨tyC, dC, hdC, hdnC⟩ := Cond.laysAt hfound hk Y.cause (a' (.lays cls Bundle.tN "cause" "Ljava/lang/Throwable;") (by simp [Bundle.ownAtoms]))
  obtain ⟨tyS, dS, hdS, hdnS⟩ := Cond.laysAt hfound hk Y.stack (a' (.lays cls Bundle.tN "stackTrace" Bundle.steD) (by simp [Bundle.ownAtoms]))
  obtain ⟨tyP, dP, hdP, hdnP⟩ := Cond.laysAt hfound hk Y.supp (a' (.lays cls Bundle.tN "suppressedExceptions" Bundle.listD) (by simp [Bundle.ownAtoms]))
  obtain ⟨tyM, dM, hdM, hdnM⟩ := Cond.laysAt hfound hk hffM (a' (.lays cls Bundle.tN "detailMessage" "Ljava/lang/String;") (by simp [Bundle.ownAtoms]))
  obtain ⟨tyB, dB, hdB, hdnB⟩ := Cond.laysAt hfound hk hffB (a' (.lays cls Bundle.tN "backtrace" "Ljava/lang/Object;") (by simp [Bundle.ownAtoms]))
  have bC := Cond.laysApart hdB hdC hdnB hdnC (by rw [hnB, Y.causeName]; decide)
  have bS := Cond.laysApart hdB hdS hdnB hdnS (by rw [hnB, Y.stackName]; decide)
  have bP := Cond.laysApart hdB hdP hdnB hdnP (by rw [hnB, Y.suppName]; decide)
  have hskip : SkipFacts T e.platform s (fun u => u) u0 ((preparedCellV T.toThrowableT (freshCell P1.m.cls kX) a u0 sen).withEntry W.cur) :=
    ⟨{ ci198 := ci198, i198 := i198, fBack := fB }, ⟨hk198, hg198, ha198, hsB⟩, by
      have := fresh_default (c := P1.m.cls) tyB
      rw [htB] at this
      simpa [preparedCellV, Cell.setSlot, Cell.withEntry, Array.getElem?_setIfInBounds, bC, bS, bP, bC.symm, bS.symm, bP.symm, defaultValue] using this, fun _ _ => rfl⟩
  obtain ⟨tm, methC, cdC, kC, vm₁, hnC, -, -, -, -, -, -, -, hW₁, st1⟩ := Steps.initColdS (tb := p.tables) (e := e) (below := below) (s := s) (U := W) X.here hexec X.warmed hpl hown (t := Bundle.initS cls) rfl rfl (Bundle.fit_spec hcls).2
    (a' (.methodLink own ic (Bundle.initS cls)) (by simp [Bundle.ownAtoms])) (h (.instanceMethod (Bundle.initS cls)) (by cases names <;> simp [Bundle.ownAtoms, Bundle.chainSAtoms, Bundle.passSAtoms])) (bytes := Bundle.six) (maxL := 2) (h (.code (Bundle.initS cls) Bundle.six 2 none) (by cases names <;> simp [Bundle.ownAtoms, Bundle.chainSAtoms, Bundle.passSAtoms]))
    (f := g) hg (a := a) (msg := msg) (rest := .ref a :: rest) hstack hd6
  cases Option.some.inj (hnC.symm.trans hP1m)
  have X₁ := X.noted hW₁
  obtain ⟨vm₂, X₂, st2⟩ := X₁.ctorMessageOffV hexec (g := { g with stack := .ref a :: rest }) hg hsize T L Z LZ M LM (P1 :: Ps)
    (fun P hP => by rcases List.mem_cons.mp hP with rfl | hP; exact L1; exact hL P hP) ⟨hlink1, hlink⟩ (u0 := u0) (sen := sen) (self := a) hmsg (cell := freshCell P1.m.cls kX) (cellS := cellS)
    hcell (fun _ => by simp) (by simp) rfl rfl hsel0 hselF hcellS hneS hknownS (by rw [hkeep _ (hout' _)]; exact hu0) (by rw [hkeep _ (hout' _)]; exact hsen)
    (Takes.of_laid hk hord tyC (by rw [Y.causeType]; rfl)) (Takes.of_laid hk hord tyS (by rw [Y.stackType]; exact fits_refV_array _ u0)) (Takes.of_laid hk hord tyP (by rw [Y.suppType]; exact fits_refV_object _ sen))
    (Takes.of_laid hk hord tyM (by rw [Y.msgType]; exact fits_refV_object _ ⟨msg, hmsg⟩)) Y.objLocals hskip htr [] hd6
    (by simp only [List.length_cons, hlen]; omega) (by simp only [List.length_cons, hlen]; exact hRlocals)
  have hlt : a < ((W.setVm vm₁).setVm vm₂).heap.size := (Array.getElem?_eq_some_iff.mp hcell).1
  refine ⟨(W.setVm vm₁).setVm vm₂, _, _, X₂, fun y hy => ?_, hlt, rfl, rfl, fun target hwalk => st1 _ (fun acts => ?_)⟩
  · simp only [List.mem_cons, List.not_mem_nil, or_false] at hy
    rcases hy with rfl | rfl | rfl | rfl | rfl <;> rfl
  · rw [doInvoke_state]
    exact st2 _ hwalk
set_option maxHeartbeats 1000000 in
theorem vx_ctorMade0 (X : Stand p l e R s m₀ args below meth c W locs cells slots) (hexec : p.tables.exec = Jvm.exec) (htr : e.platform.stackTraces = false) {own cls : String} {names : List String} {ic : Nat}
    (hown : s.vm.findClass own = some m₀.cls) (hcls : Bundle.fit cls = true) (hnames : ∀ n ∈ names, Bundle.fit n = true)
    (h : ∀ a ∈ Bundle.ownAtoms0 own ic cls names, a.before args s = true)
    (hlocs : ∀ x ∈ locs, ∀ cell, s.heap[x.base]? = some cell → cell.vm.isStatics = false)
    {a : Addr} {cX : ClassId} {kX : Class} (hfoundX : s.vm.findClass cls = some cX) (hkX : s.vm.classes[cX]? = some kX) (hcell : W.heap[a]? = some (freshCell cX kX)) (hnew : s.heap.size ≤ a)
    {g : JFrame} (hg : g.method = m₀) (hsize : g.locals.size = c.maxLocals) {rest : List Value} (hstack : g.stack = .ref a :: .ref a :: rest)
    (hd6 : decode c.code g.pc = .ok (.invokespecial ic, 3))
    (hRframes : names.length + 3 < R.frames) (hRlocals : 2 * g.monitorRoom + ((Value.ref a :: rest).map fun v => v.category).sum + (13 * (names.length + 1) + 41) ≤ R.locals) :
    ∃ (V : State) (ce : Cell) (L : List Loc), Stand p l e R s m₀ args below meth c (V.setCell a ce) (locs ++ L) cells slots ∧ (∀ y ∈ L, y.base = a) ∧ a < V.heap.size ∧ ce.cls = cX ∧ ce.vm = .none ∧
      ∀ target, Steps p.tables e below ((V.setCell a ce).setTop { g with stack := .ref a :: rest, pc := g.pc + 3 }) target → Steps p.tables e below (W.setTop g) target := by
  have howns : e.platform.frameOwnsMonitors = true := by rw [X.admits.platform]
  have hfin : e.platform.finalization = false := by rw [X.admits.platform]
  have hpl : e.platform.magicAccessors = ({} : Platform).magicAccessors := by rw [X.admits.platform]
  have a' : ∀ x, x ∈ Bundle.ownAtoms0 own ic cls names → x.holds args s none s [] = true := fun x hx => h x hx
  obtain ⟨T, Z, L, LZ, Y⟩ := ThrowableC.of_atoms (args := args) howns hfin hpl (fun x hx => h x (by simp [Bundle.ownAtoms0, hx]))
  obtain ⟨P1, Ps, hlen, L1, hL, hP1m, hlink1, hlink⟩ := Bundle.chain0 (args := args) hpl Y.init0 names cls hcls hnames (fun x hx => h x (by simp [Bundle.ownAtoms0, hx]))
  have hfound : s.vm.findClass cls = some P1.m.cls := findClass_of_methodNamed hP1m
  cases Option.some.inj (hfoundX.symm.trans hfound)
  obtain ⟨c1, kX', hc1, hk, hord, -, -, hn6⟩ := Cond.instantiable_spec (a' (.instantiable cls 6) (by simp [Bundle.ownAtoms0]))
  cases Option.some.inj (hc1.symm.trans hfound)
  cases Option.some.inj (hkX.symm.trans hk)
  have hsel0 : selectMethod e.platform s.vm P1.m.cls T.fill0 = .method T.fill0 := by
    obtain ⟨c2, r2, m2, q1, q2, q3, q4, -⟩ := Cond.selects_spec (a' (.selects cls Bundle.tFill0 Bundle.tFill0) (by simp [Bundle.ownAtoms0]))
    cases Option.some.inj (q1.symm.trans hfound)
    cases Option.some.inj (q2.symm.trans (State.methodFound?_of_named Y.fill0 (by decide)))
    cases Option.some.inj (q3.symm.trans Y.fill0)
    rw [Launch.admits_selectMethod X.admits]; exact q4
  have hselF : selectMethod e.platform s.vm P1.m.cls T.fill = .method T.fill := by
    obtain ⟨c2, r2, m2, q1, q2, q3, q4, -⟩ := Cond.selects_spec (a' (.selects cls Bundle.tFill Bundle.tFill) (by simp [Bundle.ownAtoms0]))
    cases Option.some.inj (q1.symm.trans hfound)
    cases Option.some.inj (q2.symm.trans (State.methodFound?_of_named Y.fill (by decide)))
    cases Option.some.inj (q3.symm.trans Y.fill)
    rw [Launch.admits_selectMethod X.admits]; exact q4
  obtain ⟨cellS0, hcS0, hiss⟩ := Y.statics
  obtain ⟨u0, hu0⟩ := Cond.staticRefV Y.unassigned L.unassignedStatic L.statics hcS0 hiss (a' (.isRef (.static Bundle.tN "UNASSIGNED_STACK" Bundle.steD)) (by simp [Bundle.ownAtoms0]))
  obtain ⟨sen, hsen⟩ := Cond.staticRefV Y.sentinel L.sentinelStatic L.statics hcS0 hiss (a' (.isRef (.static Bundle.tN "SUPPRESSED_SENTINEL" Bundle.listD)) (by simp [Bundle.ownAtoms0]))
  obtain ⟨ci198, i198, fB, hk198, hg198, ha198, hsB, -, hnB, htB, hffB⟩ := Cond.ownField (t := .object "java/lang/Object") Y.found L.cls (by decide +kernel) (a' (.fieldLink Bundle.tN 198 Bundle.tN "backtrace" "Ljava/lang/Object;") (by simp [Bundle.ownAtoms0])) (a' (.lays Bundle.tN Bundle.tN "backtrace" "Ljava/lang/Object;") (by simp [Bundle.ownAtoms0])) e.platform hpl
  obtain ⟨cellS, hcS', heS, -, hkeep⟩ := X.same.2.2.2.2.2 T.aS cellS0 hcS0
  have hcellS : W.heap[T.aS]? = some cellS := hcS'
  have hout' : ∀ i, (⟨T.aS, i⟩ : Loc) ∉ locs := fun i hmem => by
    have := hlocs _ hmem cellS0 hcS0
    rw [hiss] at this; cases this
  have hknownS : cellS.vm ≠ .unknown := by
    rw [heS]; intro hu
    rw [show cellS0.vm = .unknown from hu] at hiss
    cases hiss
  have hneS : T.aS ≠ a := Nat.ne_of_lt (Nat.lt_of_lt_of_le (Array.getElem?_eq_some_iff.mp hcS0).1 hnew)
  obtain ⟨iM, hffM⟩ := Y.msg
  obtain ⟨tyC, dC, hdC, hdnC⟩ := Cond.laysAt hfound hk Y.cause (a' (.lays cls Bundle.tN "cause" "Ljava/lang/Throwable;") (by simp [Bundle.ownAtoms0]))
  obtain ⟨tyS, dS, hdS, hdnS⟩ := Cond.laysAt hfound hk Y.stack (a' (.lays cls Bundle.tN "stackTrace" Bundle.steD) (by simp [Bundle.ownAtoms0]))
  obtain ⟨tyP, dP, hdP, hdnP⟩ := Cond.laysAt hfound hk Y.supp (a' (.lays cls Bundle.tN "suppressedExceptions" Bundle.listD) (by simp [Bundle.ownAtoms0]))
  obtain ⟨tyM, dM, hdM, hdnM⟩ := Cond.laysAt hfound hk hffM (a' (.lays cls Bundle.tN "detailMessage" "Ljava/lang/String;") (by simp [Bundle.ownAtoms0]))
  obtain ⟨tyB, dB, hdB, hdnB⟩ := Cond.laysAt hfound hk hffB (a' (.lays cls Bundle.tN "backtrace" "Ljava/lang/Object;") (by simp [Bundle.ownAtoms0]))
  have bC := Cond.laysApart hdB hdC hdnB hdnC (by rw [hnB, Y.causeName]; decide)
  have bS := Cond.laysApart hdB hdS hdnB hdnS (by rw [hnB, Y.stackName]; decide)
  have bP := Cond.laysApart hdB hdP hdnB hdnP (by rw [hnB, Y.suppName]; decide)
  have hskip : SkipFacts T e.platform s (fun u => u) u0 ((preparedCellV T.toThrowableT (freshCell P1.m.cls kX) a u0 sen).withEntry W.cur) :=
    ⟨{ ci198 := ci198, i198 := i198, fBack := fB }, ⟨hk198, hg198, ha198, hsB⟩, by
      have := fresh_default (c := P1.m.cls) tyB
      rw [htB] at this
      simpa [preparedCellV, Cell.setSlot, Cell.withEntry, Array.getElem?_setIfInBounds, bC, bS, bP, bC.symm, bS.symm, bP.symm, defaultValue] using this, fun _ _ => rfl⟩
  obtain ⟨tm, methC, cdC, kC, vm₁, hnC, -, -, -, -, -, -, -, hW₁, st1⟩ := Steps.initCold (tb := p.tables) (e := e) (below := below) (s := s) (U := W) X.here hexec X.warmed hpl hown (t := Bundle.init0 cls) rfl rfl (Bundle.fit_spec hcls).2
    (a' (.methodLink own ic (Bundle.init0 cls)) (by simp [Bundle.ownAtoms0])) (h (.instanceMethod (Bundle.init0 cls)) (by cases names <;> simp [Bundle.ownAtoms0, Bundle.chain0Atoms, Bundle.passAtoms])) (bytes := Bundle.five) (maxL := 1) (h (.code (Bundle.init0 cls) Bundle.five 1 none) (by cases names <;> simp [Bundle.ownAtoms0, Bundle.chain0Atoms, Bundle.passAtoms]))
    (f := g) hg (a := a) (rest := .ref a :: rest) hstack hd6
  cases Option.some.inj (hnC.symm.trans hP1m)
  have X₁ := X.noted hW₁
  obtain ⟨vm₂, X₂, st2⟩ := X₁.ctorPlainOffV hexec (g := { g with stack := .ref a :: rest }) hg hsize T L Z LZ (P1 :: Ps)
    (fun P hP => by rcases List.mem_cons.mp hP with rfl | hP; exact L1; exact hL P hP) ⟨hlink1, hlink⟩ (u0 := u0) (sen := sen) (self := a) (cell := freshCell P1.m.cls kX) (cellS := cellS)
    hcell (fun _ => by simp) (by simp) rfl rfl hsel0 hselF hcellS hneS hknownS (by rw [hkeep _ (hout' _)]; exact hu0) (by rw [hkeep _ (hout' _)]; exact hsen)
    (Takes.of_laid hk hord tyC (by rw [Y.causeType]; rfl)) (Takes.of_laid hk hord tyS (by rw [Y.stackType]; exact fits_refV_array _ u0)) (Takes.of_laid hk hord tyP (by rw [Y.suppType]; exact fits_refV_object _ sen)) Y.objLocals hskip htr [] hd6
    (by simp only [List.length_cons, hlen]; omega) (by simp only [List.length_cons, hlen]; exact hRlocals)
  have hlt : a < ((W.setVm vm₁).setVm vm₂).heap.size := (Array.getElem?_eq_some_iff.mp hcell).1
  refine ⟨(W.setVm vm₁).setVm vm₂, _, _, X₂, fun y hy => ?_, hlt, rfl, rfl, fun target hwalk => st1 _ (fun acts => ?_)⟩
  · simp only [List.mem_cons, List.not_mem_nil, or_false] at hy
    rcases hy with rfl | rfl | rfl | rfl <;> rfl
  · rw [doInvoke_state]
    exact st2 _ hwalk
end VXK
section VXK2
variable {p : Program} {l : Launch} {e : Env} {R : Room} {s : State} {m : MethodId} {args : Array Value} {below : List Frame} {meth : Method} {c : Code} {H : Heap} {locs : List Loc} {cells slots : Nat} {Q : State → Prop}
variable {ls : Array Slot} {rest : List Value} {D : va_G} {cl : List vw_C} {tys : List (ClassId × FieldType)} {ws : va_W}
/-- 'new E("text")' that isn't thrown at once: the object goes on the stack -/
theorem vx_makeS {cc : ByteArray} {pc : Nat} (hexec : p.tables.exec = Jvm.exec) (hb : c.code = cc) (hl : l.stackTraces = false) {own cls text : String} {names : List String} {ik is ic sa ci : Nat} {A : Nat → Prop} {T0 : u_T}
    (hown : s.vm.findClass own = some m.cls) (hcls : Bundle.fit cls = true) (hnames : ∀ n ∈ names, Bundle.fit n = true)
    (hk : (Cond.classLink own ik cls).before args s = true) (hini : (Cond.initialized cls).before args s = true) (hstr : vk_R own is text sa s) (hat : ∀ w ∈ vx_atS own ic cls names, w.before args s = true)
    (hgood : ∀ w ∈ Cond.classLink own ik cls :: Cond.initialized cls :: vx_atS own ic cls names, vx_ot w = true)
    (hU : vx_Zq Bundle.tN "UNASSIGNED_STACK" Bundle.steD A s s.heap) (hN : vx_Zq Bundle.tN "SUPPRESSED_SENTINEL" Bundle.listD A s s.heap) (hS : va_S A s.heap H locs) (hsize : ls.size = c.maxLocals)
    (d0 : decode cc pc = .ok (.new ik, 3)) (d3 : decode cc (pc + 3) = .ok (.dup, 1)) (d4 : decode cc (pc + 4) = .ok (.ldc is, 2)) (d6 : decode cc (pc + 6) = .ok (.invokespecial ic, 3))
    (hK : va_K D cl tys s) (hP : va_P D cl ws H) (hD : va_D A ws) (hA : ∀ q, s.heap.size ≤ q → A q) (hc : cl[ci]? = some (cls, T0, 0))
    (hRframes : names.length + 3 < R.frames) (hRlocals : (rest.map fun v => v.category).sum + (13 * (names.length + 1) + 43) ≤ R.locals) (hRcells : cells + 1 ≤ R.cells) (hRslots : slots + 6 ≤ R.slots)
    (kk : ∀ (q : Nat) (H1 : Heap), va_P D cl (ws ++ [(q, .inr (ci, []))]) H1 → va_D A (ws ++ [(q, .inr (ci, []))]) → va_S A s.heap H1 locs → W p l e R s m args below meth c H1 locs (cells + 1) (slots + 6) Q (F0 m (pc + 9) ls (.ref q :: rest))) :
    W p l e R s m args below meth c H locs cells slots Q (F0 m pc ls rest) := by
  intro T hT X
  subst hT
  have htr : e.platform.stackTraces = false := (show e.platform.stackTraces = l.stackTraces by rw [X.admits.platform]).trans hl
  have Y := vx_rebase X (R' := { frames := R.frames, locals := R.locals, cells := 1, slots := 6 }) (Nat.le_refl _) (Nat.le_refl _) hRcells hRslots
  obtain ⟨s', hA'⟩ : ∃ z, z = (T.setVm s.vm).setFrames (.invoking m args :: below) := ⟨_, rfl⟩
  rw [← hA'] at Y
  have hvm : s'.vm = s.vm := by rw [hA']; rfl
  have hhp : s'.heap = T.heap := by rw [hA']; rfl
  have hW0 : s.WarmedH s'.vm := by rw [hvm]; exact State.WarmedH.refl s
  have hat' : ∀ w ∈ vx_atS own ic cls names, w.before args s' = true := fun w hw => vx_ot_at hW0 hvm.symm (hgood w (List.mem_cons_of_mem _ (List.mem_cons_of_mem _ hw))) (hat w hw)
  have hk' : (Cond.classLink own ik cls).before args s' = true := vx_ot_at hW0 hvm.symm (hgood _ List.mem_cons_self) hk
  have hini' : (Cond.initialized cls).before args s' = true := vx_ot_at hW0 hvm.symm (hgood _ (List.mem_cons_of_mem _ List.mem_cons_self)) hini
  have hU' : vx_Zq Bundle.tN "UNASSIGNED_STACK" Bundle.steD A s' s'.heap := by rw [hhp]; exact vx_Zq.moved hW0.alike (hU.kept hS.2.1)
  have hN' : vx_Zq Bundle.tN "SUPPRESSED_SENTINEL" Bundle.listD A s' s'.heap := by rw [hhp]; exact vx_Zq.moved hW0.alike (hN.kept hS.2.1)
  have h : ∀ w ∈ Bundle.ownAtoms own ic cls names, w.before args s' = true := vx_own hat' (vx_isRefq hU'.1) (vx_isRefq hN'.1) hU'.2.word hN'.2.word
  have hown' : s'.vm.findClass own = some m.cls := by rw [hvm]; exact hown
  have hins : (Cond.instantiable cls 6).before args s' = true := h _ (by simp [Bundle.ownAtoms])
  obtain ⟨vm₁, cX, kX, hfX, hkX, -, -, X₁, st1⟩ := Y.newCold hexec (own := own) (C := cls) (index := ik) (n := 6) hown' hk' hins hini'
    (g := F0 m pc ls rest) rfl (by rw [hb]; exact d0) (Nat.le_refl _) (Nat.le_refl _)
  generalize hT1 : (T.setVm vm₁).pushCell { cls := cX, slots := kX.instanceTypes.map defaultValue, vm := .none } = T1 at X₁ st1
  have hcat : (Value.ref T.heap.size).category = 1 := rfl
  have hcellA : T1.heap[T.heap.size]? = some (freshCell cX kX) := by rw [← hT1]; exact State.heap_pushCell_size _ _
  have d3' : decode c.code (pc + 3) = .ok (.dup, 1) := by rw [hb]; exact d3
  have d4' : decode c.code (pc + 4) = .ok (.ldc is, 2) := by rw [hb]; exact d4
  have hstr' : vk_R own is text sa s' := vk_R.warm hW0 hstr
  obtain ⟨V, ce, L, Z, hL, hlt, hcl9, hvm9, st⟩ := vx_ctorMadeS X₁ hexec htr (own := own) (cls := cls) (names := names) (ic := ic) hown' hcls hnames h (fun x hx => nomatch hx) hfX hkX hcellA (by rw [hhp]; exact Nat.le_refl _) (msg := .ref sa) rfl
    (g := { method := m, pc := pc + 6, locals := ls, stack := .ref sa :: .ref T.heap.size :: .ref T.heap.size :: rest, locked := none }) rfl hsize (rest := rest) rfl
    (by rw [hb]; exact d6) hRframes (by simp only [List.map_cons, List.sum_cons, hcat]; omega)
  have Z0 := Stand.forget (locs := []) Z (fun y hy => by rw [hL y hy, hhp]; exact Nat.le_refl _)
  obtain ⟨f1, f2⟩ := vx_frame Z0.same
  rw [hhp] at f1 f2
  have hcid : ce.cls = D.1 ci := by
    rw [hcl9]
    have h1 := (hK.1 ci _ hc).2.1
    rw [hvm] at hfX
    exact Option.some.inj (hfX.symm.trans h1)
  have hh : (V.setCell T.heap.size ce).heap[T.heap.size]? = some ce := heapAt_setCell_self (s := V) ce hlt
  subst hA'
  have X5 := vx_back9 X Y Z0
  have X6 : Stand p l e R s m args below meth c (V.setCell T.heap.size ce) locs (cells + 1) (slots + 6) := { X5 with same := X5.same.mono (by omega) (by omega) }
  have hk9 : ∀ (k : Nat) (x : Nat × va_E), ws[k]? = some x → (V.setCell T.heap.size ce).heap[x.1]? = T.heap[x.1]? := fun k x hx => f2 x.1 ((hP k x hx).lt) (fun z hz => nomatch hz)
  obtain ⟨t, a1, b1⟩ := kk T.heap.size (V.setCell T.heap.size ce).heap ((hP.kept hk9).app (fun k x hx => by
      have hz : k < 1 := (List.getElem?_eq_some_iff.mp hx).1
      rw [show k = 0 by omega] at hx
      cases hx
      exact ⟨_, hc, ce, hh, hcid, hvm9, fun k hk => absurd hk (Nat.not_lt_zero k)⟩)) (hD.push hP rfl (hA _ hS.1)) ⟨Nat.le_trans hS.1 f1, fun q h1 h2 => (f2 q (Nat.lt_of_lt_of_le h1 hS.1) (fun z hz => nomatch hz)).trans (hS.2.1 q h1 h2), hS.2.2⟩ _ rfl X6
  refine ⟨t, st1 _ ?_, b1⟩
  show Steps p.tables e below (T1.setTop { method := m, pc := pc + 3, locals := ls, stack := .ref T.heap.size :: rest, locked := none }) _
  jvm_step X₁.here [X₁.here.top, hexec, d3', Value.category]
  exact X₁.ldcString hexec (own := own) (text := text) (index := is) (a := sa) hown' hstr'.1 hstr'.2
    (g := { method := m, pc := pc + 4, locals := ls, stack := .ref T.heap.size :: .ref T.heap.size :: rest, locked := none }) rfl d4' _ (st _ a1)
/-- 'new E()' that isn't thrown at once: the object goes on the stack -/
theorem vx_make0 {cc : ByteArray} {pc : Nat} (hexec : p.tables.exec = Jvm.exec) (hb : c.code = cc) (hl : l.stackTraces = false) {own cls : String} {names : List String} {ik ic ci : Nat} {A : Nat → Prop} {T0 : u_T}
    (hown : s.vm.findClass own = some m.cls) (hcls : Bundle.fit cls = true) (hnames : ∀ n ∈ names, Bundle.fit n = true)
    (hk : (Cond.classLink own ik cls).before args s = true) (hini : (Cond.initialized cls).before args s = true) (hat : ∀ w ∈ vx_at0 own ic cls names, w.before args s = true)
    (hgood : ∀ w ∈ Cond.classLink own ik cls :: Cond.initialized cls :: vx_at0 own ic cls names, vx_ot w = true)
    (hU : vx_Zq Bundle.tN "UNASSIGNED_STACK" Bundle.steD A s s.heap) (hN : vx_Zq Bundle.tN "SUPPRESSED_SENTINEL" Bundle.listD A s s.heap) (hS : va_S A s.heap H locs) (hsize : ls.size = c.maxLocals)
    (d0 : decode cc pc = .ok (.new ik, 3)) (d3 : decode cc (pc + 3) = .ok (.dup, 1)) (d4 : decode cc (pc + 4) = .ok (.invokespecial ic, 3))
    (hK : va_K D cl tys s) (hP : va_P D cl ws H) (hD : va_D A ws) (hA : ∀ q, s.heap.size ≤ q → A q) (hc : cl[ci]? = some (cls, T0, 0))
    (hRframes : names.length + 3 < R.frames) (hRlocals : (rest.map fun v => v.category).sum + (13 * (names.length + 1) + 42) ≤ R.locals) (hRcells : cells + 1 ≤ R.cells) (hRslots : slots + 6 ≤ R.slots)
    (kk : ∀ (q : Nat) (H1 : Heap), va_P D cl (ws ++ [(q, .inr (ci, []))]) H1 → va_D A (ws ++ [(q, .inr (ci, []))]) → va_S A s.heap H1 locs → W p l e R s m args below meth c H1 locs (cells + 1) (slots + 6) Q (F0 m (pc + 7) ls (.ref q :: rest))) :
    W p l e R s m args below meth c H locs cells slots Q (F0 m pc ls rest) := by
  intro T hT X
  subst hT
  have htr : e.platform.stackTraces = false := (show e.platform.stackTraces = l.stackTraces by rw [X.admits.platform]).trans hl
  have Y := vx_rebase X (R' := { frames := R.frames, locals := R.locals, cells := 1, slots := 6 }) (Nat.le_refl _) (Nat.le_refl _) hRcells hRslots
  obtain ⟨s', hA'⟩ : ∃ z, z = (T.setVm s.vm).setFrames (.invoking m args :: below) := ⟨_, rfl⟩
  rw [← hA'] at Y
  have hvm : s'.vm = s.vm := by rw [hA']; rfl
  have hhp : s'.heap = T.heap := by rw [hA']; rfl
  have hW0 : s.WarmedH s'.vm := by rw [hvm]; exact State.WarmedH.refl s
  have hat' : ∀ w ∈ vx_at0 own ic cls names, w.before args s' = true := fun w hw => vx_ot_at hW0 hvm.symm (hgood w (List.mem_cons_of_mem _ (List.mem_cons_of_mem _ hw))) (hat w hw)
  have hk' : (Cond.classLink own ik cls).before args s' = true := vx_ot_at hW0 hvm.symm (hgood _ List.mem_cons_self) hk
  have hini' : (Cond.initialized cls).before args s' = true := vx_ot_at hW0 hvm.symm (hgood _ (List.mem_cons_of_mem _ List.mem_cons_self)) hini
  have hU' : vx_Zq Bundle.tN "UNASSIGNED_STACK" Bundle.steD A s' s'.heap := by rw [hhp]; exact vx_Zq.moved hW0.alike (hU.kept hS.2.1)
  have hN' : vx_Zq Bundle.tN "SUPPRESSED_SENTINEL" Bundle.listD A s' s'.heap := by rw [hhp]; exact vx_Zq.moved hW0.alike (hN.kept hS.2.1)
  have h : ∀ w ∈ Bundle.ownAtoms0 own ic cls names, w.before args s' = true := vx_own hat' (vx_isRefq hU'.1) (vx_isRefq hN'.1) hU'.2.word hN'.2.word
  have hown' : s'.vm.findClass own = some m.cls := by rw [hvm]; exact hown
  have hins : (Cond.instantiable cls 6).before args s' = true := h _ (by simp [Bundle.ownAtoms0])
  obtain ⟨vm₁, cX, kX, hfX, hkX, -, -, X₁, st1⟩ := Y.newCold hexec (own := own) (C := cls) (index := ik) (n := 6) hown' hk' hins hini'
    (g := F0 m pc ls rest) rfl (by rw [hb]; exact d0) (Nat.le_refl _) (Nat.le_refl _)
  generalize hT1 : (T.setVm vm₁).pushCell { cls := cX, slots := kX.instanceTypes.map defaultValue, vm := .none } = T1 at X₁ st1
  have hcat : (Value.ref T.heap.size).category = 1 := rfl
  have hcellA : T1.heap[T.heap.size]? = some (freshCell cX kX) := by rw [← hT1]; exact State.heap_pushCell_size _ _
  have d3' : decode c.code (pc + 3) = .ok (.dup, 1) := by rw [hb]; exact d3
  obtain ⟨V, ce, L, Z, hL, hlt, hcl9, hvm9, st⟩ := vx_ctorMade0 X₁ hexec htr (own := own) (cls := cls) (names := names) (ic := ic) hown' hcls hnames h (fun x hx => nomatch hx) hfX hkX hcellA (by rw [hhp]; exact Nat.le_refl _)
    (g := { method := m, pc := pc + 4, locals := ls, stack := .ref T.heap.size :: .ref T.heap.size :: rest, locked := none }) rfl hsize (rest := rest) rfl
    (by rw [hb]; exact d4) hRframes (by simp only [List.map_cons, List.sum_cons, hcat]; omega)
  have Z0 := Stand.forget (locs := []) Z (fun y hy => by rw [hL y hy, hhp]; exact Nat.le_refl _)
  obtain ⟨f1, f2⟩ := vx_frame Z0.same
  rw [hhp] at f1 f2
  have hcid : ce.cls = D.1 ci := by
    rw [hcl9]
    have h1 := (hK.1 ci _ hc).2.1
    rw [hvm] at hfX
    exact Option.some.inj (hfX.symm.trans h1)
  have hh : (V.setCell T.heap.size ce).heap[T.heap.size]? = some ce := heapAt_setCell_self (s := V) ce hlt
  subst hA'
  have X5 := vx_back9 X Y Z0
  have X6 : Stand p l e R s m args below meth c (V.setCell T.heap.size ce) locs (cells + 1) (slots + 6) := { X5 with same := X5.same.mono (by omega) (by omega) }
  have hk9 : ∀ (k : Nat) (x : Nat × va_E), ws[k]? = some x → (V.setCell T.heap.size ce).heap[x.1]? = T.heap[x.1]? := fun k x hx => f2 x.1 ((hP k x hx).lt) (fun z hz => nomatch hz)
  obtain ⟨t, a1, b1⟩ := kk T.heap.size (V.setCell T.heap.size ce).heap ((hP.kept hk9).app (fun k x hx => by
      have hz : k < 1 := (List.getElem?_eq_some_iff.mp hx).1
      rw [show k = 0 by omega] at hx
      cases hx
      exact ⟨_, hc, ce, hh, hcid, hvm9, fun k hk => absurd hk (Nat.not_lt_zero k)⟩)) (hD.push hP rfl (hA _ hS.1)) ⟨Nat.le_trans hS.1 f1, fun q h1 h2 => (f2 q (Nat.lt_of_lt_of_le h1 hS.1) (fun z hz => nomatch hz)).trans (hS.2.1 q h1 h2), hS.2.2⟩ _ rfl X6
  refine ⟨t, st1 _ ?_, b1⟩
  show Steps p.tables e below (T1.setTop { method := m, pc := pc + 3, locals := ls, stack := .ref T.heap.size :: rest, locked := none }) _
  jvm_step X₁.here [X₁.here.top, hexec, d3', Value.category]
  exact st _ a1
/-- 'throw x' of an object that was made before -/
theorem vx_athrow {cc : ByteArray} {pc : Nat} (hexec : p.tables.exec = Jvm.exec) (hb : c.code = cc) {q : Addr} (hdg : decode cc pc = .ok (.athrow, 1)) (k : vx_W p l e R s m args below meth c H locs cells slots Q (F0 m pc ls rest) q) : W p l e R s m args below meth c H locs cells slots Q (F0 m pc ls (.ref q :: rest)) := by
  intro T hT X
  obtain ⟨t, st, hq⟩ := k T hT X
  refine ⟨t, ?_, hq⟩
  have hdg' : decode c.code pc = .ok (.athrow, 1) := by rw [hb]; exact hdg
  jvm_step X.here [X.here.top, hexec, hdg', athrow.wp_sem]
  exact st
end VXK2
/-! ===== END ===== -/
/-! ===== BEGIN a constructor that throws (launches without stack traces) ===== -/
section VXIA
variable {p : Program} {l : Launch} {e : Env} {R : Room} {s : State} {m : MethodId} {args : Array Value} {below : List Frame} {meth : Method} {c : Code} {T : State} {locs : List Loc} {cells slots : Nat}
theorem vx_callI (X : Stand p l e R s m args below meth c T locs cells slots) (hexec : p.tables.exec = Jvm.exec) {own : String} {index : Nat} {y : MethodName} {bytes : ByteArray} {maxL : Nat}
    (hown : s.vm.findClass own = some m.cls) (hy1 : y.name = "<init>") (hlink : (Cond.methodLink own index y).before args s = true) (hinst : (Cond.instanceMethod y).before args s = true)
    (hcode : (Cond.code y bytes maxL none).before args s = true) (hy : y.cls ≠ "java/lang/invoke/MethodHandle" ∧ y.cls ≠ "java/lang/invoke/VarHandle")
    {W9 : Nat} {Pre : Pt → Array Value → Prop} {Post : Pt → Array Value → Option Value → Pt → Prop} {PostX : Pt → Array Value → Addr → Pt → Prop} (hK : vx_Back l R p e below s args y 3 W9 Pre Post PostX)
    {g : JFrame} (hg : g.method = m) (hsize : g.locals.size = c.maxLocals) {a : Addr} {argsL rest : List Value} (hlen : ∀ sig, parseMethodDescriptor y.desc = some sig → argsL.length = sig.parameters.length)
    (hstack : g.stack = argsL.reverse ++ .ref a :: rest) (hW : 2 * g.monitorRoom + (rest.map fun v => v.category).sum ≤ W9) (hdg : decode c.code g.pc = .ok (.invokespecial index, 3))
    (hpre : ∀ vm₁, s.WarmedH vm₁ → Pre ⟨T.setVm vm₁, locs, cells, slots⟩ (Value.ref a :: argsL).toArray) :
    (∃ (v : Option Value) (vm₁ : Vm) (B : Pt), s.WarmedH vm₁ ∧ Stand p l e R s m args below meth c B.U B.locs B.cells B.slots ∧ Post ⟨T.setVm vm₁, locs, cells, slots⟩ (Value.ref a :: argsL).toArray v B ∧
      ∀ target, Steps p.tables e below (B.U.setTop { g with pc := g.pc + 3, stack := v.toList ++ rest }) target → Steps p.tables e below (T.setTop g) target) ∨
    (∃ (q : Addr) (vm₁ : Vm) (B : Pt), s.WarmedH vm₁ ∧ Stand p l e R s m args below meth c B.U B.locs B.cells B.slots ∧ PostX ⟨T.setVm vm₁, locs, cells, slots⟩ (Value.ref a :: argsL).toArray q B ∧
      Steps p.tables e below (T.setTop g) ((B.U.setTop { g with stack := rest }).pushFrame (.throwing q))) := by
  subst hg
  have hpl : e.platform.magicAccessors = ({} : Platform).magicAccessors := by rw [X.admits.platform]
  obtain ⟨mk, methM, cM, kP, vm₁, hnamed, hmethM, hcodeM, -, hlocalsM, -, hkP, -, hW₁, hstep₁⟩ := Steps.initColdArgs (e := e) X.here hexec X.warmed hpl hown hy1 hy hlink hinst hcode (f := g) rfl hlen hstack hdg
  have X₁ := X.noted hW₁
  rcases hK g.method meth c ⟨T.setVm vm₁, locs, cells, slots⟩ { g with stack := rest } (.invokespecial index) mk (Value.ref a :: argsL).toArray X₁ rfl hsize hdg hW (X₁.named hnamed) (hpre vm₁ X₁.warmed) with ⟨v, B, X', hpost, hsteps⟩ | ⟨q, B, X', hpost, hsteps⟩
  · exact Or.inl ⟨v, vm₁, B, X₁.warmed, X', hpost, fun target h => hstep₁ _ fun acts => by rw [doInvoke_state]; exact hsteps.trans h⟩
  · exact Or.inr ⟨q, vm₁, B, X₁.warmed, X', hpost, hstep₁ _ fun acts => by rw [doInvoke_state]; exact hsteps⟩
end VXIA
section VXIB
variable {p : Program} {l : Launch} {e : Env} {R : Room} {s : State} {m : MethodId} {args : Array Value} {below : List Frame} {meth : Method} {c : Code} {H : Heap} {locs : List Loc} {cells slots : Nat}
variable {y : MethodName} {bytes cc : ByteArray} {maxL nL mc ms n index : Nat} {ret : Option FieldType} {ws : List Cond} {rm : Room} {Pc : Array Value → State → Prop} {Qc : Array Value → State → Outcome → State → Prop} {XC : String → State → State → Prop} {free : Addr → Prop} {Ts : List Cond} {own C : String} {b : Addr} {As rest : List Value} {g : JFrame}
theorem vx_runI (S : CallFix p m c cc nL s args Ts own) (hM : vx_Met l y ws rm Pc Qc XC mc ms free) (cw : CallB R s args own index y bytes maxL none ws rm mc ms n ∧ y.name = "<init>" ∧ (Cond.instanceMethod y).before args s = true) (hp : PreS s H Pc (.ref b :: As))
    (hg : g.method = m) (hn : As.length = n) (hsize : g.locals.size = nL) (hstack : g.stack = As.reverse ++ .ref b :: rest) (hW : 2 * g.monitorRoom + (rest.map fun v => v.category).sum ≤ 8) (hdg : decode cc g.pc = .ok (.invokespecial index, 3)) (hf : cells + mc ≤ R.cells ∧ slots + ms ≤ R.slots) :
    vx_Run p l e R s m args below meth c H locs cells slots mc ms g rest (Qc (Value.ref b :: As).toArray) XC free := by
  have hK : vx_Back l R p e below s args y 3 8 (PreOf R mc ms Pc) (PostOf Qc mc ms free) (vx_Post XC mc ms free) := vx_callBack cw.1 hM hp.1
  obtain ⟨⟨-, -, -, -, -, -, hcode, -, hy, hlen, hl⟩, hy1, hin⟩ := cw
  obtain ⟨hx, hb, hml, ho, -⟩ := S
  have hPc := hp.2
  intro T hT X
  rcases vx_callI X hx (bytes := bytes) (maxL := maxL) ho hy1 hl hin hcode hy hK hg (hsize.trans hml.symm) (a := b) (argsL := As) (rest := rest) (fun sig h => hn.trans (hlen sig h)) hstack hW (by rw [hb]; exact hdg)
    (fun vm₁ hW₁ => ⟨hf.1, hf.2, hPc (T.setVm vm₁) hT hW₁⟩) with ⟨v, vm₁, ⟨U', l2, c2, s2⟩, hW₁, X', ⟨g', mk, t, L, e1, e2, hq, h1, hL, h2, h3⟩, st⟩ | ⟨q, vm₁, ⟨U', l2, c2, s2⟩, hW₁, X', ⟨g', mk, t, L, E, ce, e1, e2, hq, hce, hcv, hcl, h1, hL, h2, h3⟩, st⟩
  · dsimp only [Pt.U, Pt.locs, Pt.cells, Pt.slots] at X' e1 e2 h1 h2 h3 st
    subst h1; subst h2; subst h3
    exact Or.inl ⟨v, (T.setVm vm₁).calling g' mk (Value.ref b :: As).toArray, t, U', L, hT, X', hL, e1, e2, hq, st⟩
  · dsimp only [Pt.U, Pt.locs, Pt.cells, Pt.slots] at X' e1 e2 h1 h2 h3 st hcl
    subst h1; subst h2; subst h3
    exact Or.inr ⟨q, (T.setVm vm₁).calling g' mk (Value.ref b :: As).toArray, t, U', L, E, ce, hT, X', hL, e1, e2, hq, hce, hcv, vx_cls hW₁ hcl, st⟩
end VXIB
/-! ===== END ===== -/
/-! ===== BEGIN a private constructor of a nest mate that throws ===== -/
section VXIC
variable {p : Program} {l : Launch} {e : Env} {R : Room} {s : State} {m : MethodId} {args : Array Value} {below : List Frame} {meth : Method} {c : Code} {T : State} {locs : List Loc} {cells slots : Nat}
theorem vx_callIN (X : Stand p l e R s m args below meth c T locs cells slots) (hexec : p.tables.exec = Jvm.exec) {own : String} {index : Nat} {host : String} {y : MethodName} {bytes : ByteArray} {maxL : Nat}
    (hown : s.vm.findClass own = some m.cls) (hy1 : y.name = "<init>") (hlink : (Cond.methodLinkNest own index y host).before args s = true) (hinst : (Cond.instanceMethod y).before args s = true)
    (hcode : (Cond.code y bytes maxL none).before args s = true) (hy : y.cls ≠ "java/lang/invoke/MethodHandle" ∧ y.cls ≠ "java/lang/invoke/VarHandle")
    {W9 : Nat} {Pre : Pt → Array Value → Prop} {Post : Pt → Array Value → Option Value → Pt → Prop} {PostX : Pt → Array Value → Addr → Pt → Prop} (hK : vx_Back l R p e below s args y 3 W9 Pre Post PostX)
    {g : JFrame} (hg : g.method = m) (hsize : g.locals.size = c.maxLocals) {a : Addr} {argsL rest : List Value} (hlen : ∀ sig, parseMethodDescriptor y.desc = some sig → argsL.length = sig.parameters.length)
    (hstack : g.stack = argsL.reverse ++ .ref a :: rest) (hW : 2 * g.monitorRoom + (rest.map fun v => v.category).sum ≤ W9) (hdg : decode c.code g.pc = .ok (.invokespecial index, 3))
    (hpre : ∀ vm₁, s.WarmedH vm₁ → Pre ⟨T.setVm vm₁, locs, cells, slots⟩ (Value.ref a :: argsL).toArray) :
    (∃ (v : Option Value) (vm₁ : Vm) (B : Pt), s.WarmedH vm₁ ∧ Stand p l e R s m args below meth c B.U B.locs B.cells B.slots ∧ Post ⟨T.setVm vm₁, locs, cells, slots⟩ (Value.ref a :: argsL).toArray v B ∧
      ∀ target, Steps p.tables e below (B.U.setTop { g with pc := g.pc + 3, stack := v.toList ++ rest }) target → Steps p.tables e below (T.setTop g) target) ∨
    (∃ (q : Addr) (vm₁ : Vm) (B : Pt), s.WarmedH vm₁ ∧ Stand p l e R s m args below meth c B.U B.locs B.cells B.slots ∧ PostX ⟨T.setVm vm₁, locs, cells, slots⟩ (Value.ref a :: argsL).toArray q B ∧
      Steps p.tables e below (T.setTop g) ((B.U.setTop { g with stack := rest }).pushFrame (.throwing q))) := by
  subst hg
  have hpl : e.platform.magicAccessors = ({} : Platform).magicAccessors := by rw [X.admits.platform]
  obtain ⟨mk, methM, cM, kP, vm₁, hnamed, hmethM, hcodeM, -, hlocalsM, -, hkP, -, hW₁, hstep₁⟩ := Steps.initColdArgsNest (e := e) X.here hexec X.warmed hpl hown hy1 hy hlink hinst hcode (f := g) rfl hlen hstack hdg
  have X₁ := X.noted hW₁
  rcases hK g.method meth c ⟨T.setVm vm₁, locs, cells, slots⟩ { g with stack := rest } (.invokespecial index) mk (Value.ref a :: argsL).toArray X₁ rfl hsize hdg hW (X₁.named hnamed) (hpre vm₁ X₁.warmed) with ⟨v, B, X', hpost, hsteps⟩ | ⟨q, B, X', hpost, hsteps⟩
  · exact Or.inl ⟨v, vm₁, B, X₁.warmed, X', hpost, fun target h => hstep₁ _ fun acts => by rw [doInvoke_state]; exact hsteps.trans h⟩
  · exact Or.inr ⟨q, vm₁, B, X₁.warmed, X', hpost, hstep₁ _ fun acts => by rw [doInvoke_state]; exact hsteps⟩
end VXIC
section VXID
variable {p : Program} {l : Launch} {e : Env} {R : Room} {s : State} {m : MethodId} {args : Array Value} {below : List Frame} {meth : Method} {c : Code} {H : Heap} {locs : List Loc} {cells slots : Nat}
theorem vx_runIN {y : MethodName} {bytes cc : ByteArray} {maxL nL mc ms n index : Nat} {ws : List Cond} {rm : Room} {Pc : Array Value → State → Prop} {Qc : Array Value → State → Outcome → State → Prop} {XC : String → State → State → Prop} {free : Addr → Prop} {Ts : List Cond} {own host : String} {b : Addr} {As rest : List Value} {g : JFrame}
    (S : CallFix p m c cc nL s args Ts own) (hM : vx_Met l y ws rm Pc Qc XC mc ms free) (cw : va_CN R s args own index y host bytes maxL none ws rm mc ms n ∧ y.name = "<init>" ∧ (Cond.instanceMethod y).before args s = true) (hp : PreS s H Pc (.ref b :: As))
    (hg : g.method = m) (hn : As.length = n) (hsize : g.locals.size = nL) (hstack : g.stack = As.reverse ++ .ref b :: rest) (hW : 2 * g.monitorRoom + (rest.map fun v => v.category).sum ≤ 8) (hdg : decode cc g.pc = .ok (.invokespecial index, 3)) (hf : cells + mc ≤ R.cells ∧ slots + ms ≤ R.slots) :
    vx_Run p l e R s m args below meth c H locs cells slots mc ms g rest (Qc (Value.ref b :: As).toArray) XC free := by
  obtain ⟨⟨⟨hrc, hrs, hfr, hlo, hws, hcw⟩, hcode, hini, hy, hlen, hl⟩, hx1, hx2⟩ := cw
  have hK : vx_Back l R p e below s args y 3 8 (PreOf R mc ms Pc) (PostOf Qc mc ms free) (vx_Post XC mc ms free) := vx_back (bytes := bytes) (maxL := maxL) (ret := none) hM hp.1 hrc hrs hfr hlo hws hcw (fun a' U hW => word_at hW (Or.inl (by first | rfl | simp [Cond.onTables, Cond.keeps, Cond.steady])) hini)
  obtain ⟨hx, hb, hml, ho, -⟩ := S
  have hPc := hp.2
  intro T hT X
  rcases vx_callIN X hx (bytes := bytes) (maxL := maxL) ho hx1 hl hx2 hcode hy hK hg (hsize.trans hml.symm) (a := b) (argsL := As) (rest := rest) (fun sig h => hn.trans (hlen sig h)) hstack hW (by rw [hb]; exact hdg)
    (fun vm₁ hW₁ => ⟨hf.1, hf.2, hPc (T.setVm vm₁) hT hW₁⟩) with ⟨v, vm₁, ⟨U', l2, c2, s2⟩, hW₁, X', ⟨g', mk, t, L, e1, e2, hq, h1, hL, h2, h3⟩, st⟩ | ⟨q, vm₁, ⟨U', l2, c2, s2⟩, hW₁, X', ⟨g', mk, t, L, E, ce, e1, e2, hq, hce, hcv, hcl, h1, hL, h2, h3⟩, st⟩
  · dsimp only [Pt.U, Pt.locs, Pt.cells, Pt.slots] at X' e1 e2 h1 h2 h3 st
    subst h1; subst h2; subst h3
    exact Or.inl ⟨v, (T.setVm vm₁).calling g' mk (Value.ref b :: As).toArray, t, U', L, hT, X', hL, e1, e2, hq, st⟩
  · dsimp only [Pt.U, Pt.locs, Pt.cells, Pt.slots] at X' e1 e2 h1 h2 h3 st hcl
    subst h1; subst h2; subst h3
    exact Or.inr ⟨q, (T.setVm vm₁).calling g' mk (Value.ref b :: As).toArray, t, U', L, E, ce, hT, X', hL, e1, e2, hq, hce, hcv, vx_cls hW₁ hcl, st⟩
end VXID
/-! ===== END ===== -/
/-! ===== BEGIN a method of a class above, found by the receiver, that may throw (follows va_callVU, va_runU of this kit) ===== -/
section
variable {p : Program} {l : Launch} {e : Env} {R : Room} {s : State} {m : MethodId} {args : Array Value} {below : List Frame} {meth : Method} {c : Code} {H : Heap} {locs : List Loc} {cells slots : Nat}
theorem vx_callVU {T : State} {locs : List Loc} {cells slots : Nat} (X : Stand p l e R s m args below meth c T locs cells slots) (hexec : p.tables.exec = Jvm.exec) {own C owner : String} {index : Nat} {x y : MethodName} {bytes : ByteArray} {maxL : Nat} {ret : Option FieldType}
    (hown : s.vm.findClass own = some m.cls) (hlink : (Cond.methodLink own index x).before args s = true) (hsame : (Cond.sameMethod x.cls owner x.name x.desc).before args s = true)
    (hd0 : va_Decl s ⟨owner, x.name, x.desc⟩) (howner : owner ≠ "java/lang/invoke/MethodHandle" ∧ owner ≠ "java/lang/invoke/VarHandle")
    (hsel : (Cond.selects C x y).before args s = true) (hinst : (Cond.instanceMethod y).before args s = true) (hcode : (Cond.code y bytes maxL ret).before args s = true)
    {W : Nat} {Pre : Pt → Array Value → Prop} {Post : Pt → Array Value → Option Value → Pt → Prop} {PostX : Pt → Array Value → Addr → Pt → Prop} (hK : vx_Back l R p e below s args y 3 W Pre Post PostX)
    {b : Addr} {cellB : Cell} (hcell : T.heap[b]? = some cellB) (hobj : cellB.vm.isStatics = false) (hcls : s.vm.findClass C = some cellB.cls)
    {g : JFrame} (hg : g.method = m) (hsize : g.locals.size = c.maxLocals) {argsL rest : List Value} (hlen : ∀ sig, parseMethodDescriptor x.desc = some sig → argsL.length = sig.parameters.length)
    (hstack : g.stack = argsL.reverse ++ .ref b :: rest) (hW : 2 * g.monitorRoom + (rest.map fun v => v.category).sum ≤ W) (hdg : decode c.code g.pc = .ok (.invokevirtual index, 3))
    (hpre : ∀ vm₁, s.WarmedH vm₁ → Pre ⟨T.setVm vm₁, locs, cells, slots⟩ (Value.ref b :: argsL).toArray) :
    (∃ (v : Option Value) (vm₁ : Vm) (B : Pt), s.WarmedH vm₁ ∧ Stand p l e R s m args below meth c B.U B.locs B.cells B.slots ∧ Post ⟨T.setVm vm₁, locs, cells, slots⟩ (Value.ref b :: argsL).toArray v B ∧
      ∀ target, Steps p.tables e below (B.U.setTop { g with pc := g.pc + 3, stack := v.toList ++ rest }) target → Steps p.tables e below (T.setTop g) target) ∨
    (∃ (q : Addr) (vm₁ : Vm) (B : Pt), s.WarmedH vm₁ ∧ Stand p l e R s m args below meth c B.U B.locs B.cells B.slots ∧ PostX ⟨T.setVm vm₁, locs, cells, slots⟩ (Value.ref b :: argsL).toArray q B ∧
      Steps p.tables e below (T.setTop g) ((B.U.setTop { g with stack := rest }).pushFrame (.throwing q))) := by
  obtain ⟨r0, r, hn, hrm, hstR, hsigR⟩ := hd0
  obtain ⟨cn, ck, r1, hcn, hck, hni, hf, hn1⟩ := Cond.sameMethod_found hsame
  cases hn.symm.trans hn1
  obtain ⟨mk, methM, hnamed, hmethM, -, habM⟩ := Cond.instanceMethod_spec hinst
  obtain ⟨c2, r2, m2, q1, q2, q3, q4, kP, hkP, hkPi⟩ := Cond.selects_spec hsel
  cases hcls.symm.trans q1
  cases hf.symm.trans q2
  cases hnamed.symm.trans q3
  have hselP : selectMethod e.platform s.vm cellB.cls r0 = .method mk := by rw [Launch.admits_selectMethod X.admits]; exact q4
  obtain ⟨vm₁, X₁, hstep₁⟩ := X.invokevirtualUp hexec hown hlink hsame howner hn hrm hstR (a := b) (cell := cellB) hcell
    (fun z h => by rw [h] at hobj; cases hobj) hselP hmethM habM hkP hkPi (g := g) hg (argsL := argsL) (rest := rest) (hlen _ hsigR) hstack hdg
  rcases hK m meth c ⟨T.setVm vm₁, locs, cells, slots⟩ { g with stack := rest } (.invokevirtual index) mk (Value.ref b :: argsL).toArray X₁ hg hsize hdg hW (X₁.named hnamed) (hpre vm₁ X₁.warmed) with ⟨v, B, X', hpost, hsteps⟩ | ⟨q, B, X', hpost, hsteps⟩
  · exact Or.inl ⟨v, vm₁, B, X₁.warmed, X', hpost, fun target h => hstep₁ _ fun acts => by rw [doInvoke_state]; exact hsteps.trans h⟩
  · exact Or.inr ⟨q, vm₁, B, X₁.warmed, X', hpost, hstep₁ _ fun acts => by rw [doInvoke_state]; exact hsteps⟩
theorem vx_runU {x y : MethodName} {bytes cc : ByteArray} {maxL nL mc ms n index : Nat} {ret : Option FieldType} {ws : List Cond} {rm : Room} {Pc : Array Value → State → Prop} {Qc : Array Value → State → Outcome → State → Prop} {XC : String → State → State → Prop} {free : Addr → Prop} {Ts : List Cond} {own C owner : String} {b : Addr} {As rest : List Value} {g : JFrame}
    (S : CallFix p m c cc nL s args Ts own) (hM : vx_Met l y ws rm Pc Qc XC mc ms free) (cw : va_CU R s args own C owner index x y bytes maxL ret ws rm mc ms n) (hp : PreV s H C b Pc As)
    (hg : g.method = m) (hn : As.length = n) (hsize : g.locals.size = nL) (hstack : g.stack = As.reverse ++ .ref b :: rest) (hW : 2 * g.monitorRoom + (rest.map fun v => v.category).sum ≤ 8) (hdg : decode cc g.pc = .ok (.invokevirtual index, 3)) (hf : cells + mc ≤ R.cells ∧ slots + ms ≤ R.slots) :
    vx_Run p l e R s m args below meth c H locs cells slots mc ms g rest (Qc (Value.ref b :: As).toArray) XC free := by
  obtain ⟨hrc, hrs, hfr, hlo, hws, hcw⟩ := cw.back
  have hini := cw.init
  have hK : vx_Back l R p e below s args y 3 8 (PreOf R mc ms Pc) (PostOf Qc mc ms free) (vx_Post XC mc ms free) := vx_back (bytes := bytes) (maxL := maxL) (ret := ret) hM hp.1 hrc hrs hfr hlo hws hcw (fun a' U hW => word_at hW (Or.inl (by first | rfl | simp [Cond.onTables, Cond.keeps, Cond.steady])) hini)
  obtain ⟨hx, hb, hml, ho, -⟩ := S
  obtain ⟨-, ⟨cellB, hcB, hoB, hclB⟩, hPc⟩ := hp
  intro T hT X
  rcases vx_callVU X hx (C := C) (owner := owner) (bytes := bytes) (maxL := maxL) (ret := ret) ho cw.link cw.same cw.decl cw.notMH cw.sel cw.inst cw.code hK (by rw [hT]; exact hcB) hoB hclB hg (hsize.trans hml.symm) (argsL := As) (rest := rest) (fun sig h => hn.trans (cw.len sig h)) hstack hW (by rw [hb]; exact hdg)
    (fun vm₁ hW₁ => ⟨hf.1, hf.2, hPc (T.setVm vm₁) hT hW₁⟩) with ⟨v, vm₁, ⟨U', l2, c2, s2⟩, hW₁, X', ⟨g', mk, t, L, e1, e2, hq, h1, hL, h2, h3⟩, st⟩ | ⟨q, vm₁, ⟨U', l2, c2, s2⟩, hW₁, X', ⟨g', mk, t, L, E, ce, e1, e2, hq, hce, hcv, hcl, h1, hL, h2, h3⟩, st⟩
  · dsimp only [Pt.U, Pt.locs, Pt.cells, Pt.slots] at X' e1 e2 h1 h2 h3 st
    subst h1; subst h2; subst h3
    exact Or.inl ⟨v, (T.setVm vm₁).calling g' mk (Value.ref b :: As).toArray, t, U', L, hT, X', hL, e1, e2, hq, st⟩
  · dsimp only [Pt.U, Pt.locs, Pt.cells, Pt.slots] at X' e1 e2 h1 h2 h3 st hcl
    subst h1; subst h2; subst h3
    exact Or.inr ⟨q, (T.setVm vm₁).calling g' mk (Value.ref b :: As).toArray, t, U', L, E, ce, hT, X', hL, e1, e2, hq, hce, hcv, vx_cls hW₁ hcl, st⟩
end
/-! ===== END ===== -/
/-! ===== BEGIN super.m(..) that may throw (follows va_callSU, va_runSU) ===== -/
section
variable {p : Program} {l : Launch} {e : Env} {R : Room} {s : State} {m : MethodId} {args : Array Value} {below : List Frame} {meth : Method} {c : Code} {H : Heap} {locs : List Loc} {cells slots : Nat}
theorem vx_callSU {T : State} {locs : List Loc} {cells slots : Nat} (X : Stand p l e R s m args below meth c T locs cells slots) (hexec : p.tables.exec = Jvm.exec) {own : String} {index : Nat} {y : MethodName} {bytes : ByteArray} {maxL : Nat} {ret : Option FieldType}
    (hown : s.vm.findClass own = some m.cls) (hlink : (Cond.methodLink own index y).before args s = true) (hsame : (Cond.sameMethod y.cls y.cls y.name y.desc).before args s = true) (hsup : (Cond.superclass own y.cls).before args s = true)
    (hinst : (Cond.instanceMethod y).before args s = true) (hcode : (Cond.code y bytes maxL ret).before args s = true) (hno : y.name ≠ "<init>")
    {W : Nat} {Pre : Pt → Array Value → Prop} {Post : Pt → Array Value → Option Value → Pt → Prop} {PostX : Pt → Array Value → Addr → Pt → Prop} (hK : vx_Back l R p e below s args y 3 W Pre Post PostX)
    {b : Addr} {cellB : Cell} {kB : Class} (hcell : T.heap[b]? = some cellB) (hobj : cellB.vm.isStatics = false) (hkB : s.vm.classes[cellB.cls]? = some kB)
    {g : JFrame} (hg : g.method = m) (hsize : g.locals.size = c.maxLocals) {argsL rest : List Value} (hlen : ∀ sig, parseMethodDescriptor y.desc = some sig → argsL.length = sig.parameters.length)
    (hstack : g.stack = argsL.reverse ++ .ref b :: rest) (hW : 2 * g.monitorRoom + (rest.map fun v => v.category).sum ≤ W) (hdg : decode c.code g.pc = .ok (.invokespecial index, 3))
    (hpre : ∀ vm₁, s.WarmedH vm₁ → Pre ⟨T.setVm vm₁, locs, cells, slots⟩ (Value.ref b :: argsL).toArray) :
    (∃ (v : Option Value) (vm₁ : Vm) (B : Pt), s.WarmedH vm₁ ∧ Stand p l e R s m args below meth c B.U B.locs B.cells B.slots ∧ Post ⟨T.setVm vm₁, locs, cells, slots⟩ (Value.ref b :: argsL).toArray v B ∧
      ∀ target, Steps p.tables e below (B.U.setTop { g with pc := g.pc + 3, stack := v.toList ++ rest }) target → Steps p.tables e below (T.setTop g) target) ∨
    (∃ (q : Addr) (vm₁ : Vm) (B : Pt), s.WarmedH vm₁ ∧ Stand p l e R s m args below meth c B.U B.locs B.cells B.slots ∧ PostX ⟨T.setVm vm₁, locs, cells, slots⟩ (Value.ref b :: argsL).toArray q B ∧
      Steps p.tables e below (T.setTop g) ((B.U.setTop { g with stack := rest }).pushFrame (.throwing q))) := by
  obtain ⟨mk, methM, hnamed, hmethM, hstM, habM⟩ := Cond.instanceMethod_spec hinst
  obtain ⟨methM', cM, hmethM', -, -, -, -, -, -, hsigM⟩ := Cond.code_spec hnamed hcode
  cases hmethM.symm.trans hmethM'
  obtain ⟨ps, dk, kp, hps, hdk, hkp, hsuper, -, -, hnid⟩ := Cond.superclass_spec hown hsup
  have hn : s.methodNamed? ⟨y.cls, y.name, y.desc⟩ = some mk := hnamed
  have hpm : ps = mk.cls := Option.some.inj (hps.symm.trans (findClass_of_methodNamed hnamed))
  have hsub : s.vm.isSubclass ps mk.cls = true := by rw [hpm]; simp [Vm.isSubclass, Vm.isSubclassAux]
  obtain ⟨vm₁, X₁, hstep₁⟩ := X.invokespecialUp hexec hown hlink hsame hn hmethM hstM habM hno hdk hnid hps hsuper hsub (a := b) (cell := cellB) hcell
    (fun z h => by rw [h] at hobj; cases hobj) hkB (g := g) hg (argsL := argsL) (rest := rest) (hlen _ hsigM) hstack hdg
  rcases hK m meth c ⟨T.setVm vm₁, locs, cells, slots⟩ { g with stack := rest } (.invokespecial index) mk (Value.ref b :: argsL).toArray X₁ hg hsize hdg hW (X₁.named hnamed) (hpre vm₁ X₁.warmed) with ⟨v, B, X', hpost, hsteps⟩ | ⟨q, B, X', hpost, hsteps⟩
  · exact Or.inl ⟨v, vm₁, B, X₁.warmed, X', hpost, fun target h => hstep₁ _ (by rw [doInvoke_state]; exact hsteps.trans h)⟩
  · exact Or.inr ⟨q, vm₁, B, X₁.warmed, X', hpost, hstep₁ _ (by rw [doInvoke_state]; exact hsteps)⟩
theorem vx_runSU {y : MethodName} {bytes cc : ByteArray} {maxL nL mc ms n index : Nat} {ret : Option FieldType} {ws : List Cond} {rm : Room} {Pc : Array Value → State → Prop} {Qc : Array Value → State → Outcome → State → Prop} {XC : String → State → State → Prop} {free : Addr → Prop} {Ts : List Cond} {own C : String} {cC : ClassId} {b : Addr} {As rest : List Value} {g : JFrame}
    (hat : ClassAt s C cC) (S : CallFix p m c cc nL s args Ts own) (hM : vx_Met l y ws rm Pc Qc XC mc ms free) (cw : va_CS R s args own index y bytes maxL ret ws rm mc ms n) (hp : PreV s H C b Pc As)
    (hg : g.method = m) (hn : As.length = n) (hsize : g.locals.size = nL) (hstack : g.stack = As.reverse ++ .ref b :: rest) (hW : 2 * g.monitorRoom + (rest.map fun v => v.category).sum ≤ 8) (hdg : decode cc g.pc = .ok (.invokespecial index, 3)) (hf : cells + mc ≤ R.cells ∧ slots + ms ≤ R.slots) :
    vx_Run p l e R s m args below meth c H locs cells slots mc ms g rest (Qc (Value.ref b :: As).toArray) XC free := by
  obtain ⟨⟨hrc, hrs, hfr, hlo, hws, hcw⟩, hl1, hl2, hl3, hl4, hini, hcode, hno, hlen⟩ := cw
  have hK : vx_Back l R p e below s args y 3 8 (PreOf R mc ms Pc) (PostOf Qc mc ms free) (vx_Post XC mc ms free) := vx_back (bytes := bytes) (maxL := maxL) (ret := ret) hM hp.1 hrc hrs hfr hlo hws hcw (fun a' U hW => word_at hW (Or.inl (by first | rfl | simp [Cond.onTables, Cond.keeps, Cond.steady])) hini)
  obtain ⟨hx, hb, hml, ho, -⟩ := S
  obtain ⟨-, ⟨cellB, hcB, hoB, hclB⟩, hPc⟩ := hp
  obtain ⟨hfc, kB, hkB, -⟩ := hat
  cases hfc.symm.trans hclB
  intro T hT X
  rcases vx_callSU X hx (bytes := bytes) (maxL := maxL) (ret := ret) ho hl1 hl2 hl3 hl4 hcode hno hK (by rw [hT]; exact hcB) hoB hkB hg (hsize.trans hml.symm) (argsL := As) (rest := rest) (fun sig h => hn.trans (hlen sig h)) hstack hW (by rw [hb]; exact hdg)
    (fun vm₁ hW₁ => ⟨hf.1, hf.2, hPc (T.setVm vm₁) hT hW₁⟩) with ⟨v, vm₁, ⟨U', l2, c2, s2⟩, hW₁, X', ⟨g', mk, t, L, e1, e2, hq, h1, hL, h2, h3⟩, st⟩ | ⟨q, vm₁, ⟨U', l2, c2, s2⟩, hW₁, X', ⟨g', mk, t, L, E, ce, e1, e2, hq, hce, hcv, hcl, h1, hL, h2, h3⟩, st⟩
  · dsimp only [Pt.U, Pt.locs, Pt.cells, Pt.slots] at X' e1 e2 h1 h2 h3 st
    subst h1; subst h2; subst h3
    exact Or.inl ⟨v, (T.setVm vm₁).calling g' mk (Value.ref b :: As).toArray, t, U', L, hT, X', hL, e1, e2, hq, st⟩
  · dsimp only [Pt.U, Pt.locs, Pt.cells, Pt.slots] at X' e1 e2 h1 h2 h3 st hcl
    subst h1; subst h2; subst h3
    exact Or.inr ⟨q, (T.setVm vm₁).calling g' mk (Value.ref b :: As).toArray, t, U', L, E, ce, hT, X', hL, e1, e2, hq, hce, hcv, vx_cls hW₁ hcl, st⟩
end
/-! ===== END ===== -/
/-! ===== BEGIN a private method of a nest mate that may throw (follows va_callVN, va_callSN, va_runVN, va_runSN) ===== -/
section
variable {p : Program} {l : Launch} {e : Env} {R : Room} {s : State} {m : MethodId} {args : Array Value} {below : List Frame} {meth : Method} {c : Code} {H : Heap} {locs : List Loc} {cells slots : Nat}
variable {T : State}
theorem vx_callVN (X : Stand p l e R s m args below meth c T locs cells slots) (hexec : p.tables.exec = Jvm.exec) {own C : String} {index : Nat} {host : String} {y : MethodName} {bytes : ByteArray} {maxL : Nat} {ret : Option FieldType}
    (hown : s.vm.findClass own = some m.cls) (hlink : (Cond.methodLinkNest own index y host).before args s = true) (hinst : (Cond.instanceMethod y).before args s = true) (hsel : (Cond.selects C y y).before args s = true)
    (hcode : (Cond.code y bytes maxL ret).before args s = true) (hy : y.cls ≠ "java/lang/invoke/MethodHandle" ∧ y.cls ≠ "java/lang/invoke/VarHandle")
    {W : Nat} {Pre : Pt → Array Value → Prop} {Post : Pt → Array Value → Option Value → Pt → Prop} {PostX : Pt → Array Value → Addr → Pt → Prop} (hK : vx_Back l R p e below s args y 3 W Pre Post PostX)
    {b : Addr} {cellB : Cell} (hcell : T.heap[b]? = some cellB) (hobj : cellB.vm.isStatics = false) (hcls : s.vm.findClass C = some cellB.cls)
    {g : JFrame} (hg : g.method = m) (hsize : g.locals.size = c.maxLocals) {argsL rest : List Value} (hlen : ∀ sig, parseMethodDescriptor y.desc = some sig → argsL.length = sig.parameters.length)
    (hstack : g.stack = argsL.reverse ++ .ref b :: rest) (hW : 2 * g.monitorRoom + (rest.map fun v => v.category).sum ≤ W) (hdg : decode c.code g.pc = .ok (.invokevirtual index, 3))
    (hpre : ∀ vm₁, s.WarmedH vm₁ → Pre ⟨T.setVm vm₁, locs, cells, slots⟩ (Value.ref b :: argsL).toArray) :
    (∃ (v : Option Value) (vm₁ : Vm) (B : Pt), s.WarmedH vm₁ ∧ Stand p l e R s m args below meth c B.U B.locs B.cells B.slots ∧ Post ⟨T.setVm vm₁, locs, cells, slots⟩ (Value.ref b :: argsL).toArray v B ∧
      ∀ target, Steps p.tables e below (B.U.setTop { g with pc := g.pc + 3, stack := v.toList ++ rest }) target → Steps p.tables e below (T.setTop g) target) ∨
    (∃ (q : Addr) (vm₁ : Vm) (B : Pt), s.WarmedH vm₁ ∧ Stand p l e R s m args below meth c B.U B.locs B.cells B.slots ∧ PostX ⟨T.setVm vm₁, locs, cells, slots⟩ (Value.ref b :: argsL).toArray q B ∧
      Steps p.tables e below (T.setTop g) ((B.U.setTop { g with stack := rest }).pushFrame (.throwing q))) := by
  obtain ⟨mk, methM, hnamed, hmethM, hstM, habM⟩ := Cond.instanceMethod_spec hinst
  obtain ⟨methM', cM, hmethM', -, -, -, -, -, -, hsigM⟩ := Cond.code_spec hnamed hcode
  cases hmethM.symm.trans hmethM'
  obtain ⟨c2, r2, m2, q1, q2, q3, q4, kP, hkP, hkPi⟩ := Cond.selects_spec hsel
  cases hcls.symm.trans q1
  cases (State.methodFound?_of_named hnamed hy).symm.trans q2
  cases hnamed.symm.trans q3
  have hselP : selectMethod e.platform s.vm cellB.cls mk = .method mk := by rw [Launch.admits_selectMethod X.admits]; exact q4
  obtain ⟨vm₁, X₁, hstep₁⟩ := X.invokevirtualNest hexec hown hlink hnamed hmethM hstM hkP hkPi hy (a := b) (cell := cellB) hcell
    (fun z h => by rw [h] at hobj; cases hobj) hselP hmethM habM hkP hkPi (g := g) hg (argsL := argsL) (rest := rest) (hlen _ hsigM) hstack hdg
  rcases hK m meth c ⟨T.setVm vm₁, locs, cells, slots⟩ { g with stack := rest } (.invokevirtual index) mk (Value.ref b :: argsL).toArray X₁ hg hsize hdg hW (X₁.named hnamed) (hpre vm₁ X₁.warmed) with ⟨v, B, X', hpost, hsteps⟩ | ⟨q, B, X', hpost, hsteps⟩
  · exact Or.inl ⟨v, vm₁, B, X₁.warmed, X', hpost, fun target h => hstep₁ _ fun acts => by rw [doInvoke_state]; exact hsteps.trans h⟩
  · exact Or.inr ⟨q, vm₁, B, X₁.warmed, X', hpost, hstep₁ _ fun acts => by rw [doInvoke_state]; exact hsteps⟩
theorem vx_callSN (X : Stand p l e R s m args below meth c T locs cells slots) (hexec : p.tables.exec = Jvm.exec) {own : String} {index : Nat} {host : String} {y : MethodName} {bytes : ByteArray} {maxL : Nat} {ret : Option FieldType}
    (hown : s.vm.findClass own = some m.cls) (hlink : (Cond.methodLinkNest own index y host).before args s = true) (hstat : (Cond.static y).before args s = true) (hinit : (Cond.initialized y.cls).before args s = true)
    (hcode : (Cond.code y bytes maxL ret).before args s = true) (hy : y.cls ≠ "java/lang/invoke/MethodHandle" ∧ y.cls ≠ "java/lang/invoke/VarHandle")
    {W : Nat} {Pre : Pt → Array Value → Prop} {Post : Pt → Array Value → Option Value → Pt → Prop} {PostX : Pt → Array Value → Addr → Pt → Prop} (hK : vx_Back l R p e below s args y 3 W Pre Post PostX)
    {g : JFrame} (hg : g.method = m) (hsize : g.locals.size = c.maxLocals) {argsL rest : List Value} (hlen : ∀ sig, parseMethodDescriptor y.desc = some sig → argsL.length = sig.parameters.length)
    (hstack : g.stack = argsL.reverse ++ rest) (hW : 2 * g.monitorRoom + (rest.map fun v => v.category).sum ≤ W) (hdg : decode c.code g.pc = .ok (.invokestatic index, 3))
    (hpre : ∀ vm₁, s.WarmedH vm₁ → Pre ⟨T.setVm vm₁, locs, cells, slots⟩ argsL.toArray) :
    (∃ (v : Option Value) (vm₁ : Vm) (B : Pt), s.WarmedH vm₁ ∧ Stand p l e R s m args below meth c B.U B.locs B.cells B.slots ∧ Post ⟨T.setVm vm₁, locs, cells, slots⟩ argsL.toArray v B ∧
      ∀ target, Steps p.tables e below (B.U.setTop { g with pc := g.pc + 3, stack := v.toList ++ rest }) target → Steps p.tables e below (T.setTop g) target) ∨
    (∃ (q : Addr) (vm₁ : Vm) (B : Pt), s.WarmedH vm₁ ∧ Stand p l e R s m args below meth c B.U B.locs B.cells B.slots ∧ PostX ⟨T.setVm vm₁, locs, cells, slots⟩ argsL.toArray q B ∧
      Steps p.tables e below (T.setTop g) ((B.U.setTop { g with stack := rest }).pushFrame (.throwing q))) := by
  obtain ⟨mk, hnamed⟩ := Cond.code_named hcode
  obtain ⟨methM, cM, hmethM, -, -, -, -, -, -, hsigM⟩ := Cond.code_spec hnamed hcode
  have hstatic : methM.isStatic = true := Cond.static_spec hnamed hmethM hstat
  obtain ⟨kP, hkP, -⟩ := className_of_methodNamed hnamed
  have hinitP : kP.init = .initialized := Cond.initialized_spec (findClass_of_methodNamed hnamed) hkP hinit
  obtain ⟨vm₁, X₁, hstep₁⟩ := X.invokestaticNest hexec hown hlink hnamed hmethM hstatic hkP hinitP hy (g := g) hg (argsL := argsL) (rest := rest) (hlen _ hsigM) hstack hdg
  rcases hK m meth c ⟨T.setVm vm₁, locs, cells, slots⟩ { g with stack := rest } (.invokestatic index) mk argsL.toArray X₁ hg hsize hdg hW (X₁.named hnamed) (hpre vm₁ X₁.warmed) with ⟨v, B, X', hpost, hsteps⟩ | ⟨q, B, X', hpost, hsteps⟩
  · exact Or.inl ⟨v, vm₁, B, X₁.warmed, X', hpost, fun target h => hstep₁ _ fun acts => by rw [doInvoke_state]; exact hsteps.trans h⟩
  · exact Or.inr ⟨q, vm₁, B, X₁.warmed, X', hpost, hstep₁ _ fun acts => by rw [doInvoke_state]; exact hsteps⟩
theorem vx_runVN {y : MethodName} {bytes cc : ByteArray} {maxL nL mc ms n index : Nat} {ret : Option FieldType} {ws : List Cond} {rm : Room} {Pc : Array Value → State → Prop} {Qc : Array Value → State → Outcome → State → Prop} {XC : String → State → State → Prop} {free : Addr → Prop} {Ts : List Cond} {own C host : String} {b : Addr} {As rest : List Value} {g : JFrame}
    (S : CallFix p m c cc nL s args Ts own) (hM : vx_Met l y ws rm Pc Qc XC mc ms free) (cw : va_CN R s args own index y host bytes maxL ret ws rm mc ms n ∧ (Cond.instanceMethod y).before args s = true ∧ (Cond.selects C y y).before args s = true) (hp : PreV s H C b Pc As)
    (hg : g.method = m) (hn : As.length = n) (hsize : g.locals.size = nL) (hstack : g.stack = As.reverse ++ .ref b :: rest) (hW : 2 * g.monitorRoom + (rest.map fun v => v.category).sum ≤ 8) (hdg : decode cc g.pc = .ok (.invokevirtual index, 3)) (hf : cells + mc ≤ R.cells ∧ slots + ms ≤ R.slots) :
    vx_Run p l e R s m args below meth c H locs cells slots mc ms g rest (Qc (Value.ref b :: As).toArray) XC free := by
  obtain ⟨⟨⟨hrc, hrs, hfr, hlo, hws, hcw⟩, hcode, hini, hy, hlen, hl⟩, hx1, hx2⟩ := cw
  have hK : vx_Back l R p e below s args y 3 8 (PreOf R mc ms Pc) (PostOf Qc mc ms free) (vx_Post XC mc ms free) := vx_back (bytes := bytes) (maxL := maxL) (ret := ret) hM hp.1 hrc hrs hfr hlo hws hcw (fun a' U hW => word_at hW (Or.inl (by first | rfl | simp [Cond.onTables, Cond.keeps, Cond.steady])) hini)
  obtain ⟨hx, hb, hml, ho, -⟩ := S
  obtain ⟨-, ⟨cellB, hcB, hoB, hclB⟩, hPc⟩ := hp
  intro T hT X
  rcases vx_callVN X hx (C := C) (bytes := bytes) (maxL := maxL) (ret := ret) ho hl hx1 hx2 hcode hy hK (by rw [hT]; exact hcB) hoB hclB hg (hsize.trans hml.symm) (argsL := As) (rest := rest) (fun sig h => hn.trans (hlen sig h)) hstack hW (by rw [hb]; exact hdg)
    (fun vm₁ hW₁ => ⟨hf.1, hf.2, hPc (T.setVm vm₁) hT hW₁⟩) with ⟨v, vm₁, ⟨U', l2, c2, s2⟩, hW₁, X', ⟨g', mk, t, L, e1, e2, hq, h1, hL, h2, h3⟩, st⟩ | ⟨q, vm₁, ⟨U', l2, c2, s2⟩, hW₁, X', ⟨g', mk, t, L, E, ce, e1, e2, hq, hce, hcv, hcl, h1, hL, h2, h3⟩, st⟩
  · dsimp only [Pt.U, Pt.locs, Pt.cells, Pt.slots] at X' e1 e2 h1 h2 h3 st
    subst h1; subst h2; subst h3
    exact Or.inl ⟨v, (T.setVm vm₁).calling g' mk (Value.ref b :: As).toArray, t, U', L, hT, X', hL, e1, e2, hq, st⟩
  · dsimp only [Pt.U, Pt.locs, Pt.cells, Pt.slots] at X' e1 e2 h1 h2 h3 st hcl
    subst h1; subst h2; subst h3
    exact Or.inr ⟨q, (T.setVm vm₁).calling g' mk (Value.ref b :: As).toArray, t, U', L, E, ce, hT, X', hL, e1, e2, hq, hce, hcv, vx_cls hW₁ hcl, st⟩
theorem vx_runSN {y : MethodName} {bytes cc : ByteArray} {maxL nL mc ms n index : Nat} {ret : Option FieldType} {ws : List Cond} {rm : Room} {Pc : Array Value → State → Prop} {Qc : Array Value → State → Outcome → State → Prop} {XC : String → State → State → Prop} {free : Addr → Prop} {Ts : List Cond} {own host : String} {As rest : List Value} {g : JFrame}
    (S : CallFix p m c cc nL s args Ts own) (hM : vx_Met l y ws rm Pc Qc XC mc ms free) (cw : va_CN R s args own index y host bytes maxL ret ws rm mc ms n ∧ (Cond.static y).before args s = true ∧ True) (hp : PreS s H Pc As)
    (hg : g.method = m) (hn : As.length = n) (hsize : g.locals.size = nL) (hstack : g.stack = As.reverse ++ rest) (hW : 2 * g.monitorRoom + (rest.map fun v => v.category).sum ≤ 8) (hdg : decode cc g.pc = .ok (.invokestatic index, 3)) (hf : cells + mc ≤ R.cells ∧ slots + ms ≤ R.slots) :
    vx_Run p l e R s m args below meth c H locs cells slots mc ms g rest (Qc As.toArray) XC free := by
  obtain ⟨⟨⟨hrc, hrs, hfr, hlo, hws, hcw⟩, hcode, hini, hy, hlen, hl⟩, hx1, hx2⟩ := cw
  have hK : vx_Back l R p e below s args y 3 8 (PreOf R mc ms Pc) (PostOf Qc mc ms free) (vx_Post XC mc ms free) := vx_back (bytes := bytes) (maxL := maxL) (ret := ret) hM hp.1 hrc hrs hfr hlo hws hcw (fun a' U hW => word_at hW (Or.inl (by first | rfl | simp [Cond.onTables, Cond.keeps, Cond.steady])) hini)
  obtain ⟨hx, hb, hml, ho, -⟩ := S
  have hPc := hp.2
  intro T hT X
  rcases vx_callSN X hx (bytes := bytes) (maxL := maxL) (ret := ret) ho hl hx1 hini hcode hy hK hg (hsize.trans hml.symm) (argsL := As) (rest := rest) (fun sig h => hn.trans (hlen sig h)) hstack hW (by rw [hb]; exact hdg)
    (fun vm₁ hW₁ => ⟨hf.1, hf.2, hPc (T.setVm vm₁) hT hW₁⟩) with ⟨v, vm₁, ⟨U', l2, c2, s2⟩, hW₁, X', ⟨g', mk, t, L, e1, e2, hq, h1, hL, h2, h3⟩, st⟩ | ⟨q, vm₁, ⟨U', l2, c2, s2⟩, hW₁, X', ⟨g', mk, t, L, E, ce, e1, e2, hq, hce, hcv, hcl, h1, hL, h2, h3⟩, st⟩
  · dsimp only [Pt.U, Pt.locs, Pt.cells, Pt.slots] at X' e1 e2 h1 h2 h3 st
    subst h1; subst h2; subst h3
    exact Or.inl ⟨v, (T.setVm vm₁).calling g' mk As.toArray, t, U', L, hT, X', hL, e1, e2, hq, st⟩
  · dsimp only [Pt.U, Pt.locs, Pt.cells, Pt.slots] at X' e1 e2 h1 h2 h3 st hcl
    subst h1; subst h2; subst h3
    exact Or.inr ⟨q, (T.setVm vm₁).calling g' mk As.toArray, t, U', L, E, ce, hT, X', hL, e1, e2, hq, hce, hcv, vx_cls hW₁ hcl, st⟩
end
/-! ===== END ===== -/
/-! ===== BEGIN calls by an interface of methods that may throw (vx_callIF, vx_runF follow va_callIF, va_runF of this kit) ===== -/
section
variable {p : Program} {l : Launch} {e : Env} {R : Room} {s : State} {m : MethodId} {args : Array Value} {below : List Frame} {meth : Method} {c : Code} {H : Heap} {locs : List Loc} {cells slots : Nat} {Q : State → Prop}
variable {mc ms : Nat} {free : Addr → Prop} {A0 A1 : Nat → Prop} {H0 : Heap} {a : Array Value} {pc : Nat} {ls : Array Slot} {st0 rest : List Value}
def vx_Run5 (p : Program) (l : Launch) (e : Env) (R : Room) (s : State) (m : MethodId) (args : Array Value) (below : List Frame) (meth : Method) (c : Code) (H : Heap) (locs : List Loc) (cells slots mc ms : Nat) (g : JFrame) (rest : List Value) (Qa : State → Outcome → State → Prop) (XC : String → State → State → Prop) (free : Addr → Prop) : Prop :=
  ∀ T : State, T.heap = H → Stand p l e R s m args below meth c T locs cells slots →
    (∃ (v : Option Value) (st₀ t T' : State) (L : List Loc), st₀.heap = H ∧ Stand p l e R s m args below meth c T' (locs ++ L) (cells + mc) (slots + ms) ∧ (∀ q ∈ L, free q.base) ∧ T'.heap = t.heap ∧ T'.vm = t.vm ∧ Qa st₀ (.returned v) t ∧
      Goes p e below T g T' { g with pc := g.pc + 5, stack := v.toList ++ rest }) ∨
    (∃ (q : Addr) (st₀ t T' : State) (L : List Loc) (E : String) (ce : Cell), st₀.heap = H ∧ Stand p l e R s m args below meth c T' (locs ++ L) (cells + mc) (slots + ms) ∧ (∀ z ∈ L, free z.base) ∧ T'.heap = t.heap ∧ T'.vm = t.vm ∧ XC E st₀ t ∧ t.heap[q]? = some ce ∧ ce.vm = .none ∧ s.vm.findClass E = some ce.cls ∧
      Steps p.tables e below (T.setTop g) ((T'.setTop { g with stack := rest }).pushFrame (.throwing q)))
theorem vx_callIF {T : State} (X : Stand p l e R s m args below meth c T locs cells slots) (hexec : p.tables.exec = Jvm.exec) {own C : String} {index count : Nat} {x y : MethodName} {bytes : ByteArray} {maxL : Nat} {ret : Option FieldType}
    (hown : s.vm.findClass own = some m.cls) (hlink : (Cond.methodLink own index x).before args s = true) (hdecl : (Cond.declares x).before args s = true) (hface : (Cond.interfaceMethod x.cls x.cls x.name x.desc).before args s = true)
    (hsel : (Cond.selects C x y).before args s = true) (hinst : (Cond.instanceMethod y).before args s = true) (hpub : (Cond.publicMethod y).before args s = true) (hunh : (Cond.unhidden C x.name x.desc).before args s = true)
    (hcast : (Cond.castable C x.cls).before args s = true) (hcode : (Cond.code y bytes maxL ret).before args s = true) (hx : x.cls ≠ "java/lang/invoke/MethodHandle" ∧ x.cls ≠ "java/lang/invoke/VarHandle")
    {W9 : Nat} {Pre : Pt → Array Value → Prop} {Post : Pt → Array Value → Option Value → Pt → Prop} {PostX : Pt → Array Value → Addr → Pt → Prop} (hK : vx_Back l R p e below s args y 5 W9 Pre Post PostX)
    {b : Addr} {cellB : Cell} {kB : Class} (hcell : T.heap[b]? = some cellB) (hobj : cellB.vm.isStatics = false) (hcls : s.vm.findClass C = some cellB.cls) (hkB : s.vm.classes[cellB.cls]? = some kB)
    {g : JFrame} (hg : g.method = m) (hsize : g.locals.size = c.maxLocals) {argsL rest : List Value} (hlen : ∀ sig, parseMethodDescriptor x.desc = some sig → argsL.length = sig.parameters.length)
    (hstack : g.stack = argsL.reverse ++ .ref b :: rest) (hW : 2 * g.monitorRoom + (rest.map fun v => v.category).sum ≤ W9) (hdg : decode c.code g.pc = .ok (.invokeinterface index count, 5))
    (hpre : ∀ vm₁, s.WarmedH vm₁ → Pre ⟨T.setVm vm₁, locs, cells, slots⟩ (Value.ref b :: argsL).toArray) :
    (∃ (v : Option Value) (vm₁ : Vm) (B : Pt), s.WarmedH vm₁ ∧ Stand p l e R s m args below meth c B.U B.locs B.cells B.slots ∧ Post ⟨T.setVm vm₁, locs, cells, slots⟩ (Value.ref b :: argsL).toArray v B ∧
      ∀ target, Steps p.tables e below (B.U.setTop { g with pc := g.pc + 5, stack := v.toList ++ rest }) target → Steps p.tables e below (T.setTop g) target) ∨
    (∃ (q : Addr) (vm₁ : Vm) (B : Pt), s.WarmedH vm₁ ∧ Stand p l e R s m args below meth c B.U B.locs B.cells B.slots ∧ PostX ⟨T.setVm vm₁, locs, cells, slots⟩ (Value.ref b :: argsL).toArray q B ∧
      Steps p.tables e below (T.setTop g) ((B.U.setTop { g with stack := rest }).pushFrame (.throwing q))) := by
  obtain ⟨r0, r, hn, hrm, hstR, hsigR⟩ := Cond.declares_spec hdecl
  obtain ⟨cL, kL, r1, hcL, hkL, hiL, hfoundL, hn1⟩ := Cond.interfaceMethod_spec hface
  cases hn.symm.trans hn1
  have hr0cls : r0.cls = cL := Option.some.inj ((findClass_of_methodNamed hn).symm.trans hcL)
  obtain ⟨hnameR, hdescR⟩ := name_of_methodNamed hn hrm
  obtain ⟨mk, methM, hnamed, hmethM, -, habM⟩ := Cond.instanceMethod_spec hinst
  obtain ⟨c2, r2, m2, q1, q2, q3, q4, -⟩ := Cond.selects_spec hsel
  cases hcls.symm.trans q1
  cases hfoundL.symm.trans q2
  cases hnamed.symm.trans q3
  have hselP : selectMethod e.platform s.vm cellB.cls r0 = .method mk := by rw [Launch.admits_selectMethod X.admits]; exact q4
  have hpubM : hasFlag methM.accessFlags Acc.public_ = true := Cond.publicMethod_spec hnamed hmethM hpub
  have hway : ((cellB.cls :: s.vm.superclasses cellB.cls).any fun k => (declaredIn s.vm r.name r.desc k).any fun (_, z) => z.isPrivate || z.isStatic) = false := by
    rw [hnameR, hdescR]; exact Cond.unhidden_spec hcls hunh
  obtain ⟨c3, t3, w1, w2, w3⟩ := Cond.castable_spec hcast
  cases hcls.symm.trans w1
  cases hcL.symm.trans w2
  obtain ⟨vm₁, X₁, hstep₁⟩ := X.invokeinterface hexec hown hlink hn hrm hstR (by rw [hr0cls]; exact hkL) hiL hx (a := b) (cell := cellB) (kcell := kB) hcell
    (fun z h => by rw [h] at hobj; cases hobj) hkB (by rw [hr0cls]; exact w3) hselP hmethM hway hpubM habM (g := g) hg (argsL := argsL) (rest := rest) (hlen _ hsigR) hstack hdg
  rcases hK m meth c ⟨T.setVm vm₁, locs, cells, slots⟩ { g with stack := rest } (.invokeinterface index count) mk (Value.ref b :: argsL).toArray X₁ hg hsize hdg hW (X₁.named hnamed) (hpre vm₁ X₁.warmed) with ⟨v, B, X', hpost, hsteps⟩ | ⟨q, B, X', hpost, hsteps⟩
  · exact Or.inl ⟨v, vm₁, B, X₁.warmed, X', hpost, fun target h => hstep₁ _ fun acts => by rw [doInvoke_state]; exact hsteps.trans h⟩
  · exact Or.inr ⟨q, vm₁, B, X₁.warmed, X', hpost, hstep₁ _ fun acts => by rw [doInvoke_state]; exact hsteps⟩
theorem vx_runF {x y : MethodName} {bytes cc : ByteArray} {maxL nL mc ms n index count : Nat} {ret : Option FieldType} {ws : List Cond} {rm : Room} {Pc : Array Value → State → Prop} {Qc : Array Value → State → Outcome → State → Prop} {XC : String → State → State → Prop} {free : Addr → Prop} {Ts : List Cond} {own C : String} {cC : ClassId} {b : Addr} {As rest : List Value} {g : JFrame}
    (hat : ClassAt s C cC) (S : CallFix p m c cc nL s args Ts own) (hM : vx_Met l y ws rm Pc Qc XC mc ms free) (cw : va_CI R s args own C index x y bytes maxL ret ws rm mc ms n) (hp : PreV s H C b Pc As)
    (hg : g.method = m) (hn : As.length = n) (hsize : g.locals.size = nL) (hstack : g.stack = As.reverse ++ .ref b :: rest) (hW : 2 * g.monitorRoom + (rest.map fun v => v.category).sum ≤ 8) (hdg : decode cc g.pc = .ok (.invokeinterface index count, 5)) (hf : cells + mc ≤ R.cells ∧ slots + ms ≤ R.slots) :
    vx_Run5 p l e R s m args below meth c H locs cells slots mc ms g rest (Qc (Value.ref b :: As).toArray) XC free := by
  obtain ⟨hrc, hrs, hfr, hlo, hws, hcw⟩ := cw.back
  have hini := cw.init
  have hK : vx_Back l R p e below s args y 5 8 (PreOf R mc ms Pc) (PostOf Qc mc ms free) (vx_Post XC mc ms free) := vx_back (bytes := bytes) (maxL := maxL) (ret := ret) hM hp.1 hrc hrs hfr hlo hws hcw (fun a' U hW => word_at hW (Or.inl (by first | rfl | simp [Cond.onTables, Cond.keeps, Cond.steady])) hini)
  obtain ⟨hx, hb, hml, ho, -⟩ := S
  obtain ⟨-, ⟨cellB, hcB, hoB, hclB⟩, hPc⟩ := hp
  obtain ⟨hfc, kB, hkB, -⟩ := hat
  cases hfc.symm.trans hclB
  intro T hT X
  rcases vx_callIF X hx (C := C) (bytes := bytes) (maxL := maxL) (ret := ret) ho cw.link cw.decl cw.face cw.sel cw.inst cw.pub cw.unh cw.cast cw.code cw.notMH hK (by rw [hT]; exact hcB) hoB hclB hkB hg (hsize.trans hml.symm) (argsL := As) (rest := rest) (fun sig h => hn.trans (cw.len sig h)) hstack hW (by rw [hb]; exact hdg)
    (fun vm₁ hW₁ => ⟨hf.1, hf.2, hPc (T.setVm vm₁) hT hW₁⟩) with ⟨v, vm₁, ⟨U', l2, c2, s2⟩, hW₁, X', ⟨g', mk, t, L, e1, e2, hq, h1, hL, h2, h3⟩, st⟩ | ⟨q, vm₁, ⟨U', l2, c2, s2⟩, hW₁, X', ⟨g', mk, t, L, E, ce, e1, e2, hq, hce, hcv, hcl, h1, hL, h2, h3⟩, st⟩
  · dsimp only [Pt.U, Pt.locs, Pt.cells, Pt.slots] at X' e1 e2 h1 h2 h3 st
    subst h1; subst h2; subst h3
    exact Or.inl ⟨v, (T.setVm vm₁).calling g' mk (Value.ref b :: As).toArray, t, U', L, hT, X', hL, e1, e2, hq, st⟩
  · dsimp only [Pt.U, Pt.locs, Pt.cells, Pt.slots] at X' e1 e2 h1 h2 h3 st hcl
    subst h1; subst h2; subst h3
    exact Or.inr ⟨q, (T.setVm vm₁).calling g' mk (Value.ref b :: As).toArray, t, U', L, E, ce, hT, X', hL, e1, e2, hq, hce, hcv, vx_cls hW₁ hcl, st⟩
theorem vx_callFv {S SX : Type} {post : S → Prop} {px : SX → Prop} {B : S → State → Prop} {BX : String → SX → State → Prop} {AX : Nat → Prop} (hr : vx_Run5 p l e R s m args below meth c H locs cells slots mc ms (F0 m pc ls st0) rest (va_Qv post B A1 a) (vx_X px BX AX) free) (hS : va_S A0 H0 H locs) (hA : ∀ q, q < H.size → A1 q → A0 q) (hf : ∀ q, free q → A0 q) (hAX : ∀ q, q < H.size → AX q → A0 q)
    (kx : ∀ (E : String) (ce : Cell) (q9 : Addr) (u : SX) (t : State) (H1 : Heap) (locs1 : List Loc), t.heap = H1 → s.vm.Alike t.vm → px u → BX E u t → H.size ≤ H1.size → (∀ q : Nat, q < H.size → ¬ AX q → H1[q]? = H[q]?) → va_S A0 H0 H1 locs1 → H1[q9]? = some ce → ce.vm = .none → s.vm.findClass E = some ce.cls → vx_W p l e R s m args below meth c H1 locs1 (cells + mc) (slots + ms) Q (F0 m pc ls rest) q9)
    (kk : ∀ (u : S) (t : State) (H1 : Heap) (locs1 : List Loc), t.heap = H1 → s.vm.Alike t.vm → post u → B u t → H.size ≤ H1.size → (∀ q : Nat, q < H.size → ¬ A1 q → H1[q]? = H[q]?) → va_S A0 H0 H1 locs1 → W p l e R s m args below meth c H1 locs1 (cells + mc) (slots + ms) Q (F0 m (pc + 5) ls (rest))) : W p l e R s m args below meth c H locs cells slots Q (F0 m pc ls st0) := by
  intro T hT X
  rcases hr T hT X with ⟨v, st₀, t, T', L, h0, X', hL, e1, e2, ⟨⟨u, hv, hp, hb⟩, hF⟩, st⟩ | ⟨q, st₀, t, T', L, E, ce, h0, X', hL, e1, e2, ⟨u, hp, hb, hF⟩, hce, hcv, hcl, st⟩
  · cases hv
    obtain ⟨k1, k2, k3⟩ := vx_keep h0 e1 hS hA hf hL hF
    obtain ⟨t2, a1, b1⟩ := kk u t T'.heap (locs ++ L) e1.symm (by rw [← e2]; exact X'.warmed.alike) hp hb k1 k2 k3 T' rfl X'
    exact ⟨t2, st t2 a1, b1⟩
  · obtain ⟨k1, k2, k3⟩ := vx_keep h0 e1 hS hAX hf hL hF
    obtain ⟨t2, a1, b1⟩ := kx E ce q u t T'.heap (locs ++ L) e1.symm (by rw [← e2]; exact X'.warmed.alike) hp hb k1 k2 k3 (by rw [e1]; exact hce) hcv hcl T' rfl X'
    exact ⟨t2, st.trans a1, b1⟩
theorem vx_callFi {S SX : Type} {post : Int32 → S → Prop} {px : SX → Prop} {B : S → State → Prop} {BX : String → SX → State → Prop} {AX : Nat → Prop} (hr : vx_Run5 p l e R s m args below meth c H locs cells slots mc ms (F0 m pc ls st0) rest (va_Qi post B A1 a) (vx_X px BX AX) free) (hS : va_S A0 H0 H locs) (hA : ∀ q, q < H.size → A1 q → A0 q) (hf : ∀ q, free q → A0 q) (hAX : ∀ q, q < H.size → AX q → A0 q)
    (kx : ∀ (E : String) (ce : Cell) (q9 : Addr) (u : SX) (t : State) (H1 : Heap) (locs1 : List Loc), t.heap = H1 → s.vm.Alike t.vm → px u → BX E u t → H.size ≤ H1.size → (∀ q : Nat, q < H.size → ¬ AX q → H1[q]? = H[q]?) → va_S A0 H0 H1 locs1 → H1[q9]? = some ce → ce.vm = .none → s.vm.findClass E = some ce.cls → vx_W p l e R s m args below meth c H1 locs1 (cells + mc) (slots + ms) Q (F0 m pc ls rest) q9)
    (kk : ∀ (r : Int32) (u : S) (t : State) (H1 : Heap) (locs1 : List Loc), t.heap = H1 → s.vm.Alike t.vm → post r u → B u t → H.size ≤ H1.size → (∀ q : Nat, q < H.size → ¬ A1 q → H1[q]? = H[q]?) → va_S A0 H0 H1 locs1 → W p l e R s m args below meth c H1 locs1 (cells + mc) (slots + ms) Q (F0 m (pc + 5) ls (.int r :: rest))) : W p l e R s m args below meth c H locs cells slots Q (F0 m pc ls st0) := by
  intro T hT X
  rcases hr T hT X with ⟨v, st₀, t, T', L, h0, X', hL, e1, e2, ⟨⟨r, u, hv, hp, hb⟩, hF⟩, st⟩ | ⟨q, st₀, t, T', L, E, ce, h0, X', hL, e1, e2, ⟨u, hp, hb, hF⟩, hce, hcv, hcl, st⟩
  · cases hv
    obtain ⟨k1, k2, k3⟩ := vx_keep h0 e1 hS hA hf hL hF
    obtain ⟨t2, a1, b1⟩ := kk r u t T'.heap (locs ++ L) e1.symm (by rw [← e2]; exact X'.warmed.alike) hp hb k1 k2 k3 T' rfl X'
    exact ⟨t2, st t2 a1, b1⟩
  · obtain ⟨k1, k2, k3⟩ := vx_keep h0 e1 hS hAX hf hL hF
    obtain ⟨t2, a1, b1⟩ := kx E ce q u t T'.heap (locs ++ L) e1.symm (by rw [← e2]; exact X'.warmed.alike) hp hb k1 k2 k3 (by rw [e1]; exact hce) hcv hcl T' rfl X'
    exact ⟨t2, st.trans a1, b1⟩
theorem vx_callFl {S SX : Type} {post : Int64 → S → Prop} {px : SX → Prop} {B : S → State → Prop} {BX : String → SX → State → Prop} {AX : Nat → Prop} (hr : vx_Run5 p l e R s m args below meth c H locs cells slots mc ms (F0 m pc ls st0) rest (va_Ql post B A1 a) (vx_X px BX AX) free) (hS : va_S A0 H0 H locs) (hA : ∀ q, q < H.size → A1 q → A0 q) (hf : ∀ q, free q → A0 q) (hAX : ∀ q, q < H.size → AX q → A0 q)
    (kx : ∀ (E : String) (ce : Cell) (q9 : Addr) (u : SX) (t : State) (H1 : Heap) (locs1 : List Loc), t.heap = H1 → s.vm.Alike t.vm → px u → BX E u t → H.size ≤ H1.size → (∀ q : Nat, q < H.size → ¬ AX q → H1[q]? = H[q]?) → va_S A0 H0 H1 locs1 → H1[q9]? = some ce → ce.vm = .none → s.vm.findClass E = some ce.cls → vx_W p l e R s m args below meth c H1 locs1 (cells + mc) (slots + ms) Q (F0 m pc ls rest) q9)
    (kk : ∀ (r : Int64) (u : S) (t : State) (H1 : Heap) (locs1 : List Loc), t.heap = H1 → s.vm.Alike t.vm → post r u → B u t → H.size ≤ H1.size → (∀ q : Nat, q < H.size → ¬ A1 q → H1[q]? = H[q]?) → va_S A0 H0 H1 locs1 → W p l e R s m args below meth c H1 locs1 (cells + mc) (slots + ms) Q (F0 m (pc + 5) ls (.long r :: rest))) : W p l e R s m args below meth c H locs cells slots Q (F0 m pc ls st0) := by
  intro T hT X
  rcases hr T hT X with ⟨v, st₀, t, T', L, h0, X', hL, e1, e2, ⟨⟨r, u, hv, hp, hb⟩, hF⟩, st⟩ | ⟨q, st₀, t, T', L, E, ce, h0, X', hL, e1, e2, ⟨u, hp, hb, hF⟩, hce, hcv, hcl, st⟩
  · cases hv
    obtain ⟨k1, k2, k3⟩ := vx_keep h0 e1 hS hA hf hL hF
    obtain ⟨t2, a1, b1⟩ := kk r u t T'.heap (locs ++ L) e1.symm (by rw [← e2]; exact X'.warmed.alike) hp hb k1 k2 k3 T' rfl X'
    exact ⟨t2, st t2 a1, b1⟩
  · obtain ⟨k1, k2, k3⟩ := vx_keep h0 e1 hS hAX hf hL hF
    obtain ⟨t2, a1, b1⟩ := kx E ce q u t T'.heap (locs ++ L) e1.symm (by rw [← e2]; exact X'.warmed.alike) hp hb k1 k2 k3 (by rw [e1]; exact hce) hcv hcl T' rfl X'
    exact ⟨t2, st.trans a1, b1⟩
theorem vx_callFf {S SX : Type} {post : UInt32 → S → Prop} {px : SX → Prop} {B : S → State → Prop} {BX : String → SX → State → Prop} {AX : Nat → Prop} (hr : vx_Run5 p l e R s m args below meth c H locs cells slots mc ms (F0 m pc ls st0) rest (va_Qf post B A1 a) (vx_X px BX AX) free) (hS : va_S A0 H0 H locs) (hA : ∀ q, q < H.size → A1 q → A0 q) (hf : ∀ q, free q → A0 q) (hAX : ∀ q, q < H.size → AX q → A0 q)
    (kx : ∀ (E : String) (ce : Cell) (q9 : Addr) (u : SX) (t : State) (H1 : Heap) (locs1 : List Loc), t.heap = H1 → s.vm.Alike t.vm → px u → BX E u t → H.size ≤ H1.size → (∀ q : Nat, q < H.size → ¬ AX q → H1[q]? = H[q]?) → va_S A0 H0 H1 locs1 → H1[q9]? = some ce → ce.vm = .none → s.vm.findClass E = some ce.cls → vx_W p l e R s m args below meth c H1 locs1 (cells + mc) (slots + ms) Q (F0 m pc ls rest) q9)
    (kk : ∀ (r : UInt32) (u : S) (t : State) (H1 : Heap) (locs1 : List Loc), t.heap = H1 → s.vm.Alike t.vm → post r u → B u t → H.size ≤ H1.size → (∀ q : Nat, q < H.size → ¬ A1 q → H1[q]? = H[q]?) → va_S A0 H0 H1 locs1 → W p l e R s m args below meth c H1 locs1 (cells + mc) (slots + ms) Q (F0 m (pc + 5) ls (.float r :: rest))) : W p l e R s m args below meth c H locs cells slots Q (F0 m pc ls st0) := by
  intro T hT X
  rcases hr T hT X with ⟨v, st₀, t, T', L, h0, X', hL, e1, e2, ⟨⟨r, u, hv, hp, hb⟩, hF⟩, st⟩ | ⟨q, st₀, t, T', L, E, ce, h0, X', hL, e1, e2, ⟨u, hp, hb, hF⟩, hce, hcv, hcl, st⟩
  · cases hv
    obtain ⟨k1, k2, k3⟩ := vx_keep h0 e1 hS hA hf hL hF
    obtain ⟨t2, a1, b1⟩ := kk r u t T'.heap (locs ++ L) e1.symm (by rw [← e2]; exact X'.warmed.alike) hp hb k1 k2 k3 T' rfl X'
    exact ⟨t2, st t2 a1, b1⟩
  · obtain ⟨k1, k2, k3⟩ := vx_keep h0 e1 hS hAX hf hL hF
    obtain ⟨t2, a1, b1⟩ := kx E ce q u t T'.heap (locs ++ L) e1.symm (by rw [← e2]; exact X'.warmed.alike) hp hb k1 k2 k3 (by rw [e1]; exact hce) hcv hcl T' rfl X'
    exact ⟨t2, st.trans a1, b1⟩
theorem vx_callFd {S SX : Type} {post : UInt64 → S → Prop} {px : SX → Prop} {B : S → State → Prop} {BX : String → SX → State → Prop} {AX : Nat → Prop} (hr : vx_Run5 p l e R s m args below meth c H locs cells slots mc ms (F0 m pc ls st0) rest (va_Qd post B A1 a) (vx_X px BX AX) free) (hS : va_S A0 H0 H locs) (hA : ∀ q, q < H.size → A1 q → A0 q) (hf : ∀ q, free q → A0 q) (hAX : ∀ q, q < H.size → AX q → A0 q)
    (kx : ∀ (E : String) (ce : Cell) (q9 : Addr) (u : SX) (t : State) (H1 : Heap) (locs1 : List Loc), t.heap = H1 → s.vm.Alike t.vm → px u → BX E u t → H.size ≤ H1.size → (∀ q : Nat, q < H.size → ¬ AX q → H1[q]? = H[q]?) → va_S A0 H0 H1 locs1 → H1[q9]? = some ce → ce.vm = .none → s.vm.findClass E = some ce.cls → vx_W p l e R s m args below meth c H1 locs1 (cells + mc) (slots + ms) Q (F0 m pc ls rest) q9)
    (kk : ∀ (r : UInt64) (u : S) (t : State) (H1 : Heap) (locs1 : List Loc), t.heap = H1 → s.vm.Alike t.vm → post r u → B u t → H.size ≤ H1.size → (∀ q : Nat, q < H.size → ¬ A1 q → H1[q]? = H[q]?) → va_S A0 H0 H1 locs1 → W p l e R s m args below meth c H1 locs1 (cells + mc) (slots + ms) Q (F0 m (pc + 5) ls (.double r :: rest))) : W p l e R s m args below meth c H locs cells slots Q (F0 m pc ls st0) := by
  intro T hT X
  rcases hr T hT X with ⟨v, st₀, t, T', L, h0, X', hL, e1, e2, ⟨⟨r, u, hv, hp, hb⟩, hF⟩, st⟩ | ⟨q, st₀, t, T', L, E, ce, h0, X', hL, e1, e2, ⟨u, hp, hb, hF⟩, hce, hcv, hcl, st⟩
  · cases hv
    obtain ⟨k1, k2, k3⟩ := vx_keep h0 e1 hS hA hf hL hF
    obtain ⟨t2, a1, b1⟩ := kk r u t T'.heap (locs ++ L) e1.symm (by rw [← e2]; exact X'.warmed.alike) hp hb k1 k2 k3 T' rfl X'
    exact ⟨t2, st t2 a1, b1⟩
  · obtain ⟨k1, k2, k3⟩ := vx_keep h0 e1 hS hAX hf hL hF
    obtain ⟨t2, a1, b1⟩ := kx E ce q u t T'.heap (locs ++ L) e1.symm (by rw [← e2]; exact X'.warmed.alike) hp hb k1 k2 k3 (by rw [e1]; exact hce) hcv hcl T' rfl X'
    exact ⟨t2, st.trans a1, b1⟩
end
/-! ===== END ===== -/
/-! ===== BEGIN by an interface, a method with a table of its own that may throw (follows va_callIFW, va_runFW) ===== -/
section
variable {p : Program} {l : Launch} {e : Env} {R : Room} {s : State} {m : MethodId} {args : Array Value} {below : List Frame} {meth : Method} {c : Code} {H : Heap} {locs : List Loc} {cells slots : Nat}
theorem vx_callIFW {T : State} (X : Stand p l e R s m args below meth c T locs cells slots) (hexec : p.tables.exec = Jvm.exec) {own C : String} {index count : Nat} {x y : MethodName} {bytes : ByteArray} {maxL : Nat} {ret : Option FieldType} {hh : List (Nat × Nat × Nat × Nat)}
    (hown : s.vm.findClass own = some m.cls) (hlink : (Cond.methodLink own index x).before args s = true) (hdecl : (Cond.declares x).before args s = true) (hface : (Cond.interfaceMethod x.cls x.cls x.name x.desc).before args s = true)
    (hsel : (Cond.selects C x y).before args s = true) (hinst : (Cond.instanceMethod y).before args s = true) (hpub : (Cond.publicMethod y).before args s = true) (hunh : (Cond.unhidden C x.name x.desc).before args s = true)
    (hcast : (Cond.castable C x.cls).before args s = true) (hcode : (Cond.codeWith y bytes maxL ret hh).before args s = true) (hx : x.cls ≠ "java/lang/invoke/MethodHandle" ∧ x.cls ≠ "java/lang/invoke/VarHandle")
    {W : Nat} {Pre : Pt → Array Value → Prop} {Post : Pt → Array Value → Option Value → Pt → Prop} {PostX : Pt → Array Value → Addr → Pt → Prop} (hK : vx_Back l R p e below s args y 5 W Pre Post PostX)
    {b : Addr} {cellB : Cell} {kB : Class} (hcell : T.heap[b]? = some cellB) (hobj : cellB.vm.isStatics = false) (hcls : s.vm.findClass C = some cellB.cls) (hkB : s.vm.classes[cellB.cls]? = some kB)
    {g : JFrame} (hg : g.method = m) (hsize : g.locals.size = c.maxLocals) {argsL rest : List Value} (hlen : ∀ sig, parseMethodDescriptor x.desc = some sig → argsL.length = sig.parameters.length)
    (hstack : g.stack = argsL.reverse ++ .ref b :: rest) (hW : 2 * g.monitorRoom + (rest.map fun v => v.category).sum ≤ W) (hdg : decode c.code g.pc = .ok (.invokeinterface index count, 5))
    (hpre : ∀ vm₁, s.WarmedH vm₁ → Pre ⟨T.setVm vm₁, locs, cells, slots⟩ (Value.ref b :: argsL).toArray) :
    (∃ (v : Option Value) (vm₁ : Vm) (B : Pt), s.WarmedH vm₁ ∧ Stand p l e R s m args below meth c B.U B.locs B.cells B.slots ∧ Post ⟨T.setVm vm₁, locs, cells, slots⟩ (Value.ref b :: argsL).toArray v B ∧
      ∀ target, Steps p.tables e below (B.U.setTop { g with pc := g.pc + 5, stack := v.toList ++ rest }) target → Steps p.tables e below (T.setTop g) target) ∨
    (∃ (q : Addr) (vm₁ : Vm) (B : Pt), s.WarmedH vm₁ ∧ Stand p l e R s m args below meth c B.U B.locs B.cells B.slots ∧ PostX ⟨T.setVm vm₁, locs, cells, slots⟩ (Value.ref b :: argsL).toArray q B ∧
      Steps p.tables e below (T.setTop g) ((B.U.setTop { g with stack := rest }).pushFrame (.throwing q))) := by
  obtain ⟨r0, r, hn, hrm, hstR, hsigR⟩ := Cond.declares_spec hdecl
  obtain ⟨cL, kL, r1, hcL, hkL, hiL, hfoundL, hn1⟩ := Cond.interfaceMethod_spec hface
  cases hn.symm.trans hn1
  have hr0cls : r0.cls = cL := Option.some.inj ((findClass_of_methodNamed hn).symm.trans hcL)
  obtain ⟨hnameR, hdescR⟩ := name_of_methodNamed hn hrm
  obtain ⟨mk, methM, hnamed, hmethM, -, habM⟩ := Cond.instanceMethod_spec hinst
  obtain ⟨c2, r2, m2, q1, q2, q3, q4, -⟩ := Cond.selects_spec hsel
  cases hcls.symm.trans q1
  cases hfoundL.symm.trans q2
  cases hnamed.symm.trans q3
  have hselP : selectMethod e.platform s.vm cellB.cls r0 = .method mk := by rw [Launch.admits_selectMethod X.admits]; exact q4
  have hpubM : hasFlag methM.accessFlags Acc.public_ = true := Cond.publicMethod_spec hnamed hmethM hpub
  have hway : ((cellB.cls :: s.vm.superclasses cellB.cls).any fun k => (declaredIn s.vm r.name r.desc k).any fun (_, z) => z.isPrivate || z.isStatic) = false := by
    rw [hnameR, hdescR]; exact Cond.unhidden_spec hcls hunh
  obtain ⟨c3, t3, w1, w2, w3⟩ := Cond.castable_spec hcast
  cases hcls.symm.trans w1
  cases hcL.symm.trans w2
  obtain ⟨vm₁, X₁, hstep₁⟩ := X.invokeinterface hexec hown hlink hn hrm hstR (by rw [hr0cls]; exact hkL) hiL hx (a := b) (cell := cellB) (kcell := kB) hcell
    (fun z h => by rw [h] at hobj; cases hobj) hkB (by rw [hr0cls]; exact w3) hselP hmethM hway hpubM habM (g := g) hg (argsL := argsL) (rest := rest) (hlen _ hsigR) hstack hdg
  rcases hK m meth c ⟨T.setVm vm₁, locs, cells, slots⟩ { g with stack := rest } (.invokeinterface index count) mk (Value.ref b :: argsL).toArray X₁ hg hsize hdg hW (X₁.named hnamed) (hpre vm₁ X₁.warmed) with ⟨v, B, X', hpost, hsteps⟩ | ⟨q, B, X', hpost, hsteps⟩
  · exact Or.inl ⟨v, vm₁, B, X₁.warmed, X', hpost, fun target h => hstep₁ _ fun acts => by rw [doInvoke_state]; exact hsteps.trans h⟩
  · exact Or.inr ⟨q, vm₁, B, X₁.warmed, X', hpost, hstep₁ _ fun acts => by rw [doInvoke_state]; exact hsteps⟩
theorem vx_runFW {x y : MethodName} {bytes cc : ByteArray} {maxL nL mc ms n index count : Nat} {ret : Option FieldType} {hh : List (Nat × Nat × Nat × Nat)} {ws : List Cond} {rm : Room} {Pc : Array Value → State → Prop} {Qc : Array Value → State → Outcome → State → Prop} {XC : String → State → State → Prop} {free : Addr → Prop} {Ts : List Cond} {own C : String} {cC : ClassId} {b : Addr} {As rest : List Value} {g : JFrame}
    (hat : ClassAt s C cC) (S : CallFix p m c cc nL s args Ts own) (hM : vx_Met l y ws rm Pc Qc XC mc ms free) (cw : va_CIW R s args own C index x y bytes maxL ret hh ws rm mc ms n) (hp : PreV s H C b Pc As)
    (hg : g.method = m) (hn : As.length = n) (hsize : g.locals.size = nL) (hstack : g.stack = As.reverse ++ .ref b :: rest) (hW : 2 * g.monitorRoom + (rest.map fun v => v.category).sum ≤ 8) (hdg : decode cc g.pc = .ok (.invokeinterface index count, 5)) (hf : cells + mc ≤ R.cells ∧ slots + ms ≤ R.slots) :
    vx_Run5 p l e R s m args below meth c H locs cells slots mc ms g rest (Qc (Value.ref b :: As).toArray) XC free := by
  obtain ⟨hrc, hrs, hfr, hlo, hws, hcw⟩ := cw.back
  have hini := cw.init
  have hK : vx_Back l R p e below s args y 5 8 (PreOf R mc ms Pc) (PostOf Qc mc ms free) (vx_Post XC mc ms free) := vx_backW (hh := hh) (bytes := bytes) (maxL := maxL) (ret := ret) hM hp.1 hrc hrs hfr hlo hws hcw (fun a' U hW => word_at hW (Or.inl (by first | rfl | simp [Cond.onTables, Cond.keeps, Cond.steady])) hini)
  obtain ⟨hx, hb, hml, ho, -⟩ := S
  obtain ⟨-, ⟨cellB, hcB, hoB, hclB⟩, hPc⟩ := hp
  obtain ⟨hfc, kB, hkB, -⟩ := hat
  cases hfc.symm.trans hclB
  intro T hT X
  rcases vx_callIFW X hx (C := C) (hh := hh) (bytes := bytes) (maxL := maxL) (ret := ret) ho cw.link cw.decl cw.face cw.sel cw.inst cw.pub cw.unh cw.cast cw.code cw.notMH hK (by rw [hT]; exact hcB) hoB hclB hkB hg (hsize.trans hml.symm) (argsL := As) (rest := rest) (fun sig h => hn.trans (cw.len sig h)) hstack hW (by rw [hb]; exact hdg)
    (fun vm₁ hW₁ => ⟨hf.1, hf.2, hPc (T.setVm vm₁) hT hW₁⟩) with ⟨v, vm₁, ⟨U', l2, c2, s2⟩, hW₁, X', ⟨g', mk, t, L, e1, e2, hq, h1, hL, h2, h3⟩, st⟩ | ⟨q, vm₁, ⟨U', l2, c2, s2⟩, hW₁, X', ⟨g', mk, t, L, E, ce, e1, e2, hq, hce, hcv, hcl, h1, hL, h2, h3⟩, st⟩
  · dsimp only [Pt.U, Pt.locs, Pt.cells, Pt.slots] at X' e1 e2 h1 h2 h3 st
    subst h1; subst h2; subst h3
    exact Or.inl ⟨v, (T.setVm vm₁).calling g' mk (Value.ref b :: As).toArray, t, U', L, hT, X', hL, e1, e2, hq, st⟩
  · dsimp only [Pt.U, Pt.locs, Pt.cells, Pt.slots] at X' e1 e2 h1 h2 h3 st hcl
    subst h1; subst h2; subst h3
    exact Or.inr ⟨q, (T.setVm vm₁).calling g' mk (Value.ref b :: As).toArray, t, U', L, E, ce, hT, X', hL, e1, e2, hq, hce, hcv, vx_cls hW₁ hcl, st⟩
end
/-! ===== END ===== -/
/-! ===== BEGIN .. of methods that hand back an object of the pool ===== -/
section
variable {p : Program} {l : Launch} {e : Env} {R : Room} {s : State} {m : MethodId} {args : Array Value} {below : List Frame} {meth : Method} {c : Code} {H : Heap} {locs : List Loc} {cells slots : Nat} {Q : State → Prop}
variable {mc ms : Nat} {free : Addr → Prop} {A0 A1 : Nat → Prop} {H0 : Heap} {a : Array Value} {pc : Nat} {ls : Array Slot} {st0 rest : List Value}
theorem vx_callq {S SX : Type} {post : Option Nat → S → Prop} {px : SX → Prop} {B : S → State → Prop} {BX : String → SX → State → Prop} {AX : Nat → Prop} (hr : vx_Run p l e R s m args below meth c H locs cells slots mc ms (F0 m pc ls st0) rest (va_Qq post B A1 a) (vx_X px BX AX) free) (hS : va_S A0 H0 H locs) (hA : ∀ q, q < H.size → A1 q → A0 q) (hf : ∀ q, free q → A0 q) (hAX : ∀ q, q < H.size → AX q → A0 q)
    (kx : ∀ (E : String) (ce : Cell) (q9 : Addr) (u : SX) (t : State) (H1 : Heap) (locs1 : List Loc), t.heap = H1 → s.vm.Alike t.vm → px u → BX E u t → H.size ≤ H1.size → (∀ q : Nat, q < H.size → ¬ AX q → H1[q]? = H[q]?) → va_S A0 H0 H1 locs1 → H1[q9]? = some ce → ce.vm = .none → s.vm.findClass E = some ce.cls → vx_W p l e R s m args below meth c H1 locs1 (cells + mc) (slots + ms) Q (F0 m pc ls rest) q9)
    (kk : ∀ (r : Option Nat) (u : S) (t : State) (H1 : Heap) (locs1 : List Loc), t.heap = H1 → s.vm.Alike t.vm → post r u → B u t → H.size ≤ H1.size → (∀ q : Nat, q < H.size → ¬ A1 q → H1[q]? = H[q]?) → va_S A0 H0 H1 locs1 → W p l e R s m args below meth c H1 locs1 (cells + mc) (slots + ms) Q (F0 m (pc + 3) ls (va_rf r :: rest))) : W p l e R s m args below meth c H locs cells slots Q (F0 m pc ls st0) := by
  intro T hT X
  rcases hr T hT X with ⟨v, st₀, t, T', L, h0, X', hL, e1, e2, ⟨⟨r, u, hv, hp, hb⟩, hF⟩, st⟩ | ⟨q, st₀, t, T', L, E, ce, h0, X', hL, e1, e2, ⟨u, hp, hb, hF⟩, hce, hcv, hcl, st⟩
  · cases hv
    obtain ⟨k1, k2, k3⟩ := vx_keep h0 e1 hS hA hf hL hF
    obtain ⟨t2, a1, b1⟩ := kk r u t T'.heap (locs ++ L) e1.symm (by rw [← e2]; exact X'.warmed.alike) hp hb k1 k2 k3 T' rfl X'
    exact ⟨t2, st t2 a1, b1⟩
  · obtain ⟨k1, k2, k3⟩ := vx_keep h0 e1 hS hAX hf hL hF
    obtain ⟨t2, a1, b1⟩ := kx E ce q u t T'.heap (locs ++ L) e1.symm (by rw [← e2]; exact X'.warmed.alike) hp hb k1 k2 k3 (by rw [e1]; exact hce) hcv hcl T' rfl X'
    exact ⟨t2, st.trans a1, b1⟩
end
/-! ===== END ===== -/
/-! ===== BEGIN .. a constant ===== -/
section
variable {p : Program} {l : Launch} {e : Env} {R : Room} {s : State} {m : MethodId} {args : Array Value} {below : List Frame} {meth : Method} {c : Code} {H : Heap} {locs : List Loc} {cells slots : Nat} {Q : State → Prop}
variable {mc ms : Nat} {free : Addr → Prop} {A0 A1 : Nat → Prop} {H0 : Heap} {a : Array Value} {pc : Nat} {ls : Array Slot} {st0 rest : List Value}
theorem vx_calle {ad : Nat → Nat} {S SX : Type} {post : Option Nat → S → Prop} {px : SX → Prop} {B : S → State → Prop} {BX : String → SX → State → Prop} {AX : Nat → Prop} (hr : vx_Run p l e R s m args below meth c H locs cells slots mc ms (F0 m pc ls st0) rest (va_Qe ad post B A1 a) (vx_X px BX AX) free) (hS : va_S A0 H0 H locs) (hA : ∀ q, q < H.size → A1 q → A0 q) (hf : ∀ q, free q → A0 q) (hAX : ∀ q, q < H.size → AX q → A0 q)
    (kx : ∀ (E : String) (ce : Cell) (q9 : Addr) (u : SX) (t : State) (H1 : Heap) (locs1 : List Loc), t.heap = H1 → s.vm.Alike t.vm → px u → BX E u t → H.size ≤ H1.size → (∀ q : Nat, q < H.size → ¬ AX q → H1[q]? = H[q]?) → va_S A0 H0 H1 locs1 → H1[q9]? = some ce → ce.vm = .none → s.vm.findClass E = some ce.cls → vx_W p l e R s m args below meth c H1 locs1 (cells + mc) (slots + ms) Q (F0 m pc ls rest) q9)
    (kk : ∀ (r : Option Nat) (u : S) (t : State) (H1 : Heap) (locs1 : List Loc), t.heap = H1 → s.vm.Alike t.vm → post r u → B u t → H.size ≤ H1.size → (∀ q : Nat, q < H.size → ¬ A1 q → H1[q]? = H[q]?) → va_S A0 H0 H1 locs1 → W p l e R s m args below meth c H1 locs1 (cells + mc) (slots + ms) Q (F0 m (pc + 3) ls (va_re ad r :: rest))) : W p l e R s m args below meth c H locs cells slots Q (F0 m pc ls st0) := by
  intro T hT X
  rcases hr T hT X with ⟨v, st₀, t, T', L, h0, X', hL, e1, e2, ⟨⟨r, u, hv, hp, hb⟩, hF⟩, st⟩ | ⟨q, st₀, t, T', L, E, ce, h0, X', hL, e1, e2, ⟨u, hp, hb, hF⟩, hce, hcv, hcl, st⟩
  · cases hv
    obtain ⟨k1, k2, k3⟩ := vx_keep h0 e1 hS hA hf hL hF
    obtain ⟨t2, a1, b1⟩ := kk r u t T'.heap (locs ++ L) e1.symm (by rw [← e2]; exact X'.warmed.alike) hp hb k1 k2 k3 T' rfl X'
    exact ⟨t2, st t2 a1, b1⟩
  · obtain ⟨k1, k2, k3⟩ := vx_keep h0 e1 hS hAX hf hL hF
    obtain ⟨t2, a1, b1⟩ := kx E ce q u t T'.heap (locs ++ L) e1.symm (by rw [← e2]; exact X'.warmed.alike) hp hb k1 k2 k3 (by rw [e1]; exact hce) hcv hcl T' rfl X'
    exact ⟨t2, st.trans a1, b1⟩
end
/-! ===== END ===== -/
/-! ===== BEGIN .. by an interface, an object ===== -/
section
variable {p : Program} {l : Launch} {e : Env} {R : Room} {s : State} {m : MethodId} {args : Array Value} {below : List Frame} {meth : Method} {c : Code} {H : Heap} {locs : List Loc} {cells slots : Nat} {Q : State → Prop}
variable {mc ms : Nat} {free : Addr → Prop} {A0 A1 : Nat → Prop} {H0 : Heap} {a : Array Value} {pc : Nat} {ls : Array Slot} {st0 rest : List Value}
theorem vx_callFq {S SX : Type} {post : Option Nat → S → Prop} {px : SX → Prop} {B : S → State → Prop} {BX : String → SX → State → Prop} {AX : Nat → Prop} (hr : vx_Run5 p l e R s m args below meth c H locs cells slots mc ms (F0 m pc ls st0) rest (va_Qq post B A1 a) (vx_X px BX AX) free) (hS : va_S A0 H0 H locs) (hA : ∀ q, q < H.size → A1 q → A0 q) (hf : ∀ q, free q → A0 q) (hAX : ∀ q, q < H.size → AX q → A0 q)
    (kx : ∀ (E : String) (ce : Cell) (q9 : Addr) (u : SX) (t : State) (H1 : Heap) (locs1 : List Loc), t.heap = H1 → s.vm.Alike t.vm → px u → BX E u t → H.size ≤ H1.size → (∀ q : Nat, q < H.size → ¬ AX q → H1[q]? = H[q]?) → va_S A0 H0 H1 locs1 → H1[q9]? = some ce → ce.vm = .none → s.vm.findClass E = some ce.cls → vx_W p l e R s m args below meth c H1 locs1 (cells + mc) (slots + ms) Q (F0 m pc ls rest) q9)
    (kk : ∀ (r : Option Nat) (u : S) (t : State) (H1 : Heap) (locs1 : List Loc), t.heap = H1 → s.vm.Alike t.vm → post r u → B u t → H.size ≤ H1.size → (∀ q : Nat, q < H.size → ¬ A1 q → H1[q]? = H[q]?) → va_S A0 H0 H1 locs1 → W p l e R s m args below meth c H1 locs1 (cells + mc) (slots + ms) Q (F0 m (pc + 5) ls (va_rf r :: rest))) : W p l e R s m args below meth c H locs cells slots Q (F0 m pc ls st0) := by
  intro T hT X
  rcases hr T hT X with ⟨v, st₀, t, T', L, h0, X', hL, e1, e2, ⟨⟨r, u, hv, hp, hb⟩, hF⟩, st⟩ | ⟨q, st₀, t, T', L, E, ce, h0, X', hL, e1, e2, ⟨u, hp, hb, hF⟩, hce, hcv, hcl, st⟩
  · cases hv
    obtain ⟨k1, k2, k3⟩ := vx_keep h0 e1 hS hA hf hL hF
    obtain ⟨t2, a1, b1⟩ := kk r u t T'.heap (locs ++ L) e1.symm (by rw [← e2]; exact X'.warmed.alike) hp hb k1 k2 k3 T' rfl X'
    exact ⟨t2, st t2 a1, b1⟩
  · obtain ⟨k1, k2, k3⟩ := vx_keep h0 e1 hS hAX hf hL hF
    obtain ⟨t2, a1, b1⟩ := kx E ce q u t T'.heap (locs ++ L) e1.symm (by rw [← e2]; exact X'.warmed.alike) hp hb k1 k2 k3 (by rw [e1]; exact hce) hcv hcl T' rfl X'
    exact ⟨t2, st.trans a1, b1⟩
end
/-! ===== END ===== -/
/-! ===== BEGIN .. by an interface, a constant ===== -/
section
variable {p : Program} {l : Launch} {e : Env} {R : Room} {s : State} {m : MethodId} {args : Array Value} {below : List Frame} {meth : Method} {c : Code} {H : Heap} {locs : List Loc} {cells slots : Nat} {Q : State → Prop}
variable {mc ms : Nat} {free : Addr → Prop} {A0 A1 : Nat → Prop} {H0 : Heap} {a : Array Value} {pc : Nat} {ls : Array Slot} {st0 rest : List Value}
theorem vx_callFe {ad : Nat → Nat} {S SX : Type} {post : Option Nat → S → Prop} {px : SX → Prop} {B : S → State → Prop} {BX : String → SX → State → Prop} {AX : Nat → Prop} (hr : vx_Run5 p l e R s m args below meth c H locs cells slots mc ms (F0 m pc ls st0) rest (va_Qe ad post B A1 a) (vx_X px BX AX) free) (hS : va_S A0 H0 H locs) (hA : ∀ q, q < H.size → A1 q → A0 q) (hf : ∀ q, free q → A0 q) (hAX : ∀ q, q < H.size → AX q → A0 q)
    (kx : ∀ (E : String) (ce : Cell) (q9 : Addr) (u : SX) (t : State) (H1 : Heap) (locs1 : List Loc), t.heap = H1 → s.vm.Alike t.vm → px u → BX E u t → H.size ≤ H1.size → (∀ q : Nat, q < H.size → ¬ AX q → H1[q]? = H[q]?) → va_S A0 H0 H1 locs1 → H1[q9]? = some ce → ce.vm = .none → s.vm.findClass E = some ce.cls → vx_W p l e R s m args below meth c H1 locs1 (cells + mc) (slots + ms) Q (F0 m pc ls rest) q9)
    (kk : ∀ (r : Option Nat) (u : S) (t : State) (H1 : Heap) (locs1 : List Loc), t.heap = H1 → s.vm.Alike t.vm → post r u → B u t → H.size ≤ H1.size → (∀ q : Nat, q < H.size → ¬ A1 q → H1[q]? = H[q]?) → va_S A0 H0 H1 locs1 → W p l e R s m args below meth c H1 locs1 (cells + mc) (slots + ms) Q (F0 m (pc + 5) ls (va_re ad r :: rest))) : W p l e R s m args below meth c H locs cells slots Q (F0 m pc ls st0) := by
  intro T hT X
  rcases hr T hT X with ⟨v, st₀, t, T', L, h0, X', hL, e1, e2, ⟨⟨r, u, hv, hp, hb⟩, hF⟩, st⟩ | ⟨q, st₀, t, T', L, E, ce, h0, X', hL, e1, e2, ⟨u, hp, hb, hF⟩, hce, hcv, hcl, st⟩
  · cases hv
    obtain ⟨k1, k2, k3⟩ := vx_keep h0 e1 hS hA hf hL hF
    obtain ⟨t2, a1, b1⟩ := kk r u t T'.heap (locs ++ L) e1.symm (by rw [← e2]; exact X'.warmed.alike) hp hb k1 k2 k3 T' rfl X'
    exact ⟨t2, st t2 a1, b1⟩
  · obtain ⟨k1, k2, k3⟩ := vx_keep h0 e1 hS hAX hf hL hF
    obtain ⟨t2, a1, b1⟩ := kx E ce q u t T'.heap (locs ++ L) e1.symm (by rw [← e2]; exact X'.warmed.alike) hp hb k1 k2 k3 (by rw [e1]; exact hce) hcv hcl T' rfl X'
    exact ⟨t2, st.trans a1, b1⟩
end
/-! ===== END ===== -/
/-! ===== BEGIN what the machine throws by itself: null at a field, at athrow ===== -/
section VXM2
variable {p : Program} {l : Launch} {e : Env} {R : Room} {s : State} {m : MethodId} {args : Array Value} {below : List Frame} {meth : Method} {c : Code} {H : Heap} {locs : List Loc} {cells slots : Nat}
variable {Q : State → Prop} {cc : ByteArray} {pc : Nat} {ls : Array Slot} {rest : List Value}
theorem vx_getfN {D cl tys} {own ref C : String} {T : u_T} {N ci index : Nat} {Ts : List Cond} (hexec : p.tables.exec = Jvm.exec) (hb : c.code = cc) (hts : ∀ w ∈ Ts, w.before args s = true) (hin : ∀ w ∈ u_ws C T N, w ∈ Ts) (hown : s.vm.findClass own = some m.cls) (hK : va_K D cl tys s) (hc : cl[ci]? = some (C, T, N)) (k : Nat) (hk : k < N) (hlink : (Cond.fieldLink own index ref (T k).2.1 (T k).2.2.1).before args s = true) (hsame : ∀ x, s.fieldFound? (T k).1 (T k).2.1 (T k).2.2.1 = some x → s.fieldFound? ref (T k).2.1 (T k).2.2.1 = some x) (hdg : decode cc pc = .ok (.getfield index, 3)) (kk : vx_NoteN p l e R s m args below meth c H locs cells slots Q (F0 m pc ls rest)) : W p l e R s m args below meth c H locs cells slots Q (F0 m pc ls (.null :: rest)) := by
  obtain ⟨hS, hfc, kC, hkC, -⟩ := hK.1 ci _ hc
  obtain ⟨cf, kf, fi, f, hi, -⟩ := hS k hk
  intro U hU X
  obtain ⟨vm', X1, st1⟩ := X.getfieldNull hexec hown hlink (hsame _ hi) (u_facts hfc hkC (u_lays hts hin hk) hi).1 (g := F0 m pc ls (.null :: rest)) rfl (rest := rest) rfl (by rw [hb]; exact hdg)
  obtain ⟨t, st, q⟩ := kk (U.setVm vm') hU X1
  exact ⟨t, st1 t st, q⟩
theorem vx_getfNN {D cl tys} {own ref C host : String} {T : u_T} {N ci index : Nat} {Ts : List Cond} (hexec : p.tables.exec = Jvm.exec) (hb : c.code = cc) (hts : ∀ w ∈ Ts, w.before args s = true) (hin : ∀ w ∈ u_ws C T N, w ∈ Ts) (hown : s.vm.findClass own = some m.cls) (hK : va_K D cl tys s) (hc : cl[ci]? = some (C, T, N)) (k : Nat) (hk : k < N) (hlink : (Cond.fieldLinkNest own index ref (T k).2.1 (T k).2.2.1 host).before args s = true) (hsame : ∀ x, s.fieldFound? (T k).1 (T k).2.1 (T k).2.2.1 = some x → s.fieldFound? ref (T k).2.1 (T k).2.2.1 = some x) (hdg : decode cc pc = .ok (.getfield index, 3)) (kk : vx_NoteN p l e R s m args below meth c H locs cells slots Q (F0 m pc ls rest)) : W p l e R s m args below meth c H locs cells slots Q (F0 m pc ls (.null :: rest)) := by
  obtain ⟨hS, hfc, kC, hkC, -⟩ := hK.1 ci _ hc
  obtain ⟨cf, kf, fi, f, hi, -⟩ := hS k hk
  intro U hU X
  obtain ⟨vm', X1, st1⟩ := X.getfieldNullNest hexec hown hlink (hsame _ hi) (u_facts hfc hkC (u_lays hts hin hk) hi).1 (g := F0 m pc ls (.null :: rest)) rfl (rest := rest) rfl (by rw [hb]; exact hdg)
  obtain ⟨t, st, q⟩ := kk (U.setVm vm') hU X1
  exact ⟨t, st1 t st, q⟩
theorem vx_putfN {D cl tys} {own ref C : String} {T : u_T} {N ci index : Nat} {Ts : List Cond} (hexec : p.tables.exec = Jvm.exec) (hb : c.code = cc) (hts : ∀ w ∈ Ts, w.before args s = true) (hin : ∀ w ∈ u_ws C T N, w ∈ Ts) (hown : s.vm.findClass own = some m.cls) (hK : va_K D cl tys s) (hc : cl[ci]? = some (C, T, N)) (k : Nat) (hk : k < N) (hlink : (Cond.fieldLink own index ref (T k).2.1 (T k).2.2.1).before args s = true) (hsame : ∀ x, s.fieldFound? (T k).1 (T k).2.1 (T k).2.2.1 = some x → s.fieldFound? ref (T k).2.1 (T k).2.2.1 = some x) (hfin : (T k).2.2.2 = false) {v : Value} (hdg : decode cc pc = .ok (.putfield index, 3)) (kk : vx_NoteN p l e R s m args below meth c H locs cells slots Q (F0 m pc ls rest)) : W p l e R s m args below meth c H locs cells slots Q (F0 m pc ls (v :: .null :: rest)) := by
  obtain ⟨hS, hfc, kC, hkC, -⟩ := hK.1 ci _ hc
  obtain ⟨cf, kf, fi, f, hi, -⟩ := hS k hk
  have hlay := hts _ (hin _ (u_in_lay hk))
  unfold u_lay at hlay
  rw [if_neg (by rw [hfin]; decide)] at hlay
  obtain ⟨c9, k9, cf9, kf9, fi9, f9, -, -, hi9, hst9, hnf9, -⟩ := Cond.lays_spec hlay
  cases hi.symm.trans hi9
  intro U hU X
  obtain ⟨vm', X1, st1⟩ := X.putfieldNull hexec hown hlink (hsame _ hi) hst9 hnf9 (g := F0 m pc ls (v :: .null :: rest)) rfl (v := v) (rest := rest) rfl (by rw [hb]; exact hdg)
  obtain ⟨t, st, q⟩ := kk (U.setVm vm') hU X1
  exact ⟨t, st1 t st, q⟩
theorem vx_putfNN {D cl tys} {own ref C host : String} {T : u_T} {N ci index : Nat} {Ts : List Cond} (hexec : p.tables.exec = Jvm.exec) (hb : c.code = cc) (hts : ∀ w ∈ Ts, w.before args s = true) (hin : ∀ w ∈ u_ws C T N, w ∈ Ts) (hown : s.vm.findClass own = some m.cls) (hK : va_K D cl tys s) (hc : cl[ci]? = some (C, T, N)) (k : Nat) (hk : k < N) (hlink : (Cond.fieldLinkNest own index ref (T k).2.1 (T k).2.2.1 host).before args s = true) (hsame : ∀ x, s.fieldFound? (T k).1 (T k).2.1 (T k).2.2.1 = some x → s.fieldFound? ref (T k).2.1 (T k).2.2.1 = some x) (hfin : (T k).2.2.2 = false) {v : Value} (hdg : decode cc pc = .ok (.putfield index, 3)) (kk : vx_NoteN p l e R s m args below meth c H locs cells slots Q (F0 m pc ls rest)) : W p l e R s m args below meth c H locs cells slots Q (F0 m pc ls (v :: .null :: rest)) := by
  obtain ⟨hS, hfc, kC, hkC, -⟩ := hK.1 ci _ hc
  obtain ⟨cf, kf, fi, f, hi, -⟩ := hS k hk
  have hlay := hts _ (hin _ (u_in_lay hk))
  unfold u_lay at hlay
  rw [if_neg (by rw [hfin]; decide)] at hlay
  obtain ⟨c9, k9, cf9, kf9, fi9, f9, -, -, hi9, hst9, hnf9, -⟩ := Cond.lays_spec hlay
  cases hi.symm.trans hi9
  intro U hU X
  obtain ⟨vm', X1, st1⟩ := X.putfieldNullNest hexec hown hlink (hsame _ hi) hst9 hnf9 (g := F0 m pc ls (v :: .null :: rest)) rfl (v := v) (rest := rest) rfl (by rw [hb]; exact hdg)
  obtain ⟨t, st, q⟩ := kk (U.setVm vm') hU X1
  exact ⟨t, st1 t st, q⟩
theorem vx_athrowN (hexec : p.tables.exec = Jvm.exec) (hb : c.code = cc) (hdg : decode cc pc = .ok (.athrow, 1)) (k : vx_NoteN p l e R s m args below meth c H locs cells slots Q (F0 m pc ls rest)) : W p l e R s m args below meth c H locs cells slots Q (F0 m pc ls (.null :: rest)) := by
  intro T hT X
  obtain ⟨t, st, q⟩ := k T hT X
  exact ⟨t, X.athrowNull hexec (g := F0 m pc ls (.null :: rest)) rfl (rest := rest) rfl (by rw [hb]; exact hdg) t st, q⟩
end VXM2
/-! ===== END ===== -/
end
section
/-! THE ABSTRACT MACHINE: a small state, an instruction's step on it, a method as a run -/
set_option maxRecDepth 100000
/-- int fields, ref fields, lengths of arrays, contents (ints, longs, refs), which objects are there, how often a place got a new array, cells and slots made so far -/
abbrev am_St : Type := (Nat → Nat → Int32) × (Nat → Nat → Nat) × (Nat → Nat) × (Nat → Nat → Int32) × (Nat → Nat → Int64) × (Nat → Nat → Nat) × (Nat → Bool) × (Nat → Nat) × Nat × Nat
def am_fi (s : am_St) : Nat → Nat → Int32 := s.1
def am_fr (s : am_St) : Nat → Nat → Nat := s.2.1
def am_al (s : am_St) : Nat → Nat := s.2.2.1
def am_ai (s : am_St) : Nat → Nat → Int32 := s.2.2.2.1
def am_aL (s : am_St) : Nat → Nat → Int64 := s.2.2.2.2.1
def am_ar (s : am_St) : Nat → Nat → Nat := s.2.2.2.2.2.1
def am_ob (s : am_St) : Nat → Bool := s.2.2.2.2.2.2.1
def am_mv (s : am_St) : Nat → Nat := s.2.2.2.2.2.2.2.1
def am_gc (s : am_St) : Nat := s.2.2.2.2.2.2.2.2.1
def am_gs (s : am_St) : Nat := s.2.2.2.2.2.2.2.2.2
def am_u2 {α : Type} (f : Nat → Nat → α) (o k : Nat) (v : α) : Nat → Nat → α := fun a b => cond (Nat.beq a o && Nat.beq b k) v (f a b)
def am_u1 {α : Type} (f : Nat → α) (o : Nat) (v : α) : Nat → α := fun a => cond (Nat.beq a o) v (f a)
def am_sI (s : am_St) (o k : Nat) (v : Int32) : am_St := (am_u2 (am_fi s) o k v, am_fr s, am_al s, am_ai s, am_aL s, am_ar s, am_ob s, am_mv s, am_gc s, am_gs s)
def am_sR (s : am_St) (o k : Nat) (v : Nat) : am_St := (am_fi s, am_u2 (am_fr s) o k v, am_al s, am_ai s, am_aL s, am_ar s, am_ob s, am_mv s, am_gc s, am_gs s)
def am_sA (s : am_St) (a : Nat) (f : Nat → Int32) : am_St := (am_fi s, am_fr s, am_al s, am_u1 (am_ai s) a f, am_aL s, am_ar s, am_ob s, am_mv s, am_gc s, am_gs s)
def am_sL (s : am_St) (a : Nat) (f : Nat → Int64) : am_St := (am_fi s, am_fr s, am_al s, am_ai s, am_u1 (am_aL s) a f, am_ar s, am_ob s, am_mv s, am_gc s, am_gs s)
def am_sQ (s : am_St) (a : Nat) (f : Nat → Nat) : am_St := (am_fi s, am_fr s, am_al s, am_ai s, am_aL s, am_u1 (am_ar s) a f, am_ob s, am_mv s, am_gc s, am_gs s)
/-- a new array of n places at the place t, all zero -/
def am_nA (s : am_St) (t n : Nat) : am_St := (am_fi s, am_fr s, am_u1 (am_al s) t n, am_u1 (am_ai s) t (fun _ => 0), am_u1 (am_aL s) t (fun _ => 0), am_u1 (am_ar s) t (fun _ => 0), am_ob s, am_u1 (am_mv s) t (am_mv s t + 1), am_gc s + 1, am_gs s + n)
/-- the array at t comes to the place a -/
def am_mA (s : am_St) (a t : Nat) : am_St := (am_fi s, am_fr s, am_u1 (am_u1 (am_al s) a (am_al s t)) t 0, am_u1 (am_ai s) a (am_ai s t), am_u1 (am_aL s) a (am_aL s t), am_u1 (am_ar s) a (am_ar s t), am_ob s, am_u1 (am_u1 (am_mv s) a (am_mv s a + 1)) t (am_mv s t + 1), am_gc s, am_gs s)
/-- a new object o of n fields, all zero -/
def am_nO (s : am_St) (o n : Nat) : am_St := (fun a b => cond (Nat.beq a o) 0 (am_fi s a b), fun a b => cond (Nat.beq a o) 0 (am_fr s a b), am_al s, am_ai s, am_aL s, am_ar s, am_u1 (am_ob s) o true, am_mv s, am_gc s + 1, am_gs s + n)
def am_A (o k : Nat) : Nat := 64 * o + k
def am_isA (x : Nat) : Bool := Nat.ble 64 x && Nat.ble x 4999
/-- the place of a new array of sort e before it is stored -/
def am_T (e : Nat) : Nat := am_A 70 e
def am_nth {α : Type} : List α → Nat → Option α
  | [], _ => none
  | a :: _, 0 => some a
  | _ :: t, n + 1 => am_nth t n
def am_set {α : Type} : List α → Nat → α → List α
  | [], _, _ => []
  | _ :: t, 0, b => b :: t
  | a :: t, n + 1, b => a :: am_set t n b
def am_kill (ls : List (Option Value)) (i : Nat) : List (Option Value) := match am_nth ls i with
  | some (some (.long _)) => am_set ls i none
  | some (some (.double _)) => am_set ls i none
  | _ => ls
def am_pre (ls : List (Option Value)) (i : Nat) : List (Option Value) := match i with
  | 0 => ls
  | j + 1 => am_kill ls j
def am_s1 (ls : List (Option Value)) (i : Nat) (v : Value) : List (Option Value) := am_set (am_pre ls i) i (some v)
def am_s2 (ls : List (Option Value)) (i : Nat) (v : Value) : List (Option Value) := am_set (am_set (am_pre ls i) (i + 1) none) i (some v)
/-- the same, handed on as a list in full (nothing is left to be worked out twice) -/
def am_kf {α : Type} (a : Option Value) (f : Option Value → α) : α := match a with
  | some (.long _) => f none
  | some (.double _) => f none
  | a => f a
def am_s1c {α : Type} : List (Option Value) → Nat → Value → (List (Option Value) → α) → α
  | [], _, _, f => f []
  | _ :: t, 0, v, f => f (some v :: t)
  | a :: t, 1, v, f => am_kf a fun a' => am_s1c t 0 v fun t' => f (a' :: t')
  | a :: t, i + 2, v, f => am_s1c t (i + 1) v fun t' => f (a :: t')
def am_s2c {α : Type} : List (Option Value) → Nat → Value → (List (Option Value) → α) → α
  | [], _, _, f => f []
  | [_], 0, v, f => f [some v]
  | _ :: _ :: t, 0, v, f => f (some v :: none :: t)
  | a :: t, 1, v, f => am_kf a fun a' => am_s2c t 0 v fun t' => f (a' :: t')
  | a :: t, i + 2, v, f => am_s2c t (i + 1) v fun t' => f (a :: t')
/-- a method's locals at its start -/
def am_ent : List Value → List (Option Value)
  | [] => []
  | v :: t => cond (Nat.beq v.category 2) (some v :: none :: am_ent t) (some v :: am_ent t)
def am_pad (n : Nat) (l : List (Option Value)) : List (Option Value) := l ++ List.replicate (n - l.length) none
abbrev am_MF : Type := List Value → am_St → Option (Value × am_St)
/-- the world: an object's class, a field's type, an array's sort, whether an array stays where it is, a field's object where it is always the same one; a text's letters -/
abbrev am_Gt : Type := (Nat → Nat) × (Nat → Nat → FieldType) × (Nat → Nat) × (Nat → Bool) × (Nat → Nat → Nat) × (Nat → List Int32)
def am_kl (G : am_Gt) := G.1
def am_ty (G : am_Gt) := G.2.1
def am_et (G : am_Gt) := G.2.2.1
def am_fx (G : am_Gt) := G.2.2.2.1
def am_so (G : am_Gt) := G.2.2.2.2.1
def am_tx (G : am_Gt) := G.2.2.2.2.2
/-- a method: its code; by pool index: fields read, fields written, calls, objects made, constants, longs; its handler; whether its answer is a boolean; by place, which locals are kept there -/
abbrev am_Pt : Type := (List (List (Nat × Instr × Nat × Int32))) × (Nat → Option (Nat × Nat)) × (Nat → Option (Nat × Nat)) × (Nat → Option (Nat × Nat × Nat × Nat × am_MF)) × (Nat → Option (Nat × Nat)) × (Nat → Option Nat) × (Nat → Option Int64) × Option (Nat × Nat × Nat) × Bool × (List (List (Nat × List Bool)))
def am_code (P : am_Pt) := P.1
def am_fF (P : am_Pt) := P.2.1
def am_fW (P : am_Pt) := P.2.2.1
def am_fC (P : am_Pt) := P.2.2.2.1
def am_fN (P : am_Pt) := P.2.2.2.2.1
def am_fS (P : am_Pt) := P.2.2.2.2.2.1
def am_fL (P : am_Pt) := P.2.2.2.2.2.2.1
def am_hd (P : am_Pt) := P.2.2.2.2.2.2.2.1
def am_rz (P : am_Pt) := P.2.2.2.2.2.2.2.2.1
def am_mk (P : am_Pt) := P.2.2.2.2.2.2.2.2.2
/-- what is dead at a place is dropped -/
def am_msk : List Bool → List (Option Value) → List (Option Value)
  | [], l => l
  | _ :: _, [] => []
  | b :: m, v :: l => cond b v none :: am_msk m l
def am_l1 {α : Type} : List (Nat × α) → Nat → Option α
  | [], _ => none
  | (q, i) :: t, pc => cond (Nat.beq q pc) (some i) (am_l1 t pc)
/-- a table by sixteens -/
def am_lk {α : Type} (K : List (List (Nat × α))) (pc : Nat) : Option α := match am_nth K (pc / 16) with
  | some l => am_l1 l pc
  | none => none
def am_mskc {α : Type} : List Bool → List (Option Value) → (List (Option Value) → α) → α
  | [], l, f => f l
  | _ :: _, [], f => f []
  | true :: m, v :: l, f => am_mskc m l fun l' => f (v :: l')
  | false :: m, _ :: l, f => am_mskc m l fun l' => f (none :: l')
def am_mqc {α : Type} (K : List (List (Nat × List Bool))) (pc : Nat) (l : List (Option Value)) (f : List (Option Value) → α) : α := match am_lk K pc with
  | some m => am_mskc m l f
  | none => f l
def am_mq (K : List (List (Nat × List Bool))) (pc : Nat) (l : List (Option Value)) : List (Option Value) := match am_lk K pc with
  | some m => am_msk m l
  | none => l
def am_sp (K : List (List (Nat × List Bool))) (pc : Nat) : Bool := match am_lk K pc with
  | some _ => true
  | none => false
/-- field sorts: int, boolean, object, array -/
def am_fk : FieldType → Nat
  | .int => 0
  | .boolean => 1
  | .object _ => 2
  | .array _ => 3
  | _ => 9
def am_ck (i : Instr) (c : Int32) : Bool := match i with
  | .iconst n => decide (Int32.ofInt n = c)
  | .bipush n => decide ((Int8.ofInt n).toInt32 = c)
  | .sipush n => decide ((Int16.ofInt n).toInt32 = c)
  | .iinc _ n => decide (Int32.ofInt n = c)
  | _ => true
def am_bz (x : Int32) : Bool := decide (x = 0) || decide (x = 1)
def am_inB (i : Int32) (n : Nat) : Bool := !(decide (i < 0)) && Nat.blt i.toNatClampNeg n
def am_cpg (sp dp n : Int32) (l0 l1 : Nat) : Bool := !(decide (sp < 0)) && (!(decide (dp < 0)) && (!(decide (n < 0)) && (Nat.ble (sp.toNatClampNeg + n.toNatClampNeg) l0 && (Nat.ble (dp.toNatClampNeg + n.toNatClampNeg) l1 && (Nat.blt 0 l0 && Nat.blt 0 l1)))))
def am_nAg (n : Int32) (l : Nat) : Bool := !(decide (n < 0)) && (Nat.blt 0 n.toNatClampNeg && (Nat.ble n.toNatClampNeg 1000000 && Nat.beq l 0))
def am_em : List Value → Bool
  | [] => true
  | _ :: _ => false
def am_cats (st : List Value) : Nat := (st.map fun v => v.category).sum
def am_nr (a t : Nat) : List Value → Bool
  | [] => true
  | .ref x :: r => (!(Nat.beq x a) && !(Nat.beq x t)) && am_nr a t r
  | _ :: r => am_nr a t r
def am_drop (a t : Nat) : List (Option Value) → List (Option Value)
  | [] => []
  | some (.ref x) :: r => cond (Nat.beq x a || Nat.beq x t) none (some (.ref x)) :: am_drop a t r
  | v :: r => v :: am_drop a t r
/-- behind a call the caller's arrays lie where they lay -/
def am_gv (G : am_Gt) (s s' : am_St) : List Value → Bool
  | [] => true
  | .ref x :: r => (!(am_isA x) || (am_fx G x || Nat.beq (am_mv s' x) (am_mv s x))) && am_gv G s s' r
  | _ :: r => am_gv G s s' r
def am_gl (G : am_Gt) (s s' : am_St) : List (Option Value) → Bool
  | [] => true
  | some (.ref x) :: r => (!(am_isA x) || (am_fx G x || Nat.beq (am_mv s' x) (am_mv s x))) && am_gl G s s' r
  | _ :: r => am_gl G s s' r
/-- small whole numbers as written -/
def am_lits : List Int32 := [0, 1, 2, 3, 4, 5, 6, 7, 8, 9, 10, 11, 12, 13, 14, 15, 16, 17, 18, 19, 20, 21, 22, 23, 24, 25, 26, 27, 28, 29, 30, 31, 32, 33, 34, 35, 36, 37, 38, 39, 40]
def am_ic (n : Int) : Int32 := match n with
  | .ofNat k => (match am_nth am_lits k with | some x => x | none => Int32.ofInt n)
  | .negSucc _ => Int32.ofInt n
section AMI
variable {R : Type}
def am_ln (a b : Nat) (r : Option R) : Option R := cond (Nat.beq a b) r none
def am_if (b : Bool) (r : Option R) : Option R := cond b r none
def am_p1i (st : List Value) (f : Int32 → List Value → Option R) : Option R := match st with
  | .int x :: r => f x r
  | _ => none
def am_p2i (st : List Value) (f : Int32 → Int32 → List Value → Option R) : Option R := match st with
  | .int y :: .int x :: r => f x y r
  | _ => none
def am_p1l (st : List Value) (f : Int64 → List Value → Option R) : Option R := match st with
  | .long x :: r => f x r
  | _ => none
def am_p2l (st : List Value) (f : Int64 → Int64 → List Value → Option R) : Option R := match st with
  | .long y :: .long x :: r => f x y r
  | _ => none
def am_p1r (st : List Value) (f : Nat → List Value → Option R) : Option R := match st with
  | .ref x :: r => f x r
  | _ => none
/-- what astore takes: a ref, or what was caught (which is dropped) -/
def am_pst (st : List Value) (f : Nat → List Value → Option R) (g : List Value → Option R) : Option R := match st with
  | .ref x :: r => f x r
  | .retAddr _ :: r => g r
  | _ => none
def am_p2r (st : List Value) (f : Nat → Nat → List Value → Option R) : Option R := match st with
  | .ref y :: .ref x :: r => f x y r
  | _ => none
def am_pia (st : List Value) (f : Nat → Int32 → List Value → Option R) : Option R := match st with
  | .int i :: .ref a :: r => f a i r
  | _ => none
def am_p1 (st : List Value) (f : Value → List Value → Option R) : Option R := match st with
  | v :: r => am_if (Nat.beq v.category 1) (f v r)
  | _ => none
def am_p2 (st : List Value) (f : Value → Value → List Value → Option R) : Option R := match st with
  | v :: w :: r => am_if (Nat.beq v.category 1 && Nat.beq w.category 1) (f v w r)
  | _ => none
def am_ldi (ls : List (Option Value)) (i : Nat) (f : Int32 → Option R) : Option R := match am_nth ls i with
  | some (some (.int x)) => f x
  | _ => none
def am_ldl (ls : List (Option Value)) (i : Nat) (f : Int64 → Option R) : Option R := match am_nth ls i with
  | some (some (.long x)) => f x
  | _ => none
def am_lda (ls : List (Option Value)) (i : Nat) (f : Nat → Option R) : Option R := match am_nth ls i with
  | some (some (.ref x)) => f x
  | _ => none
def am_tg (pc : Nat) (off : Int) (f : Nat → Option R) : Option R := match (pc : Int) + off with
  | .ofNat t => f t
  | .negSucc _ => none
def am_sw (x : Int32) (d : Option R) (f : Int → Option R) : List (Int × Int) → Option R
  | [] => d
  | (a, o) :: t => if x = am_ic a then f o else am_sw x d f t
def am_tsl : Int → List Int → List (Int × Int)
  | _, [] => []
  | a, o :: t => (a, o) :: am_tsl (a + 1) t
def am_swg (l : List (Int × Int)) : Bool := l.all (fun q => decide (-2147483648 ≤ q.1) && decide (q.1 < 2147483648))
def am_cv (r : Option (Value × am_St)) (f : am_St → Option R) : Option R := match r with
  | some (.null, s) => f s
  | _ => none
def am_ci (r : Option (Value × am_St)) (f : Int32 → am_St → Option R) : Option R := match r with
  | some (.int x, s) => f x s
  | _ => none
def am_cl (r : Option (Value × am_St)) (f : Int64 → am_St → Option R) : Option R := match r with
  | some (.long x, s) => f x s
  | _ => none
def am_cr (r : Option (Value × am_St)) (f : Nat → am_St → Option R) : Option R := match r with
  | some (.ref x, s) => f x s
  | _ => none
def am_ct (r : Option (Value × am_St)) (f g : am_St → Option R) : Option R := match r with
  | some (.null, s) => f s
  | some (.retAddr _, s) => g s
  | _ => none
def am_rc (G : am_Gt) (ci : Nat) : List Value → Bool
  | .ref o :: _ => Nat.blt o 64 && Nat.beq (am_kl G o) ci
  | _ => false
abbrev am_Kt (R : Type) : Type := Nat → List (Option Value) → List Value → am_St → Option R
def am_thr (P : am_Pt) (pc : Nat) (ls : List (Option Value)) (s : am_St) (k : am_Kt R) (fin : Value → am_St → Option R) : Option R := match am_hd P with
  | none => fin (.retAddr 1) s
  | some (a, b, h) => am_if (Nat.ble a pc && Nat.blt pc b) (k h ls [.retAddr 7] s)
/-- the top n of the stack, in the order of their pushing, and the rest -/
def am_spl : Nat → List Value → List Value → (List Value → List Value → Option R) → Option R
  | 0, st, acc, f => f acc st
  | n + 1, v :: t, acc, f => am_spl n t (v :: acc) f
  | _ + 1, [], _, _ => none
def am_hdr (l : List Value) (f : Nat → Option R) : Option R := match l with
  | .ref a :: _ => f a
  | _ => none
/-- a call of a method: arguments a (with the receiver), the rest of the stack r, answer sort rk -/
def am_cm (G : am_Gt) (P : am_Pt) (rk : Nat) (f : am_MF) (pc : Nat) (ls : List (Option Value)) (a r : List Value) (s : am_St) (k : am_Kt R) (fin : Value → am_St → Option R) : Option R :=
  match rk with
  | 0 => am_cv (f a s) fun s' => am_if (am_gv G s s' r && am_gl G s s' ls) (k (pc + 3) ls r s')
  | 1 => am_ci (f a s) fun x s' => am_if (am_gv G s s' r && am_gl G s s' ls) (k (pc + 3) ls (.int x :: r) s')
  | 2 => am_cl (f a s) fun x s' => am_if (am_gv G s s' r && am_gl G s s' ls) (k (pc + 3) ls (.long x :: r) s')
  | 3 => am_cr (f a s) fun x s' => am_if (am_gv G s s' r && am_gl G s s' ls) (am_if (Nat.ble 64 x) (k (pc + 3) ls (.ref x :: r) s'))
  | 4 => am_ct (f a s) (fun s' => am_if (am_gv G s s' r && am_gl G s s' ls) (k (pc + 3) ls r s')) (fun s' => am_if (am_gv G s s' r && am_gl G s s' ls) (am_thr P pc ls s' k fin))
  | 5 => am_cr (f a s) fun x s' => am_if (am_gv G s s' r && am_gl G s s' ls) (am_hdr a fun a0 => cond (Nat.beq x a0) (k (pc + 3) ls (.ref a0 :: r) s') (am_if (Nat.beq x (am_T (am_et G a0))) (k (pc + 3) ls (.ref (am_T (am_et G a0)) :: r) s')))
  | 6 => am_cr (f a s) fun x s' => am_if (am_gv G s s' r && am_gl G s s' ls) (am_if (Nat.beq x (am_T 4)) (k (pc + 3) ls (.ref (am_T 4) :: r) s'))
  | _ => none
def am_call (G : am_Gt) (P : am_Pt) (t ix pc : Nat) (ls : List (Option Value)) (st : List Value) (s : am_St) (k : am_Kt R) (fin : Value → am_St → Option R) : Option R :=
  match am_fC P ix with
  | none => none
  | some (form, n, rk, ci, f) => am_if (Nat.beq (form % 3) t) (match form with
    | 0 => am_spl n st [] fun a r => am_if (Nat.ble (am_cats r) 8) (am_cm G P rk f pc ls a r s k fin)
    | 1 => am_spl (n + 1) st [] fun a r => am_if (Nat.ble (am_cats r) 8 && am_rc G ci a) (am_cm G P rk f pc ls a r s k fin)
    | 2 => am_spl (n + 1) st [] fun a r => am_if (Nat.ble (am_cats r) 8 && am_rc G ci a) (am_cm G P rk f pc ls a r s k fin)
    | 3 => (match st with
      | .int m :: .int dp :: .ref a :: .int sp :: .ref b :: r => am_if (am_isA a && (am_isA b && (Nat.beq (am_et G a) (am_et G b) && (Nat.ble (am_et G a) 1 && Nat.ble (am_cats r) 8)))) (am_if (am_cpg sp dp m (am_al s b) (am_al s a)) (k (pc + 3) ls r (am_sA s a (va_cpy (am_ai s b) (am_ai s a) sp.toNatClampNeg dp.toNatClampNeg m.toNatClampNeg))))
      | _ => none)
    | 4 => am_p1r st fun x r => am_if (Nat.ble 20000 x && Nat.blt x 20035) (am_if (Nat.ble (am_cats r) 8) (k (pc + 3) ls (.int (nI (x % 100)) :: r) s))
    | 5 => am_p1r st fun x r => am_if (Nat.blt x 64 && Nat.ble (am_cats r) 8) (k (pc + 3) ls r s)
    | 6 => am_p2i st fun x y r => am_if (Nat.ble (am_cats r) 8) (k (pc + 3) ls (.int (if x ≤ y then x else y) :: r) s)
    | 7 => am_p1r st fun x r => am_if (Nat.ble 30000 x) (am_if (Nat.ble (am_cats r) 8) (k (pc + 3) ls (.int (nI (am_tx G x).length) :: r) s))
    | 10 => am_pia st fun x i r => am_if (Nat.ble 30000 x) (am_if (am_inB i (am_tx G x).length) (am_if (Nat.ble (am_cats r) 8) (k (pc + 3) ls (.int ((am_tx G x).getD i.toNatClampNeg 0) :: r) s)))
    | _ => none)
/-- reading a field -/
def am_get (G : am_Gt) (P : am_Pt) (ix pc : Nat) (ls : List (Option Value)) (st : List Value) (s : am_St) (k : am_Kt R) : Option R :=
  match am_fF P ix with
  | none => none
  | some (ci, j) => am_p1r st fun o r => cond (Nat.beq ci 100) (am_if (Nat.ble 20000 o && Nat.blt o 20035) (k (pc + 3) ls (.ref (2 * o + 1) :: r) s)) (am_if (Nat.blt o 64 && Nat.beq (am_kl G o) ci) (match am_fk (am_ty G ci j) with
    | 0 => k (pc + 3) ls (.int (am_fi s o j) :: r) s
    | 1 => k (pc + 3) ls (.int (am_fi s o j) :: r) s
    | 2 => cond (Nat.beq (am_so G o j) 0) (am_if (Nat.ble 20000 (am_fr s o j)) (k (pc + 3) ls (.ref (am_fr s o j) :: r) s)) (am_if (Nat.blt (am_so G o j) 64) (am_if (Nat.beq (am_fr s o j) (am_so G o j)) (k (pc + 3) ls (.ref (am_so G o j) :: r) s)))
    | 3 => k (pc + 3) ls (.ref (am_A o j) :: r) s
    | _ => none))
/-- writing a field; an array comes to its place -/
def am_put (G : am_Gt) (P : am_Pt) (ix pc : Nat) (ls : List (Option Value)) (st : List Value) (s : am_St) (k : am_Kt R) : Option R :=
  match am_fW P ix with
  | none => none
  | some (ci, j) => (match st with
    | .int x :: .ref o :: r => am_if (Nat.blt o 64 && Nat.beq (am_kl G o) ci) (match am_fk (am_ty G ci j) with
      | 0 => k (pc + 3) ls r (am_sI s o j x)
      | 1 => am_if (am_bz x) (k (pc + 3) ls r (am_sI s o j x))
      | _ => none)
    | .ref x :: .ref o :: r => am_if (Nat.blt o 64 && Nat.beq (am_kl G o) ci) (match am_fk (am_ty G ci j) with
      | 2 => cond (Nat.beq (am_so G o j) 0) (am_if (Nat.ble 20000 x) (k (pc + 3) ls r (am_sR s o j x))) (am_if (Nat.blt (am_so G o j) 64 && Nat.beq x (am_so G o j)) (k (pc + 3) ls r (am_sR s o j x)))
      | 3 => cond (Nat.beq x (am_A o j)) (am_if (Nat.blt 0 (am_al s x)) (k (pc + 3) ls r s)) (am_if (Nat.beq x (am_T (am_et G (am_A o j))) && (am_nr (am_A o j) x r && Nat.beq (am_et G x) (am_et G (am_A o j)))) (am_if (Nat.blt 0 (am_al s x) && (!(am_fx G (am_A o j)) || Nat.beq (am_al s (am_A o j)) 0)) (k (pc + 3) (am_drop (am_A o j) x ls) r (am_mA s (am_A o j) x))))
      | _ => none)
    | _ => none)
def am_bc (pc : Nat) (c : Jvm.ClassFile.Cond) (x y : Int32) (t e : Option R) : Option R := match c with
  | .eq => if x = y then t else e
  | .ne => if x = y then e else t
  | .lt => if x < y then t else e
  | .ge => if x < y then e else t
  | .gt => if y < x then t else e
  | .le => if y < x then e else t
def am_x_iconst (G : am_Gt) (P : am_Pt) (len pc : Nat) (ls : List (Option Value)) (st : List Value) (s : am_St) (k : am_Kt R) (fin : Value → am_St → Option R) (n : Int) (cst : Int32) : Option R := am_ln len 1 (k (pc + 1) ls (.int cst :: st) s)
def am_x_bipush (G : am_Gt) (P : am_Pt) (len pc : Nat) (ls : List (Option Value)) (st : List Value) (s : am_St) (k : am_Kt R) (fin : Value → am_St → Option R) (n : Int) (cst : Int32) : Option R := am_ln len 2 (k (pc + 2) ls (.int cst :: st) s)
def am_x_sipush (G : am_Gt) (P : am_Pt) (len pc : Nat) (ls : List (Option Value)) (st : List Value) (s : am_St) (k : am_Kt R) (fin : Value → am_St → Option R) (n : Int) (cst : Int32) : Option R := am_ln len 3 (k (pc + 3) ls (.int cst :: st) s)
def am_x_lconst (G : am_Gt) (P : am_Pt) (len pc : Nat) (ls : List (Option Value)) (st : List Value) (s : am_St) (k : am_Kt R) (fin : Value → am_St → Option R) (n : Fin 2) : Option R := am_ln len 1 (k (pc + 1) ls (.long (cond (Nat.beq n.val 0) 0 1) :: st) s)
def am_x_ldc (G : am_Gt) (P : am_Pt) (len pc : Nat) (ls : List (Option Value)) (st : List Value) (s : am_St) (k : am_Kt R) (fin : Value → am_St → Option R) (ix : Nat) : Option R := am_ln len 2 (match am_fS P ix with | some x => k (pc + 2) ls (.ref x :: st) s | none => none)
def am_x_getstatic (G : am_Gt) (P : am_Pt) (len pc : Nat) (ls : List (Option Value)) (st : List Value) (s : am_St) (k : am_Kt R) (fin : Value → am_St → Option R) (ix : Nat) : Option R := am_ln len 3 (match am_fS P ix with | some x => k (pc + 3) ls (.ref x :: st) s | none => none)
def am_x_ldc2_w (G : am_Gt) (P : am_Pt) (len pc : Nat) (ls : List (Option Value)) (st : List Value) (s : am_St) (k : am_Kt R) (fin : Value → am_St → Option R) (ix : Nat) : Option R := am_ln len 3 (match am_fL P ix with | some x => k (pc + 3) ls (.long x :: st) s | none => none)
def am_x_iload_n (G : am_Gt) (P : am_Pt) (len pc : Nat) (ls : List (Option Value)) (st : List Value) (s : am_St) (k : am_Kt R) (fin : Value → am_St → Option R) (n : Fin 4) : Option R := am_ln len 1 (am_ldi ls n.val fun x => k (pc + 1) ls (.int x :: st) s)
def am_x_iload (G : am_Gt) (P : am_Pt) (len pc : Nat) (ls : List (Option Value)) (st : List Value) (s : am_St) (k : am_Kt R) (fin : Value → am_St → Option R) (n : Nat) : Option R := am_ln len 2 (am_ldi ls n fun x => k (pc + 2) ls (.int x :: st) s)
def am_x_lload_n (G : am_Gt) (P : am_Pt) (len pc : Nat) (ls : List (Option Value)) (st : List Value) (s : am_St) (k : am_Kt R) (fin : Value → am_St → Option R) (n : Fin 4) : Option R := am_ln len 1 (am_ldl ls n.val fun x => k (pc + 1) ls (.long x :: st) s)
def am_x_lload (G : am_Gt) (P : am_Pt) (len pc : Nat) (ls : List (Option Value)) (st : List Value) (s : am_St) (k : am_Kt R) (fin : Value → am_St → Option R) (n : Nat) : Option R := am_ln len 2 (am_ldl ls n fun x => k (pc + 2) ls (.long x :: st) s)
def am_x_aload_n (G : am_Gt) (P : am_Pt) (len pc : Nat) (ls : List (Option Value)) (st : List Value) (s : am_St) (k : am_Kt R) (fin : Value → am_St → Option R) (n : Fin 4) : Option R := am_ln len 1 (am_lda ls n.val fun x => k (pc + 1) ls (.ref x :: st) s)
def am_x_aload (G : am_Gt) (P : am_Pt) (len pc : Nat) (ls : List (Option Value)) (st : List Value) (s : am_St) (k : am_Kt R) (fin : Value → am_St → Option R) (n : Nat) : Option R := am_ln len 2 (am_lda ls n fun x => k (pc + 2) ls (.ref x :: st) s)
def am_x_istore_n (G : am_Gt) (P : am_Pt) (len pc : Nat) (ls : List (Option Value)) (st : List Value) (s : am_St) (k : am_Kt R) (fin : Value → am_St → Option R) (n : Fin 4) : Option R := am_ln len 1 (am_if (Nat.blt n.val ls.length) (am_p1i st fun x r => am_s1c ls n.val (.int x) fun l => k (pc + 1) l r s))
def am_x_istore (G : am_Gt) (P : am_Pt) (len pc : Nat) (ls : List (Option Value)) (st : List Value) (s : am_St) (k : am_Kt R) (fin : Value → am_St → Option R) (n : Nat) : Option R := am_ln len 2 (am_if (Nat.blt n ls.length) (am_p1i st fun x r => am_s1c ls n (.int x) fun l => k (pc + 2) l r s))
def am_x_lstore_n (G : am_Gt) (P : am_Pt) (len pc : Nat) (ls : List (Option Value)) (st : List Value) (s : am_St) (k : am_Kt R) (fin : Value → am_St → Option R) (n : Fin 4) : Option R := am_ln len 1 (am_if (Nat.blt (n.val + 1) ls.length) (am_p1l st fun x r => am_s2c ls n.val (.long x) fun l => k (pc + 1) l r s))
def am_x_lstore (G : am_Gt) (P : am_Pt) (len pc : Nat) (ls : List (Option Value)) (st : List Value) (s : am_St) (k : am_Kt R) (fin : Value → am_St → Option R) (n : Nat) : Option R := am_ln len 2 (am_if (Nat.blt (n + 1) ls.length) (am_p1l st fun x r => am_s2c ls n (.long x) fun l => k (pc + 2) l r s))
def am_x_astore_n (G : am_Gt) (P : am_Pt) (len pc : Nat) (ls : List (Option Value)) (st : List Value) (s : am_St) (k : am_Kt R) (fin : Value → am_St → Option R) (n : Fin 4) : Option R := am_ln len 1 (am_if (Nat.blt n.val ls.length) (am_pst st (fun x r => am_s1c ls n.val (.ref x) fun l => k (pc + 1) l r s) (fun r => k (pc + 1) (am_set (am_pre ls n.val) n.val none) r s)))
def am_x_astore (G : am_Gt) (P : am_Pt) (len pc : Nat) (ls : List (Option Value)) (st : List Value) (s : am_St) (k : am_Kt R) (fin : Value → am_St → Option R) (n : Nat) : Option R := am_ln len 2 (am_if (Nat.blt n ls.length) (am_pst st (fun x r => am_s1c ls n (.ref x) fun l => k (pc + 2) l r s) (fun r => k (pc + 2) (am_set (am_pre ls n) n none) r s)))
def am_x_iinc (G : am_Gt) (P : am_Pt) (len pc : Nat) (ls : List (Option Value)) (st : List Value) (s : am_St) (k : am_Kt R) (fin : Value → am_St → Option R) (n : Nat) (v : Int) (cst : Int32) : Option R := am_ln len 3 (am_if (Nat.blt n ls.length) (am_ldi ls n fun x => am_s1c ls n (.int (x + cst)) fun l => k (pc + 3) l st s))
def am_x_iadd (G : am_Gt) (P : am_Pt) (len pc : Nat) (ls : List (Option Value)) (st : List Value) (s : am_St) (k : am_Kt R) (fin : Value → am_St → Option R) : Option R := am_ln len 1 (am_p2i st fun x y r => k (pc + 1) ls (.int (x + y) :: r) s)
def am_x_isub (G : am_Gt) (P : am_Pt) (len pc : Nat) (ls : List (Option Value)) (st : List Value) (s : am_St) (k : am_Kt R) (fin : Value → am_St → Option R) : Option R := am_ln len 1 (am_p2i st fun x y r => k (pc + 1) ls (.int (x - y) :: r) s)
def am_x_imul (G : am_Gt) (P : am_Pt) (len pc : Nat) (ls : List (Option Value)) (st : List Value) (s : am_St) (k : am_Kt R) (fin : Value → am_St → Option R) : Option R := am_ln len 1 (am_p2i st fun x y r => k (pc + 1) ls (.int (x * y) :: r) s)
def am_x_iand (G : am_Gt) (P : am_Pt) (len pc : Nat) (ls : List (Option Value)) (st : List Value) (s : am_St) (k : am_Kt R) (fin : Value → am_St → Option R) : Option R := am_ln len 1 (am_p2i st fun x y r => k (pc + 1) ls (.int (x &&& y) :: r) s)
def am_x_ixor (G : am_Gt) (P : am_Pt) (len pc : Nat) (ls : List (Option Value)) (st : List Value) (s : am_St) (k : am_Kt R) (fin : Value → am_St → Option R) : Option R := am_ln len 1 (am_p2i st fun x y r => k (pc + 1) ls (.int (x ^^^ y) :: r) s)
def am_x_irem (G : am_Gt) (P : am_Pt) (len pc : Nat) (ls : List (Option Value)) (st : List Value) (s : am_St) (k : am_Kt R) (fin : Value → am_St → Option R) : Option R := am_ln len 1 (am_p2i st fun x y r => if y = 0 then none else k (pc + 1) ls (.int (x - x / y * y) :: r) s)
def am_x_ineg (G : am_Gt) (P : am_Pt) (len pc : Nat) (ls : List (Option Value)) (st : List Value) (s : am_St) (k : am_Kt R) (fin : Value → am_St → Option R) : Option R := am_ln len 1 (am_p1i st fun x r => k (pc + 1) ls (.int (-x) :: r) s)
def am_x_ishr (G : am_Gt) (P : am_Pt) (len pc : Nat) (ls : List (Option Value)) (st : List Value) (s : am_St) (k : am_Kt R) (fin : Value → am_St → Option R) : Option R := am_ln len 1 (am_p2i st fun x y r => k (pc + 1) ls (.int (x >>> (y &&& 31)) :: r) s)
def am_x_iushr (G : am_Gt) (P : am_Pt) (len pc : Nat) (ls : List (Option Value)) (st : List Value) (s : am_St) (k : am_Kt R) (fin : Value → am_St → Option R) : Option R := am_ln len 1 (am_p2i st fun x y r => k (pc + 1) ls (.int (x.toUInt32 >>> (y.toUInt32 &&& Int32.toUInt32 31)).toInt32 :: r) s)
def am_x_ladd (G : am_Gt) (P : am_Pt) (len pc : Nat) (ls : List (Option Value)) (st : List Value) (s : am_St) (k : am_Kt R) (fin : Value → am_St → Option R) : Option R := am_ln len 1 (am_p2l st fun x y r => k (pc + 1) ls (.long (x + y) :: r) s)
def am_x_lsub (G : am_Gt) (P : am_Pt) (len pc : Nat) (ls : List (Option Value)) (st : List Value) (s : am_St) (k : am_Kt R) (fin : Value → am_St → Option R) : Option R := am_ln len 1 (am_p2l st fun x y r => k (pc + 1) ls (.long (x - y) :: r) s)
def am_x_lmul (G : am_Gt) (P : am_Pt) (len pc : Nat) (ls : List (Option Value)) (st : List Value) (s : am_St) (k : am_Kt R) (fin : Value → am_St → Option R) : Option R := am_ln len 1 (am_p2l st fun x y r => k (pc + 1) ls (.long (x * y) :: r) s)
def am_x_ldiv (G : am_Gt) (P : am_Pt) (len pc : Nat) (ls : List (Option Value)) (st : List Value) (s : am_St) (k : am_Kt R) (fin : Value → am_St → Option R) : Option R := am_ln len 1 (am_p2l st fun x y r => if y = 0 then none else k (pc + 1) ls (.long (x / y) :: r) s)
def am_x_lrem (G : am_Gt) (P : am_Pt) (len pc : Nat) (ls : List (Option Value)) (st : List Value) (s : am_St) (k : am_Kt R) (fin : Value → am_St → Option R) : Option R := am_ln len 1 (am_p2l st fun x y r => if y = 0 then none else k (pc + 1) ls (.long (x - x / y * y) :: r) s)
def am_x_lneg (G : am_Gt) (P : am_Pt) (len pc : Nat) (ls : List (Option Value)) (st : List Value) (s : am_St) (k : am_Kt R) (fin : Value → am_St → Option R) : Option R := am_ln len 1 (am_p1l st fun x r => k (pc + 1) ls (.long (-x) :: r) s)
def am_x_lcmp (G : am_Gt) (P : am_Pt) (len pc : Nat) (ls : List (Option Value)) (st : List Value) (s : am_St) (k : am_Kt R) (fin : Value → am_St → Option R) : Option R := am_ln len 1 (am_p2l st fun x y r => k (pc + 1) ls (.int (lg_cmp x y) :: r) s)
def am_x_i2l (G : am_Gt) (P : am_Pt) (len pc : Nat) (ls : List (Option Value)) (st : List Value) (s : am_St) (k : am_Kt R) (fin : Value → am_St → Option R) : Option R := am_ln len 1 (am_p1i st fun x r => k (pc + 1) ls (.long x.toInt64 :: r) s)
def am_x_l2i (G : am_Gt) (P : am_Pt) (len pc : Nat) (ls : List (Option Value)) (st : List Value) (s : am_St) (k : am_Kt R) (fin : Value → am_St → Option R) : Option R := am_ln len 1 (am_p1l st fun x r => k (pc + 1) ls (.int x.toInt32 :: r) s)
def am_x_i2b (G : am_Gt) (P : am_Pt) (len pc : Nat) (ls : List (Option Value)) (st : List Value) (s : am_St) (k : am_Kt R) (fin : Value → am_St → Option R) : Option R := am_ln len 1 (am_p1i st fun x r => k (pc + 1) ls (.int x.toInt8.toInt32 :: r) s)
def am_x_dup (G : am_Gt) (P : am_Pt) (len pc : Nat) (ls : List (Option Value)) (st : List Value) (s : am_St) (k : am_Kt R) (fin : Value → am_St → Option R) : Option R := am_ln len 1 (am_p1 st fun v r => k (pc + 1) ls (v :: v :: r) s)
def am_x_pop (G : am_Gt) (P : am_Pt) (len pc : Nat) (ls : List (Option Value)) (st : List Value) (s : am_St) (k : am_Kt R) (fin : Value → am_St → Option R) : Option R := am_ln len 1 (am_p1 st fun _ r => k (pc + 1) ls r s)
def am_x_dup_x1 (G : am_Gt) (P : am_Pt) (len pc : Nat) (ls : List (Option Value)) (st : List Value) (s : am_St) (k : am_Kt R) (fin : Value → am_St → Option R) : Option R := am_ln len 1 (am_p2 st fun v w r => k (pc + 1) ls (v :: w :: v :: r) s)
def am_x_dup2 (G : am_Gt) (P : am_Pt) (len pc : Nat) (ls : List (Option Value)) (st : List Value) (s : am_St) (k : am_Kt R) (fin : Value → am_St → Option R) : Option R := am_ln len 1 (am_p2 st fun v w r => k (pc + 1) ls (v :: w :: v :: w :: r) s)
def am_x_pop2 (G : am_Gt) (P : am_Pt) (len pc : Nat) (ls : List (Option Value)) (st : List Value) (s : am_St) (k : am_Kt R) (fin : Value → am_St → Option R) : Option R := am_ln len 1 (am_p1l st fun _ r => k (pc + 1) ls r s)
def am_x_goto (G : am_Gt) (P : am_Pt) (len pc : Nat) (ls : List (Option Value)) (st : List Value) (s : am_St) (k : am_Kt R) (fin : Value → am_St → Option R) (off : Int) : Option R := am_ln len 3 (am_tg pc off fun t => k t ls st s)
def am_x_ifCond (G : am_Gt) (P : am_Pt) (len pc : Nat) (ls : List (Option Value)) (st : List Value) (s : am_St) (k : am_Kt R) (fin : Value → am_St → Option R) (c : Jvm.ClassFile.Cond) (off : Int) : Option R := am_ln len 3 (am_p1i st fun x r => am_tg pc off fun t => am_bc pc c x 0 (k t ls r s) (k (pc + 3) ls r s))
def am_x_if_icmp (G : am_Gt) (P : am_Pt) (len pc : Nat) (ls : List (Option Value)) (st : List Value) (s : am_St) (k : am_Kt R) (fin : Value → am_St → Option R) (c : Jvm.ClassFile.Cond) (off : Int) : Option R := am_ln len 3 (am_p2i st fun x y r => am_tg pc off fun t => am_bc pc c x y (k t ls r s) (k (pc + 3) ls r s))
def am_x_if_acmp (G : am_Gt) (P : am_Pt) (len pc : Nat) (ls : List (Option Value)) (st : List Value) (s : am_St) (k : am_Kt R) (fin : Value → am_St → Option R) (c : ACond) (off : Int) : Option R := am_ln len 3 (am_p2r st fun x y r => am_if (Nat.ble 20000 x && Nat.blt x 20035 && (Nat.ble 20000 y && Nat.blt y 20035)) (am_tg pc off fun t => match c with
      | .eq => if x = y then k t ls r s else k (pc + 3) ls r s
      | .ne => if x = y then k (pc + 3) ls r s else k t ls r s))
def am_x_tableswitch (G : am_Gt) (P : am_Pt) (len pc : Nat) (ls : List (Option Value)) (st : List Value) (s : am_St) (k : am_Kt R) (fin : Value → am_St → Option R) (d lo hi : Int) (offs : Array Int) : Option R := am_p1i st fun x r => am_if (am_swg (am_tsl lo offs.toList) && decide (hi + 1 = lo + (offs.toList.length : Int))) (am_sw x (am_tg pc d fun t => k t ls r s) (fun o => am_tg pc o fun t => k t ls r s) (am_tsl lo offs.toList))
def am_x_lookupswitch (G : am_Gt) (P : am_Pt) (len pc : Nat) (ls : List (Option Value)) (st : List Value) (s : am_St) (k : am_Kt R) (fin : Value → am_St → Option R) (d : Int) (ps : Array (Int × Int)) : Option R := am_p1i st fun x r => am_if (am_swg ps.toList && (ps.toList.zip (ps.toList.drop 1)).all (fun (a, next) => a.1 < next.1)) (am_sw x (am_tg pc d fun t => k t ls r s) (fun o => am_tg pc o fun t => k t ls r s) ps.toList)
def am_x_getfield (G : am_Gt) (P : am_Pt) (len pc : Nat) (ls : List (Option Value)) (st : List Value) (s : am_St) (k : am_Kt R) (fin : Value → am_St → Option R) (ix : Nat) : Option R := am_ln len 3 (am_get G P ix pc ls st s k)
def am_x_putfield (G : am_Gt) (P : am_Pt) (len pc : Nat) (ls : List (Option Value)) (st : List Value) (s : am_St) (k : am_Kt R) (fin : Value → am_St → Option R) (ix : Nat) : Option R := am_ln len 3 (am_put G P ix pc ls st s k)
def am_x_arraylength (G : am_Gt) (P : am_Pt) (len pc : Nat) (ls : List (Option Value)) (st : List Value) (s : am_St) (k : am_Kt R) (fin : Value → am_St → Option R) : Option R := am_ln len 1 (am_p1r st fun a r => am_if (am_isA a) (am_if (Nat.blt 0 (am_al s a)) (k (pc + 1) ls (.int (nI (am_al s a)) :: r) s)))
def am_x_iaload (G : am_Gt) (P : am_Pt) (len pc : Nat) (ls : List (Option Value)) (st : List Value) (s : am_St) (k : am_Kt R) (fin : Value → am_St → Option R) : Option R := am_ln len 1 (am_pia st fun a i r => am_if (am_isA a && Nat.beq (am_et G a) 0) (am_if (am_inB i (am_al s a)) (k (pc + 1) ls (.int (am_ai s a i.toNatClampNeg) :: r) s)))
def am_x_baload (G : am_Gt) (P : am_Pt) (len pc : Nat) (ls : List (Option Value)) (st : List Value) (s : am_St) (k : am_Kt R) (fin : Value → am_St → Option R) : Option R := am_ln len 1 (am_pia st fun a i r => am_if (am_isA a && (Nat.beq (am_et G a) 1 || Nat.beq (am_et G a) 2)) (am_if (am_inB i (am_al s a)) (k (pc + 1) ls (.int (am_ai s a i.toNatClampNeg) :: r) s)))
def am_x_laload (G : am_Gt) (P : am_Pt) (len pc : Nat) (ls : List (Option Value)) (st : List Value) (s : am_St) (k : am_Kt R) (fin : Value → am_St → Option R) : Option R := am_ln len 1 (am_pia st fun a i r => am_if (am_isA a && Nat.beq (am_et G a) 3) (am_if (am_inB i (am_al s a)) (k (pc + 1) ls (.long (am_aL s a i.toNatClampNeg) :: r) s)))
def am_x_aaload (G : am_Gt) (P : am_Pt) (len pc : Nat) (ls : List (Option Value)) (st : List Value) (s : am_St) (k : am_Kt R) (fin : Value → am_St → Option R) : Option R := am_ln len 1 (am_pia st fun a i r => am_if (am_isA a && (Nat.beq (am_et G a) 4 || Nat.beq (am_et G a) 5)) (am_if (am_inB i (am_al s a)) (am_if (Nat.ble 20000 (am_ar s a i.toNatClampNeg)) (k (pc + 1) ls (.ref (am_ar s a i.toNatClampNeg) :: r) s))))
def am_x_iastore (G : am_Gt) (P : am_Pt) (len pc : Nat) (ls : List (Option Value)) (st : List Value) (s : am_St) (k : am_Kt R) (fin : Value → am_St → Option R) : Option R := am_ln len 1 (am_p1i st fun x q => am_pia q fun a i r => am_if (am_isA a && Nat.beq (am_et G a) 0) (am_if (am_inB i (am_al s a)) (k (pc + 1) ls r (am_sA s a (upd (am_ai s a) i.toNatClampNeg x)))))
def am_x_bastore (G : am_Gt) (P : am_Pt) (len pc : Nat) (ls : List (Option Value)) (st : List Value) (s : am_St) (k : am_Kt R) (fin : Value → am_St → Option R) : Option R := am_ln len 1 (am_p1i st fun x q => am_pia q fun a i r => am_if (am_isA a) (match am_et G a with
      | 1 => am_if (am_inB i (am_al s a)) (k (pc + 1) ls r (am_sA s a (upd (am_ai s a) i.toNatClampNeg x.toInt8.toInt32)))
      | 2 => am_if (am_inB i (am_al s a)) (k (pc + 1) ls r (am_sA s a (upd (am_ai s a) i.toNatClampNeg (vp_nar .boolean x))))
      | _ => none))
def am_x_lastore (G : am_Gt) (P : am_Pt) (len pc : Nat) (ls : List (Option Value)) (st : List Value) (s : am_St) (k : am_Kt R) (fin : Value → am_St → Option R) : Option R := am_ln len 1 (am_p1l st fun x q => am_pia q fun a i r => am_if (am_isA a && Nat.beq (am_et G a) 3) (am_if (am_inB i (am_al s a)) (k (pc + 1) ls r (am_sL s a (vp_updL (am_aL s a) i.toNatClampNeg x)))))
def am_x_newarray (G : am_Gt) (P : am_Pt) (len pc : Nat) (ls : List (Option Value)) (st : List Value) (s : am_St) (k : am_Kt R) (fin : Value → am_St → Option R) (t : ArrayType) : Option R := am_ln len 2 (am_p1i st fun n r => match t with
      | .int => am_if (am_nAg n (am_al s (am_T 0))) (k (pc + 2) ls (.ref (am_T 0) :: r) (am_nA s (am_T 0) n.toNatClampNeg))
      | .byte => am_if (am_nAg n (am_al s (am_T 1))) (k (pc + 2) ls (.ref (am_T 1) :: r) (am_nA s (am_T 1) n.toNatClampNeg))
      | .boolean => am_if (am_nAg n (am_al s (am_T 2))) (k (pc + 2) ls (.ref (am_T 2) :: r) (am_nA s (am_T 2) n.toNatClampNeg))
      | .long => am_if (am_nAg n (am_al s (am_T 3))) (k (pc + 2) ls (.ref (am_T 3) :: r) (am_nA s (am_T 3) n.toNatClampNeg))
      | _ => none)
def am_x_anewarray (G : am_Gt) (P : am_Pt) (len pc : Nat) (ls : List (Option Value)) (st : List Value) (s : am_St) (k : am_Kt R) (fin : Value → am_St → Option R) (ix : Nat) : Option R := am_ln len 3 (am_p1i st fun n r => match am_fS P ix with
      | some 5 => am_if (am_nAg n (am_al s (am_T 5))) (k (pc + 3) ls (.ref (am_T 5) :: r) (am_nA s (am_T 5) n.toNatClampNeg))
      | _ => none)
def am_x_aastore (G : am_Gt) (P : am_Pt) (len pc : Nat) (ls : List (Option Value)) (st : List Value) (s : am_St) (k : am_Kt R) (fin : Value → am_St → Option R) : Option R := am_ln len 1 (am_p1r st fun x q => am_pia q fun a i r => am_if (am_isA a && (Nat.beq (am_et G a) 5 && Nat.ble 30000 x)) (am_if (am_inB i (am_al s a)) (k (pc + 1) ls r (am_sQ s a (va_up (am_ar s a) i.toNatClampNeg x)))))
def am_x_new (G : am_Gt) (P : am_Pt) (len pc : Nat) (ls : List (Option Value)) (st : List Value) (s : am_St) (k : am_Kt R) (fin : Value → am_St → Option R) (ix : Nat) : Option R := am_ln len 3 (match am_fN P ix with
      | some (o, n) => am_if (!(am_ob s o) && (Nat.blt o 64 && Nat.blt 0 o)) (k (pc + 3) ls (.ref o :: st) (am_nO s o n))
      | none => none)
def am_x_invokestatic (G : am_Gt) (P : am_Pt) (len pc : Nat) (ls : List (Option Value)) (st : List Value) (s : am_St) (k : am_Kt R) (fin : Value → am_St → Option R) (ix : Nat) : Option R := am_ln len 3 (am_call G P 0 ix pc ls st s k fin)
def am_x_invokevirtual (G : am_Gt) (P : am_Pt) (len pc : Nat) (ls : List (Option Value)) (st : List Value) (s : am_St) (k : am_Kt R) (fin : Value → am_St → Option R) (ix : Nat) : Option R := am_ln len 3 (am_call G P 1 ix pc ls st s k fin)
def am_x_invokespecial (G : am_Gt) (P : am_Pt) (len pc : Nat) (ls : List (Option Value)) (st : List Value) (s : am_St) (k : am_Kt R) (fin : Value → am_St → Option R) (ix : Nat) : Option R := am_ln len 3 (am_call G P 2 ix pc ls st s k fin)
def am_x_ireturn (G : am_Gt) (P : am_Pt) (len pc : Nat) (ls : List (Option Value)) (st : List Value) (s : am_St) (k : am_Kt R) (fin : Value → am_St → Option R) : Option R := am_ln len 1 (am_p1i st fun x r => am_if (am_em r) (am_if (!(am_rz P) || am_bz x) (fin (.int x) s)))
def am_x_lreturn (G : am_Gt) (P : am_Pt) (len pc : Nat) (ls : List (Option Value)) (st : List Value) (s : am_St) (k : am_Kt R) (fin : Value → am_St → Option R) : Option R := am_ln len 1 (am_p1l st fun x r => am_if (am_em r) (fin (.long x) s))
def am_x_areturn (G : am_Gt) (P : am_Pt) (len pc : Nat) (ls : List (Option Value)) (st : List Value) (s : am_St) (k : am_Kt R) (fin : Value → am_St → Option R) : Option R := am_ln len 1 (am_p1r st fun x r => am_if (am_em r) (am_if (Nat.ble 64 x) (fin (.ref x) s)))
def am_x_return_ (G : am_Gt) (P : am_Pt) (len pc : Nat) (ls : List (Option Value)) (st : List Value) (s : am_St) (k : am_Kt R) (fin : Value → am_St → Option R) : Option R := am_ln len 1 (am_if (am_em st) (fin .null s))
/-- one instruction -/
def am_ins (G : am_Gt) (P : am_Pt) (i : Instr) (cst : Int32) (len pc : Nat) (ls : List (Option Value)) (st : List Value) (s : am_St) (k : am_Kt R) (fin : Value → am_St → Option R) : Option R :=
  match i with
  | .iconst n => am_x_iconst G P len pc ls st s k fin n cst
  | .bipush n => am_x_bipush G P len pc ls st s k fin n cst
  | .sipush n => am_x_sipush G P len pc ls st s k fin n cst
  | .lconst n => am_x_lconst G P len pc ls st s k fin n
  | .ldc ix => am_x_ldc G P len pc ls st s k fin ix
  | .getstatic ix => am_x_getstatic G P len pc ls st s k fin ix
  | .ldc2_w ix => am_x_ldc2_w G P len pc ls st s k fin ix
  | .iload_n n => am_x_iload_n G P len pc ls st s k fin n
  | .iload n => am_x_iload G P len pc ls st s k fin n
  | .lload_n n => am_x_lload_n G P len pc ls st s k fin n
  | .lload n => am_x_lload G P len pc ls st s k fin n
  | .aload_n n => am_x_aload_n G P len pc ls st s k fin n
  | .aload n => am_x_aload G P len pc ls st s k fin n
  | .istore_n n => am_x_istore_n G P len pc ls st s k fin n
  | .istore n => am_x_istore G P len pc ls st s k fin n
  | .lstore_n n => am_x_lstore_n G P len pc ls st s k fin n
  | .lstore n => am_x_lstore G P len pc ls st s k fin n
  | .astore_n n => am_x_astore_n G P len pc ls st s k fin n
  | .astore n => am_x_astore G P len pc ls st s k fin n
  | .iinc n v => am_x_iinc G P len pc ls st s k fin n v cst
  | .iadd => am_x_iadd G P len pc ls st s k fin
  | .isub => am_x_isub G P len pc ls st s k fin
  | .imul => am_x_imul G P len pc ls st s k fin
  | .iand => am_x_iand G P len pc ls st s k fin
  | .ixor => am_x_ixor G P len pc ls st s k fin
  | .irem => am_x_irem G P len pc ls st s k fin
  | .ineg => am_x_ineg G P len pc ls st s k fin
  | .ishr => am_x_ishr G P len pc ls st s k fin
  | .iushr => am_x_iushr G P len pc ls st s k fin
  | .ladd => am_x_ladd G P len pc ls st s k fin
  | .lsub => am_x_lsub G P len pc ls st s k fin
  | .lmul => am_x_lmul G P len pc ls st s k fin
  | .ldiv => am_x_ldiv G P len pc ls st s k fin
  | .lrem => am_x_lrem G P len pc ls st s k fin
  | .lneg => am_x_lneg G P len pc ls st s k fin
  | .lcmp => am_x_lcmp G P len pc ls st s k fin
  | .i2l => am_x_i2l G P len pc ls st s k fin
  | .l2i => am_x_l2i G P len pc ls st s k fin
  | .i2b => am_x_i2b G P len pc ls st s k fin
  | .dup => am_x_dup G P len pc ls st s k fin
  | .pop => am_x_pop G P len pc ls st s k fin
  | .dup_x1 => am_x_dup_x1 G P len pc ls st s k fin
  | .dup2 => am_x_dup2 G P len pc ls st s k fin
  | .pop2 => am_x_pop2 G P len pc ls st s k fin
  | .goto off => am_x_goto G P len pc ls st s k fin off
  | .ifCond c off => am_x_ifCond G P len pc ls st s k fin c off
  | .if_icmp c off => am_x_if_icmp G P len pc ls st s k fin c off
  | .if_acmp c off => am_x_if_acmp G P len pc ls st s k fin c off
  | .tableswitch d lo hi offs => am_x_tableswitch G P len pc ls st s k fin d lo hi offs
  | .lookupswitch d ps => am_x_lookupswitch G P len pc ls st s k fin d ps
  | .getfield ix => am_x_getfield G P len pc ls st s k fin ix
  | .putfield ix => am_x_putfield G P len pc ls st s k fin ix
  | .arraylength => am_x_arraylength G P len pc ls st s k fin
  | .iaload => am_x_iaload G P len pc ls st s k fin
  | .baload => am_x_baload G P len pc ls st s k fin
  | .laload => am_x_laload G P len pc ls st s k fin
  | .aaload => am_x_aaload G P len pc ls st s k fin
  | .iastore => am_x_iastore G P len pc ls st s k fin
  | .bastore => am_x_bastore G P len pc ls st s k fin
  | .lastore => am_x_lastore G P len pc ls st s k fin
  | .newarray t => am_x_newarray G P len pc ls st s k fin t
  | .anewarray ix => am_x_anewarray G P len pc ls st s k fin ix
  | .aastore => am_x_aastore G P len pc ls st s k fin
  | .new ix => am_x_new G P len pc ls st s k fin ix
  | .invokestatic ix => am_x_invokestatic G P len pc ls st s k fin ix
  | .invokevirtual ix => am_x_invokevirtual G P len pc ls st s k fin ix
  | .invokespecial ix => am_x_invokespecial G P len pc ls st s k fin ix
  | .ireturn => am_x_ireturn G P len pc ls st s k fin
  | .lreturn => am_x_lreturn G P len pc ls st s k fin
  | .areturn => am_x_areturn G P len pc ls st s k fin
  | .return_ => am_x_return_ G P len pc ls st s k fin
  | _ => none
def am_step (G : am_Gt) (P : am_Pt) (pc : Nat) (ls : List (Option Value)) (st : List Value) (s : am_St) (k : am_Kt R) (fin : Value → am_St → Option R) : Option R :=
  match am_lk (am_code P) pc with
  | some (i, len, cst) => am_ins G P i cst len pc ls st s (fun q l st s => am_mqc (am_mk P) q l fun l' => k q l' st s) fin
  | none => none
end AMI
/-- a run of so many steps at most -/
def am_run (G : am_Gt) (P : am_Pt) : Nat → am_Kt (Value × am_St)
  | 0 => fun _ _ _ _ => none
  | n + 1 => fun pc ls st s => am_step G P pc ls st s (am_run G P n) (fun v t => some (v, t))
end
section
/-! A run's equation: a step goes on at one place, ends, or stops, whatever comes behind it -/
set_option maxRecDepth 100000
def am_Tl (f : (R : Type) → am_Kt R → (Value → am_St → Option R) → Option R) : Prop :=
  (∀ R k fin, f R k fin = none) ∨ (∃ pc ls st s, ∀ R k fin, f R k fin = k pc ls st s) ∨ (∃ v s, ∀ R k fin, f R k fin = fin v s)
section TL
variable {F : (R : Type) → am_Kt R → (Value → am_St → Option R) → Option R}
theorem am_Tl.no : am_Tl (fun _ _ _ => none) := Or.inl fun _ _ _ => rfl
theorem am_Tl.go (pc : Nat) (ls : List (Option Value)) (st : List Value) (s : am_St) : am_Tl (fun _ k _ => k pc ls st s) := Or.inr (Or.inl ⟨pc, ls, st, s, fun _ _ _ => rfl⟩)
theorem am_Tl.fin (v : Value) (s : am_St) : am_Tl (fun _ _ fin => fin v s) := Or.inr (Or.inr ⟨v, s, fun _ _ _ => rfl⟩)
theorem am_Tl.if_ {b : Bool} (h : am_Tl F) : am_Tl (fun R k fin => am_if b (F R k fin)) := by
  cases b
  · exact am_Tl.no
  · exact h
theorem am_Tl.ln {a b : Nat} (h : am_Tl F) : am_Tl (fun R k fin => am_ln a b (F R k fin)) := by
  unfold am_ln
  cases Nat.beq a b
  · exact am_Tl.no
  · exact h
theorem am_Tl.cond {b : Bool} {F' : (R : Type) → am_Kt R → (Value → am_St → Option R) → Option R} (h : am_Tl F) (h' : am_Tl F') : am_Tl (fun R k fin => cond b (F R k fin) (F' R k fin)) := by
  cases b
  · exact h'
  · exact h
theorem am_Tl.ite {c : Prop} [Decidable c] {F' : (R : Type) → am_Kt R → (Value → am_St → Option R) → Option R} (h : am_Tl F) (h' : am_Tl F') : am_Tl (fun R k fin => if c then F R k fin else F' R k fin) := by
  by_cases hc : c
  · simpa [hc] using h
  · simpa [hc] using h'
theorem am_Tl.p1i {st : List Value} {f : Int32 → List Value → (R : Type) → am_Kt R → (Value → am_St → Option R) → Option R} (h : ∀ x r, am_Tl (f x r)) : am_Tl (fun R k fin => am_p1i st fun x r => f x r R k fin) := by
  match st with
  | .int x :: r => exact h x r
  | [] | .long _ :: _ | .float _ :: _ | .double _ :: _ | .null :: _ | .ref _ :: _ | .retAddr _ :: _ => exact am_Tl.no
theorem am_Tl.p1l {st : List Value} {f : Int64 → List Value → (R : Type) → am_Kt R → (Value → am_St → Option R) → Option R} (h : ∀ x r, am_Tl (f x r)) : am_Tl (fun R k fin => am_p1l st fun x r => f x r R k fin) := by
  match st with
  | .long x :: r => exact h x r
  | [] | .int _ :: _ | .float _ :: _ | .double _ :: _ | .null :: _ | .ref _ :: _ | .retAddr _ :: _ => exact am_Tl.no
theorem am_Tl.p1r {st : List Value} {f : Nat → List Value → (R : Type) → am_Kt R → (Value → am_St → Option R) → Option R} (h : ∀ x r, am_Tl (f x r)) : am_Tl (fun R k fin => am_p1r st fun x r => f x r R k fin) := by
  match st with
  | .ref x :: r => exact h x r
  | [] | .int _ :: _ | .float _ :: _ | .double _ :: _ | .null :: _ | .long _ :: _ | .retAddr _ :: _ => exact am_Tl.no
theorem am_Tl.pst {st : List Value} {f : Nat → List Value → (R : Type) → am_Kt R → (Value → am_St → Option R) → Option R} {g : List Value → (R : Type) → am_Kt R → (Value → am_St → Option R) → Option R} (h : ∀ x r, am_Tl (f x r)) (h' : ∀ r, am_Tl (g r)) : am_Tl (fun R k fin => am_pst st (fun x r => f x r R k fin) (fun r => g r R k fin)) := by
  unfold am_pst
  split
  · exact h _ _
  · exact h' _
  · exact am_Tl.no
theorem am_Tl.p2i {st : List Value} {f : Int32 → Int32 → List Value → (R : Type) → am_Kt R → (Value → am_St → Option R) → Option R} (h : ∀ x y r, am_Tl (f x y r)) : am_Tl (fun R k fin => am_p2i st fun x y r => f x y r R k fin) := by
  unfold am_p2i
  split
  · exact h _ _ _
  · exact am_Tl.no
theorem am_Tl.p2l {st : List Value} {f : Int64 → Int64 → List Value → (R : Type) → am_Kt R → (Value → am_St → Option R) → Option R} (h : ∀ x y r, am_Tl (f x y r)) : am_Tl (fun R k fin => am_p2l st fun x y r => f x y r R k fin) := by
  unfold am_p2l
  split
  · exact h _ _ _
  · exact am_Tl.no
theorem am_Tl.p2r {st : List Value} {f : Nat → Nat → List Value → (R : Type) → am_Kt R → (Value → am_St → Option R) → Option R} (h : ∀ x y r, am_Tl (f x y r)) : am_Tl (fun R k fin => am_p2r st fun x y r => f x y r R k fin) := by
  unfold am_p2r
  split
  · exact h _ _ _
  · exact am_Tl.no
theorem am_Tl.pia {st : List Value} {f : Nat → Int32 → List Value → (R : Type) → am_Kt R → (Value → am_St → Option R) → Option R} (h : ∀ x y r, am_Tl (f x y r)) : am_Tl (fun R k fin => am_pia st fun x y r => f x y r R k fin) := by
  unfold am_pia
  split
  · exact h _ _ _
  · exact am_Tl.no
theorem am_Tl.p1 {st : List Value} {f : Value → List Value → (R : Type) → am_Kt R → (Value → am_St → Option R) → Option R} (h : ∀ x r, am_Tl (f x r)) : am_Tl (fun R k fin => am_p1 st fun x r => f x r R k fin) := by
  unfold am_p1
  split
  · exact am_Tl.if_ (h _ _)
  · exact am_Tl.no
theorem am_Tl.p2 {st : List Value} {f : Value → Value → List Value → (R : Type) → am_Kt R → (Value → am_St → Option R) → Option R} (h : ∀ x y r, am_Tl (f x y r)) : am_Tl (fun R k fin => am_p2 st fun x y r => f x y r R k fin) := by
  unfold am_p2
  split
  · exact am_Tl.if_ (h _ _ _)
  · exact am_Tl.no
theorem am_Tl.ldi {ls : List (Option Value)} {i : Nat} {f : Int32 → (R : Type) → am_Kt R → (Value → am_St → Option R) → Option R} (h : ∀ x, am_Tl (f x)) : am_Tl (fun R k fin => am_ldi ls i fun x => f x R k fin) := by
  unfold am_ldi
  split
  · exact h _
  · exact am_Tl.no
theorem am_Tl.ldl {ls : List (Option Value)} {i : Nat} {f : Int64 → (R : Type) → am_Kt R → (Value → am_St → Option R) → Option R} (h : ∀ x, am_Tl (f x)) : am_Tl (fun R k fin => am_ldl ls i fun x => f x R k fin) := by
  unfold am_ldl
  split
  · exact h _
  · exact am_Tl.no
theorem am_Tl.lda {ls : List (Option Value)} {i : Nat} {f : Nat → (R : Type) → am_Kt R → (Value → am_St → Option R) → Option R} (h : ∀ x, am_Tl (f x)) : am_Tl (fun R k fin => am_lda ls i fun x => f x R k fin) := by
  unfold am_lda
  split
  · exact h _
  · exact am_Tl.no
theorem am_Tl.tg {pc : Nat} {off : Int} {f : Nat → (R : Type) → am_Kt R → (Value → am_St → Option R) → Option R} (h : ∀ x, am_Tl (f x)) : am_Tl (fun R k fin => am_tg pc off fun x => f x R k fin) := by
  unfold am_tg
  split
  · exact h _
  · exact am_Tl.no
theorem am_Tl.bc {pc : Nat} {c : Jvm.ClassFile.Cond} {x y : Int32} {F' : (R : Type) → am_Kt R → (Value → am_St → Option R) → Option R} (h : am_Tl F) (h' : am_Tl F') : am_Tl (fun R k fin => am_bc pc c x y (F R k fin) (F' R k fin)) := by
  cases c <;> first | exact am_Tl.ite h h' | exact am_Tl.ite h' h
theorem am_Tl.sw {x : Int32} {f : Int → (R : Type) → am_Kt R → (Value → am_St → Option R) → Option R} (l : List (Int × Int)) (h : am_Tl F) (h' : ∀ o, am_Tl (f o)) : am_Tl (fun R k fin => am_sw x (F R k fin) (fun o => f o R k fin) l) := by
  induction l with
  | nil => exact h
  | cons q t ih => exact am_Tl.ite (h' q.2) ih
theorem am_Tl.cv {r : Option (Value × am_St)} {f : am_St → (R : Type) → am_Kt R → (Value → am_St → Option R) → Option R} (h : ∀ x, am_Tl (f x)) : am_Tl (fun R k fin => am_cv r fun x => f x R k fin) := by
  unfold am_cv
  split
  · exact h _
  · exact am_Tl.no
theorem am_Tl.ci {r : Option (Value × am_St)} {f : Int32 → am_St → (R : Type) → am_Kt R → (Value → am_St → Option R) → Option R} (h : ∀ y x, am_Tl (f y x)) : am_Tl (fun R k fin => am_ci r fun y x => f y x R k fin) := by
  unfold am_ci
  split
  · exact h _ _
  · exact am_Tl.no
theorem am_Tl.cl {r : Option (Value × am_St)} {f : Int64 → am_St → (R : Type) → am_Kt R → (Value → am_St → Option R) → Option R} (h : ∀ y x, am_Tl (f y x)) : am_Tl (fun R k fin => am_cl r fun y x => f y x R k fin) := by
  unfold am_cl
  split
  · exact h _ _
  · exact am_Tl.no
theorem am_Tl.cr {r : Option (Value × am_St)} {f : Nat → am_St → (R : Type) → am_Kt R → (Value → am_St → Option R) → Option R} (h : ∀ y x, am_Tl (f y x)) : am_Tl (fun R k fin => am_cr r fun y x => f y x R k fin) := by
  unfold am_cr
  split
  · exact h _ _
  · exact am_Tl.no
theorem am_Tl.ct {r : Option (Value × am_St)} {f g : am_St → (R : Type) → am_Kt R → (Value → am_St → Option R) → Option R} (h : ∀ x, am_Tl (f x)) (h' : ∀ x, am_Tl (g x)) : am_Tl (fun R k fin => am_ct r (fun x => f x R k fin) (fun x => g x R k fin)) := by
  unfold am_ct
  split
  · exact h _
  · exact h' _
  · exact am_Tl.no
theorem am_Tl.thr {P : am_Pt} {pc : Nat} {ls : List (Option Value)} {s : am_St} : am_Tl (fun _ k fin => am_thr P pc ls s k fin) := by
  unfold am_thr
  split
  · exact am_Tl.fin _ _
  · exact am_Tl.if_ (am_Tl.go _ _ _ _)
end TL
theorem am_Tl.spl {f : List Value → List Value → (R : Type) → am_Kt R → (Value → am_St → Option R) → Option R} (h : ∀ a r, am_Tl (f a r)) : ∀ (n : Nat) (st acc : List Value), am_Tl (fun R k fin => am_spl n st acc fun a r => f a r R k fin)
  | 0, st, acc => h acc st
  | n + 1, v :: t, acc => am_Tl.spl h n t (v :: acc)
  | n + 1, [], acc => am_Tl.no
theorem am_Tl.hdr {f : Nat → (R : Type) → am_Kt R → (Value → am_St → Option R) → Option R} (h : ∀ a, am_Tl (f a)) (l : List Value) : am_Tl (fun R k fin => am_hdr l fun a => f a R k fin) := by
  unfold am_hdr
  split
  · exact h _
  · exact am_Tl.no
theorem am_Tl.cm (G : am_Gt) (P : am_Pt) (rk : Nat) (f : am_MF) (pc : Nat) (ls : List (Option Value)) (a r : List Value) (s : am_St) : am_Tl (fun _ k fin => am_cm G P rk f pc ls a r s k fin) := by
  unfold am_cm
  split
  · exact am_Tl.cv fun _ => am_Tl.if_ (am_Tl.go _ _ _ _)
  · exact am_Tl.ci fun _ _ => am_Tl.if_ (am_Tl.go _ _ _ _)
  · exact am_Tl.cl fun _ _ => am_Tl.if_ (am_Tl.go _ _ _ _)
  · exact am_Tl.cr fun _ _ => am_Tl.if_ (am_Tl.if_ (am_Tl.go _ _ _ _))
  · exact am_Tl.ct (fun _ => am_Tl.if_ (am_Tl.go _ _ _ _)) (fun _ => am_Tl.if_ am_Tl.thr)
  · exact am_Tl.cr fun _ _ => am_Tl.if_ (am_Tl.hdr (fun _ => am_Tl.cond (am_Tl.go _ _ _ _) (am_Tl.if_ (am_Tl.go _ _ _ _))) _)
  · exact am_Tl.cr fun _ _ => am_Tl.if_ (am_Tl.if_ (am_Tl.go _ _ _ _))
  · exact am_Tl.no
theorem am_Tl.call (G : am_Gt) (P : am_Pt) (t ix pc : Nat) (ls : List (Option Value)) (st : List Value) (s : am_St) : am_Tl (fun _ k fin => am_call G P t ix pc ls st s k fin) := by
  unfold am_call
  split
  · exact am_Tl.no
  · refine am_Tl.if_ ?_
    split
    · exact am_Tl.spl (fun _ _ => am_Tl.if_ (am_Tl.cm _ _ _ _ _ _ _ _ _)) _ _ _
    · exact am_Tl.spl (fun _ _ => am_Tl.if_ (am_Tl.cm _ _ _ _ _ _ _ _ _)) _ _ _
    · exact am_Tl.spl (fun _ _ => am_Tl.if_ (am_Tl.cm _ _ _ _ _ _ _ _ _)) _ _ _
    · split
      · exact am_Tl.if_ (am_Tl.if_ (am_Tl.go _ _ _ _))
      · exact am_Tl.no
    · exact am_Tl.p1r fun _ _ => am_Tl.if_ (am_Tl.if_ (am_Tl.go _ _ _ _))
    · exact am_Tl.p1r fun _ _ => am_Tl.if_ (am_Tl.go _ _ _ _)
    · exact am_Tl.p2i fun _ _ _ => am_Tl.if_ (am_Tl.go _ _ _ _)
    · exact am_Tl.p1r fun _ _ => am_Tl.if_ (am_Tl.if_ (am_Tl.go _ _ _ _))
    · exact am_Tl.pia fun _ _ _ => am_Tl.if_ (am_Tl.if_ (am_Tl.if_ (am_Tl.go _ _ _ _)))
    · exact am_Tl.no
theorem am_Tl.get (G : am_Gt) (P : am_Pt) (ix pc : Nat) (ls : List (Option Value)) (st : List Value) (s : am_St) : am_Tl (fun _ k _ => am_get G P ix pc ls st s k) := by
  unfold am_get
  split
  · exact am_Tl.no
  · refine am_Tl.p1r fun _ _ => am_Tl.cond (am_Tl.if_ (am_Tl.go _ _ _ _)) (am_Tl.if_ ?_)
    split
    · exact am_Tl.go _ _ _ _
    · exact am_Tl.go _ _ _ _
    · exact am_Tl.cond (am_Tl.if_ (am_Tl.go _ _ _ _)) (am_Tl.if_ (am_Tl.if_ (am_Tl.go _ _ _ _)))
    · exact am_Tl.go _ _ _ _
    · exact am_Tl.no
theorem am_Tl.put (G : am_Gt) (P : am_Pt) (ix pc : Nat) (ls : List (Option Value)) (st : List Value) (s : am_St) : am_Tl (fun _ k _ => am_put G P ix pc ls st s k) := by
  unfold am_put
  split
  · exact am_Tl.no
  · split
    · refine am_Tl.if_ ?_
      split
      · exact am_Tl.go _ _ _ _
      · exact am_Tl.if_ (am_Tl.go _ _ _ _)
      · exact am_Tl.no
    · refine am_Tl.if_ ?_
      split
      · exact am_Tl.cond (am_Tl.if_ (am_Tl.go _ _ _ _)) (am_Tl.if_ (am_Tl.go _ _ _ _))
      · exact am_Tl.cond (am_Tl.if_ (am_Tl.go _ _ _ _)) (am_Tl.if_ (am_Tl.if_ (am_Tl.go _ _ _ _)))
      · exact am_Tl.no
    · exact am_Tl.no
theorem am_kf_eq {α : Type} (a : Option Value) (f : Option Value → α) : am_kf a f = f (am_kf a id) := by
  unfold am_kf
  split <;> rfl
theorem am_s1c_eq {α : Type} : ∀ (ls : List (Option Value)) (i : Nat) (v : Value) (f : List (Option Value) → α), am_s1c ls i v f = f (am_s1 ls i v)
  | [], 0, v, f => rfl
  | [], i + 1, v, f => by
    cases i <;> rfl
  | a :: t, 0, v, f => rfl
  | a :: t, 1, v, f => by
    show am_kf a (fun a' => am_s1c t 0 v fun t' => f (a' :: t')) = _
    rw [am_kf_eq]
    rw [am_s1c_eq t 0 v]
    congr 1
    match a with
    | none | some (.int _) | some (.long _) | some (.float _) | some (.double _) | some .null | some (.ref _) | some (.retAddr _) => rfl
  | a :: t, i + 2, v, f => by
    show am_s1c t (i + 1) v (fun t' => f (a :: t')) = _
    rw [am_s1c_eq t (i + 1) v]
    congr 1
    show _ = am_set (am_kill (a :: t) (i + 1)) (i + 2) (some v)
    have e : am_kill (a :: t) (i + 1) = a :: am_kill t i := by
      simp only [am_kill, am_nth, am_set]
      split <;> rfl
    rw [e]
    rfl
theorem am_s2c_eq {α : Type} : ∀ (ls : List (Option Value)) (i : Nat) (v : Value) (f : List (Option Value) → α), am_s2c ls i v f = f (am_s2 ls i v)
  | [], 0, v, f => rfl
  | [], i + 1, v, f => by
    cases i <;> rfl
  | [a], 0, v, f => rfl
  | a :: b :: t, 0, v, f => rfl
  | a :: t, 1, v, f => by
    have e0 : am_s2c (a :: t) 1 v f = am_kf a (fun a' => am_s2c t 0 v fun t' => f (a' :: t')) := by
      cases t <;> rfl
    rw [e0, am_kf_eq, am_s2c_eq t 0 v]
    congr 1
    match a with
    | none | some (.int _) | some (.long _) | some (.float _) | some (.double _) | some .null | some (.ref _) | some (.retAddr _) => rfl
  | a :: t, i + 2, v, f => by
    have e0 : am_s2c (a :: t) (i + 2) v f = am_s2c t (i + 1) v (fun t' => f (a :: t')) := by
      cases t <;> rfl
    rw [e0, am_s2c_eq t (i + 1) v]
    congr 1
    show _ = am_set (am_set (am_kill (a :: t) (i + 1)) (i + 3) none) (i + 2) (some v)
    have e : am_kill (a :: t) (i + 1) = a :: am_kill t i := by
      simp only [am_kill, am_nth, am_set]
      split <;> rfl
    rw [e]
    rfl
theorem am_mskc_eq {α : Type} : ∀ (m : List Bool) (l : List (Option Value)) (f : List (Option Value) → α), am_mskc m l f = f (am_msk m l)
  | [], l, f => by cases l <;> rfl
  | true :: m, [], f => rfl
  | false :: m, [], f => rfl
  | true :: m, v :: l, f => am_mskc_eq m l _
  | false :: m, v :: l, f => am_mskc_eq m l _
theorem am_mqc_eq {α : Type} (K : List (List (Nat × List Bool))) (pc : Nat) (l : List (Option Value)) (f : List (Option Value) → α) : am_mqc K pc l f = f (am_mq K pc l) := by
  unfold am_mqc am_mq
  split
  · exact am_mskc_eq _ _ _
  · rfl
theorem am_Tl.mask {F : (R : Type) → am_Kt R → (Value → am_St → Option R) → Option R} (h : am_Tl F) (K : List (List (Nat × List Bool))) : am_Tl (fun R k fin => F R (fun q l st s => am_mqc K q l fun l' => k q l' st s) fin) := by
  rcases h with e | ⟨a, b, c, d, e⟩ | ⟨v, t, e⟩
  · exact Or.inl fun R k fin => e R _ fin
  · exact Or.inr (Or.inl ⟨a, am_mq K a b, c, d, fun R k fin => (e R _ fin).trans (am_mqc_eq K a b fun l' => k a l' c d)⟩)
  · exact Or.inr (Or.inr ⟨v, t, fun R k fin => e R _ fin⟩)
theorem am_Tl.s1 {ls : List (Option Value)} {i : Nat} {v : Value} {pc : Nat} {r : List Value} {s : am_St} : am_Tl (fun _ k _ => am_s1c ls i v fun l => k pc l r s) := Or.inr (Or.inl ⟨pc, am_s1 ls i v, r, s, fun _ k _ => am_s1c_eq ls i v fun l => k pc l r s⟩)
theorem am_Tl.s2 {ls : List (Option Value)} {i : Nat} {v : Value} {pc : Nat} {r : List Value} {s : am_St} : am_Tl (fun _ k _ => am_s2c ls i v fun l => k pc l r s) := Or.inr (Or.inl ⟨pc, am_s2 ls i v, r, s, fun _ k _ => am_s2c_eq ls i v fun l => k pc l r s⟩)
set_option maxHeartbeats 4000000 in
theorem am_Tl.ins (G : am_Gt) (P : am_Pt) (i : Instr) (cst : Int32) (len pc : Nat) (ls : List (Option Value)) (st : List Value) (s : am_St) : am_Tl (fun _ k fin => am_ins G P i cst len pc ls st s k fin) := by
  cases i
  case ldc ix =>
    refine am_Tl.ln ?_
    split
    · exact am_Tl.go _ _ _ _
    · exact am_Tl.no
  case getstatic ix =>
    refine am_Tl.ln ?_
    split
    · exact am_Tl.go _ _ _ _
    · exact am_Tl.no
  case ldc2_w ix =>
    refine am_Tl.ln ?_
    split
    · exact am_Tl.go _ _ _ _
    · exact am_Tl.no
  case goto off => exact am_Tl.ln (am_Tl.tg fun _ => am_Tl.go _ _ _ _)
  case ifCond c off => exact am_Tl.ln (am_Tl.p1i fun _ _ => am_Tl.tg fun _ => am_Tl.bc (am_Tl.go _ _ _ _) (am_Tl.go _ _ _ _))
  case if_icmp c off => exact am_Tl.ln (am_Tl.p2i fun _ _ _ => am_Tl.tg fun _ => am_Tl.bc (am_Tl.go _ _ _ _) (am_Tl.go _ _ _ _))
  case if_acmp c off =>
    refine am_Tl.ln (am_Tl.p2r fun _ _ _ => am_Tl.if_ (am_Tl.tg fun _ => ?_))
    cases c <;> exact am_Tl.ite (am_Tl.go _ _ _ _) (am_Tl.go _ _ _ _)
  case tableswitch d lo hi offs => exact am_Tl.p1i fun _ _ => am_Tl.if_ (am_Tl.sw _ (am_Tl.tg fun _ => am_Tl.go _ _ _ _) fun _ => am_Tl.tg fun _ => am_Tl.go _ _ _ _)
  case lookupswitch d ps => exact am_Tl.p1i fun _ _ => am_Tl.if_ (am_Tl.sw _ (am_Tl.tg fun _ => am_Tl.go _ _ _ _) fun _ => am_Tl.tg fun _ => am_Tl.go _ _ _ _)
  case getfield ix => exact am_Tl.ln (am_Tl.get _ _ _ _ _ _ _)
  case putfield ix => exact am_Tl.ln (am_Tl.put _ _ _ _ _ _ _)
  case invokestatic ix => exact am_Tl.ln (am_Tl.call _ _ _ _ _ _ _ _)
  case invokevirtual ix => exact am_Tl.ln (am_Tl.call _ _ _ _ _ _ _ _)
  case invokespecial ix => exact am_Tl.ln (am_Tl.call _ _ _ _ _ _ _ _)
  case bastore =>
    refine am_Tl.ln (am_Tl.p1i fun _ _ => am_Tl.pia fun _ _ _ => am_Tl.if_ ?_)
    split
    · exact am_Tl.if_ (am_Tl.go _ _ _ _)
    · exact am_Tl.if_ (am_Tl.go _ _ _ _)
    · exact am_Tl.no
  case newarray t =>
    refine am_Tl.ln (am_Tl.p1i fun _ _ => ?_)
    cases t <;> first | exact am_Tl.no | exact am_Tl.if_ (am_Tl.go _ _ _ _)
  case anewarray ix =>
    refine am_Tl.ln (am_Tl.p1i fun _ _ => ?_)
    split
    · exact am_Tl.if_ (am_Tl.go _ _ _ _)
    · exact am_Tl.no
  case aastore => exact am_Tl.ln (am_Tl.p1r fun _ _ => am_Tl.pia fun _ _ _ => am_Tl.if_ (am_Tl.if_ (am_Tl.go _ _ _ _)))
  case new ix =>
    refine am_Tl.ln ?_
    split
    · exact am_Tl.if_ (am_Tl.go _ _ _ _)
    · exact am_Tl.no
  case irem => exact am_Tl.ln (am_Tl.p2i fun _ _ _ => am_Tl.ite am_Tl.no (am_Tl.go _ _ _ _))
  case ldiv => exact am_Tl.ln (am_Tl.p2l fun _ _ _ => am_Tl.ite am_Tl.no (am_Tl.go _ _ _ _))
  case lrem => exact am_Tl.ln (am_Tl.p2l fun _ _ _ => am_Tl.ite am_Tl.no (am_Tl.go _ _ _ _))
  case iload_n n => exact am_Tl.ln (am_Tl.ldi fun _ => am_Tl.go _ _ _ _)
  case iload n => exact am_Tl.ln (am_Tl.ldi fun _ => am_Tl.go _ _ _ _)
  case lload_n n => exact am_Tl.ln (am_Tl.ldl fun _ => am_Tl.go _ _ _ _)
  case lload n => exact am_Tl.ln (am_Tl.ldl fun _ => am_Tl.go _ _ _ _)
  case aload_n n => exact am_Tl.ln (am_Tl.lda fun _ => am_Tl.go _ _ _ _)
  case aload n => exact am_Tl.ln (am_Tl.lda fun _ => am_Tl.go _ _ _ _)
  case istore_n n => exact am_Tl.ln (am_Tl.if_ (am_Tl.p1i fun _ _ => am_Tl.s1))
  case istore n => exact am_Tl.ln (am_Tl.if_ (am_Tl.p1i fun _ _ => am_Tl.s1))
  case lstore_n n => exact am_Tl.ln (am_Tl.if_ (am_Tl.p1l fun _ _ => am_Tl.s2))
  case lstore n => exact am_Tl.ln (am_Tl.if_ (am_Tl.p1l fun _ _ => am_Tl.s2))
  case astore_n n => exact am_Tl.ln (am_Tl.if_ (am_Tl.pst (fun _ _ => am_Tl.s1) (fun _ => am_Tl.go _ _ _ _)))
  case astore n => exact am_Tl.ln (am_Tl.if_ (am_Tl.pst (fun _ _ => am_Tl.s1) (fun _ => am_Tl.go _ _ _ _)))
  case iinc n v => exact am_Tl.ln (am_Tl.if_ (am_Tl.ldi fun _ => am_Tl.s1))
  case arraylength => exact am_Tl.ln (am_Tl.p1r fun _ _ => am_Tl.if_ (am_Tl.if_ (am_Tl.go _ _ _ _)))
  case iaload => exact am_Tl.ln (am_Tl.pia fun _ _ _ => am_Tl.if_ (am_Tl.if_ (am_Tl.go _ _ _ _)))
  case baload => exact am_Tl.ln (am_Tl.pia fun _ _ _ => am_Tl.if_ (am_Tl.if_ (am_Tl.go _ _ _ _)))
  case laload => exact am_Tl.ln (am_Tl.pia fun _ _ _ => am_Tl.if_ (am_Tl.if_ (am_Tl.go _ _ _ _)))
  case aaload => exact am_Tl.ln (am_Tl.pia fun _ _ _ => am_Tl.if_ (am_Tl.if_ (am_Tl.if_ (am_Tl.go _ _ _ _))))
  case iastore => exact am_Tl.ln (am_Tl.p1i fun _ _ => am_Tl.pia fun _ _ _ => am_Tl.if_ (am_Tl.if_ (am_Tl.go _ _ _ _)))
  case lastore => exact am_Tl.ln (am_Tl.p1l fun _ _ => am_Tl.pia fun _ _ _ => am_Tl.if_ (am_Tl.if_ (am_Tl.go _ _ _ _)))
  case ireturn => exact am_Tl.ln (am_Tl.p1i fun _ _ => am_Tl.if_ (am_Tl.if_ (am_Tl.fin _ _)))
  case lreturn => exact am_Tl.ln (am_Tl.p1l fun _ _ => am_Tl.if_ (am_Tl.fin _ _))
  case areturn => exact am_Tl.ln (am_Tl.p1r fun _ _ => am_Tl.if_ (am_Tl.if_ (am_Tl.fin _ _)))
  case return_ => exact am_Tl.ln (am_Tl.if_ (am_Tl.fin _ _))
  all_goals first
    | exact am_Tl.no
    | exact am_Tl.ln (am_Tl.go _ _ _ _)
    | exact am_Tl.ln (am_Tl.p1i fun _ _ => am_Tl.go _ _ _ _)
    | exact am_Tl.ln (am_Tl.p2i fun _ _ _ => am_Tl.go _ _ _ _)
    | exact am_Tl.ln (am_Tl.p1l fun _ _ => am_Tl.go _ _ _ _)
    | exact am_Tl.ln (am_Tl.p2l fun _ _ _ => am_Tl.go _ _ _ _)
    | exact am_Tl.ln (am_Tl.p1 fun _ _ => am_Tl.go _ _ _ _)
    | exact am_Tl.ln (am_Tl.p2 fun _ _ _ => am_Tl.go _ _ _ _)
theorem am_Tl.step (G : am_Gt) (P : am_Pt) (pc : Nat) (ls : List (Option Value)) (st : List Value) (s : am_St) : am_Tl (fun _ k fin => am_step G P pc ls st s k fin) := by
  unfold am_step
  split
  · exact am_Tl.mask (am_Tl.ins _ _ _ _ _ _ _ _ _) _
  · exact am_Tl.no
theorem am_step_tl (G : am_Gt) (P : am_Pt) (pc : Nat) (ls : List (Option Value)) (st : List Value) (s : am_St) : (∀ (R : Type) (k : am_Kt R) (fin : Value → am_St → Option R), am_step G P pc ls st s k fin = none) ∨ (∃ a b c d, ∀ (R : Type) (k : am_Kt R) (fin : Value → am_St → Option R), am_step G P pc ls st s k fin = k a b c d) ∨ (∃ v t, ∀ (R : Type) (k : am_Kt R) (fin : Value → am_St → Option R), am_step G P pc ls st s k fin = fin v t) := am_Tl.step G P pc ls st s
theorem am_run_mono (G : am_Gt) (P : am_Pt) : ∀ (n : Nat) (pc : Nat) (ls : List (Option Value)) (st : List Value) (s : am_St) (r : Value × am_St), am_run G P n pc ls st s = some r → ∀ k, n ≤ k → am_run G P k pc ls st s = some r := by
  intro n
  induction n with
  | zero => intro pc ls st s r h; cases h
  | succ n ih =>
    intro pc ls st s r h k hk
    obtain ⟨j, rfl⟩ : ∃ j, k = j + 1 := ⟨k - 1, by omega⟩
    have h0 : am_step G P pc ls st s (am_run G P n) (fun v t => some (v, t)) = some r := h
    show am_step G P pc ls st s (am_run G P j) (fun v t => some (v, t)) = some r
    rcases am_step_tl G P pc ls st s with e | ⟨a, b, c, d, e⟩ | ⟨v, t, e⟩
    · rw [e] at h0; cases h0
    · rw [e] at h0 ⊢; exact ih _ _ _ _ _ h0 _ (by omega)
    · rw [e] at h0 ⊢; exact h0

noncomputable def am_M (G : am_Gt) (P : am_Pt) : am_Kt (Value × am_St) := fun pc ls st s =>
  @dite _ (∃ n r, am_run G P n pc ls st s = some r) (Classical.propDecidable _) (fun h => some (Classical.choose (Classical.choose_spec h))) (fun _ => none)
theorem am_M_of {G : am_Gt} {P : am_Pt} {n pc : Nat} {ls : List (Option Value)} {st : List Value} {s : am_St} {r : Value × am_St} (h : am_run G P n pc ls st s = some r) : am_M G P pc ls st s = some r := by
  have hx : ∃ n r, am_run G P n pc ls st s = some r := ⟨n, r, h⟩
  unfold am_M
  rw [dif_pos hx]
  have h2 := Classical.choose_spec (Classical.choose_spec hx)
  have h3 := am_run_mono G P _ _ _ _ _ _ h2 (max n (Classical.choose hx)) (Nat.le_max_right _ _)
  have h4 := am_run_mono G P _ _ _ _ _ _ h (max n (Classical.choose hx)) (Nat.le_max_left _ _)
  rw [h3] at h4
  exact h4
theorem am_M_run {G : am_Gt} {P : am_Pt} {pc : Nat} {ls : List (Option Value)} {st : List Value} {s : am_St} {r : Value × am_St} (h : am_M G P pc ls st s = some r) : ∃ n, am_run G P n pc ls st s = some r := by
  unfold am_M at h
  split at h
  next hx =>
    cases h
    exact ⟨_, Classical.choose_spec (Classical.choose_spec hx)⟩
  next => cases h
/-- a run is its first step and a run from there -/
theorem am_M_step (G : am_Gt) (P : am_Pt) (pc : Nat) (ls : List (Option Value)) (st : List Value) (s : am_St) : am_M G P pc ls st s = am_step G P pc ls st s (am_M G P) (fun v t => some (v, t)) := by
  rcases am_step_tl G P pc ls st s with e | ⟨a, b, c, d, e⟩ | ⟨v, t, e⟩
  · rw [e]
    cases h : am_M G P pc ls st s with
    | none => rfl
    | some r =>
      obtain ⟨n, hn⟩ := am_M_run h
      cases n with
      | zero => cases hn
      | succ n =>
        have h0 : am_step G P pc ls st s (am_run G P n) (fun v t => some (v, t)) = some r := hn
        rw [e] at h0
        cases h0
  · rw [e]
    cases h : am_M G P a b c d with
    | some r =>
      obtain ⟨n, hn⟩ := am_M_run h
      refine am_M_of (n := n + 1) ?_
      show am_step G P pc ls st s (am_run G P n) (fun v t => some (v, t)) = some r
      rw [e]
      exact hn
    | none =>
      cases h2 : am_M G P pc ls st s with
      | none => rfl
      | some r =>
        obtain ⟨n, hn⟩ := am_M_run h2
        cases n with
        | zero => cases hn
        | succ n =>
          have h0 : am_step G P pc ls st s (am_run G P n) (fun v t => some (v, t)) = some r := hn
          rw [e] at h0
          rw [am_M_of h0] at h
          cases h
  · rw [e]
    refine am_M_of (n := 1) ?_
    show am_step G P pc ls st s (am_run G P 0) (fun v t => some (v, t)) = some (v, t)
    rw [e]
/-- a run by the steps up to the next place where one stops -/
def am_go (G : am_Gt) (P : am_Pt) (stop : List (List (Nat × List Bool))) : Nat → am_Kt (Value × am_St) → am_Kt (Value × am_St) := fun n M => Nat.rec M (fun _ ih => fun pc ls st s => cond (am_sp stop pc) (M pc ls st s) (am_step G P pc ls st s ih (fun v t => some (v, t)))) n
theorem am_go_eq (G : am_Gt) (P : am_Pt) (stop : List (List (Nat × List Bool))) (n : Nat) : am_go G P stop n (am_M G P) = am_M G P := by
  induction n with
  | zero => rfl
  | succ n ih =>
    funext pc ls st s
    show cond (am_sp stop pc) (am_M G P pc ls st s) (am_step G P pc ls st s (am_go G P stop n (am_M G P)) (fun v t => some (v, t))) = _
    rw [ih]
    cases am_sp stop pc
    · exact (am_M_step G P pc ls st s).symm
    · rfl
theorem am_fe {G : am_Gt} {P : am_Pt} {L : Nat} {args : List Value} {s : am_St} {ls : List (Option Value)} {r : Option (Value × am_St)} (h : am_pad L (am_ent args) = ls) (h2 : am_M G P 0 ls [] s = r) : am_M G P 0 (am_pad L (am_ent args)) [] s = r := by
  rw [h]
  exact h2
/-- the equation of a run from a place, up to the places where one stops -/
theorem am_eq {G : am_Gt} {P : am_Pt} (stop : List (List (Nat × List Bool))) (n : Nat) {pc : Nat} {ls : List (Option Value)} {st : List Value} {s : am_St} {r : Option (Value × am_St)} (h : am_step G P pc ls st s (am_go G P stop n (am_M G P)) (fun v t => some (v, t)) = r) : am_M G P pc ls st s = r := by
  rw [am_go_eq] at h
  rw [am_M_step]
  exact h
end
section
/-! WHAT AN ABSTRACT STATE SAYS OF THE HEAP, and how it is kept -/
set_option maxRecDepth 100000
def am_cn (s : am_St) (ad : Nat → Nat) (v : Value) : Value := match v with
  | .ref x => if am_isA x = true ∧ am_al s x = 0 then .null else .ref (ad x)
  | .retAddr _ => .ref (ad 19999)
  | v => v
def am_okv (s : am_St) (v : Value) : Prop := match v with
  | .ref x => x < 64 → am_ob s x = true
  | _ => True
def am_fv (G : am_Gt) (s : am_St) (ad : Nat → Nat) (o ci k : Nat) : Value := match am_ty G ci k with
  | .array _ => am_cn s ad (.ref (am_A o k))
  | .object _ => if am_fr s o k = 0 then .null else .ref (ad (am_fr s o k))
  | _ => .int (am_fi s o k)
def am_Nf (cl : List vw_C) (ci : Nat) : Nat := match cl[ci]? with
  | some q => q.2.2
  | none => 0
def am_rfs (s : am_St) (ad : Nat → Nat) (x : Nat) : Nat → Option Nat := fun j => if am_ar s x j = 0 then none else some (ad (am_ar s x j))
def am_cnt (G : am_Gt) (s : am_St) (ad : Nat → Nat) (x : Nat) : vp_A := match am_et G x with
  | 3 => (am_al s x, .inr (.inl (am_aL s x)))
  | 4 => (am_al s x, .inr (.inr (.inr (.inr (am_rfs s ad x)))))
  | 5 => (am_al s x, .inr (.inr (.inr (.inr (am_rfs s ad x)))))
  | _ => (am_al s x, .inl (am_ai s x))
def am_fs (cl : List vw_C) (G : am_Gt) (s : am_St) (ad : Nat → Nat) (x : Nat) : List Value := (List.range (am_Nf cl (am_kl G x))).map (am_fv G s ad x (am_kl G x))
def am_e (cl : List vw_C) (G : am_Gt) (dA : Nat → ClassId) (s : am_St) (ad : Nat → Nat) (x : Nat) : va_E := if x < 64 then .inr (am_kl G x, am_fs cl G s ad x) else .inl (dA (am_et G x), am_cnt G s ad x)
def am_w (cl : List vw_C) (G : am_Gt) (dA : Nat → ClassId) (s : am_St) (ad : Nat → Nat) (x : Nat) : Nat × va_E := (ad x, am_e cl G dA s ad x)
def am_lv (s : am_St) (x : Nat) : Prop := (x < 64 ∧ am_ob s x = true) ∨ (am_isA x = true ∧ am_al s x ≠ 0)
def am_inv (G : am_Gt) (s : am_St) : Prop := (∀ o k, am_fr s o k = 0 ∨ 20000 ≤ am_fr s o k ∨ (am_fr s o k < 64 ∧ am_ob s (am_fr s o k) = true)) ∧ (∀ x, am_et G x = 1 → ∀ j, fits .byte (.int (am_ai s x j)) = true) ∧ (∀ x j, am_ar s x j = 0 ∨ 20000 ≤ am_ar s x j)
/-- the heap holds the state: a list of what is there, each cell as the state has it -/
def am_Rep (cl : List vw_C) (G : am_Gt) (D : va_G) (dA : Nat → ClassId) (A : Nat → Prop) (s : am_St) (ad : Nat → Nat) (H : Heap) : Prop :=
  (∃ ids : List Nat, ids.Nodup ∧ (∀ x, x ∈ ids ↔ am_lv s x) ∧ va_P D cl (ids.map (am_w cl G dA s ad)) H ∧ va_D A (ids.map (am_w cl G dA s ad))) ∧ am_inv G s
def am_Tr (G : am_Gt) (s0 : am_St) (ad0 : Nat → Nat) (s : am_St) (ad : Nat → Nat) : Prop :=
  (∀ x, x < 64 → am_ob s0 x = true → am_ob s x = true ∧ ad x = ad0 x) ∧
  (∀ x, am_isA x = true → am_mv s0 x ≤ am_mv s x ∧ (am_al s0 x ≠ 0 → (am_fx G x = true ∨ am_mv s x = am_mv s0 x) → am_al s x ≠ 0 ∧ ad x = ad0 x)) ∧
  (∀ x, 20000 ≤ x → ad x = ad0 x) ∧ am_gc s0 ≤ am_gc s ∧ am_gs s0 ≤ am_gs s ∧ (∀ x, am_isA x = true → am_al s0 x = 0 → am_mv s x = am_mv s0 x → am_al s x = 0)
theorem am_Tr.rf {G : am_Gt} {s : am_St} {ad : Nat → Nat} : am_Tr G s ad s ad := ⟨fun _ _ h => ⟨h, rfl⟩, fun _ _ => ⟨Nat.le_refl _, fun h _ => ⟨h, rfl⟩⟩, fun _ _ => rfl, Nat.le_refl _, Nat.le_refl _, fun _ _ h _ => h⟩
theorem am_Tr.tr {G : am_Gt} {s0 s1 s2 : am_St} {a0 a1 a2 : Nat → Nat} (h : am_Tr G s0 a0 s1 a1) (k : am_Tr G s1 a1 s2 a2) : am_Tr G s0 a0 s2 a2 := by
  obtain ⟨h1, h2, h3, h4, h5, h6⟩ := h
  obtain ⟨k1, k2, k3, k4, k5, k6⟩ := k
  refine ⟨fun x hx ho => ?_, fun x hx => ?_, fun x hx => (k3 x hx).trans (h3 x hx), Nat.le_trans h4 k4, Nat.le_trans h5 k5, fun x hx h0 hm => ?_⟩
  · obtain ⟨a, b⟩ := h1 x hx ho
    obtain ⟨c, d⟩ := k1 x hx a
    exact ⟨c, d.trans b⟩
  · obtain ⟨a, b⟩ := h2 x hx
    obtain ⟨c, d⟩ := k2 x hx
    refine ⟨Nat.le_trans a c, fun h0 hf => ?_⟩
    have hf1 : am_fx G x = true ∨ am_mv s1 x = am_mv s0 x := hf.imp id (fun e => by omega)
    obtain ⟨e1, e2⟩ := b h0 hf1
    have hf2 : am_fx G x = true ∨ am_mv s2 x = am_mv s1 x := hf.imp id (fun e => by omega)
    obtain ⟨g1, g2⟩ := d e1 hf2
    exact ⟨g1, g2.trans e2⟩
  · have a := (h2 x hx).1
    have c := (k2 x hx).1
    exact k6 x hx (h6 x hx h0 (by omega)) (by omega)
theorem am_cn_cat (s : am_St) (ad : Nat → Nat) (v : Value) : (am_cn s ad v).category = v.category := by
  cases v <;> simp only [am_cn]
  · split <;> rfl
  · rfl
theorem am_cats_cn (s : am_St) (ad : Nat → Nat) (l : List Value) : ((l.map (am_cn s ad)).map fun v => v.category).sum = am_cats l := by
  simp only [am_cats, List.map_map]
  congr 1
  apply List.map_congr_left
  intro v _
  exact am_cn_cat s ad v
section RP
variable {cl : List vw_C} {G : am_Gt} {D : va_G} {dA : Nat → ClassId} {A : Nat → Prop} {s s' : am_St} {ad ad' : Nat → Nat} {H H' : Heap}
theorem am_ids_at {α β : Type} {ids : List α} (F : α → β) {x : α} (h : x ∈ ids) : ∃ q : Nat, ids[q]? = some x ∧ (ids.map F)[q]? = some (F x) := by
  obtain ⟨q, hq⟩ := List.getElem?_of_mem h
  exact ⟨q, hq, by rw [List.getElem?_map, hq]; rfl⟩
theorem am_ids_set {α β : Type} {ids : List α} {F F' : α → β} (hn : ids.Nodup) {q : Nat} {x : α} (hq : ids[q]? = some x) (h : ∀ y, y ∈ ids → y ≠ x → F' y = F y) : (ids.map F).set q (F' x) = ids.map F' := by
  apply List.ext_getElem?
  intro j
  rw [List.getElem?_set]
  by_cases hj : q = j
  · subst hj
    have hl : q < ids.length := (List.getElem?_eq_some_iff.mp hq).1
    rw [if_pos rfl, List.length_map, if_pos hl, List.getElem?_map, hq]
    rfl
  · rw [if_neg hj, List.getElem?_map, List.getElem?_map]
    cases hy : ids[j]? with
    | none => rfl
    | some y =>
      simp only [Option.map_some]
      rw [h y (List.mem_of_getElem? hy)]
      intro e
      subst e
      have h1 := List.getElem?_eq_some_iff.mp hq
      have h2 := List.getElem?_eq_some_iff.mp hy
      obtain ⟨l1, e1⟩ := h1
      obtain ⟨l2, e2⟩ := h2
      exact hj ((List.getElem_inj hn).mp (e1.trans e2.symm))
theorem am_w_lt {x : Nat} (h : x < 64) : am_w cl G dA s ad x = (ad x, .inr (am_kl G x, am_fs cl G s ad x)) := by simp [am_w, am_e, h]
theorem am_isA_ge {x : Nat} (h : am_isA x = true) : 64 ≤ x ∧ x ≤ 4999 := by
  simp only [am_isA, Bool.and_eq_true] at h
  exact ⟨Nat.le_of_ble_eq_true h.1, Nat.le_of_ble_eq_true h.2⟩
theorem am_isA_of {x : Nat} (h : 64 ≤ x) (h2 : x ≤ 4999) : am_isA x = true := by
  simp only [am_isA, Bool.and_eq_true]
  exact ⟨Nat.ble_eq_true_of_le h, Nat.ble_eq_true_of_le h2⟩
theorem am_w_A {x : Nat} (h : am_isA x = true) : am_w cl G dA s ad x = (ad x, .inl (dA (am_et G x), am_cnt G s ad x)) := by
  have := (am_isA_ge h).1
  simp [am_w, am_e, show ¬ x < 64 by omega]
theorem am_cn_live {x : Nat} (h : am_al s x ≠ 0) : am_cn s ad (.ref x) = .ref (ad x) := by simp [am_cn, h]
theorem am_cn_ob {x : Nat} (h : x < 64) : am_cn s ad (.ref x) = .ref (ad x) := by
  have : am_isA x = false := by
    simp only [am_isA, Bool.and_eq_false_iff]
    left
    cases hh : Nat.ble 64 x with
    | false => rfl
    | true => have := Nat.le_of_ble_eq_true hh; omega
  simp [am_cn, this]
theorem am_isA_big {x : Nat} (h : 4999 < x) : am_isA x = false := by
  simp only [am_isA, Bool.and_eq_false_iff]
  right
  cases hh : Nat.ble x 4999 with
  | false => rfl
  | true => have := Nat.le_of_ble_eq_true hh; omega
theorem am_cn_big {x : Nat} (h : 4999 < x) : am_cn s ad (.ref x) = .ref (ad x) := by simp [am_cn, am_isA_big h]
/-- the same state over another heap that has the same cells -/
theorem am_Rep.kept (h : am_Rep cl G D dA A s ad H) (hq : ∀ q : Nat, q < H.size → A q → H'[q]? = H[q]?) : am_Rep cl G D dA A s ad H' := by
  obtain ⟨⟨ids, hn, hl, hP, hD⟩, hi⟩ := h
  exact ⟨⟨ids, hn, hl, hP.kept fun k q hk => hq q.1 ((hP k q hk).lt) (hD.2 k q hk), hD⟩, hi⟩
theorem am_Rep.at (h : am_Rep cl G D dA A s ad H) {x : Nat} (hx : am_lv s x) : va_at D cl (am_w cl G dA s ad x) H := by
  obtain ⟨⟨ids, hn, hl, hP, hD⟩, hi⟩ := h
  obtain ⟨q, -, hq⟩ := am_ids_at (am_w cl G dA s ad) ((hl x).mpr hx)
  exact hP q _ hq
theorem am_P1 {q : Nat × va_E} (h : va_at D cl q H) : va_P D cl [q] H := by
  intro k r hk
  cases k with
  | zero => cases hk; exact h
  | succ k => simp at hk
/-- a put to the cell of x: the rest of the state is as it was -/
theorem am_Rep.put {x : Nat} (h : am_Rep cl G D dA A s ad H) (hx : am_lv s x) (hlv : ∀ y, am_lv s' y ↔ am_lv s y) (hw : ∀ y, am_lv s y → y ≠ x → am_w cl G dA s' ad y = am_w cl G dA s ad y) (hi : am_inv G s') :
    ∃ (ws : va_W) (q : Nat) , va_P D cl ws H ∧ va_D A ws ∧ ws[q]? = some (am_w cl G dA s ad x) ∧ ∀ H1 : Heap, va_P D cl (ws.set q (am_w cl G dA s' ad x)) H1 → am_Rep cl G D dA A s' ad H1 := by
  obtain ⟨⟨ids, hn, hl, hP, hD⟩, hi0⟩ := h
  obtain ⟨q, hq, hqw⟩ := am_ids_at (am_w cl G dA s ad) ((hl x).mpr hx)
  refine ⟨_, q, hP, hD, hqw, fun H1 h1 => ?_⟩
  have e := am_ids_set (F := am_w cl G dA s ad) (F' := am_w cl G dA s' ad) hn hq (fun y hy hne => hw y ((hl y).mp hy) hne)
  have hD1 : va_D A (ids.map (am_w cl G dA s' ad)) := by
    rw [← e]
    exact hD.set (e := (am_w cl G dA s' ad x).2) hqw
  rw [e] at h1
  exact ⟨⟨ids, hn, fun y => (hl y).trans (hlv y).symm, h1, hD1⟩, hi⟩
end RP
/-! locals -/
def am_as : Nat → List (Option Value) → List (Nat × Value)
  | _, [] => []
  | n, none :: t => am_as (n + 1) t
  | n, some v :: t => (n, v) :: am_as (n + 1) t
theorem am_as_mem {j : Nat} {w : Value} : ∀ (n : Nat) (ls : List (Option Value)), (j, w) ∈ am_as n ls ↔ n ≤ j ∧ am_nth ls (j - n) = some (some w)
  | n, [] => by simp [am_as, am_nth]
  | n, none :: t => by
    rw [am_as, am_as_mem (n + 1) t]
    constructor
    · rintro ⟨h1, h2⟩
      refine ⟨by omega, ?_⟩
      obtain ⟨d, rfl⟩ : ∃ d, j = n + 1 + d := ⟨j - (n + 1), by omega⟩
      rw [show n + 1 + d - n = d + 1 by omega]
      rw [show n + 1 + d - (n + 1) = d by omega] at h2
      exact h2
    · rintro ⟨h1, h2⟩
      cases hd : j - n with
      | zero => rw [hd] at h2; cases h2
      | succ d =>
        rw [hd] at h2
        refine ⟨by omega, ?_⟩
        rw [show j - (n + 1) = d by omega]
        exact h2
  | n, some v :: t => by
    rw [am_as, List.mem_cons, am_as_mem (n + 1) t]
    constructor
    · rintro (h | ⟨h1, h2⟩)
      · cases h
        refine ⟨Nat.le_refl _, ?_⟩
        rw [Nat.sub_self]
        rfl
      · refine ⟨by omega, ?_⟩
        obtain ⟨d, rfl⟩ : ∃ d, j = n + 1 + d := ⟨j - (n + 1), by omega⟩
        rw [show n + 1 + d - n = d + 1 by omega]
        rw [show n + 1 + d - (n + 1) = d by omega] at h2
        exact h2
    · rintro ⟨h1, h2⟩
      cases hd : j - n with
      | zero =>
        rw [hd] at h2
        left
        have : w = v := by simpa [am_nth] using h2.symm
        rw [this, show j = n by omega]
      | succ d =>
        right
        rw [hd] at h2
        refine ⟨by omega, ?_⟩
        rw [show j - (n + 1) = d by omega]
        exact h2
theorem am_as_mem0 {j : Nat} {w : Value} {ls : List (Option Value)} : (j, w) ∈ am_as 0 ls ↔ am_nth ls j = some (some w) := by
  rw [am_as_mem]
  simp
theorem am_nth_set {α : Type} : ∀ (l : List α) (i j : Nat) (b : α), am_nth (am_set l i b) j = if j = i then (if i < l.length then some b else none) else am_nth l j
  | [], i, j, b => by simp [am_set, am_nth]
  | a :: t, 0, 0, b => by simp [am_set, am_nth]
  | a :: t, 0, j + 1, b => by simp [am_set, am_nth]
  | a :: t, i + 1, 0, b => by simp [am_set, am_nth]
  | a :: t, i + 1, j + 1, b => by
    simp only [am_set, am_nth]
    rw [am_nth_set t i j b]
    by_cases h : j = i <;> simp [h]
theorem am_set_len {α : Type} : ∀ (l : List α) (i : Nat) (b : α), (am_set l i b).length = l.length
  | [], i, b => rfl
  | a :: t, 0, b => rfl
  | a :: t, i + 1, b => by simp [am_set, am_set_len t i b]
theorem am_kill_nth {ls : List (Option Value)} {i j : Nat} {w : Value} (h : am_nth (am_kill ls i) j = some (some w)) : am_nth ls j = some (some w) ∧ ¬ (j = i ∧ w.category = 2) := by
  unfold am_kill at h
  split at h
  · rw [am_nth_set] at h
    by_cases e : j = i
    · rw [if_pos e] at h
      split at h <;> cases h
    · rw [if_neg e] at h
      exact ⟨h, fun z => e z.1⟩
  · rw [am_nth_set] at h
    by_cases e : j = i
    · rw [if_pos e] at h
      split at h <;> cases h
    · rw [if_neg e] at h
      exact ⟨h, fun z => e z.1⟩
  · rename_i h1 h2
    refine ⟨h, fun z => ?_⟩
    obtain ⟨e, hc⟩ := z
    subst e
    cases w with
    | long x => exact h1 x h
    | double x => exact h2 x h
    | _ => cases hc
theorem am_kill_len (ls : List (Option Value)) (i : Nat) : (am_kill ls i).length = ls.length := by
  unfold am_kill
  split <;> first | exact am_set_len _ _ _ | rfl
theorem am_pre_nth {ls : List (Option Value)} {i j : Nat} {w : Value} (h : am_nth (am_pre ls i) j = some (some w)) : am_nth ls j = some (some w) ∧ ¬ (j + 1 = i ∧ w.category = 2) := by
  unfold am_pre at h
  cases i with
  | zero => exact ⟨h, fun z => by omega⟩
  | succ i =>
    obtain ⟨a, b⟩ := am_kill_nth h
    exact ⟨a, fun z => b ⟨by omega, z.2⟩⟩
theorem am_pre_len (ls : List (Option Value)) (i : Nat) : (am_pre ls i).length = ls.length := by
  unfold am_pre
  cases i <;> first | rfl | exact am_kill_len _ _
theorem am_s1_nth {ls : List (Option Value)} {i j : Nat} {v w : Value} (hi : i < ls.length) (h : am_nth (am_s1 ls i v) j = some (some w)) : (j = i ∧ w = v) ∨ (j ≠ i ∧ am_nth ls j = some (some w) ∧ ¬ (j + 1 = i ∧ w.category = 2)) := by
  unfold am_s1 at h
  rw [am_nth_set] at h
  by_cases e : j = i
  · rw [if_pos e, if_pos (by rw [am_pre_len]; exact hi)] at h
    exact Or.inl ⟨e, (Option.some.inj (Option.some.inj h)).symm⟩
  · rw [if_neg e] at h
    obtain ⟨a, b⟩ := am_pre_nth h
    exact Or.inr ⟨e, a, b⟩
theorem am_s2_nth {ls : List (Option Value)} {i j : Nat} {v w : Value} (hi : i + 1 < ls.length) (h : am_nth (am_s2 ls i v) j = some (some w)) : (j = i ∧ w = v) ∨ (j ≠ i ∧ j ≠ i + 1 ∧ am_nth ls j = some (some w) ∧ ¬ (j + 1 = i ∧ w.category = 2)) := by
  unfold am_s2 at h
  rw [am_nth_set] at h
  by_cases e : j = i
  · rw [if_pos e, if_pos (by rw [am_set_len, am_pre_len]; omega)] at h
    exact Or.inl ⟨e, (Option.some.inj (Option.some.inj h)).symm⟩
  · rw [if_neg e, am_nth_set] at h
    by_cases e2 : j = i + 1
    · rw [if_pos e2] at h
      split at h <;> cases h
    · rw [if_neg e2] at h
      obtain ⟨a, b⟩ := am_pre_nth h
      exact Or.inr ⟨e, e2, a, b⟩
theorem am_msk_nth : ∀ (m : List Bool) (ls : List (Option Value)) (j : Nat) (w : Value), am_nth (am_msk m ls) j = some (some w) → am_nth ls j = some (some w)
  | [], ls, j, w, h => h
  | _ :: _, [], j, w, h => by cases h
  | b :: m, v :: l, 0, w, h => by
    cases b
    · cases h
    · exact h
  | b :: m, v :: l, j + 1, w, h => am_msk_nth m l j w h
theorem am_msk_len : ∀ (m : List Bool) (ls : List (Option Value)), (am_msk m ls).length = ls.length
  | [], ls => rfl
  | _ :: _, [] => rfl
  | b :: m, v :: l => by simp [am_msk, am_msk_len m l]
/-- the machine's locals hold the abstract ones -/
def am_LR (s : am_St) (ad : Nat → Nat) (nL : Nat) (ls : List (Option Value)) (ml : Array Slot) : Prop := ls.length = nL ∧ lv_has ml nL ((am_as 0 ls).map fun q => (q.1, am_cn s ad q.2)) ∧ ∀ j w, am_nth ls j = some (some w) → am_okv s w
section LRs
variable {s s' : am_St} {ad ad' : Nat → Nat} {nL : Nat} {ls ls' : List (Option Value)} {ml ml' : Array Slot}
theorem am_LR.get (h : am_LR s ad nL ls ml) {j : Nat} {w : Value} (hj : am_nth ls j = some (some w)) : ml[j]? = some (.val (am_cn s ad w)) :=
  h.2.1.2.2 (j, am_cn s ad w) (List.mem_map.mpr ⟨(j, w), am_as_mem0.mpr hj, rfl⟩)
theorem am_LR.sub (h : am_LR s ad nL ls ml) (hl : ls'.length = ls.length) (hs : ∀ j w, am_nth ls' j = some (some w) → am_nth ls j = some (some w)) (hc : ∀ j w, am_nth ls' j = some (some w) → am_cn s' ad' w = am_cn s ad w ∧ am_okv s' w) : am_LR s' ad' nL ls' ml := by
  refine ⟨hl.trans h.1, ⟨h.2.1.1, h.2.1.2.1, fun q hq => ?_⟩, fun j w hj => (hc j w hj).2⟩
  obtain ⟨⟨j, w⟩, hm, rfl⟩ := List.mem_map.mp hq
  have hj := am_as_mem0.mp hm
  show ml[j]? = some (.val (am_cn s' ad' w))
  rw [(hc j w hj).1]
  exact h.get (hs j w hj)
theorem am_LR.msk (h : am_LR s ad nL ls ml) (m : List Bool) : am_LR s ad nL (am_msk m ls) ml :=
  h.sub (am_msk_len m ls) (fun j w hj => am_msk_nth m ls j w hj) (fun j w hj => ⟨rfl, h.2.2 j w (am_msk_nth m ls j w hj)⟩)
theorem am_LR.st1 (h : am_LR s ad nL ls ml) {i : Nat} {v : Value} (hi : i < ls.length) (hv : am_okv s v) (h' : lv_has ml' nL ((i, am_cn s ad v) :: ((am_as 0 ls).map fun q => (q.1, am_cn s ad q.2)).filter (fun q => !(q.1 == i) && !(q.1 + 1 == i && q.2.category == 2)))) : am_LR s ad nL (am_s1 ls i v) ml' := by
  refine ⟨by rw [← h.1]; unfold am_s1; rw [am_set_len, am_pre_len], ⟨h'.1, h'.2.1, fun q hq => ?_⟩, fun j w hj => ?_⟩
  · obtain ⟨⟨j, w⟩, hm, rfl⟩ := List.mem_map.mp hq
    refine h'.2.2 _ ?_
    rcases am_s1_nth hi (am_as_mem0.mp hm) with ⟨rfl, rfl⟩ | ⟨h1, h2, h3⟩
    · exact List.mem_cons_self
    · refine List.mem_cons_of_mem _ (List.mem_filter.mpr ⟨List.mem_map.mpr ⟨(j, w), am_as_mem0.mpr h2, rfl⟩, ?_⟩)
      rw [am_cn_cat]
      simp only [Bool.and_eq_true, Bool.not_eq_true', beq_eq_false_iff_ne, ne_eq, Bool.and_eq_false_iff]
      refine ⟨h1, ?_⟩
      by_cases e : j + 1 = i
      · exact Or.inr fun z => h3 ⟨e, z⟩
      · exact Or.inl e
  · rcases am_s1_nth hi hj with ⟨rfl, rfl⟩ | ⟨h1, h2, h3⟩
    · exact hv
    · exact h.2.2 j w h2
theorem am_LR.st2 (h : am_LR s ad nL ls ml) {i : Nat} {v : Value} (hi : i + 1 < ls.length) (hv : am_okv s v) (h' : lv_has ml' nL ((i, am_cn s ad v) :: ((am_as 0 ls).map fun q => (q.1, am_cn s ad q.2)).filter (fun q => !(q.1 == i) && (!(q.1 == i + 1) && !(q.1 + 1 == i && q.2.category == 2))))) : am_LR s ad nL (am_s2 ls i v) ml' := by
  refine ⟨by rw [← h.1]; unfold am_s2; rw [am_set_len, am_set_len, am_pre_len], ⟨h'.1, h'.2.1, fun q hq => ?_⟩, fun j w hj => ?_⟩
  · obtain ⟨⟨j, w⟩, hm, rfl⟩ := List.mem_map.mp hq
    refine h'.2.2 _ ?_
    rcases am_s2_nth hi (am_as_mem0.mp hm) with ⟨rfl, rfl⟩ | ⟨h1, h1', h2, h3⟩
    · exact List.mem_cons_self
    · refine List.mem_cons_of_mem _ (List.mem_filter.mpr ⟨List.mem_map.mpr ⟨(j, w), am_as_mem0.mpr h2, rfl⟩, ?_⟩)
      rw [am_cn_cat]
      simp only [Bool.and_eq_true, Bool.not_eq_true', beq_eq_false_iff_ne, ne_eq, Bool.and_eq_false_iff]
      refine ⟨h1, h1', ?_⟩
      by_cases e : j + 1 = i
      · exact Or.inr fun z => h3 ⟨e, z⟩
      · exact Or.inl e
  · rcases am_s2_nth hi hj with ⟨rfl, rfl⟩ | ⟨h1, h1', h2, h3⟩
    · exact hv
    · exact h.2.2 j w h2
/-- dropped on being stored -/
theorem am_LR.st0 (h : am_LR s ad nL ls ml) {i : Nat} {v : Value} (h' : lv_has ml' nL ((i, v) :: ((am_as 0 ls).map fun q => (q.1, am_cn s ad q.2)).filter (fun q => !(q.1 == i) && !(q.1 + 1 == i && q.2.category == 2)))) : am_LR s ad nL (am_set (am_pre ls i) i none) ml' := by
  have key : ∀ j w, am_nth (am_set (am_pre ls i) i none) j = some (some w) → j ≠ i ∧ am_nth ls j = some (some w) ∧ ¬ (j + 1 = i ∧ w.category = 2) := by
    intro j w hj
    rw [am_nth_set] at hj
    by_cases e : j = i
    · rw [if_pos e] at hj
      split at hj <;> cases hj
    · rw [if_neg e] at hj
      obtain ⟨a, b⟩ := am_pre_nth hj
      exact ⟨e, a, b⟩
  refine ⟨by rw [← h.1, am_set_len, am_pre_len], ⟨h'.1, h'.2.1, fun q hq => ?_⟩, fun j w hj => h.2.2 j w (key j w hj).2.1⟩
  obtain ⟨⟨j, w⟩, hm, rfl⟩ := List.mem_map.mp hq
  refine h'.2.2 _ ?_
  obtain ⟨h1, h2, h3⟩ := key j w (am_as_mem0.mp hm)
  refine List.mem_cons_of_mem _ (List.mem_filter.mpr ⟨List.mem_map.mpr ⟨(j, w), am_as_mem0.mpr h2, rfl⟩, ?_⟩)
  rw [am_cn_cat]
  simp only [Bool.and_eq_true, Bool.not_eq_true', beq_eq_false_iff_ne, ne_eq, Bool.and_eq_false_iff]
  refine ⟨h1, ?_⟩
  by_cases e : j + 1 = i
  · exact Or.inr fun z => h3 ⟨e, z⟩
  · exact Or.inl e
end LRs
end
