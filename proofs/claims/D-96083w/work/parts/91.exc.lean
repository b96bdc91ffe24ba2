/-! METHODS THAT THROW: the kit's laws with the thrown object named to the contract (printed by gen/mkexc.py out of EXCEPTIONS.to-paste); contracts with two ends -/
def vy_T (XC : String → Addr → State → State → Prop) (st : State) (q : Addr) (t : State) (mc ms : Nat) (free : Addr → Prop) : Prop :=
  ∃ (E : String) (ce : Cell) (L : List Loc), XC E q st t ∧ t.heap[q]? = some ce ∧ ce.vm = .none ∧ st.vm.findClass E = some ce.cls ∧ st.WarmedH t.vm ∧ st.sameButNew ({ t with vm := st.vm } : State) L mc ms ∧ ∀ z ∈ L, free z.base
def vy_Q (Qc : Array Value → State → Outcome → State → Prop) (XC : String → Addr → State → State → Prop) (mc ms : Nat) (free : Addr → Prop) : Array Value → State → Outcome → State → Prop := fun a st o t =>
  (Qc a st o t ∧ ∃ L, FrameEnd st o t L mc ms ∧ ∀ q ∈ L, free q.base) ∨ ∃ q, o = .threw q ∧ vy_T XC st q t mc ms free
def vy_Met (l : Launch) (y : MethodName) (ws : List Cond) (rm : Room) (Pc : Array Value → State → Prop) (Qc : Array Value → State → Outcome → State → Prop) (XC : String → Addr → State → State → Prop) (mc ms : Nat) (free : Addr → Prop) : Prop :=
  MetFree l y (headSpec ws rm) Pc (fun _ _ _ _ _ => True) (vy_Q Qc XC mc ms free)
def vy_Post (XC : String → Addr → State → State → Prop) (mc ms : Nat) (free : Addr → Prop) : Pt → Array Value → Addr → Pt → Prop := fun A a q B =>
  ∃ (g : JFrame) (mk : MethodId) (t : State) (L : List Loc) (E : String) (ce : Cell), B.U.heap = t.heap ∧ B.U.vm = t.vm ∧ XC E q (A.U.calling g mk a) t ∧ t.heap[q]? = some ce ∧ ce.vm = .none ∧ A.U.vm.findClass E = some ce.cls ∧ B.locs = A.locs ++ L ∧ (∀ z ∈ L, free z.base) ∧ B.cells = A.cells + mc ∧ B.slots = A.slots + ms
section
variable {l : Launch} {R : Room} {p : Program} {e : Env} {below : List Frame} {s : State} {sargs : Array Value} {y : MethodName} {len W9 : Nat}
theorem vy_back {ws : List Cond} {rm : Room} {Pc : Array Value → State → Prop} {Qc : Array Value → State → Outcome → State → Prop} {XC : String → Addr → State → State → Prop} {mc ms : Nat} {free : Addr → Prop} {bytes : ByteArray} {maxL : Nat} {ret : Option FieldType}
    (hM : vy_Met l y ws rm Pc Qc XC mc ms free) (hblind : FrameBlind Pc) (hrc : rm.cells = mc) (hrs : rm.slots = ms)
    (hframes : rm.frames + 1 ≤ R.frames) (hlocals : W9 + (maxL + 11) + rm.locals ≤ R.locals)
    (hws : ∀ w ∈ ws, ∀ a' U, s.WarmedH U.vm → w.before a' U = true) (hcode : Cond.code y bytes maxL ret ∈ ws) (hinit : ∀ a' U, s.WarmedH U.vm → (Cond.initialized y.cls).before a' U = true) :
    vx_Back l R p e below s sargs y len W9 (PreOf R mc ms Pc) (PostOf Qc mc ms free) (vy_Post XC mc ms free) := by
  intro m meth c A g ig mk a X hg hsize hdg hW hn hp
  have h1 : (headSpec ws rm).pre.before a A.U = true := atoms_intro fun w hw => hws w hw _ _ X.warmed
  have h2 : (Cond.code y bytes maxL ret).before a A.U = true := hws _ hcode _ _ X.warmed
  have h3 : (Cond.initialized y.cls).before a A.U = true := hinit _ _ X.warmed
  have h4 : A.cells + (headSpec ws rm).room.cells ≤ R.cells := by rw [show (headSpec ws rm).room.cells = mc from hrc]; exact hp.1
  have h5 : A.slots + (headSpec ws rm).room.slots ≤ R.slots := by rw [show (headSpec ws rm).room.slots = ms from hrs]; exact hp.2.1
  have hPc : Pc a (A.U.calling g mk a) := hblind _ _ _ _ hp.2.2
  obtain ⟨U, Ls, c0, s0⟩ := A
  dsimp only [Pt.U, Pt.locs, Pt.cells, Pt.slots] at h1 h2 h3 h4 h5 X hn hPc ⊢
  obtain ⟨methY, cY, hmY, hcY, -, hlY, -, -, -, -⟩ := Cond.code_spec hn h2
  obtain ⟨kY, hkY, -⟩ := className_of_methodNamed hn
  have hinitY : kY.init = .initialized := Cond.initialized_spec (findClass_of_methodNamed hn) hkY h3
  have h : At U g.method c below := by rw [hg]; exact X.here
  have hlocals9 : W9 + (maxL + 11) + (headSpec ws rm).room.locals ≤ R.locals := hlocals
  have happ : (headSpec ws rm).appliesLoose y e.platform (U.calling g mk a) = true :=
    Spec.appliesLoose_calling (g := g) h hdg hn hkY hinitY
      (X.room_calling (g := g) (R' := (headSpec ws rm).room) hsize hmY hcY hframes (by rw [hlY]; omega) h4 h5) h1
  obtain ⟨mid, hmid⟩ := h.above
  have hfr : (U.setTop g).frames = (.java g :: mid) ++ below := by rw [State.frames_setTop' g h.top, hmid]; rfl
  obtain ⟨o, s₂, hsteps, -, hend, hq⟩ := Steps.callFree hM p X.admits X.cas X.clock (acts := []) hfr happ hPc trivial
  have hq' : vy_Q Qc XC mc ms free a (U.calling g mk a) o s₂ := hq
  rw [State.frames_setTop' g h.top] at hend
  obtain ⟨g₀, hg0⟩ := Option.isSome_iff_exists.mp h.top
  obtain ⟨r, hr⟩ := State.topJava?_eq_some.mp hg0
  have hr' : (({ U with heap := s₂.heap, slotsUsed := s₂.slotsUsed } : State).setVm s₂.vm).frames = .java g₀ :: r := hr
  rcases hq' with ⟨hqc, L, hfe, hL⟩ | ⟨q, rfl, E, ce, L, hx, hce, hcv, hcl, hW₂, hsm, hL⟩
  · obtain ⟨⟨v, rfl⟩, hW₂, e2, q2, q3, q4, q5, q6⟩ := id hfe
    have e3 : s₂ = ({ (U.calling g mk a).setFrames s₂.frames with heap := s₂.heap, slotsUsed := s₂.slotsUsed } : State).setVm s₂.vm := by
      have : s₂ = ({ s₂ with vm := (U.calling g mk a).vm } : State).setVm s₂.vm := rfl
      rw [e2] at this
      exact this
    obtain ⟨c₂, i₂, len₂, hc₂, hd₂, hf₂⟩ := hend
    have hW' : U.WarmedH s₂.vm := hW₂
    have hcc : c₂ = c := by
      have h1 : s₂.code? g.method = U.code? g.method := by
        rw [State.code?_eq, State.code?_eq, hW'.alike.method?]
      exact Option.some.inj (hc₂.symm.trans (h1.trans h.code))
    subst hcc
    have hlen : len₂ = len := by rw [hdg] at hd₂; cases hd₂; rfl
    subst hlen
    have hs₂ : s₂ = (({ U with heap := s₂.heap, slotsUsed := s₂.slotsUsed } : State).setVm s₂.vm).setTop { g with pc := g.pc + len₂, stack := v.toList ++ g.stack } := by
      refine e3.trans ?_
      rw [hf₂, State.calling_eq h.top, State.setFrames_setFrames, State.setTop_of_frames _ hr', hr]
      rfl
    have hsame : U.sameButNew ({ U with heap := s₂.heap, slotsUsed := s₂.slotsUsed } : State) L mc ms := by
      refine ⟨?_, q2, q3, q4, q5, q6⟩
      obtain ⟨t, ht, -⟩ := State.frames_cons hr
      show ({ U with heap := s₂.heap, slotsUsed := s₂.slotsUsed } : State) = { U.setFrames U.frames with heap := s₂.heap, slotsUsed := s₂.slotsUsed }
      rw [State.setFrames_self ht]
    subst hg
    refine Or.inl ⟨v, ⟨(({ U with heap := s₂.heap, slotsUsed := s₂.slotsUsed } : State).setVm s₂.vm), Ls ++ L, c0 + mc, s0 + ms⟩,
      ⟨X.admits, X.cas, X.clock, X.frames, X.room, X.hears, X.method, X.code, (X.here.setHeapUsed s₂.heap s₂.slotsUsed).setVm hW'.alike, X.tail, State.WarmedH.trans X.warmed hW', X.limits, X.bytes, X.same.trans (hsame.setVm s.vm)⟩,
      ⟨g, mk, s₂, L, rfl, rfl, hqc, rfl, hL, rfl, rfl⟩, ?_⟩
    show Steps p.tables e below _ ((({ U with heap := s₂.heap, slotsUsed := s₂.slotsUsed } : State).setVm s₂.vm).setTop { g with pc := g.pc + len₂, stack := v.toList ++ g.stack })
    rw [← hs₂]
    exact hsteps
  · obtain ⟨e2, q2, q3, q4, q5, q6⟩ := id hsm
    have e3 : s₂ = ({ (U.calling g mk a).setFrames s₂.frames with heap := s₂.heap, slotsUsed := s₂.slotsUsed } : State).setVm s₂.vm := by
      have : s₂ = ({ s₂ with vm := (U.calling g mk a).vm } : State).setVm s₂.vm := rfl
      rw [e2] at this
      exact this
    have hf₂ : s₂.frames = .throwing q :: .java g :: U.frames.tail := hend
    have hW' : U.WarmedH s₂.vm := hW₂
    have hs₂ : s₂ = ((({ U with heap := s₂.heap, slotsUsed := s₂.slotsUsed } : State).setVm s₂.vm).setTop g).pushFrame (.throwing q) := by
      refine e3.trans ?_
      rw [hf₂, State.calling_eq h.top, State.setFrames_setFrames, State.pushFrame, State.frames_setTop _ hr', State.setTop_of_frames _ hr', State.setFrames_setFrames, hr]
      rfl
    have hsame : U.sameButNew ({ U with heap := s₂.heap, slotsUsed := s₂.slotsUsed } : State) L mc ms := by
      refine ⟨?_, q2, q3, q4, q5, q6⟩
      obtain ⟨t, ht, -⟩ := State.frames_cons hr
      show ({ U with heap := s₂.heap, slotsUsed := s₂.slotsUsed } : State) = { U.setFrames U.frames with heap := s₂.heap, slotsUsed := s₂.slotsUsed }
      rw [State.setFrames_self ht]
    subst hg
    refine Or.inr ⟨q, ⟨(({ U with heap := s₂.heap, slotsUsed := s₂.slotsUsed } : State).setVm s₂.vm), Ls ++ L, c0 + mc, s0 + ms⟩,
      ⟨X.admits, X.cas, X.clock, X.frames, X.room, X.hears, X.method, X.code, (X.here.setHeapUsed s₂.heap s₂.slotsUsed).setVm hW'.alike, X.tail, State.WarmedH.trans X.warmed hW', X.limits, X.bytes, X.same.trans (hsame.setVm s.vm)⟩,
      ⟨g, mk, s₂, L, E, ce, rfl, rfl, hx, hce, hcv, hcl, rfl, hL, rfl, rfl⟩, ?_⟩
    show Steps p.tables e below _ (((({ U with heap := s₂.heap, slotsUsed := s₂.slotsUsed } : State).setVm s₂.vm).setTop g).pushFrame (.throwing q))
    rw [← hs₂]
    exact hsteps
end
def vy_Run (p : Program) (l : Launch) (e : Env) (R : Room) (s : State) (m : MethodId) (args : Array Value) (below : List Frame) (meth : Method) (c : Code) (H : Heap) (locs : List Loc) (cells slots mc ms : Nat) (g : JFrame) (rest : List Value) (Qa : State → Outcome → State → Prop) (XC : String → Addr → State → State → Prop) (free : Addr → Prop) : Prop :=
  ∀ T : State, T.heap = H → Stand p l e R s m args below meth c T locs cells slots →
    (∃ (v : Option Value) (st₀ t T' : State) (L : List Loc), st₀.heap = H ∧ Stand p l e R s m args below meth c T' (locs ++ L) (cells + mc) (slots + ms) ∧ (∀ q ∈ L, free q.base) ∧ T'.heap = t.heap ∧ T'.vm = t.vm ∧ Qa st₀ (.returned v) t ∧
      Goes p e below T g T' { g with pc := g.pc + 3, stack := v.toList ++ rest }) ∨
    (∃ (q : Addr) (st₀ t T' : State) (L : List Loc) (E : String) (ce : Cell), st₀.heap = H ∧ Stand p l e R s m args below meth c T' (locs ++ L) (cells + mc) (slots + ms) ∧ (∀ z ∈ L, free z.base) ∧ T'.heap = t.heap ∧ T'.vm = t.vm ∧ XC E q st₀ t ∧ t.heap[q]? = some ce ∧ ce.vm = .none ∧ s.vm.findClass E = some ce.cls ∧
      Steps p.tables e below (T.setTop g) ((T'.setTop { g with stack := rest }).pushFrame (.throwing q)))
def vy_X {S : Type} (px : S → Prop) (B : String → Addr → S → State → Prop) (A : Nat → Prop) : String → Addr → State → State → Prop := fun E q st t => ∃ u : S, px u ∧ B E q u t ∧ va_F A st t
section
variable {p : Program} {l : Launch} {e : Env} {R : Room} {s : State} {m : MethodId} {args : Array Value} {below : List Frame} {meth : Method} {c : Code} {H : Heap} {locs : List Loc} {cells slots : Nat}
variable {y : MethodName} {bytes cc : ByteArray} {maxL nL mc ms n index : Nat} {ret : Option FieldType} {ws : List Cond} {rm : Room} {Pc : Array Value → State → Prop} {Qc : Array Value → State → Outcome → State → Prop} {XC : String → Addr → State → State → Prop} {free : Addr → Prop} {Ts : List Cond} {own C : String} {b : Addr} {As rest : List Value} {g : JFrame}
theorem vy_callBack (cb : CallB R s args own index y bytes maxL ret ws rm mc ms n) (hM : vy_Met l y ws rm Pc Qc XC mc ms free) (hbl : FrameBlind Pc) : vx_Back l R p e below s args y 3 8 (PreOf R mc ms Pc) (PostOf Qc mc ms free) (vy_Post XC mc ms free) := by
  obtain ⟨hrc, hrs, hfr, hlo, hws, hcw, -, hini, -⟩ := cb
  exact vy_back (bytes := bytes) (maxL := maxL) (ret := ret) hM hbl hrc hrs hfr hlo hws hcw (fun a' U hW => word_at hW (Or.inl (by first | rfl | simp [Cond.onTables, Cond.keeps, Cond.steady])) hini)
theorem vy_runV (S : CallFix p m c cc nL s args Ts own) (hM : vy_Met l y ws rm Pc Qc XC mc ms free) (cw : CallW R s args own C index y bytes maxL ret ws rm mc ms n) (hp : PreV s H C b Pc As)
    (hg : g.method = m) (hn : As.length = n) (hsize : g.locals.size = nL) (hstack : g.stack = As.reverse ++ .ref b :: rest) (hW : 2 * g.monitorRoom + (rest.map fun v => v.category).sum ≤ 8) (hdg : decode cc g.pc = .ok (.invokevirtual index, 3)) (hf : cells + mc ≤ R.cells ∧ slots + ms ≤ R.slots) :
    vy_Run p l e R s m args below meth c H locs cells slots mc ms g rest (Qc (Value.ref b :: As).toArray) XC free := by
  have hK : vx_Back l R p e below s args y 3 8 (PreOf R mc ms Pc) (PostOf Qc mc ms free) (vy_Post XC mc ms free) := vy_callBack cw.1 hM hp.1
  obtain ⟨⟨-, -, -, -, -, -, hcode, -, hy, hlen, hl⟩, hin, hse⟩ := cw
  obtain ⟨hx, hb, hml, ho, -⟩ := S
  obtain ⟨-, ⟨cellB, hcB, hoB, hclB⟩, hPc⟩ := hp
  intro T hT X
  rcases vx_callV X hx (C := C) (bytes := bytes) (maxL := maxL) (ret := ret) ho hl hin hse hcode hy hK (by rw [hT]; exact hcB) hoB hclB hg (hsize.trans hml.symm) (argsL := As) (rest := rest) (fun sig h => hn.trans (hlen sig h)) hstack hW (by rw [hb]; exact hdg)
    (fun vm₁ hW₁ => ⟨hf.1, hf.2, hPc (T.setVm vm₁) hT hW₁⟩) with ⟨v, vm₁, ⟨U', l2, c2, s2⟩, hW₁, X', ⟨g', mk, t, L, e1, e2, hq, h1, hL, h2, h3⟩, st⟩ | ⟨q, vm₁, ⟨U', l2, c2, s2⟩, hW₁, X', ⟨g', mk, t, L, E, ce, e1, e2, hq, hce, hcv, hcl, h1, hL, h2, h3⟩, st⟩
  · dsimp only [Pt.U, Pt.locs, Pt.cells, Pt.slots] at X' e1 e2 h1 h2 h3 st
    subst h1; subst h2; subst h3
    exact Or.inl ⟨v, (T.setVm vm₁).calling g' mk (Value.ref b :: As).toArray, t, U', L, hT, X', hL, e1, e2, hq, st⟩
  · dsimp only [Pt.U, Pt.locs, Pt.cells, Pt.slots] at X' e1 e2 h1 h2 h3 st hcl
    subst h1; subst h2; subst h3
    exact Or.inr ⟨q, (T.setVm vm₁).calling g' mk (Value.ref b :: As).toArray, t, U', L, E, ce, hT, X', hL, e1, e2, hq, hce, hcv, vx_cls hW₁ hcl, st⟩
theorem vy_runS (S : CallFix p m c cc nL s args Ts own) (hM : vy_Met l y ws rm Pc Qc XC mc ms free) (cw : CallB R s args own index y bytes maxL ret ws rm mc ms n ∧ (Cond.static y).before args s = true) (hp : PreS s H Pc As)
    (hg : g.method = m) (hn : As.length = n) (hsize : g.locals.size = nL) (hstack : g.stack = As.reverse ++ rest) (hW : 2 * g.monitorRoom + (rest.map fun v => v.category).sum ≤ 8) (hdg : decode cc g.pc = .ok (.invokestatic index, 3)) (hf : cells + mc ≤ R.cells ∧ slots + ms ≤ R.slots) :
    vy_Run p l e R s m args below meth c H locs cells slots mc ms g rest (Qc As.toArray) XC free := by
  have hK : vx_Back l R p e below s args y 3 8 (PreOf R mc ms Pc) (PostOf Qc mc ms free) (vy_Post XC mc ms free) := vy_callBack cw.1 hM hp.1
  obtain ⟨⟨-, -, -, -, -, -, hcode, hini, hy, hlen, hl⟩, hstt⟩ := cw
  obtain ⟨hx, hb, hml, ho, -⟩ := S
  intro T hT X
  rcases vx_callS X hx (bytes := bytes) (maxL := maxL) (ret := ret) ho hl hstt hini hcode hy hK hg (hsize.trans hml.symm) (argsL := As) (rest := rest) (fun sig h => hn.trans (hlen sig h)) hstack hW (by rw [hb]; exact hdg)
    (fun vm₁ hW₁ => ⟨hf.1, hf.2, hp.2 (T.setVm vm₁) hT hW₁⟩) with ⟨v, vm₁, ⟨U', l2, c2, s2⟩, hW₁, X', ⟨g', mk, t, L, e1, e2, hq, h1, hL, h2, h3⟩, st⟩ | ⟨q, vm₁, ⟨U', l2, c2, s2⟩, hW₁, X', ⟨g', mk, t, L, E, ce, e1, e2, hq, hce, hcv, hcl, h1, hL, h2, h3⟩, st⟩
  · dsimp only [Pt.U, Pt.locs, Pt.cells, Pt.slots] at X' e1 e2 h1 h2 h3 st
    subst h1; subst h2; subst h3
    exact Or.inl ⟨v, (T.setVm vm₁).calling g' mk As.toArray, t, U', L, hT, X', hL, e1, e2, hq, st⟩
  · dsimp only [Pt.U, Pt.locs, Pt.cells, Pt.slots] at X' e1 e2 h1 h2 h3 st hcl
    subst h1; subst h2; subst h3
    exact Or.inr ⟨q, (T.setVm vm₁).calling g' mk As.toArray, t, U', L, E, ce, hT, X', hL, e1, e2, hq, hce, hcv, vx_cls hW₁ hcl, st⟩
end
section
variable {p : Program} {l : Launch} {e : Env} {R : Room} {s : State} {m : MethodId} {args : Array Value} {below : List Frame} {meth : Method} {c : Code} {H : Heap} {locs : List Loc} {cells slots : Nat} {Q : State → Prop}
variable {mc ms : Nat} {free : Addr → Prop} {A0 A1 : Nat → Prop} {H0 : Heap} {a : Array Value} {pc : Nat} {ls : Array Slot} {st0 rest : List Value}
theorem vy_calli {S SX : Type} {post : Int32 → S → Prop} {px : SX → Prop} {B : S → State → Prop} {BX : String → Addr → SX → State → Prop} {AX : Nat → Prop} (hr : vy_Run p l e R s m args below meth c H locs cells slots mc ms (F0 m pc ls st0) rest (va_Qi post B A1 a) (vy_X px BX AX) free) (hS : va_S A0 H0 H locs) (hA : ∀ q, q < H.size → A1 q → A0 q) (hf : ∀ q, free q → A0 q) (hAX : ∀ q, q < H.size → AX q → A0 q)
    (kx : ∀ (E : String) (ce : Cell) (q9 : Addr) (u : SX) (t : State) (H1 : Heap) (locs1 : List Loc), t.heap = H1 → s.vm.Alike t.vm → px u → BX E q9 u t → H.size ≤ H1.size → (∀ q : Nat, q < H.size → ¬ AX q → H1[q]? = H[q]?) → va_S A0 H0 H1 locs1 → H1[q9]? = some ce → ce.vm = .none → s.vm.findClass E = some ce.cls → vx_W p l e R s m args below meth c H1 locs1 (cells + mc) (slots + ms) Q (F0 m pc ls rest) q9)
    (kk : ∀ (r : Int32) (u : S) (t : State) (H1 : Heap) (locs1 : List Loc), t.heap = H1 → s.vm.Alike t.vm → post r u → B u t → H.size ≤ H1.size → (∀ q : Nat, q < H.size → ¬ A1 q → H1[q]? = H[q]?) → va_S A0 H0 H1 locs1 → W p l e R s m args below meth c H1 locs1 (cells + mc) (slots + ms) Q (F0 m (pc + 3) ls (.int r :: rest))) : W p l e R s m args below meth c H locs cells slots Q (F0 m pc ls st0) := by
  intro T hT X
  rcases hr T hT X with ⟨v, st₀, t, T', L, h0, X', hL, e1, e2, ⟨⟨r, u, hv, hp, hb⟩, hF⟩, st⟩ | ⟨q, st₀, t, T', L, E, ce, h0, X', hL, e1, e2, ⟨u, hp, hb, hF⟩, hce, hcv, hcl, st⟩
  · cases hv
    obtain ⟨k1, k2, k3⟩ := vx_keep h0 e1 hS hA hf hL hF
    obtain ⟨t2, a1, b1⟩ := kk r u t T'.heap (locs ++ L) e1.symm (by rw [← e2]; exact X'.warmed.alike) hp hb k1 k2 k3 T' rfl X'
    exact ⟨t2, st t2 a1, b1⟩
  · obtain ⟨k1, k2, k3⟩ := vx_keep h0 e1 hS hAX hf hL hF
    obtain ⟨t2, a1, b1⟩ := kx E ce q u t T'.heap (locs ++ L) e1.symm (by rw [← e2]; exact X'.warmed.alike) hp hb k1 k2 k3 (by rw [e1]; exact hce) hcv hcl T' rfl X'
    exact ⟨t2, st.trans a1, b1⟩
theorem vy_calll {S SX : Type} {post : Int64 → S → Prop} {px : SX → Prop} {B : S → State → Prop} {BX : String → Addr → SX → State → Prop} {AX : Nat → Prop} (hr : vy_Run p l e R s m args below meth c H locs cells slots mc ms (F0 m pc ls st0) rest (va_Ql post B A1 a) (vy_X px BX AX) free) (hS : va_S A0 H0 H locs) (hA : ∀ q, q < H.size → A1 q → A0 q) (hf : ∀ q, free q → A0 q) (hAX : ∀ q, q < H.size → AX q → A0 q)
    (kx : ∀ (E : String) (ce : Cell) (q9 : Addr) (u : SX) (t : State) (H1 : Heap) (locs1 : List Loc), t.heap = H1 → s.vm.Alike t.vm → px u → BX E q9 u t → H.size ≤ H1.size → (∀ q : Nat, q < H.size → ¬ AX q → H1[q]? = H[q]?) → va_S A0 H0 H1 locs1 → H1[q9]? = some ce → ce.vm = .none → s.vm.findClass E = some ce.cls → vx_W p l e R s m args below meth c H1 locs1 (cells + mc) (slots + ms) Q (F0 m pc ls rest) q9)
    (kk : ∀ (r : Int64) (u : S) (t : State) (H1 : Heap) (locs1 : List Loc), t.heap = H1 → s.vm.Alike t.vm → post r u → B u t → H.size ≤ H1.size → (∀ q : Nat, q < H.size → ¬ A1 q → H1[q]? = H[q]?) → va_S A0 H0 H1 locs1 → W p l e R s m args below meth c H1 locs1 (cells + mc) (slots + ms) Q (F0 m (pc + 3) ls (.long r :: rest))) : W p l e R s m args below meth c H locs cells slots Q (F0 m pc ls st0) := by
  intro T hT X
  rcases hr T hT X with ⟨v, st₀, t, T', L, h0, X', hL, e1, e2, ⟨⟨r, u, hv, hp, hb⟩, hF⟩, st⟩ | ⟨q, st₀, t, T', L, E, ce, h0, X', hL, e1, e2, ⟨u, hp, hb, hF⟩, hce, hcv, hcl, st⟩
  · cases hv
    obtain ⟨k1, k2, k3⟩ := vx_keep h0 e1 hS hA hf hL hF
    obtain ⟨t2, a1, b1⟩ := kk r u t T'.heap (locs ++ L) e1.symm (by rw [← e2]; exact X'.warmed.alike) hp hb k1 k2 k3 T' rfl X'
    exact ⟨t2, st t2 a1, b1⟩
  · obtain ⟨k1, k2, k3⟩ := vx_keep h0 e1 hS hAX hf hL hF
    obtain ⟨t2, a1, b1⟩ := kx E ce q u t T'.heap (locs ++ L) e1.symm (by rw [← e2]; exact X'.warmed.alike) hp hb k1 k2 k3 (by rw [e1]; exact hce) hcv hcl T' rfl X'
    exact ⟨t2, st.trans a1, b1⟩
theorem vy_callv {S SX : Type} {post : S → Prop} {px : SX → Prop} {B : S → State → Prop} {BX : String → Addr → SX → State → Prop} {AX : Nat → Prop} (hr : vy_Run p l e R s m args below meth c H locs cells slots mc ms (F0 m pc ls st0) rest (va_Qv post B A1 a) (vy_X px BX AX) free) (hS : va_S A0 H0 H locs) (hA : ∀ q, q < H.size → A1 q → A0 q) (hf : ∀ q, free q → A0 q) (hAX : ∀ q, q < H.size → AX q → A0 q)
    (kx : ∀ (E : String) (ce : Cell) (q9 : Addr) (u : SX) (t : State) (H1 : Heap) (locs1 : List Loc), t.heap = H1 → s.vm.Alike t.vm → px u → BX E q9 u t → H.size ≤ H1.size → (∀ q : Nat, q < H.size → ¬ AX q → H1[q]? = H[q]?) → va_S A0 H0 H1 locs1 → H1[q9]? = some ce → ce.vm = .none → s.vm.findClass E = some ce.cls → vx_W p l e R s m args below meth c H1 locs1 (cells + mc) (slots + ms) Q (F0 m pc ls rest) q9)
    (kk : ∀ (u : S) (t : State) (H1 : Heap) (locs1 : List Loc), t.heap = H1 → s.vm.Alike t.vm → post u → B u t → H.size ≤ H1.size → (∀ q : Nat, q < H.size → ¬ A1 q → H1[q]? = H[q]?) → va_S A0 H0 H1 locs1 → W p l e R s m args below meth c H1 locs1 (cells + mc) (slots + ms) Q (F0 m (pc + 3) ls (rest))) : W p l e R s m args below meth c H locs cells slots Q (F0 m pc ls st0) := by
  intro T hT X
  rcases hr T hT X with ⟨v, st₀, t, T', L, h0, X', hL, e1, e2, ⟨⟨u, hv, hp, hb⟩, hF⟩, st⟩ | ⟨q, st₀, t, T', L, E, ce, h0, X', hL, e1, e2, ⟨u, hp, hb, hF⟩, hce, hcv, hcl, st⟩
  · cases hv
    obtain ⟨k1, k2, k3⟩ := vx_keep h0 e1 hS hA hf hL hF
    obtain ⟨t2, a1, b1⟩ := kk u t T'.heap (locs ++ L) e1.symm (by rw [← e2]; exact X'.warmed.alike) hp hb k1 k2 k3 T' rfl X'
    exact ⟨t2, st t2 a1, b1⟩
  · obtain ⟨k1, k2, k3⟩ := vx_keep h0 e1 hS hAX hf hL hF
    obtain ⟨t2, a1, b1⟩ := kx E ce q u t T'.heap (locs ++ L) e1.symm (by rw [← e2]; exact X'.warmed.alike) hp hb k1 k2 k3 (by rw [e1]; exact hce) hcv hcl T' rfl X'
    exact ⟨t2, st.trans a1, b1⟩
end
section
variable {p : Program} {l : Launch} {e : Env} {R : Room} {s : State} {m : MethodId} {args : Array Value} {below : List Frame} {meth : Method} {c : Code} {H : Heap} {locs : List Loc} {cells slots : Nat} {Q : State → Prop}
variable {mc ms : Nat} {free : Addr → Prop} {A0 A1 : Nat → Prop} {H0 : Heap} {a : Array Value} {pc : Nat} {ls : Array Slot} {st0 rest : List Value}
theorem vy_callr {S SX : Type} {post : S → Prop} {px : SX → Prop} {B : S → Nat → State → Prop} {BX : String → Addr → SX → State → Prop} {AX : Nat → Prop} (hr : vy_Run p l e R s m args below meth c H locs cells slots mc ms (F0 m pc ls st0) rest (va_Qr post B A1 a) (vy_X px BX AX) free) (hS : va_S A0 H0 H locs) (hA : ∀ q, q < H.size → A1 q → A0 q) (hf : ∀ q, free q → A0 q) (hAX : ∀ q, q < H.size → AX q → A0 q)
    (kx : ∀ (E : String) (ce : Cell) (q9 : Addr) (u : SX) (t : State) (H1 : Heap) (locs1 : List Loc), t.heap = H1 → s.vm.Alike t.vm → px u → BX E q9 u t → H.size ≤ H1.size → (∀ q : Nat, q < H.size → ¬ AX q → H1[q]? = H[q]?) → va_S A0 H0 H1 locs1 → H1[q9]? = some ce → ce.vm = .none → s.vm.findClass E = some ce.cls → vx_W p l e R s m args below meth c H1 locs1 (cells + mc) (slots + ms) Q (F0 m pc ls rest) q9)
    (kk : ∀ (u : S) (r : Nat) (t : State) (H1 : Heap) (locs1 : List Loc), t.heap = H1 → s.vm.Alike t.vm → post u → B u r t → H.size ≤ H1.size → (∀ q : Nat, q < H.size → ¬ A1 q → H1[q]? = H[q]?) → va_S A0 H0 H1 locs1 → W p l e R s m args below meth c H1 locs1 (cells + mc) (slots + ms) Q (F0 m (pc + 3) ls (.ref r :: rest))) : W p l e R s m args below meth c H locs cells slots Q (F0 m pc ls st0) := by
  intro T hT X
  rcases hr T hT X with ⟨v, st₀, t, T', L, h0, X', hL, e1, e2, ⟨⟨u, r, hv, hp, hb⟩, hF⟩, st⟩ | ⟨q, st₀, t, T', L, E, ce, h0, X', hL, e1, e2, ⟨u, hp, hb, hF⟩, hce, hcv, hcl, st⟩
  · cases hv
    obtain ⟨k1, k2, k3⟩ := vx_keep h0 e1 hS hA hf hL hF
    obtain ⟨t2, a1, b1⟩ := kk u r t T'.heap (locs ++ L) e1.symm (by rw [← e2]; exact X'.warmed.alike) hp hb k1 k2 k3 T' rfl X'
    exact ⟨t2, st t2 a1, b1⟩
  · obtain ⟨k1, k2, k3⟩ := vx_keep h0 e1 hS hAX hf hL hF
    obtain ⟨t2, a1, b1⟩ := kx E ce q u t T'.heap (locs ++ L) e1.symm (by rw [← e2]; exact X'.warmed.alike) hp hb k1 k2 k3 (by rw [e1]; exact hce) hcv hcl T' rfl X'
    exact ⟨t2, st.trans a1, b1⟩
end
section
variable {p : Program} {l : Launch} {e : Env} {R : Room} {s : State} {m : MethodId} {args : Array Value} {below : List Frame} {meth : Method} {c : Code} {H : Heap} {locs : List Loc} {cells slots : Nat} {Q : State → Prop}
variable {mc ms : Nat} {free : Addr → Prop} {A0 A1 : Nat → Prop} {H0 : Heap} {a : Array Value} {ls : Array Slot} {st0 rest : List Value}
variable {Qc : Array Value → State → Outcome → State → Prop} {XC : String → Addr → State → State → Prop}
def vy_MQ (below : List Frame) (Qc : Array Value → State → Outcome → State → Prop) (XC : String → Addr → State → State → Prop) (a : Array Value) (s : State) (mc ms : Nat) (free : Addr → Prop) : State → Prop := fun t =>
  ∃ o, t.status = .running ∧ Ended t below o ∧ vy_Q Qc XC mc ms free a s o t
theorem vy_ret {g : JFrame} {mc ms : Nat} (k : W p l e R s m args below meth c H locs cells slots (MQ below Qc args s mc ms free) g) : W p l e R s m args below meth c H locs cells slots (vy_MQ below Qc XC args s mc ms free) g := by
  intro T hT X
  obtain ⟨t, a1, o, b1, b2, b3, b4⟩ := k T hT X
  exact ⟨t, a1, o, b1, b2, Or.inl ⟨b3, b4⟩⟩
theorem vy_out {pc : Nat} {E : String} {ce : Cell} {q : Addr} {mc ms : Nat} (hout : ∀ x ∈ c.exceptionTable.toList, covers x pc = false) (hlocks : meth.locks = false) (hcell : H[q]? = some ce) (hv : ce.vm = .none) (hcl : s.vm.findClass E = some ce.cls)
    (hx : ∀ t : State, t.heap = H → s.vm.Alike t.vm → XC E q s t) (hf : ∀ z ∈ locs, free z.base) (hc : cells ≤ mc) (hs : slots ≤ ms) :
    vx_W p l e R s m args below meth c H locs cells slots (vy_MQ below Qc XC args s mc ms free) (F0 m pc ls rest) q := by
  intro T hT X
  obtain ⟨st1, hrun, hend, hW, hsm⟩ := X.leaveThrown q (g := F0 m pc ls rest) rfl rfl rfl hout hlocks
  have hcell9 : (T.setFrames (.throwing q :: below)).heap[q]? = some ce := by
    show T.heap[q]? = some ce
    rw [hT]; exact hcell
  exact ⟨_, st1, .threw q, hrun, hend, Or.inr ⟨q, rfl, E, ce, locs, hx _ hT hW.alike, hcell9, hv, hcl, hW, hsm.mono hc hs, hf⟩⟩
end
section
variable {l : Launch}
theorem vy_ofW {y : MethodName} {ws ws' : List Cond} {rm : Room} {Pc : Array Value → State → Prop} {Qc : Array Value → State → Outcome → State → Prop} {XC : String → Addr → State → State → Prop} {mc ms : Nat} {free : Addr → Prop} {cc : ByteArray} {maxL : Nat} {ret : Option FieldType}
    (hy : plainName y.cls = true) (hw : ws = Cond.code y cc maxL ret :: ws')
    (body : ∀ p e s m args below meth c s₁, BodyLoose p l y (headSpec ws rm) cc maxL ret e s m args below meth c s₁ → c.maxLocals = maxL → (∀ x ∈ c.exceptionTable.toList, False) → Pc args s →
      W p l e (headSpec ws rm).room s m args below meth c s.heap [] 0 0 (vy_MQ below Qc XC args s mc ms free) (entryFrame m args maxL)) : vy_Met l y ws rm Pc Qc XC mc ms free := by
  refine MetFree.of_bodyS (code := cc) (maxLocals := maxL) (ret := ret) hy ?_ ?_
  · intro args s m h hn
    obtain ⟨meth, c, h1, h2, h3, h4, h5, h6, -, -⟩ := Cond.code_spec hn (atoms_spec (ws := ws) h _ (by rw [hw]; exact List.mem_cons_self))
    exact ⟨meth, c, h1, h2, h3, h4, h5, h6⟩
  · intro p e s m args below meth c s₁ B hml hP _
    have hh0 : s₁.heap = s.heap := by rw [B.state]; rfl
    have ht : ∀ x ∈ c.exceptionTable.toList, False := by
      obtain ⟨meth9, c9, h1, h2, -, -, -, -, h7, -⟩ := Cond.code_spec B.named (atoms_spec (ws := ws) B.pre _ (by rw [hw]; exact List.mem_cons_self))
      cases Option.some.inj (h1.symm.trans B.method)
      cases Option.some.inj (h2.symm.trans (Stand.of_body B).code)
      intro x hx
      rw [Array.isEmpty_iff.mp h7] at hx
      cases hx
    obtain ⟨t, a1, o, b1, b2, b3⟩ := body p e s m args below meth c s₁ B hml ht hP s₁ hh0 (Stand.of_body B)
    exact ⟨t, o, a1, b1, b2, b3⟩
end
section
variable {p : Program} {l : Launch} {e : Env} {R : Room} {s : State} {m : MethodId} {args : Array Value} {below : List Frame} {meth : Method} {c : Code} {T : State} {H : Heap} {locs : List Loc} {cells slots : Nat}
theorem vy_outP {p : Program} {l : Launch} {e : Env} {R : Room} {s : State} {m : MethodId} {args : Array Value} {below : List Frame} {meth : Method} {c : Code} {H : Heap} {locs : List Loc} {cells slots : Nat} {free : Addr → Prop} {ls : Array Slot} {rest : List Value} {Qc : Array Value → State → Outcome → State → Prop} {XC : String → Addr → State → State → Prop}
    {pc : Nat} {own E : String} {ce : Cell} {q : Addr} {mc ms : Nat} (hown : s.vm.findClass own = some m.cls) (hlocks : meth.locks = false)
    (hpass : ∀ z ∈ c.exceptionTable.toList, covers z pc = false ∨ (z.catchType ≠ 0 ∧ ∃ nm : String, (Cond.classLink own z.catchType nm).before args s = true ∧ va_Nc E nm s)) (hcell : H[q]? = some ce) (hv : ce.vm = .none) (hcl : s.vm.findClass E = some ce.cls)
    (hx : ∀ t : State, t.heap = H → s.vm.Alike t.vm → XC E q s t) (hf : ∀ z ∈ locs, free z.base) (hc : cells ≤ mc) (hs : slots ≤ ms) :
    vx_W p l e R s m args below meth c H locs cells slots (vy_MQ below Qc XC args s mc ms free) (F0 m pc ls rest) q := by
  intro T hT X
  have hpl : e.platform.magicAccessors = ({} : Platform).magicAccessors := by rw [X.admits.platform]
  obtain ⟨vm', hW', X', st⟩ := X.outThrough hlocks q (g := F0 m pc ls rest) rfl rfl rfl (cell := ce) (by rw [hT]; exact hcell) (by rw [hv]; rfl)
    (by obtain ⟨k9, h9, -⟩ := Vm.findClass_spec hcl; exact ⟨k9, h9⟩) (fun z hz => by
      rcases hpass z hz with h | ⟨hz0, nm, hl1, hn1⟩
      · exact Or.inl h
      · obtain ⟨c6, hc6, hcl6⟩ := Cond.classLink_spec hown hl1 e.platform hpl
        obtain ⟨a8, b8, h1, h2, h3⟩ := hn1
        cases Option.some.inj (h1.symm.trans hcl)
        cases Option.some.inj (h2.symm.trans hc6)
        exact Or.inr ⟨hz0, _, hcl6, h3⟩)
  obtain ⟨g₀, hfr⟩ := X'.frames_eq
  have hcell9 : ((T.setVm vm').setFrames (.throwing q :: below)).heap[q]? = some ce := by
    show T.heap[q]? = some ce
    rw [hT]; exact hcell
  have hend : Ended ((T.setVm vm').setFrames (.throwing q :: below)) below (.threw q) := State.frames_setFrames _ (State.cur_lt_of_frames hfr)
  refine ⟨(T.setVm vm').setFrames (.throwing q :: below), ?_, .threw q, X'.here.running, hend, Or.inr ⟨q, rfl, E, ce, locs, hx _ hT (X'.ends _).1.alike, hcell9, hv, hcl, (X'.ends _).1, (X'.ends _).2.mono hc hs, hf⟩⟩
  rw [X.pushThrowing_eq]
  exact st
end
section
variable {l : Launch} {R : Room} {p : Program} {e : Env} {below : List Frame} {s : State} {sargs : Array Value} {y : MethodName} {len W9 : Nat}
theorem vy_backW {ws : List Cond} {rm : Room} {Pc : Array Value → State → Prop} {Qc : Array Value → State → Outcome → State → Prop} {XC : String → Addr → State → State → Prop} {mc ms : Nat} {free : Addr → Prop} {bytes : ByteArray} {maxL : Nat} {ret : Option FieldType} {hh : List (Nat × Nat × Nat × Nat)}
    (hM : vy_Met l y ws rm Pc Qc XC mc ms free) (hblind : FrameBlind Pc) (hrc : rm.cells = mc) (hrs : rm.slots = ms)
    (hframes : rm.frames + 1 ≤ R.frames) (hlocals : W9 + (maxL + 11) + rm.locals ≤ R.locals)
    (hws : ∀ w ∈ ws, ∀ a' U, s.WarmedH U.vm → w.before a' U = true) (hcode : Cond.codeWith y bytes maxL ret hh ∈ ws) (hinit : ∀ a' U, s.WarmedH U.vm → (Cond.initialized y.cls).before a' U = true) :
    vx_Back l R p e below s sargs y len W9 (PreOf R mc ms Pc) (PostOf Qc mc ms free) (vy_Post XC mc ms free) := by
  intro m meth c A g ig mk a X hg hsize hdg hW hn hp
  have h1 : (headSpec ws rm).pre.before a A.U = true := atoms_intro fun w hw => hws w hw _ _ X.warmed
  have h2 : (Cond.codeWith y bytes maxL ret hh).before a A.U = true := hws _ hcode _ _ X.warmed
  have h3 : (Cond.initialized y.cls).before a A.U = true := hinit _ _ X.warmed
  have h4 : A.cells + (headSpec ws rm).room.cells ≤ R.cells := by rw [show (headSpec ws rm).room.cells = mc from hrc]; exact hp.1
  have h5 : A.slots + (headSpec ws rm).room.slots ≤ R.slots := by rw [show (headSpec ws rm).room.slots = ms from hrs]; exact hp.2.1
  have hPc : Pc a (A.U.calling g mk a) := hblind _ _ _ _ hp.2.2
  obtain ⟨U, Ls, c0, s0⟩ := A
  dsimp only [Pt.U, Pt.locs, Pt.cells, Pt.slots] at h1 h2 h3 h4 h5 X hn hPc ⊢
  obtain ⟨m9, methY, cY, hn9, hmY, hcY, -, hlY, -⟩ := Cond.codeWith_spec h2
  cases Option.some.inj (hn9.symm.trans hn)
  obtain ⟨kY, hkY, -⟩ := className_of_methodNamed hn
  have hinitY : kY.init = .initialized := Cond.initialized_spec (findClass_of_methodNamed hn) hkY h3
  have h : At U g.method c below := by rw [hg]; exact X.here
  have hlocals9 : W9 + (maxL + 11) + (headSpec ws rm).room.locals ≤ R.locals := hlocals
  have happ : (headSpec ws rm).appliesLoose y e.platform (U.calling g mk a) = true :=
    Spec.appliesLoose_calling (g := g) h hdg hn hkY hinitY
      (X.room_calling (g := g) (R' := (headSpec ws rm).room) hsize hmY hcY hframes (by rw [hlY]; omega) h4 h5) h1
  obtain ⟨mid, hmid⟩ := h.above
  have hfr : (U.setTop g).frames = (.java g :: mid) ++ below := by rw [State.frames_setTop' g h.top, hmid]; rfl
  obtain ⟨o, s₂, hsteps, -, hend, hq⟩ := Steps.callFree hM p X.admits X.cas X.clock (acts := []) hfr happ hPc trivial
  have hq' : vy_Q Qc XC mc ms free a (U.calling g mk a) o s₂ := hq
  rw [State.frames_setTop' g h.top] at hend
  obtain ⟨g₀, hg0⟩ := Option.isSome_iff_exists.mp h.top
  obtain ⟨r, hr⟩ := State.topJava?_eq_some.mp hg0
  have hr' : (({ U with heap := s₂.heap, slotsUsed := s₂.slotsUsed } : State).setVm s₂.vm).frames = .java g₀ :: r := hr
  rcases hq' with ⟨hqc, L, hfe, hL⟩ | ⟨q, rfl, E, ce, L, hx, hce, hcv, hcl, hW₂, hsm, hL⟩
  · obtain ⟨⟨v, rfl⟩, hW₂, e2, q2, q3, q4, q5, q6⟩ := id hfe
    have e3 : s₂ = ({ (U.calling g mk a).setFrames s₂.frames with heap := s₂.heap, slotsUsed := s₂.slotsUsed } : State).setVm s₂.vm := by
      have : s₂ = ({ s₂ with vm := (U.calling g mk a).vm } : State).setVm s₂.vm := rfl
      rw [e2] at this
      exact this
    obtain ⟨c₂, i₂, len₂, hc₂, hd₂, hf₂⟩ := hend
    have hW' : U.WarmedH s₂.vm := hW₂
    have hcc : c₂ = c := by
      have h1 : s₂.code? g.method = U.code? g.method := by
        rw [State.code?_eq, State.code?_eq, hW'.alike.method?]
      exact Option.some.inj (hc₂.symm.trans (h1.trans h.code))
    subst hcc
    have hlen : len₂ = len := by rw [hdg] at hd₂; cases hd₂; rfl
    subst hlen
    have hs₂ : s₂ = (({ U with heap := s₂.heap, slotsUsed := s₂.slotsUsed } : State).setVm s₂.vm).setTop { g with pc := g.pc + len₂, stack := v.toList ++ g.stack } := by
      refine e3.trans ?_
      rw [hf₂, State.calling_eq h.top, State.setFrames_setFrames, State.setTop_of_frames _ hr', hr]
      rfl
    have hsame : U.sameButNew ({ U with heap := s₂.heap, slotsUsed := s₂.slotsUsed } : State) L mc ms := by
      refine ⟨?_, q2, q3, q4, q5, q6⟩
      obtain ⟨t, ht, -⟩ := State.frames_cons hr
      show ({ U with heap := s₂.heap, slotsUsed := s₂.slotsUsed } : State) = { U.setFrames U.frames with heap := s₂.heap, slotsUsed := s₂.slotsUsed }
      rw [State.setFrames_self ht]
    subst hg
    refine Or.inl ⟨v, ⟨(({ U with heap := s₂.heap, slotsUsed := s₂.slotsUsed } : State).setVm s₂.vm), Ls ++ L, c0 + mc, s0 + ms⟩,
      ⟨X.admits, X.cas, X.clock, X.frames, X.room, X.hears, X.method, X.code, (X.here.setHeapUsed s₂.heap s₂.slotsUsed).setVm hW'.alike, X.tail, State.WarmedH.trans X.warmed hW', X.limits, X.bytes, X.same.trans (hsame.setVm s.vm)⟩,
      ⟨g, mk, s₂, L, rfl, rfl, hqc, rfl, hL, rfl, rfl⟩, ?_⟩
    show Steps p.tables e below _ ((({ U with heap := s₂.heap, slotsUsed := s₂.slotsUsed } : State).setVm s₂.vm).setTop { g with pc := g.pc + len₂, stack := v.toList ++ g.stack })
    rw [← hs₂]
    exact hsteps
  · obtain ⟨e2, q2, q3, q4, q5, q6⟩ := id hsm
    have e3 : s₂ = ({ (U.calling g mk a).setFrames s₂.frames with heap := s₂.heap, slotsUsed := s₂.slotsUsed } : State).setVm s₂.vm := by
      have : s₂ = ({ s₂ with vm := (U.calling g mk a).vm } : State).setVm s₂.vm := rfl
      rw [e2] at this
      exact this
    have hf₂ : s₂.frames = .throwing q :: .java g :: U.frames.tail := hend
    have hW' : U.WarmedH s₂.vm := hW₂
    have hs₂ : s₂ = ((({ U with heap := s₂.heap, slotsUsed := s₂.slotsUsed } : State).setVm s₂.vm).setTop g).pushFrame (.throwing q) := by
      refine e3.trans ?_
      rw [hf₂, State.calling_eq h.top, State.setFrames_setFrames, State.pushFrame, State.frames_setTop _ hr', State.setTop_of_frames _ hr', State.setFrames_setFrames, hr]
      rfl
    have hsame : U.sameButNew ({ U with heap := s₂.heap, slotsUsed := s₂.slotsUsed } : State) L mc ms := by
      refine ⟨?_, q2, q3, q4, q5, q6⟩
      obtain ⟨t, ht, -⟩ := State.frames_cons hr
      show ({ U with heap := s₂.heap, slotsUsed := s₂.slotsUsed } : State) = { U.setFrames U.frames with heap := s₂.heap, slotsUsed := s₂.slotsUsed }
      rw [State.setFrames_self ht]
    subst hg
    refine Or.inr ⟨q, ⟨(({ U with heap := s₂.heap, slotsUsed := s₂.slotsUsed } : State).setVm s₂.vm), Ls ++ L, c0 + mc, s0 + ms⟩,
      ⟨X.admits, X.cas, X.clock, X.frames, X.room, X.hears, X.method, X.code, (X.here.setHeapUsed s₂.heap s₂.slotsUsed).setVm hW'.alike, X.tail, State.WarmedH.trans X.warmed hW', X.limits, X.bytes, X.same.trans (hsame.setVm s.vm)⟩,
      ⟨g, mk, s₂, L, E, ce, rfl, rfl, hx, hce, hcv, hcl, rfl, hL, rfl, rfl⟩, ?_⟩
    show Steps p.tables e below _ (((({ U with heap := s₂.heap, slotsUsed := s₂.slotsUsed } : State).setVm s₂.vm).setTop g).pushFrame (.throwing q))
    rw [← hs₂]
    exact hsteps
end
section
variable {p : Program} {l : Launch} {e : Env} {R : Room} {s : State} {m : MethodId} {args : Array Value} {below : List Frame} {meth : Method} {c : Code} {T : State} {H : Heap} {locs : List Loc} {cells slots : Nat}
variable {y : MethodName} {bytes cc : ByteArray} {maxL nL mc ms n index : Nat} {ret : Option FieldType} {ws : List Cond} {rm : Room} {Pc : Array Value → State → Prop} {Qc : Array Value → State → Outcome → State → Prop} {XC : String → Addr → State → State → Prop} {free : Addr → Prop} {Ts : List Cond} {own C : String} {b : Addr} {As rest : List Value} {g : JFrame}
theorem vy_runVX {hh : List (Nat × Nat × Nat × Nat)} (S : CallFix p m c cc nL s args Ts own) (hM : vy_Met l y ws rm Pc Qc XC mc ms free) (cw : vx_CVW R s args own C index y bytes maxL ret hh ws rm mc ms n) (hp : PreV s H C b Pc As)
    (hg : g.method = m) (hn : As.length = n) (hsize : g.locals.size = nL) (hstack : g.stack = As.reverse ++ .ref b :: rest) (hW : 2 * g.monitorRoom + (rest.map fun v => v.category).sum ≤ 8) (hdg : decode cc g.pc = .ok (.invokevirtual index, 3)) (hf : cells + mc ≤ R.cells ∧ slots + ms ≤ R.slots) :
    vy_Run p l e R s m args below meth c H locs cells slots mc ms g rest (Qc (Value.ref b :: As).toArray) XC free := by
  obtain ⟨⟨hrc, hrs, hfr, hlo, hws, hcw⟩, hcode, hini, hy, hlen, hl, hin, hse⟩ := cw
  have hK : vx_Back l R p e below s args y 3 8 (PreOf R mc ms Pc) (PostOf Qc mc ms free) (vy_Post XC mc ms free) := vy_backW (hh := hh) (bytes := bytes) (maxL := maxL) (ret := ret) hM hp.1 hrc hrs hfr hlo hws hcw (fun a' U hW => word_at hW (Or.inl (by first | rfl | simp [Cond.onTables, Cond.keeps, Cond.steady])) hini)
  obtain ⟨hx, hb, hml, ho, -⟩ := S
  obtain ⟨-, ⟨cellB, hcB, hoB, hclB⟩, hPc⟩ := hp
  intro T hT X
  rcases vx_callVX X hx (C := C) (hh := hh) (bytes := bytes) (maxL := maxL) (ret := ret) ho hl hin hse hcode hy hK (by rw [hT]; exact hcB) hoB hclB hg (hsize.trans hml.symm) (argsL := As) (rest := rest) (fun sig h => hn.trans (hlen sig h)) hstack hW (by rw [hb]; exact hdg)
    (fun vm₁ hW₁ => ⟨hf.1, hf.2, hPc (T.setVm vm₁) hT hW₁⟩) with ⟨v, vm₁, ⟨U', l2, c2, s2⟩, hW₁, X', ⟨g', mk, t, L, e1, e2, hq, h1, hL, h2, h3⟩, st⟩ | ⟨q, vm₁, ⟨U', l2, c2, s2⟩, hW₁, X', ⟨g', mk, t, L, E, ce, e1, e2, hq, hce, hcv, hcl, h1, hL, h2, h3⟩, st⟩
  · dsimp only [Pt.U, Pt.locs, Pt.cells, Pt.slots] at X' e1 e2 h1 h2 h3 st
    subst h1; subst h2; subst h3
    exact Or.inl ⟨v, (T.setVm vm₁).calling g' mk (Value.ref b :: As).toArray, t, U', L, hT, X', hL, e1, e2, hq, st⟩
  · dsimp only [Pt.U, Pt.locs, Pt.cells, Pt.slots] at X' e1 e2 h1 h2 h3 st hcl
    subst h1; subst h2; subst h3
    exact Or.inr ⟨q, (T.setVm vm₁).calling g' mk (Value.ref b :: As).toArray, t, U', L, E, ce, hT, X', hL, e1, e2, hq, hce, hcv, vx_cls hW₁ hcl, st⟩
theorem vy_runSX {hh : List (Nat × Nat × Nat × Nat)} (S : CallFix p m c cc nL s args Ts own) (hM : vy_Met l y ws rm Pc Qc XC mc ms free) (cw : vx_CSW R s args own index y bytes maxL ret hh ws rm mc ms n) (hp : PreS s H Pc As)
    (hg : g.method = m) (hn : As.length = n) (hsize : g.locals.size = nL) (hstack : g.stack = As.reverse ++ rest) (hW : 2 * g.monitorRoom + (rest.map fun v => v.category).sum ≤ 8) (hdg : decode cc g.pc = .ok (.invokestatic index, 3)) (hf : cells + mc ≤ R.cells ∧ slots + ms ≤ R.slots) :
    vy_Run p l e R s m args below meth c H locs cells slots mc ms g rest (Qc As.toArray) XC free := by
  obtain ⟨⟨hrc, hrs, hfr, hlo, hws, hcw⟩, hcode, hini, hy, hlen, hl, hstt⟩ := cw
  have hK : vx_Back l R p e below s args y 3 8 (PreOf R mc ms Pc) (PostOf Qc mc ms free) (vy_Post XC mc ms free) := vy_backW (hh := hh) (bytes := bytes) (maxL := maxL) (ret := ret) hM hp.1 hrc hrs hfr hlo hws hcw (fun a' U hW => word_at hW (Or.inl (by first | rfl | simp [Cond.onTables, Cond.keeps, Cond.steady])) hini)
  obtain ⟨hx, hb, hml, ho, -⟩ := S
  intro T hT X
  rcases vx_callSX X hx (hh := hh) (bytes := bytes) (maxL := maxL) (ret := ret) ho hl hstt hini hcode hy hK hg (hsize.trans hml.symm) (argsL := As) (rest := rest) (fun sig h => hn.trans (hlen sig h)) hstack hW (by rw [hb]; exact hdg)
    (fun vm₁ hW₁ => ⟨hf.1, hf.2, hp.2 (T.setVm vm₁) hT hW₁⟩) with ⟨v, vm₁, ⟨U', l2, c2, s2⟩, hW₁, X', ⟨g', mk, t, L, e1, e2, hq, h1, hL, h2, h3⟩, st⟩ | ⟨q, vm₁, ⟨U', l2, c2, s2⟩, hW₁, X', ⟨g', mk, t, L, E, ce, e1, e2, hq, hce, hcv, hcl, h1, hL, h2, h3⟩, st⟩
  · dsimp only [Pt.U, Pt.locs, Pt.cells, Pt.slots] at X' e1 e2 h1 h2 h3 st
    subst h1; subst h2; subst h3
    exact Or.inl ⟨v, (T.setVm vm₁).calling g' mk As.toArray, t, U', L, hT, X', hL, e1, e2, hq, st⟩
  · dsimp only [Pt.U, Pt.locs, Pt.cells, Pt.slots] at X' e1 e2 h1 h2 h3 st hcl
    subst h1; subst h2; subst h3
    exact Or.inr ⟨q, (T.setVm vm₁).calling g' mk As.toArray, t, U', L, E, ce, hT, X', hL, e1, e2, hq, hce, hcv, vx_cls hW₁ hcl, st⟩
end
theorem vy_ofWH {l : Launch} {y : MethodName} {ws ws' : List Cond} {rm : Room} {Pc : Array Value → State → Prop} {Qc : Array Value → State → Outcome → State → Prop} {XC : String → Addr → State → State → Prop} {mc ms : Nat} {free : Addr → Prop} {cc : ByteArray} {maxL : Nat} {ret : Option FieldType} {hh : List (Nat × Nat × Nat × Nat)}
    (hy : plainName y.cls = true) (hw : ws = Cond.codeWith y cc maxL ret hh :: ws')
    (body : ∀ p e s m args below meth c s₁, BodyLoose p l y (headSpec ws rm) cc maxL ret e s m args below meth c s₁ → c.maxLocals = maxL → Pc args s →
      W p l e (headSpec ws rm).room s m args below meth c s.heap [] 0 0 (vy_MQ below Qc XC args s mc ms free) (entryFrame m args maxL)) : vy_Met l y ws rm Pc Qc XC mc ms free := by
  refine MetFree.of_bodyS (code := cc) (maxLocals := maxL) (ret := ret) hy ?_ ?_
  · intro args s m h hn
    obtain ⟨m9, meth, c, hn9, h1, h2, h3, h4, -, h5, h6, -⟩ := Cond.codeWith_spec (atoms_spec (ws := ws) h _ (by rw [hw]; exact List.mem_cons_self))
    cases hn.symm.trans hn9
    exact ⟨meth, c, h1, h2, h3, h4, h5, h6⟩
  · intro p e s m args below meth c s₁ B hml hP _
    have hh0 : s₁.heap = s.heap := by rw [B.state]; rfl
    obtain ⟨t, a1, o, b1, b2, b3⟩ := body p e s m args below meth c s₁ B hml hP s₁ hh0 (Stand.of_body B)
    exact ⟨t, o, a1, b1, b2, b3⟩
/-- contract with two ends, answer kind I: it returns (post, ws1), or an object of class En is thrown (Xp, wsX) -/
def XtI (l : Launch) (E : En) (y : MethodName) (wds : List Cond) (F mc ms : Nat) (av : List Value) (ws : va_W) {S SX : Type} (post : Int32 → S → Prop) (ws1 : S → va_W) (Xp : String → SX → Prop) (wsX : SX → Nat → va_W) : Prop :=
  ∀ sz : Nat, vy_Met l y wds (rmF F mc ms) (va_Pc av (mPre E sz ws)) (va_Qi post (fun u t => wB E (va_A ws sz) (ws1 u) t) (va_A ws sz)) (vy_X (fun _ => True) (fun En q (u : SX) t => Xp En u ∧ wB E (va_A ws sz) (wsX u q) t) (va_A ws sz)) mc ms (va_A ws sz)
theorem XtI.of {l : Launch} {E : En} {y : MethodName} {cc : ByteArray} {nL : Nat} {ret : FieldType} {F mc ms : Nat} {av : List Value} {ws : va_W} {S SX : Type} {post : Int32 → S → Prop} {ws1 : S → va_W} {Xp : String → SX → Prop} {wsX : SX → Nat → va_W} (hy : plainName y.cls = true) (hent : (lg_sl av).length ≤ nL)
    (body : ∀ (p : Program) (e : Env) (s : State) (m : MethodId) (args : Array Value) (below : List Frame) (meth : Method) (c : Code) (A : Nat → Prop) (ls : Array Slot) (Q : State → Prop), p.tables.exec = Jvm.exec → c.code = cc → c.maxLocals = nL → (∀ w ∈ lw_all, w.before args s = true) → s.vm.findClass y.cls = some m.cls → meth.locks = false → meth.name = y.name → (∀ q, s.heap.size ≤ q → A q) → KX E A s → wI E A s s.heap [] ws → lv_has ls nL (lv_args 0 av) → (∀ (u : S) (v : Int32) (H : Heap) (locs : List Loc) (cells slots pc : Nat) (ls : Array Slot), decode cc pc = .ok (.ireturn, 1) → wI E A s H locs (ws1 u) → post v u → cells ≤ mc → slots ≤ ms → narrow ret (.int v) = .int v → W p l e (rmF F mc ms) s m args below meth c H locs cells slots Q (F0 m pc ls [.int v])) → (∀ (u : SX) (En : String) (q : Nat) (ce : Cell) (H : Heap) (locs : List Loc) (cells slots pc : Nat) (ls : Array Slot) (rest : List Value), H[q]? = some ce → ce.vm = .none → s.vm.findClass En = some ce.cls → wI E A s H locs (wsX u q) → Xp En u → cells ≤ mc → slots ≤ ms → vx_W p l e (rmF F mc ms) s m args below meth c H locs cells slots Q (F0 m pc ls rest) q) →
      W p l e (rmF F mc ms) s m args below meth c s.heap [] 0 0 Q (F0 m 0 ls [])) : XtI l E y (ws_ y cc nL (some ret)) F mc ms av ws post ws1 Xp wsX := by
  intro sz
  refine vy_ofW (cc := cc) (maxL := nL) (ret := (some ret)) hy rfl ?_
  intro p e s m args below meth c s₁ B hml htab hv
  obtain ⟨rfl, hsz, hP, hK, hD0⟩ := hv
  have hts0 := atoms_spec (ws := ws_ y cc nL (some ret)) B.pre
  have hts : ∀ w ∈ lw_all, w.before _ s = true := fun w h => hts0 w (List.mem_cons_of_mem _ h)
  subst hsz
  have hl := lv_entry av (n := nL) hent
  rw [lg_entry_eq]
  refine body p e s m av.toArray below meth c (va_A ws s.heap.size) _ _ B.exec B.bytes hml hts (findClass_of_methodNamed B.named) B.notSynchronized (name_of_methodNamed B.named B.method).1 (fun q h => Or.inr h) hK ⟨hP, hD0.self, va_S.rf⟩ hl ?_ ?_
  · intro u v H locs cells slots pc ls hdg hI hq hc hs hn
    refine vy_ret ?_
    refine W.widen (k := mc) (n := ms) hc hs ?_
    exact W.zret (v := v) B.exec B.bytes B.returns hn (fun t ht hW => ⟨⟨v, u, rfl, hq, by show va_P _ _ _ t.heap ∧ _; rw [ht]; exact ⟨hI.1, hI.2.1⟩⟩, hI.2.2.F ht⟩) hI.2.2.2.2 hdg B.notSynchronized
  · intro u En q ce H locs cells slots pc ls rest hq1 hq2 hq3 hI hX hc hs
    exact vy_out (fun x hx => (htab x hx).elim) B.notSynchronized hq1 hq2 hq3 (fun t ht hW => ⟨u, trivial, ⟨hX, by show va_P _ _ _ t.heap ∧ _; rw [ht]; exact ⟨hI.1, hI.2.1⟩⟩, hI.2.2.F ht⟩) hI.2.2.2.2 hc hs
theorem XtI.ofH {l : Launch} {E : En} {y : MethodName} {cc : ByteArray} {nL : Nat} {ret : FieldType} {hh : List (Nat × Nat × Nat × Nat)} {F mc ms : Nat} {av : List Value} {ws : va_W} {S SX : Type} {post : Int32 → S → Prop} {ws1 : S → va_W} {Xp : String → SX → Prop} {wsX : SX → Nat → va_W} (hy : plainName y.cls = true) (hent : (lg_sl av).length ≤ nL)
    (body : ∀ (p : Program) (e : Env) (s : State) (m : MethodId) (args : Array Value) (below : List Frame) (meth : Method) (c : Code) (A : Nat → Prop) (ls : Array Slot) (Q : State → Prop), p.tables.exec = Jvm.exec → c.code = cc → c.maxLocals = nL → (∀ w ∈ lw_all, w.before args s = true) → s.vm.findClass y.cls = some m.cls → meth.locks = false → meth.name = y.name → (∀ q, s.heap.size ≤ q → A q) → KX E A s → wI E A s s.heap [] ws → lv_has ls nL (lv_args 0 av) → c.exceptionTable.toList = tableOf hh → (∀ (u : S) (v : Int32) (H : Heap) (locs : List Loc) (cells slots pc : Nat) (ls : Array Slot), decode cc pc = .ok (.ireturn, 1) → wI E A s H locs (ws1 u) → post v u → cells ≤ mc → slots ≤ ms → narrow ret (.int v) = .int v → W p l e (rmF F mc ms) s m args below meth c H locs cells slots Q (F0 m pc ls [.int v])) → (∀ (u : SX) (En : String) (q : Nat) (ce : Cell) (H : Heap) (locs : List Loc) (cells slots pc : Nat) (ls : Array Slot) (rest : List Value), H[q]? = some ce → ce.vm = .none → s.vm.findClass En = some ce.cls → wI E A s H locs (wsX u q) → Xp En u → cells ≤ mc → slots ≤ ms → (∀ z ∈ tableOf hh, covers z pc = false ∨ (z.catchType ≠ 0 ∧ ∃ nm : String, (Cond.classLink y.cls z.catchType nm).before args s = true ∧ va_Nc En nm s)) → vx_W p l e (rmF F mc ms) s m args below meth c H locs cells slots Q (F0 m pc ls rest) q) →
      W p l e (rmF F mc ms) s m args below meth c s.heap [] 0 0 Q (F0 m 0 ls [])) : XtI l E y (wsW_ y cc nL (some ret) hh) F mc ms av ws post ws1 Xp wsX := by
  intro sz
  refine vy_ofWH (cc := cc) (maxL := nL) (ret := (some ret)) (hh := hh) hy rfl ?_
  intro p e s m args below meth c s₁ B hml hv
  obtain ⟨rfl, hsz, hP, hK, hD0⟩ := hv
  have hts0 := atoms_spec (ws := wsW_ y cc nL (some ret) hh) B.pre
  have hts : ∀ w ∈ lw_all, w.before _ s = true := fun w h => hts0 w (List.mem_cons_of_mem _ h)
  subst hsz
  have hl := lv_entry av (n := nL) hent
  rw [lg_entry_eq]
  refine body p e s m av.toArray below meth c (va_A ws s.heap.size) _ _ B.exec B.bytes hml hts (findClass_of_methodNamed B.named) B.notSynchronized (name_of_methodNamed B.named B.method).1 (fun q h => Or.inr h) hK ⟨hP, hD0.self, va_S.rf⟩ hl (vx_table (x := y) B (hts0 _ List.mem_cons_self)) ?_ ?_
  · intro u v H locs cells slots pc ls hdg hI hq hc hs hn
    refine vy_ret ?_
    refine W.widen (k := mc) (n := ms) hc hs ?_
    exact W.zret (v := v) B.exec B.bytes B.returns hn (fun t ht hW => ⟨⟨v, u, rfl, hq, by show va_P _ _ _ t.heap ∧ _; rw [ht]; exact ⟨hI.1, hI.2.1⟩⟩, hI.2.2.F ht⟩) hI.2.2.2.2 hdg B.notSynchronized
  · intro u En q ce H locs cells slots pc ls rest hq1 hq2 hq3 hI hX hc hs hpass
    exact vy_outP (findClass_of_methodNamed B.named) B.notSynchronized (by rw [vx_table (x := y) B (hts0 _ List.mem_cons_self)]; exact hpass) hq1 hq2 hq3 (fun t ht hW => ⟨u, trivial, ⟨hX, by show va_P _ _ _ t.heap ∧ _; rw [ht]; exact ⟨hI.1, hI.2.1⟩⟩, hI.2.2.F ht⟩) hI.2.2.2.2 hc hs
/-- contract with two ends, answer kind L: it returns (post, ws1), or an object of class En is thrown (Xp, wsX) -/
def XtL (l : Launch) (E : En) (y : MethodName) (wds : List Cond) (F mc ms : Nat) (av : List Value) (ws : va_W) {S SX : Type} (post : Int64 → S → Prop) (ws1 : S → va_W) (Xp : String → SX → Prop) (wsX : SX → Nat → va_W) : Prop :=
  ∀ sz : Nat, vy_Met l y wds (rmF F mc ms) (va_Pc av (mPre E sz ws)) (va_Ql post (fun u t => wB E (va_A ws sz) (ws1 u) t) (va_A ws sz)) (vy_X (fun _ => True) (fun En q (u : SX) t => Xp En u ∧ wB E (va_A ws sz) (wsX u q) t) (va_A ws sz)) mc ms (va_A ws sz)
theorem XtL.of {l : Launch} {E : En} {y : MethodName} {cc : ByteArray} {nL : Nat} {F mc ms : Nat} {av : List Value} {ws : va_W} {S SX : Type} {post : Int64 → S → Prop} {ws1 : S → va_W} {Xp : String → SX → Prop} {wsX : SX → Nat → va_W} (hy : plainName y.cls = true) (hent : (lg_sl av).length ≤ nL)
    (body : ∀ (p : Program) (e : Env) (s : State) (m : MethodId) (args : Array Value) (below : List Frame) (meth : Method) (c : Code) (A : Nat → Prop) (ls : Array Slot) (Q : State → Prop), p.tables.exec = Jvm.exec → c.code = cc → c.maxLocals = nL → (∀ w ∈ lw_all, w.before args s = true) → s.vm.findClass y.cls = some m.cls → meth.locks = false → meth.name = y.name → (∀ q, s.heap.size ≤ q → A q) → KX E A s → wI E A s s.heap [] ws → lv_has ls nL (lv_args 0 av) → (∀ (u : S) (v : Int64) (H : Heap) (locs : List Loc) (cells slots pc : Nat) (ls : Array Slot), decode cc pc = .ok (.lreturn, 1) → wI E A s H locs (ws1 u) → post v u → cells ≤ mc → slots ≤ ms → W p l e (rmF F mc ms) s m args below meth c H locs cells slots Q (F0 m pc ls [.long v])) → (∀ (u : SX) (En : String) (q : Nat) (ce : Cell) (H : Heap) (locs : List Loc) (cells slots pc : Nat) (ls : Array Slot) (rest : List Value), H[q]? = some ce → ce.vm = .none → s.vm.findClass En = some ce.cls → wI E A s H locs (wsX u q) → Xp En u → cells ≤ mc → slots ≤ ms → vx_W p l e (rmF F mc ms) s m args below meth c H locs cells slots Q (F0 m pc ls rest) q) →
      W p l e (rmF F mc ms) s m args below meth c s.heap [] 0 0 Q (F0 m 0 ls [])) : XtL l E y (ws_ y cc nL (some .long)) F mc ms av ws post ws1 Xp wsX := by
  intro sz
  refine vy_ofW (cc := cc) (maxL := nL) (ret := (some .long)) hy rfl ?_
  intro p e s m args below meth c s₁ B hml htab hv
  obtain ⟨rfl, hsz, hP, hK, hD0⟩ := hv
  have hts0 := atoms_spec (ws := ws_ y cc nL (some .long)) B.pre
  have hts : ∀ w ∈ lw_all, w.before _ s = true := fun w h => hts0 w (List.mem_cons_of_mem _ h)
  subst hsz
  have hl := lv_entry av (n := nL) hent
  rw [lg_entry_eq]
  refine body p e s m av.toArray below meth c (va_A ws s.heap.size) _ _ B.exec B.bytes hml hts (findClass_of_methodNamed B.named) B.notSynchronized (name_of_methodNamed B.named B.method).1 (fun q h => Or.inr h) hK ⟨hP, hD0.self, va_S.rf⟩ hl ?_ ?_
  · intro u v H locs cells slots pc ls hdg hI hq hc hs
    refine vy_ret ?_
    refine W.widen (k := mc) (n := ms) hc hs ?_
    exact W.lret (v := v) B.exec B.bytes B.returns (fun t ht hW => ⟨⟨v, u, rfl, hq, by show va_P _ _ _ t.heap ∧ _; rw [ht]; exact ⟨hI.1, hI.2.1⟩⟩, hI.2.2.F ht⟩) hI.2.2.2.2 hdg B.notSynchronized
  · intro u En q ce H locs cells slots pc ls rest hq1 hq2 hq3 hI hX hc hs
    exact vy_out (fun x hx => (htab x hx).elim) B.notSynchronized hq1 hq2 hq3 (fun t ht hW => ⟨u, trivial, ⟨hX, by show va_P _ _ _ t.heap ∧ _; rw [ht]; exact ⟨hI.1, hI.2.1⟩⟩, hI.2.2.F ht⟩) hI.2.2.2.2 hc hs
theorem XtL.ofH {l : Launch} {E : En} {y : MethodName} {cc : ByteArray} {nL : Nat} {hh : List (Nat × Nat × Nat × Nat)} {F mc ms : Nat} {av : List Value} {ws : va_W} {S SX : Type} {post : Int64 → S → Prop} {ws1 : S → va_W} {Xp : String → SX → Prop} {wsX : SX → Nat → va_W} (hy : plainName y.cls = true) (hent : (lg_sl av).length ≤ nL)
    (body : ∀ (p : Program) (e : Env) (s : State) (m : MethodId) (args : Array Value) (below : List Frame) (meth : Method) (c : Code) (A : Nat → Prop) (ls : Array Slot) (Q : State → Prop), p.tables.exec = Jvm.exec → c.code = cc → c.maxLocals = nL → (∀ w ∈ lw_all, w.before args s = true) → s.vm.findClass y.cls = some m.cls → meth.locks = false → meth.name = y.name → (∀ q, s.heap.size ≤ q → A q) → KX E A s → wI E A s s.heap [] ws → lv_has ls nL (lv_args 0 av) → c.exceptionTable.toList = tableOf hh → (∀ (u : S) (v : Int64) (H : Heap) (locs : List Loc) (cells slots pc : Nat) (ls : Array Slot), decode cc pc = .ok (.lreturn, 1) → wI E A s H locs (ws1 u) → post v u → cells ≤ mc → slots ≤ ms → W p l e (rmF F mc ms) s m args below meth c H locs cells slots Q (F0 m pc ls [.long v])) → (∀ (u : SX) (En : String) (q : Nat) (ce : Cell) (H : Heap) (locs : List Loc) (cells slots pc : Nat) (ls : Array Slot) (rest : List Value), H[q]? = some ce → ce.vm = .none → s.vm.findClass En = some ce.cls → wI E A s H locs (wsX u q) → Xp En u → cells ≤ mc → slots ≤ ms → (∀ z ∈ tableOf hh, covers z pc = false ∨ (z.catchType ≠ 0 ∧ ∃ nm : String, (Cond.classLink y.cls z.catchType nm).before args s = true ∧ va_Nc En nm s)) → vx_W p l e (rmF F mc ms) s m args below meth c H locs cells slots Q (F0 m pc ls rest) q) →
      W p l e (rmF F mc ms) s m args below meth c s.heap [] 0 0 Q (F0 m 0 ls [])) : XtL l E y (wsW_ y cc nL (some .long) hh) F mc ms av ws post ws1 Xp wsX := by
  intro sz
  refine vy_ofWH (cc := cc) (maxL := nL) (ret := (some .long)) (hh := hh) hy rfl ?_
  intro p e s m args below meth c s₁ B hml hv
  obtain ⟨rfl, hsz, hP, hK, hD0⟩ := hv
  have hts0 := atoms_spec (ws := wsW_ y cc nL (some .long) hh) B.pre
  have hts : ∀ w ∈ lw_all, w.before _ s = true := fun w h => hts0 w (List.mem_cons_of_mem _ h)
  subst hsz
  have hl := lv_entry av (n := nL) hent
  rw [lg_entry_eq]
  refine body p e s m av.toArray below meth c (va_A ws s.heap.size) _ _ B.exec B.bytes hml hts (findClass_of_methodNamed B.named) B.notSynchronized (name_of_methodNamed B.named B.method).1 (fun q h => Or.inr h) hK ⟨hP, hD0.self, va_S.rf⟩ hl (vx_table (x := y) B (hts0 _ List.mem_cons_self)) ?_ ?_
  · intro u v H locs cells slots pc ls hdg hI hq hc hs
    refine vy_ret ?_
    refine W.widen (k := mc) (n := ms) hc hs ?_
    exact W.lret (v := v) B.exec B.bytes B.returns (fun t ht hW => ⟨⟨v, u, rfl, hq, by show va_P _ _ _ t.heap ∧ _; rw [ht]; exact ⟨hI.1, hI.2.1⟩⟩, hI.2.2.F ht⟩) hI.2.2.2.2 hdg B.notSynchronized
  · intro u En q ce H locs cells slots pc ls rest hq1 hq2 hq3 hI hX hc hs hpass
    exact vy_outP (findClass_of_methodNamed B.named) B.notSynchronized (by rw [vx_table (x := y) B (hts0 _ List.mem_cons_self)]; exact hpass) hq1 hq2 hq3 (fun t ht hW => ⟨u, trivial, ⟨hX, by show va_P _ _ _ t.heap ∧ _; rw [ht]; exact ⟨hI.1, hI.2.1⟩⟩, hI.2.2.F ht⟩) hI.2.2.2.2 hc hs
/-- contract with two ends, answer kind V: it returns (post, ws1), or an object of class En is thrown (Xp, wsX) -/
def XtV (l : Launch) (E : En) (y : MethodName) (wds : List Cond) (F mc ms : Nat) (av : List Value) (ws : va_W) {S SX : Type} (post : S → Prop) (ws1 : S → va_W) (Xp : String → SX → Prop) (wsX : SX → Nat → va_W) : Prop :=
  ∀ sz : Nat, vy_Met l y wds (rmF F mc ms) (va_Pc av (mPre E sz ws)) (va_Qv post (fun u t => wB E (va_A ws sz) (ws1 u) t) (va_A ws sz)) (vy_X (fun _ => True) (fun En q (u : SX) t => Xp En u ∧ wB E (va_A ws sz) (wsX u q) t) (va_A ws sz)) mc ms (va_A ws sz)
theorem XtV.of {l : Launch} {E : En} {y : MethodName} {cc : ByteArray} {nL : Nat} {F mc ms : Nat} {av : List Value} {ws : va_W} {S SX : Type} {post : S → Prop} {ws1 : S → va_W} {Xp : String → SX → Prop} {wsX : SX → Nat → va_W} (hy : plainName y.cls = true) (hent : (lg_sl av).length ≤ nL)
    (body : ∀ (p : Program) (e : Env) (s : State) (m : MethodId) (args : Array Value) (below : List Frame) (meth : Method) (c : Code) (A : Nat → Prop) (ls : Array Slot) (Q : State → Prop), p.tables.exec = Jvm.exec → c.code = cc → c.maxLocals = nL → (∀ w ∈ lw_all, w.before args s = true) → s.vm.findClass y.cls = some m.cls → meth.locks = false → meth.name = y.name → (∀ q, s.heap.size ≤ q → A q) → KX E A s → wI E A s s.heap [] ws → lv_has ls nL (lv_args 0 av) → (∀ (u : S) (H : Heap) (locs : List Loc) (cells slots pc : Nat) (ls : Array Slot), decode cc pc = .ok (.return_, 1) → wI E A s H locs (ws1 u) → post u → cells ≤ mc → slots ≤ ms → W p l e (rmF F mc ms) s m args below meth c H locs cells slots Q (F0 m pc ls [])) → (∀ (u : SX) (En : String) (q : Nat) (ce : Cell) (H : Heap) (locs : List Loc) (cells slots pc : Nat) (ls : Array Slot) (rest : List Value), H[q]? = some ce → ce.vm = .none → s.vm.findClass En = some ce.cls → wI E A s H locs (wsX u q) → Xp En u → cells ≤ mc → slots ≤ ms → vx_W p l e (rmF F mc ms) s m args below meth c H locs cells slots Q (F0 m pc ls rest) q) →
      W p l e (rmF F mc ms) s m args below meth c s.heap [] 0 0 Q (F0 m 0 ls [])) : XtV l E y (ws_ y cc nL none) F mc ms av ws post ws1 Xp wsX := by
  intro sz
  refine vy_ofW (cc := cc) (maxL := nL) (ret := none) hy rfl ?_
  intro p e s m args below meth c s₁ B hml htab hv
  obtain ⟨rfl, hsz, hP, hK, hD0⟩ := hv
  have hts0 := atoms_spec (ws := ws_ y cc nL none) B.pre
  have hts : ∀ w ∈ lw_all, w.before _ s = true := fun w h => hts0 w (List.mem_cons_of_mem _ h)
  subst hsz
  have hl := lv_entry av (n := nL) hent
  rw [lg_entry_eq]
  refine body p e s m av.toArray below meth c (va_A ws s.heap.size) _ _ B.exec B.bytes hml hts (findClass_of_methodNamed B.named) B.notSynchronized (name_of_methodNamed B.named B.method).1 (fun q h => Or.inr h) hK ⟨hP, hD0.self, va_S.rf⟩ hl ?_ ?_
  · intro u H locs cells slots pc ls hdg hI hq hc hs
    refine vy_ret ?_
    refine W.widen (k := mc) (n := ms) hc hs ?_
    exact W.vret B.exec B.bytes B.returns (fun t ht hW => ⟨⟨u, rfl, hq, by show va_P _ _ _ t.heap ∧ _; rw [ht]; exact ⟨hI.1, hI.2.1⟩⟩, hI.2.2.F ht⟩) hI.2.2.2.2 hdg B.notSynchronized
  · intro u En q ce H locs cells slots pc ls rest hq1 hq2 hq3 hI hX hc hs
    exact vy_out (fun x hx => (htab x hx).elim) B.notSynchronized hq1 hq2 hq3 (fun t ht hW => ⟨u, trivial, ⟨hX, by show va_P _ _ _ t.heap ∧ _; rw [ht]; exact ⟨hI.1, hI.2.1⟩⟩, hI.2.2.F ht⟩) hI.2.2.2.2 hc hs
theorem XtV.ofH {l : Launch} {E : En} {y : MethodName} {cc : ByteArray} {nL : Nat} {hh : List (Nat × Nat × Nat × Nat)} {F mc ms : Nat} {av : List Value} {ws : va_W} {S SX : Type} {post : S → Prop} {ws1 : S → va_W} {Xp : String → SX → Prop} {wsX : SX → Nat → va_W} (hy : plainName y.cls = true) (hent : (lg_sl av).length ≤ nL)
    (body : ∀ (p : Program) (e : Env) (s : State) (m : MethodId) (args : Array Value) (below : List Frame) (meth : Method) (c : Code) (A : Nat → Prop) (ls : Array Slot) (Q : State → Prop), p.tables.exec = Jvm.exec → c.code = cc → c.maxLocals = nL → (∀ w ∈ lw_all, w.before args s = true) → s.vm.findClass y.cls = some m.cls → meth.locks = false → meth.name = y.name → (∀ q, s.heap.size ≤ q → A q) → KX E A s → wI E A s s.heap [] ws → lv_has ls nL (lv_args 0 av) → c.exceptionTable.toList = tableOf hh → (∀ (u : S) (H : Heap) (locs : List Loc) (cells slots pc : Nat) (ls : Array Slot), decode cc pc = .ok (.return_, 1) → wI E A s H locs (ws1 u) → post u → cells ≤ mc → slots ≤ ms → W p l e (rmF F mc ms) s m args below meth c H locs cells slots Q (F0 m pc ls [])) → (∀ (u : SX) (En : String) (q : Nat) (ce : Cell) (H : Heap) (locs : List Loc) (cells slots pc : Nat) (ls : Array Slot) (rest : List Value), H[q]? = some ce → ce.vm = .none → s.vm.findClass En = some ce.cls → wI E A s H locs (wsX u q) → Xp En u → cells ≤ mc → slots ≤ ms → (∀ z ∈ tableOf hh, covers z pc = false ∨ (z.catchType ≠ 0 ∧ ∃ nm : String, (Cond.classLink y.cls z.catchType nm).before args s = true ∧ va_Nc En nm s)) → vx_W p l e (rmF F mc ms) s m args below meth c H locs cells slots Q (F0 m pc ls rest) q) →
      W p l e (rmF F mc ms) s m args below meth c s.heap [] 0 0 Q (F0 m 0 ls [])) : XtV l E y (wsW_ y cc nL none hh) F mc ms av ws post ws1 Xp wsX := by
  intro sz
  refine vy_ofWH (cc := cc) (maxL := nL) (ret := none) (hh := hh) hy rfl ?_
  intro p e s m args below meth c s₁ B hml hv
  obtain ⟨rfl, hsz, hP, hK, hD0⟩ := hv
  have hts0 := atoms_spec (ws := wsW_ y cc nL none hh) B.pre
  have hts : ∀ w ∈ lw_all, w.before _ s = true := fun w h => hts0 w (List.mem_cons_of_mem _ h)
  subst hsz
  have hl := lv_entry av (n := nL) hent
  rw [lg_entry_eq]
  refine body p e s m av.toArray below meth c (va_A ws s.heap.size) _ _ B.exec B.bytes hml hts (findClass_of_methodNamed B.named) B.notSynchronized (name_of_methodNamed B.named B.method).1 (fun q h => Or.inr h) hK ⟨hP, hD0.self, va_S.rf⟩ hl (vx_table (x := y) B (hts0 _ List.mem_cons_self)) ?_ ?_
  · intro u H locs cells slots pc ls hdg hI hq hc hs
    refine vy_ret ?_
    refine W.widen (k := mc) (n := ms) hc hs ?_
    exact W.vret B.exec B.bytes B.returns (fun t ht hW => ⟨⟨u, rfl, hq, by show va_P _ _ _ t.heap ∧ _; rw [ht]; exact ⟨hI.1, hI.2.1⟩⟩, hI.2.2.F ht⟩) hI.2.2.2.2 hdg B.notSynchronized
  · intro u En q ce H locs cells slots pc ls rest hq1 hq2 hq3 hI hX hc hs hpass
    exact vy_outP (findClass_of_methodNamed B.named) B.notSynchronized (by rw [vx_table (x := y) B (hts0 _ List.mem_cons_self)]; exact hpass) hq1 hq2 hq3 (fun t ht hW => ⟨u, trivial, ⟨hX, by show va_P _ _ _ t.heap ∧ _; rw [ht]; exact ⟨hI.1, hI.2.1⟩⟩, hI.2.2.F ht⟩) hI.2.2.2.2 hc hs
/-- contract with two ends, answer kind R: it returns (post, ws1), or an object of class En is thrown (Xp, wsX) -/
def XtR (l : Launch) (E : En) (y : MethodName) (wds : List Cond) (F mc ms : Nat) (av : List Value) (ws : va_W) {S SX : Type} (post : Nat → S → Prop) (ws1 : S → Nat → va_W) (Xp : String → SX → Prop) (wsX : SX → Nat → va_W) : Prop :=
  ∀ sz : Nat, vy_Met l y wds (rmF F mc ms) (va_Pc av (mPre E sz ws)) (va_Qr (fun _ => True) (fun u a t => post a u ∧ wB E (va_A ws sz) (ws1 u a) t) (va_A ws sz)) (vy_X (fun _ => True) (fun En q (u : SX) t => Xp En u ∧ wB E (va_A ws sz) (wsX u q) t) (va_A ws sz)) mc ms (va_A ws sz)
theorem XtR.of {l : Launch} {E : En} {y : MethodName} {cc : ByteArray} {nL : Nat} {ret : FieldType} {F mc ms : Nat} {av : List Value} {ws : va_W} {S SX : Type} {post : Nat → S → Prop} {ws1 : S → Nat → va_W} {Xp : String → SX → Prop} {wsX : SX → Nat → va_W} (hy : plainName y.cls = true) (hent : (lg_sl av).length ≤ nL) (hrt : (∃ n, ret = .object n) ∨ ∃ t, ret = .array t)
    (body : ∀ (p : Program) (e : Env) (s : State) (m : MethodId) (args : Array Value) (below : List Frame) (meth : Method) (c : Code) (A : Nat → Prop) (ls : Array Slot) (Q : State → Prop), p.tables.exec = Jvm.exec → c.code = cc → c.maxLocals = nL → (∀ w ∈ lw_all, w.before args s = true) → s.vm.findClass y.cls = some m.cls → meth.locks = false → meth.name = y.name → (∀ q, s.heap.size ≤ q → A q) → KX E A s → wI E A s s.heap [] ws → lv_has ls nL (lv_args 0 av) → (∀ (u : S) (b : Nat) (H : Heap) (locs : List Loc) (cells slots pc : Nat) (ls : Array Slot), decode cc pc = .ok (.areturn, 1) → wI E A s H locs (ws1 u b) → post b u → cells ≤ mc → slots ≤ ms → W p l e (rmF F mc ms) s m args below meth c H locs cells slots Q (F0 m pc ls [.ref b])) → (∀ (u : SX) (En : String) (q : Nat) (ce : Cell) (H : Heap) (locs : List Loc) (cells slots pc : Nat) (ls : Array Slot) (rest : List Value), H[q]? = some ce → ce.vm = .none → s.vm.findClass En = some ce.cls → wI E A s H locs (wsX u q) → Xp En u → cells ≤ mc → slots ≤ ms → vx_W p l e (rmF F mc ms) s m args below meth c H locs cells slots Q (F0 m pc ls rest) q) →
      W p l e (rmF F mc ms) s m args below meth c s.heap [] 0 0 Q (F0 m 0 ls [])) : XtR l E y (ws_ y cc nL (some ret)) F mc ms av ws post ws1 Xp wsX := by
  intro sz
  refine vy_ofW (cc := cc) (maxL := nL) (ret := (some ret)) hy rfl ?_
  intro p e s m args below meth c s₁ B hml htab hv
  obtain ⟨rfl, hsz, hP, hK, hD0⟩ := hv
  have hts0 := atoms_spec (ws := ws_ y cc nL (some ret)) B.pre
  have hts : ∀ w ∈ lw_all, w.before _ s = true := fun w h => hts0 w (List.mem_cons_of_mem _ h)
  subst hsz
  have hl := lv_entry av (n := nL) hent
  rw [lg_entry_eq]
  refine body p e s m av.toArray below meth c (va_A ws s.heap.size) _ _ B.exec B.bytes hml hts (findClass_of_methodNamed B.named) B.notSynchronized (name_of_methodNamed B.named B.method).1 (fun q h => Or.inr h) hK ⟨hP, hD0.self, va_S.rf⟩ hl ?_ ?_
  · intro u b H locs cells slots pc ls hdg hI hq hc hs
    refine vy_ret ?_
    refine W.widen (k := mc) (n := ms) hc hs ?_
    exact W.aret (v := .ref b) B.exec B.bytes B.returns hrt (Or.inr ⟨b, rfl⟩) (fun t ht hW => ⟨⟨u, b, rfl, trivial, hq, by show va_P _ _ _ t.heap ∧ _; rw [ht]; exact ⟨hI.1, hI.2.1⟩⟩, hI.2.2.F ht⟩) hI.2.2.2.2 hdg B.notSynchronized
  · intro u En q ce H locs cells slots pc ls rest hq1 hq2 hq3 hI hX hc hs
    exact vy_out (fun x hx => (htab x hx).elim) B.notSynchronized hq1 hq2 hq3 (fun t ht hW => ⟨u, trivial, ⟨hX, by show va_P _ _ _ t.heap ∧ _; rw [ht]; exact ⟨hI.1, hI.2.1⟩⟩, hI.2.2.F ht⟩) hI.2.2.2.2 hc hs
theorem XtR.ofH {l : Launch} {E : En} {y : MethodName} {cc : ByteArray} {nL : Nat} {ret : FieldType} {hh : List (Nat × Nat × Nat × Nat)} {F mc ms : Nat} {av : List Value} {ws : va_W} {S SX : Type} {post : Nat → S → Prop} {ws1 : S → Nat → va_W} {Xp : String → SX → Prop} {wsX : SX → Nat → va_W} (hy : plainName y.cls = true) (hent : (lg_sl av).length ≤ nL) (hrt : (∃ n, ret = .object n) ∨ ∃ t, ret = .array t)
    (body : ∀ (p : Program) (e : Env) (s : State) (m : MethodId) (args : Array Value) (below : List Frame) (meth : Method) (c : Code) (A : Nat → Prop) (ls : Array Slot) (Q : State → Prop), p.tables.exec = Jvm.exec → c.code = cc → c.maxLocals = nL → (∀ w ∈ lw_all, w.before args s = true) → s.vm.findClass y.cls = some m.cls → meth.locks = false → meth.name = y.name → (∀ q, s.heap.size ≤ q → A q) → KX E A s → wI E A s s.heap [] ws → lv_has ls nL (lv_args 0 av) → c.exceptionTable.toList = tableOf hh → (∀ (u : S) (b : Nat) (H : Heap) (locs : List Loc) (cells slots pc : Nat) (ls : Array Slot), decode cc pc = .ok (.areturn, 1) → wI E A s H locs (ws1 u b) → post b u → cells ≤ mc → slots ≤ ms → W p l e (rmF F mc ms) s m args below meth c H locs cells slots Q (F0 m pc ls [.ref b])) → (∀ (u : SX) (En : String) (q : Nat) (ce : Cell) (H : Heap) (locs : List Loc) (cells slots pc : Nat) (ls : Array Slot) (rest : List Value), H[q]? = some ce → ce.vm = .none → s.vm.findClass En = some ce.cls → wI E A s H locs (wsX u q) → Xp En u → cells ≤ mc → slots ≤ ms → (∀ z ∈ tableOf hh, covers z pc = false ∨ (z.catchType ≠ 0 ∧ ∃ nm : String, (Cond.classLink y.cls z.catchType nm).before args s = true ∧ va_Nc En nm s)) → vx_W p l e (rmF F mc ms) s m args below meth c H locs cells slots Q (F0 m pc ls rest) q) →
      W p l e (rmF F mc ms) s m args below meth c s.heap [] 0 0 Q (F0 m 0 ls [])) : XtR l E y (wsW_ y cc nL (some ret) hh) F mc ms av ws post ws1 Xp wsX := by
  intro sz
  refine vy_ofWH (cc := cc) (maxL := nL) (ret := (some ret)) (hh := hh) hy rfl ?_
  intro p e s m args below meth c s₁ B hml hv
  obtain ⟨rfl, hsz, hP, hK, hD0⟩ := hv
  have hts0 := atoms_spec (ws := wsW_ y cc nL (some ret) hh) B.pre
  have hts : ∀ w ∈ lw_all, w.before _ s = true := fun w h => hts0 w (List.mem_cons_of_mem _ h)
  subst hsz
  have hl := lv_entry av (n := nL) hent
  rw [lg_entry_eq]
  refine body p e s m av.toArray below meth c (va_A ws s.heap.size) _ _ B.exec B.bytes hml hts (findClass_of_methodNamed B.named) B.notSynchronized (name_of_methodNamed B.named B.method).1 (fun q h => Or.inr h) hK ⟨hP, hD0.self, va_S.rf⟩ hl (vx_table (x := y) B (hts0 _ List.mem_cons_self)) ?_ ?_
  · intro u b H locs cells slots pc ls hdg hI hq hc hs
    refine vy_ret ?_
    refine W.widen (k := mc) (n := ms) hc hs ?_
    exact W.aret (v := .ref b) B.exec B.bytes B.returns hrt (Or.inr ⟨b, rfl⟩) (fun t ht hW => ⟨⟨u, b, rfl, trivial, hq, by show va_P _ _ _ t.heap ∧ _; rw [ht]; exact ⟨hI.1, hI.2.1⟩⟩, hI.2.2.F ht⟩) hI.2.2.2.2 hdg B.notSynchronized
  · intro u En q ce H locs cells slots pc ls rest hq1 hq2 hq3 hI hX hc hs hpass
    exact vy_outP (findClass_of_methodNamed B.named) B.notSynchronized (by rw [vx_table (x := y) B (hts0 _ List.mem_cons_self)]; exact hpass) hq1 hq2 hq3 (fun t ht hW => ⟨u, trivial, ⟨hX, by show va_P _ _ _ t.heap ∧ _; rw [ht]; exact ⟨hI.1, hI.2.1⟩⟩, hI.2.2.F ht⟩) hI.2.2.2.2 hc hs
section CLX
variable {p : Program} {l : Launch} {e : Env} {F1 mc1 ms1 : Nat} {s : State} {m : MethodId} {args : Array Value} {below : List Frame} {meth : Method} {c : Code} {H : Heap} {locs : List Loc} {cells slots : Nat} {Q : State → Prop} {cc bytes : ByteArray} {pc nL nL1 index n : Nat} {ls : Array Slot} {rest : List Value} {E : En} {A : Nat → Prop} {wc : va_W} {own : String} {y : MethodName} {F mc ms : Nat} {As : List Value} {b : Nat} {S SX : Type} {hh : List (Nat × Nat × Nat × Nat)} {Xp : String → SX → Prop} {wsX : SX → Nat → va_W}
theorem kVIX {ret : FieldType} {post : Int32 → S → Prop} {ws1 : S → va_W} (f : va_W → va_W) (hexec : p.tables.exec = Jvm.exec) (hb : c.code = cc) (hml : c.maxLocals = nL1) (hts : ∀ w ∈ lw_all, w.before args s = true) (hown : s.vm.findClass own = some m.cls) (hK : KX E A s) (hA : ∀ q, s.heap.size ≤ q → A q) (hl : ls.size = nL1) (hf : isCtx f) (hI : wI E A s H locs (f wc))
    (hM : XtI l E y (ws_ y bytes nL (some ret)) F mc ms (.ref b :: As) wc post ws1 Xp wsX) (hw : GoodIn lw_all (wsV own index y.cls y (ws_ y bytes nL (some ret)))) (hd : y.cls = y.cls ∧ y.cls ≠ "java/lang/invoke/MethodHandle" ∧ y.cls ≠ "java/lang/invoke/VarHandle" ∧ (parseMethodDescriptor y.desc).map (fun d => d.parameters.length) = some n) (q0 ci : Nat) {q : vw_C} {fs : List Value} (hc : CL[ci]? = some q) (hq : q.1 = y.cls) (hrc : wc[q0]? = some (b, .inr (ci, fs))) (hn : As.length = n) (hF : F + 1 ≤ F1) (hL : nL ≤ 81) (hcs : cells + mc ≤ mc1 ∧ slots + ms ≤ ms1) (hroom : (rest.map fun v => v.category).sum ≤ 8) (hdg : decode cc pc = .ok (.invokevirtual index, 3))
    (kx : ∀ (En : String) (ce : Cell) (q9 : Nat) (u : SX) (H1 : Heap) (locs1 : List Loc), Xp En u → wI E A s H1 locs1 (f (wsX u q9)) → H.size ≤ H1.size → H1[q9]? = some ce → ce.vm = .none → s.vm.findClass En = some ce.cls → vx_W p l e (rmF F1 mc1 ms1) s m args below meth c H1 locs1 (cells + mc) (slots + ms) Q (F0 m pc ls rest) q9)
    (kk : ∀ (r : Int32) (u : S) (H1 : Heap) (locs1 : List Loc), post r u → wI E A s H1 locs1 (f (ws1 u)) → H.size ≤ H1.size → W p l e (rmF F1 mc1 ms1) s m args below meth c H1 locs1 (cells + mc) (slots + ms) Q (F0 m (pc + 3) ls (.int r :: rest))) : W p l e (rmF F1 mc1 ms1) s m args below meth c H locs cells slots Q (F0 m pc ls (As.reverse ++ .ref b :: rest)) := by
  have hFc := cut_A hf hI.2.1 hI.2.2 hA
  refine vy_calli (vy_runV (As := As) (rest := rest) ⟨hexec, hb, hml, hown, hts⟩ (hM H.size) (cwV n hts hw rfl rfl rfl hd ⟨hF, by show 8 + (nL + 11) + 100 * F ≤ 100 * F1; omega⟩) ⟨mPre_blind, by have h := va_recv hK.1 (cut_P hf hI.1) hc hrc; rw [hq] at h; exact h, mPre_at hf hA hK hI⟩ rfl hn hl rfl (lv_room hroom) hdg hcs) hI.2.2 (fun q _ h => hFc q h) hFc (fun q _ h => hFc q h) (fun En ce q9 u t H1 locs1 ht hvm hp hB hz hk hS hq1 hq2 hq3 => ?_) (fun r u t H1 locs1 ht hvm hp hB hz hk hS => ?_)
  · obtain ⟨hX, hB1, hB2⟩ := hB
    rw [ht] at hB1
    obtain ⟨j1, j2⟩ := join_PD hf hI.1 hI.2.1 hFc hk hB1 hB2
    exact kx En ce q9 u H1 locs1 hX ⟨j1, j2, hS⟩ hz hq1 hq2 hq3
  · obtain ⟨hB1, hB2⟩ := hB
    rw [ht] at hB1
    obtain ⟨j1, j2⟩ := join_PD hf hI.1 hI.2.1 hFc hk hB1 hB2
    exact kk r u H1 locs1 hp ⟨j1, j2, hS⟩ hz
theorem kVIXH {ret : FieldType} {post : Int32 → S → Prop} {ws1 : S → va_W} (f : va_W → va_W) (hexec : p.tables.exec = Jvm.exec) (hb : c.code = cc) (hml : c.maxLocals = nL1) (hts : ∀ w ∈ lw_all, w.before args s = true) (hown : s.vm.findClass own = some m.cls) (hK : KX E A s) (hA : ∀ q, s.heap.size ≤ q → A q) (hl : ls.size = nL1) (hf : isCtx f) (hI : wI E A s H locs (f wc))
    (hM : XtI l E y (wsW_ y bytes nL (some ret) hh) F mc ms (.ref b :: As) wc post ws1 Xp wsX) (hw : GoodIn lw_all (wsV own index y.cls y (wsW_ y bytes nL (some ret) hh))) (hd : y.cls = y.cls ∧ y.cls ≠ "java/lang/invoke/MethodHandle" ∧ y.cls ≠ "java/lang/invoke/VarHandle" ∧ (parseMethodDescriptor y.desc).map (fun d => d.parameters.length) = some n) (q0 ci : Nat) {q : vw_C} {fs : List Value} (hc : CL[ci]? = some q) (hq : q.1 = y.cls) (hrc : wc[q0]? = some (b, .inr (ci, fs))) (hn : As.length = n) (hF : F + 1 ≤ F1) (hL : nL ≤ 81) (hcs : cells + mc ≤ mc1 ∧ slots + ms ≤ ms1) (hroom : (rest.map fun v => v.category).sum ≤ 8) (hdg : decode cc pc = .ok (.invokevirtual index, 3))
    (kx : ∀ (En : String) (ce : Cell) (q9 : Nat) (u : SX) (H1 : Heap) (locs1 : List Loc), Xp En u → wI E A s H1 locs1 (f (wsX u q9)) → H.size ≤ H1.size → H1[q9]? = some ce → ce.vm = .none → s.vm.findClass En = some ce.cls → vx_W p l e (rmF F1 mc1 ms1) s m args below meth c H1 locs1 (cells + mc) (slots + ms) Q (F0 m pc ls rest) q9)
    (kk : ∀ (r : Int32) (u : S) (H1 : Heap) (locs1 : List Loc), post r u → wI E A s H1 locs1 (f (ws1 u)) → H.size ≤ H1.size → W p l e (rmF F1 mc1 ms1) s m args below meth c H1 locs1 (cells + mc) (slots + ms) Q (F0 m (pc + 3) ls (.int r :: rest))) : W p l e (rmF F1 mc1 ms1) s m args below meth c H locs cells slots Q (F0 m pc ls (As.reverse ++ .ref b :: rest)) := by
  have hFc := cut_A hf hI.2.1 hI.2.2 hA
  refine vy_calli (vy_runVX (hh := hh) (As := As) (rest := rest) ⟨hexec, hb, hml, hown, hts⟩ (hM H.size) (vx_cwVW n hts hw rfl rfl rfl hd ⟨hF, by show 8 + (nL + 11) + 100 * F ≤ 100 * F1; omega⟩) ⟨mPre_blind, by have h := va_recv hK.1 (cut_P hf hI.1) hc hrc; rw [hq] at h; exact h, mPre_at hf hA hK hI⟩ rfl hn hl rfl (lv_room hroom) hdg hcs) hI.2.2 (fun q _ h => hFc q h) hFc (fun q _ h => hFc q h) (fun En ce q9 u t H1 locs1 ht hvm hp hB hz hk hS hq1 hq2 hq3 => ?_) (fun r u t H1 locs1 ht hvm hp hB hz hk hS => ?_)
  · obtain ⟨hX, hB1, hB2⟩ := hB
    rw [ht] at hB1
    obtain ⟨j1, j2⟩ := join_PD hf hI.1 hI.2.1 hFc hk hB1 hB2
    exact kx En ce q9 u H1 locs1 hX ⟨j1, j2, hS⟩ hz hq1 hq2 hq3
  · obtain ⟨hB1, hB2⟩ := hB
    rw [ht] at hB1
    obtain ⟨j1, j2⟩ := join_PD hf hI.1 hI.2.1 hFc hk hB1 hB2
    exact kk r u H1 locs1 hp ⟨j1, j2, hS⟩ hz
theorem kSIX {ret : FieldType} {post : Int32 → S → Prop} {ws1 : S → va_W} (f : va_W → va_W) (hexec : p.tables.exec = Jvm.exec) (hb : c.code = cc) (hml : c.maxLocals = nL1) (hts : ∀ w ∈ lw_all, w.before args s = true) (hown : s.vm.findClass own = some m.cls) (hK : KX E A s) (hA : ∀ q, s.heap.size ≤ q → A q) (hl : ls.size = nL1) (hf : isCtx f) (hI : wI E A s H locs (f wc))
    (hM : XtI l E y (ws_ y bytes nL (some ret)) F mc ms As wc post ws1 Xp wsX) (hw : GoodIn lw_all (va_wsS own index y (ws_ y bytes nL (some ret)))) (hd : y.cls ≠ "java/lang/invoke/MethodHandle" ∧ y.cls ≠ "java/lang/invoke/VarHandle" ∧ (parseMethodDescriptor y.desc).map (fun d => d.parameters.length) = some n) (hn : As.length = n) (hF : F + 1 ≤ F1) (hL : nL ≤ 81) (hcs : cells + mc ≤ mc1 ∧ slots + ms ≤ ms1) (hroom : (rest.map fun v => v.category).sum ≤ 8) (hdg : decode cc pc = .ok (.invokestatic index, 3))
    (kx : ∀ (En : String) (ce : Cell) (q9 : Nat) (u : SX) (H1 : Heap) (locs1 : List Loc), Xp En u → wI E A s H1 locs1 (f (wsX u q9)) → H.size ≤ H1.size → H1[q9]? = some ce → ce.vm = .none → s.vm.findClass En = some ce.cls → vx_W p l e (rmF F1 mc1 ms1) s m args below meth c H1 locs1 (cells + mc) (slots + ms) Q (F0 m pc ls rest) q9)
    (kk : ∀ (r : Int32) (u : S) (H1 : Heap) (locs1 : List Loc), post r u → wI E A s H1 locs1 (f (ws1 u)) → H.size ≤ H1.size → W p l e (rmF F1 mc1 ms1) s m args below meth c H1 locs1 (cells + mc) (slots + ms) Q (F0 m (pc + 3) ls (.int r :: rest))) : W p l e (rmF F1 mc1 ms1) s m args below meth c H locs cells slots Q (F0 m pc ls (As.reverse ++ rest)) := by
  have hFc := cut_A hf hI.2.1 hI.2.2 hA
  refine vy_calli (vy_runS (As := As) (rest := rest) ⟨hexec, hb, hml, hown, hts⟩ (hM H.size) (va_cwS n hts hw rfl rfl rfl hd ⟨hF, by show 8 + (nL + 11) + 100 * F ≤ 100 * F1; omega⟩) ⟨mPre_blind, mPre_at hf hA hK hI⟩ rfl hn hl rfl (lv_room hroom) hdg hcs) hI.2.2 (fun q _ h => hFc q h) hFc (fun q _ h => hFc q h) (fun En ce q9 u t H1 locs1 ht hvm hp hB hz hk hS hq1 hq2 hq3 => ?_) (fun r u t H1 locs1 ht hvm hp hB hz hk hS => ?_)
  · obtain ⟨hX, hB1, hB2⟩ := hB
    rw [ht] at hB1
    obtain ⟨j1, j2⟩ := join_PD hf hI.1 hI.2.1 hFc hk hB1 hB2
    exact kx En ce q9 u H1 locs1 hX ⟨j1, j2, hS⟩ hz hq1 hq2 hq3
  · obtain ⟨hB1, hB2⟩ := hB
    rw [ht] at hB1
    obtain ⟨j1, j2⟩ := join_PD hf hI.1 hI.2.1 hFc hk hB1 hB2
    exact kk r u H1 locs1 hp ⟨j1, j2, hS⟩ hz
theorem kSIXH {ret : FieldType} {post : Int32 → S → Prop} {ws1 : S → va_W} (f : va_W → va_W) (hexec : p.tables.exec = Jvm.exec) (hb : c.code = cc) (hml : c.maxLocals = nL1) (hts : ∀ w ∈ lw_all, w.before args s = true) (hown : s.vm.findClass own = some m.cls) (hK : KX E A s) (hA : ∀ q, s.heap.size ≤ q → A q) (hl : ls.size = nL1) (hf : isCtx f) (hI : wI E A s H locs (f wc))
    (hM : XtI l E y (wsW_ y bytes nL (some ret) hh) F mc ms As wc post ws1 Xp wsX) (hw : GoodIn lw_all (va_wsS own index y (wsW_ y bytes nL (some ret) hh))) (hd : y.cls ≠ "java/lang/invoke/MethodHandle" ∧ y.cls ≠ "java/lang/invoke/VarHandle" ∧ (parseMethodDescriptor y.desc).map (fun d => d.parameters.length) = some n) (hn : As.length = n) (hF : F + 1 ≤ F1) (hL : nL ≤ 81) (hcs : cells + mc ≤ mc1 ∧ slots + ms ≤ ms1) (hroom : (rest.map fun v => v.category).sum ≤ 8) (hdg : decode cc pc = .ok (.invokestatic index, 3))
    (kx : ∀ (En : String) (ce : Cell) (q9 : Nat) (u : SX) (H1 : Heap) (locs1 : List Loc), Xp En u → wI E A s H1 locs1 (f (wsX u q9)) → H.size ≤ H1.size → H1[q9]? = some ce → ce.vm = .none → s.vm.findClass En = some ce.cls → vx_W p l e (rmF F1 mc1 ms1) s m args below meth c H1 locs1 (cells + mc) (slots + ms) Q (F0 m pc ls rest) q9)
    (kk : ∀ (r : Int32) (u : S) (H1 : Heap) (locs1 : List Loc), post r u → wI E A s H1 locs1 (f (ws1 u)) → H.size ≤ H1.size → W p l e (rmF F1 mc1 ms1) s m args below meth c H1 locs1 (cells + mc) (slots + ms) Q (F0 m (pc + 3) ls (.int r :: rest))) : W p l e (rmF F1 mc1 ms1) s m args below meth c H locs cells slots Q (F0 m pc ls (As.reverse ++ rest)) := by
  have hFc := cut_A hf hI.2.1 hI.2.2 hA
  refine vy_calli (vy_runSX (hh := hh) (As := As) (rest := rest) ⟨hexec, hb, hml, hown, hts⟩ (hM H.size) (vx_cwSW n hts hw rfl rfl rfl hd ⟨hF, by show 8 + (nL + 11) + 100 * F ≤ 100 * F1; omega⟩) ⟨mPre_blind, mPre_at hf hA hK hI⟩ rfl hn hl rfl (lv_room hroom) hdg hcs) hI.2.2 (fun q _ h => hFc q h) hFc (fun q _ h => hFc q h) (fun En ce q9 u t H1 locs1 ht hvm hp hB hz hk hS hq1 hq2 hq3 => ?_) (fun r u t H1 locs1 ht hvm hp hB hz hk hS => ?_)
  · obtain ⟨hX, hB1, hB2⟩ := hB
    rw [ht] at hB1
    obtain ⟨j1, j2⟩ := join_PD hf hI.1 hI.2.1 hFc hk hB1 hB2
    exact kx En ce q9 u H1 locs1 hX ⟨j1, j2, hS⟩ hz hq1 hq2 hq3
  · obtain ⟨hB1, hB2⟩ := hB
    rw [ht] at hB1
    obtain ⟨j1, j2⟩ := join_PD hf hI.1 hI.2.1 hFc hk hB1 hB2
    exact kk r u H1 locs1 hp ⟨j1, j2, hS⟩ hz
theorem kVLX {post : Int64 → S → Prop} {ws1 : S → va_W} (f : va_W → va_W) (hexec : p.tables.exec = Jvm.exec) (hb : c.code = cc) (hml : c.maxLocals = nL1) (hts : ∀ w ∈ lw_all, w.before args s = true) (hown : s.vm.findClass own = some m.cls) (hK : KX E A s) (hA : ∀ q, s.heap.size ≤ q → A q) (hl : ls.size = nL1) (hf : isCtx f) (hI : wI E A s H locs (f wc))
    (hM : XtL l E y (ws_ y bytes nL (some .long)) F mc ms (.ref b :: As) wc post ws1 Xp wsX) (hw : GoodIn lw_all (wsV own index y.cls y (ws_ y bytes nL (some .long)))) (hd : y.cls = y.cls ∧ y.cls ≠ "java/lang/invoke/MethodHandle" ∧ y.cls ≠ "java/lang/invoke/VarHandle" ∧ (parseMethodDescriptor y.desc).map (fun d => d.parameters.length) = some n) (q0 ci : Nat) {q : vw_C} {fs : List Value} (hc : CL[ci]? = some q) (hq : q.1 = y.cls) (hrc : wc[q0]? = some (b, .inr (ci, fs))) (hn : As.length = n) (hF : F + 1 ≤ F1) (hL : nL ≤ 81) (hcs : cells + mc ≤ mc1 ∧ slots + ms ≤ ms1) (hroom : (rest.map fun v => v.category).sum ≤ 8) (hdg : decode cc pc = .ok (.invokevirtual index, 3))
    (kx : ∀ (En : String) (ce : Cell) (q9 : Nat) (u : SX) (H1 : Heap) (locs1 : List Loc), Xp En u → wI E A s H1 locs1 (f (wsX u q9)) → H.size ≤ H1.size → H1[q9]? = some ce → ce.vm = .none → s.vm.findClass En = some ce.cls → vx_W p l e (rmF F1 mc1 ms1) s m args below meth c H1 locs1 (cells + mc) (slots + ms) Q (F0 m pc ls rest) q9)
    (kk : ∀ (r : Int64) (u : S) (H1 : Heap) (locs1 : List Loc), post r u → wI E A s H1 locs1 (f (ws1 u)) → H.size ≤ H1.size → W p l e (rmF F1 mc1 ms1) s m args below meth c H1 locs1 (cells + mc) (slots + ms) Q (F0 m (pc + 3) ls (.long r :: rest))) : W p l e (rmF F1 mc1 ms1) s m args below meth c H locs cells slots Q (F0 m pc ls (As.reverse ++ .ref b :: rest)) := by
  have hFc := cut_A hf hI.2.1 hI.2.2 hA
  refine vy_calll (vy_runV (As := As) (rest := rest) ⟨hexec, hb, hml, hown, hts⟩ (hM H.size) (cwV n hts hw rfl rfl rfl hd ⟨hF, by show 8 + (nL + 11) + 100 * F ≤ 100 * F1; omega⟩) ⟨mPre_blind, by have h := va_recv hK.1 (cut_P hf hI.1) hc hrc; rw [hq] at h; exact h, mPre_at hf hA hK hI⟩ rfl hn hl rfl (lv_room hroom) hdg hcs) hI.2.2 (fun q _ h => hFc q h) hFc (fun q _ h => hFc q h) (fun En ce q9 u t H1 locs1 ht hvm hp hB hz hk hS hq1 hq2 hq3 => ?_) (fun r u t H1 locs1 ht hvm hp hB hz hk hS => ?_)
  · obtain ⟨hX, hB1, hB2⟩ := hB
    rw [ht] at hB1
    obtain ⟨j1, j2⟩ := join_PD hf hI.1 hI.2.1 hFc hk hB1 hB2
    exact kx En ce q9 u H1 locs1 hX ⟨j1, j2, hS⟩ hz hq1 hq2 hq3
  · obtain ⟨hB1, hB2⟩ := hB
    rw [ht] at hB1
    obtain ⟨j1, j2⟩ := join_PD hf hI.1 hI.2.1 hFc hk hB1 hB2
    exact kk r u H1 locs1 hp ⟨j1, j2, hS⟩ hz
theorem kVLXH {post : Int64 → S → Prop} {ws1 : S → va_W} (f : va_W → va_W) (hexec : p.tables.exec = Jvm.exec) (hb : c.code = cc) (hml : c.maxLocals = nL1) (hts : ∀ w ∈ lw_all, w.before args s = true) (hown : s.vm.findClass own = some m.cls) (hK : KX E A s) (hA : ∀ q, s.heap.size ≤ q → A q) (hl : ls.size = nL1) (hf : isCtx f) (hI : wI E A s H locs (f wc))
    (hM : XtL l E y (wsW_ y bytes nL (some .long) hh) F mc ms (.ref b :: As) wc post ws1 Xp wsX) (hw : GoodIn lw_all (wsV own index y.cls y (wsW_ y bytes nL (some .long) hh))) (hd : y.cls = y.cls ∧ y.cls ≠ "java/lang/invoke/MethodHandle" ∧ y.cls ≠ "java/lang/invoke/VarHandle" ∧ (parseMethodDescriptor y.desc).map (fun d => d.parameters.length) = some n) (q0 ci : Nat) {q : vw_C} {fs : List Value} (hc : CL[ci]? = some q) (hq : q.1 = y.cls) (hrc : wc[q0]? = some (b, .inr (ci, fs))) (hn : As.length = n) (hF : F + 1 ≤ F1) (hL : nL ≤ 81) (hcs : cells + mc ≤ mc1 ∧ slots + ms ≤ ms1) (hroom : (rest.map fun v => v.category).sum ≤ 8) (hdg : decode cc pc = .ok (.invokevirtual index, 3))
    (kx : ∀ (En : String) (ce : Cell) (q9 : Nat) (u : SX) (H1 : Heap) (locs1 : List Loc), Xp En u → wI E A s H1 locs1 (f (wsX u q9)) → H.size ≤ H1.size → H1[q9]? = some ce → ce.vm = .none → s.vm.findClass En = some ce.cls → vx_W p l e (rmF F1 mc1 ms1) s m args below meth c H1 locs1 (cells + mc) (slots + ms) Q (F0 m pc ls rest) q9)
    (kk : ∀ (r : Int64) (u : S) (H1 : Heap) (locs1 : List Loc), post r u → wI E A s H1 locs1 (f (ws1 u)) → H.size ≤ H1.size → W p l e (rmF F1 mc1 ms1) s m args below meth c H1 locs1 (cells + mc) (slots + ms) Q (F0 m (pc + 3) ls (.long r :: rest))) : W p l e (rmF F1 mc1 ms1) s m args below meth c H locs cells slots Q (F0 m pc ls (As.reverse ++ .ref b :: rest)) := by
  have hFc := cut_A hf hI.2.1 hI.2.2 hA
  refine vy_calll (vy_runVX (hh := hh) (As := As) (rest := rest) ⟨hexec, hb, hml, hown, hts⟩ (hM H.size) (vx_cwVW n hts hw rfl rfl rfl hd ⟨hF, by show 8 + (nL + 11) + 100 * F ≤ 100 * F1; omega⟩) ⟨mPre_blind, by have h := va_recv hK.1 (cut_P hf hI.1) hc hrc; rw [hq] at h; exact h, mPre_at hf hA hK hI⟩ rfl hn hl rfl (lv_room hroom) hdg hcs) hI.2.2 (fun q _ h => hFc q h) hFc (fun q _ h => hFc q h) (fun En ce q9 u t H1 locs1 ht hvm hp hB hz hk hS hq1 hq2 hq3 => ?_) (fun r u t H1 locs1 ht hvm hp hB hz hk hS => ?_)
  · obtain ⟨hX, hB1, hB2⟩ := hB
    rw [ht] at hB1
    obtain ⟨j1, j2⟩ := join_PD hf hI.1 hI.2.1 hFc hk hB1 hB2
    exact kx En ce q9 u H1 locs1 hX ⟨j1, j2, hS⟩ hz hq1 hq2 hq3
  · obtain ⟨hB1, hB2⟩ := hB
    rw [ht] at hB1
    obtain ⟨j1, j2⟩ := join_PD hf hI.1 hI.2.1 hFc hk hB1 hB2
    exact kk r u H1 locs1 hp ⟨j1, j2, hS⟩ hz
theorem kSLX {post : Int64 → S → Prop} {ws1 : S → va_W} (f : va_W → va_W) (hexec : p.tables.exec = Jvm.exec) (hb : c.code = cc) (hml : c.maxLocals = nL1) (hts : ∀ w ∈ lw_all, w.before args s = true) (hown : s.vm.findClass own = some m.cls) (hK : KX E A s) (hA : ∀ q, s.heap.size ≤ q → A q) (hl : ls.size = nL1) (hf : isCtx f) (hI : wI E A s H locs (f wc))
    (hM : XtL l E y (ws_ y bytes nL (some .long)) F mc ms As wc post ws1 Xp wsX) (hw : GoodIn lw_all (va_wsS own index y (ws_ y bytes nL (some .long)))) (hd : y.cls ≠ "java/lang/invoke/MethodHandle" ∧ y.cls ≠ "java/lang/invoke/VarHandle" ∧ (parseMethodDescriptor y.desc).map (fun d => d.parameters.length) = some n) (hn : As.length = n) (hF : F + 1 ≤ F1) (hL : nL ≤ 81) (hcs : cells + mc ≤ mc1 ∧ slots + ms ≤ ms1) (hroom : (rest.map fun v => v.category).sum ≤ 8) (hdg : decode cc pc = .ok (.invokestatic index, 3))
    (kx : ∀ (En : String) (ce : Cell) (q9 : Nat) (u : SX) (H1 : Heap) (locs1 : List Loc), Xp En u → wI E A s H1 locs1 (f (wsX u q9)) → H.size ≤ H1.size → H1[q9]? = some ce → ce.vm = .none → s.vm.findClass En = some ce.cls → vx_W p l e (rmF F1 mc1 ms1) s m args below meth c H1 locs1 (cells + mc) (slots + ms) Q (F0 m pc ls rest) q9)
    (kk : ∀ (r : Int64) (u : S) (H1 : Heap) (locs1 : List Loc), post r u → wI E A s H1 locs1 (f (ws1 u)) → H.size ≤ H1.size → W p l e (rmF F1 mc1 ms1) s m args below meth c H1 locs1 (cells + mc) (slots + ms) Q (F0 m (pc + 3) ls (.long r :: rest))) : W p l e (rmF F1 mc1 ms1) s m args below meth c H locs cells slots Q (F0 m pc ls (As.reverse ++ rest)) := by
  have hFc := cut_A hf hI.2.1 hI.2.2 hA
  refine vy_calll (vy_runS (As := As) (rest := rest) ⟨hexec, hb, hml, hown, hts⟩ (hM H.size) (va_cwS n hts hw rfl rfl rfl hd ⟨hF, by show 8 + (nL + 11) + 100 * F ≤ 100 * F1; omega⟩) ⟨mPre_blind, mPre_at hf hA hK hI⟩ rfl hn hl rfl (lv_room hroom) hdg hcs) hI.2.2 (fun q _ h => hFc q h) hFc (fun q _ h => hFc q h) (fun En ce q9 u t H1 locs1 ht hvm hp hB hz hk hS hq1 hq2 hq3 => ?_) (fun r u t H1 locs1 ht hvm hp hB hz hk hS => ?_)
  · obtain ⟨hX, hB1, hB2⟩ := hB
    rw [ht] at hB1
    obtain ⟨j1, j2⟩ := join_PD hf hI.1 hI.2.1 hFc hk hB1 hB2
    exact kx En ce q9 u H1 locs1 hX ⟨j1, j2, hS⟩ hz hq1 hq2 hq3
  · obtain ⟨hB1, hB2⟩ := hB
    rw [ht] at hB1
    obtain ⟨j1, j2⟩ := join_PD hf hI.1 hI.2.1 hFc hk hB1 hB2
    exact kk r u H1 locs1 hp ⟨j1, j2, hS⟩ hz
theorem kSLXH {post : Int64 → S → Prop} {ws1 : S → va_W} (f : va_W → va_W) (hexec : p.tables.exec = Jvm.exec) (hb : c.code = cc) (hml : c.maxLocals = nL1) (hts : ∀ w ∈ lw_all, w.before args s = true) (hown : s.vm.findClass own = some m.cls) (hK : KX E A s) (hA : ∀ q, s.heap.size ≤ q → A q) (hl : ls.size = nL1) (hf : isCtx f) (hI : wI E A s H locs (f wc))
    (hM : XtL l E y (wsW_ y bytes nL (some .long) hh) F mc ms As wc post ws1 Xp wsX) (hw : GoodIn lw_all (va_wsS own index y (wsW_ y bytes nL (some .long) hh))) (hd : y.cls ≠ "java/lang/invoke/MethodHandle" ∧ y.cls ≠ "java/lang/invoke/VarHandle" ∧ (parseMethodDescriptor y.desc).map (fun d => d.parameters.length) = some n) (hn : As.length = n) (hF : F + 1 ≤ F1) (hL : nL ≤ 81) (hcs : cells + mc ≤ mc1 ∧ slots + ms ≤ ms1) (hroom : (rest.map fun v => v.category).sum ≤ 8) (hdg : decode cc pc = .ok (.invokestatic index, 3))
    (kx : ∀ (En : String) (ce : Cell) (q9 : Nat) (u : SX) (H1 : Heap) (locs1 : List Loc), Xp En u → wI E A s H1 locs1 (f (wsX u q9)) → H.size ≤ H1.size → H1[q9]? = some ce → ce.vm = .none → s.vm.findClass En = some ce.cls → vx_W p l e (rmF F1 mc1 ms1) s m args below meth c H1 locs1 (cells + mc) (slots + ms) Q (F0 m pc ls rest) q9)
    (kk : ∀ (r : Int64) (u : S) (H1 : Heap) (locs1 : List Loc), post r u → wI E A s H1 locs1 (f (ws1 u)) → H.size ≤ H1.size → W p l e (rmF F1 mc1 ms1) s m args below meth c H1 locs1 (cells + mc) (slots + ms) Q (F0 m (pc + 3) ls (.long r :: rest))) : W p l e (rmF F1 mc1 ms1) s m args below meth c H locs cells slots Q (F0 m pc ls (As.reverse ++ rest)) := by
  have hFc := cut_A hf hI.2.1 hI.2.2 hA
  refine vy_calll (vy_runSX (hh := hh) (As := As) (rest := rest) ⟨hexec, hb, hml, hown, hts⟩ (hM H.size) (vx_cwSW n hts hw rfl rfl rfl hd ⟨hF, by show 8 + (nL + 11) + 100 * F ≤ 100 * F1; omega⟩) ⟨mPre_blind, mPre_at hf hA hK hI⟩ rfl hn hl rfl (lv_room hroom) hdg hcs) hI.2.2 (fun q _ h => hFc q h) hFc (fun q _ h => hFc q h) (fun En ce q9 u t H1 locs1 ht hvm hp hB hz hk hS hq1 hq2 hq3 => ?_) (fun r u t H1 locs1 ht hvm hp hB hz hk hS => ?_)
  · obtain ⟨hX, hB1, hB2⟩ := hB
    rw [ht] at hB1
    obtain ⟨j1, j2⟩ := join_PD hf hI.1 hI.2.1 hFc hk hB1 hB2
    exact kx En ce q9 u H1 locs1 hX ⟨j1, j2, hS⟩ hz hq1 hq2 hq3
  · obtain ⟨hB1, hB2⟩ := hB
    rw [ht] at hB1
    obtain ⟨j1, j2⟩ := join_PD hf hI.1 hI.2.1 hFc hk hB1 hB2
    exact kk r u H1 locs1 hp ⟨j1, j2, hS⟩ hz
theorem kVVX {post : S → Prop} {ws1 : S → va_W} (f : va_W → va_W) (hexec : p.tables.exec = Jvm.exec) (hb : c.code = cc) (hml : c.maxLocals = nL1) (hts : ∀ w ∈ lw_all, w.before args s = true) (hown : s.vm.findClass own = some m.cls) (hK : KX E A s) (hA : ∀ q, s.heap.size ≤ q → A q) (hl : ls.size = nL1) (hf : isCtx f) (hI : wI E A s H locs (f wc))
    (hM : XtV l E y (ws_ y bytes nL none) F mc ms (.ref b :: As) wc post ws1 Xp wsX) (hw : GoodIn lw_all (wsV own index y.cls y (ws_ y bytes nL none))) (hd : y.cls = y.cls ∧ y.cls ≠ "java/lang/invoke/MethodHandle" ∧ y.cls ≠ "java/lang/invoke/VarHandle" ∧ (parseMethodDescriptor y.desc).map (fun d => d.parameters.length) = some n) (q0 ci : Nat) {q : vw_C} {fs : List Value} (hc : CL[ci]? = some q) (hq : q.1 = y.cls) (hrc : wc[q0]? = some (b, .inr (ci, fs))) (hn : As.length = n) (hF : F + 1 ≤ F1) (hL : nL ≤ 81) (hcs : cells + mc ≤ mc1 ∧ slots + ms ≤ ms1) (hroom : (rest.map fun v => v.category).sum ≤ 8) (hdg : decode cc pc = .ok (.invokevirtual index, 3))
    (kx : ∀ (En : String) (ce : Cell) (q9 : Nat) (u : SX) (H1 : Heap) (locs1 : List Loc), Xp En u → wI E A s H1 locs1 (f (wsX u q9)) → H.size ≤ H1.size → H1[q9]? = some ce → ce.vm = .none → s.vm.findClass En = some ce.cls → vx_W p l e (rmF F1 mc1 ms1) s m args below meth c H1 locs1 (cells + mc) (slots + ms) Q (F0 m pc ls rest) q9)
    (kk : ∀ (u : S) (H1 : Heap) (locs1 : List Loc), post u → wI E A s H1 locs1 (f (ws1 u)) → H.size ≤ H1.size → W p l e (rmF F1 mc1 ms1) s m args below meth c H1 locs1 (cells + mc) (slots + ms) Q (F0 m (pc + 3) ls rest)) : W p l e (rmF F1 mc1 ms1) s m args below meth c H locs cells slots Q (F0 m pc ls (As.reverse ++ .ref b :: rest)) := by
  have hFc := cut_A hf hI.2.1 hI.2.2 hA
  refine vy_callv (vy_runV (As := As) (rest := rest) ⟨hexec, hb, hml, hown, hts⟩ (hM H.size) (cwV n hts hw rfl rfl rfl hd ⟨hF, by show 8 + (nL + 11) + 100 * F ≤ 100 * F1; omega⟩) ⟨mPre_blind, by have h := va_recv hK.1 (cut_P hf hI.1) hc hrc; rw [hq] at h; exact h, mPre_at hf hA hK hI⟩ rfl hn hl rfl (lv_room hroom) hdg hcs) hI.2.2 (fun q _ h => hFc q h) hFc (fun q _ h => hFc q h) (fun En ce q9 u t H1 locs1 ht hvm hp hB hz hk hS hq1 hq2 hq3 => ?_) (fun u t H1 locs1 ht hvm hp hB hz hk hS => ?_)
  · obtain ⟨hX, hB1, hB2⟩ := hB
    rw [ht] at hB1
    obtain ⟨j1, j2⟩ := join_PD hf hI.1 hI.2.1 hFc hk hB1 hB2
    exact kx En ce q9 u H1 locs1 hX ⟨j1, j2, hS⟩ hz hq1 hq2 hq3
  · obtain ⟨hB1, hB2⟩ := hB
    rw [ht] at hB1
    obtain ⟨j1, j2⟩ := join_PD hf hI.1 hI.2.1 hFc hk hB1 hB2
    exact kk u H1 locs1 hp ⟨j1, j2, hS⟩ hz
theorem kVVXH {post : S → Prop} {ws1 : S → va_W} (f : va_W → va_W) (hexec : p.tables.exec = Jvm.exec) (hb : c.code = cc) (hml : c.maxLocals = nL1) (hts : ∀ w ∈ lw_all, w.before args s = true) (hown : s.vm.findClass own = some m.cls) (hK : KX E A s) (hA : ∀ q, s.heap.size ≤ q → A q) (hl : ls.size = nL1) (hf : isCtx f) (hI : wI E A s H locs (f wc))
    (hM : XtV l E y (wsW_ y bytes nL none hh) F mc ms (.ref b :: As) wc post ws1 Xp wsX) (hw : GoodIn lw_all (wsV own index y.cls y (wsW_ y bytes nL none hh))) (hd : y.cls = y.cls ∧ y.cls ≠ "java/lang/invoke/MethodHandle" ∧ y.cls ≠ "java/lang/invoke/VarHandle" ∧ (parseMethodDescriptor y.desc).map (fun d => d.parameters.length) = some n) (q0 ci : Nat) {q : vw_C} {fs : List Value} (hc : CL[ci]? = some q) (hq : q.1 = y.cls) (hrc : wc[q0]? = some (b, .inr (ci, fs))) (hn : As.length = n) (hF : F + 1 ≤ F1) (hL : nL ≤ 81) (hcs : cells + mc ≤ mc1 ∧ slots + ms ≤ ms1) (hroom : (rest.map fun v => v.category).sum ≤ 8) (hdg : decode cc pc = .ok (.invokevirtual index, 3))
    (kx : ∀ (En : String) (ce : Cell) (q9 : Nat) (u : SX) (H1 : Heap) (locs1 : List Loc), Xp En u → wI E A s H1 locs1 (f (wsX u q9)) → H.size ≤ H1.size → H1[q9]? = some ce → ce.vm = .none → s.vm.findClass En = some ce.cls → vx_W p l e (rmF F1 mc1 ms1) s m args below meth c H1 locs1 (cells + mc) (slots + ms) Q (F0 m pc ls rest) q9)
    (kk : ∀ (u : S) (H1 : Heap) (locs1 : List Loc), post u → wI E A s H1 locs1 (f (ws1 u)) → H.size ≤ H1.size → W p l e (rmF F1 mc1 ms1) s m args below meth c H1 locs1 (cells + mc) (slots + ms) Q (F0 m (pc + 3) ls rest)) : W p l e (rmF F1 mc1 ms1) s m args below meth c H locs cells slots Q (F0 m pc ls (As.reverse ++ .ref b :: rest)) := by
  have hFc := cut_A hf hI.2.1 hI.2.2 hA
  refine vy_callv (vy_runVX (hh := hh) (As := As) (rest := rest) ⟨hexec, hb, hml, hown, hts⟩ (hM H.size) (vx_cwVW n hts hw rfl rfl rfl hd ⟨hF, by show 8 + (nL + 11) + 100 * F ≤ 100 * F1; omega⟩) ⟨mPre_blind, by have h := va_recv hK.1 (cut_P hf hI.1) hc hrc; rw [hq] at h; exact h, mPre_at hf hA hK hI⟩ rfl hn hl rfl (lv_room hroom) hdg hcs) hI.2.2 (fun q _ h => hFc q h) hFc (fun q _ h => hFc q h) (fun En ce q9 u t H1 locs1 ht hvm hp hB hz hk hS hq1 hq2 hq3 => ?_) (fun u t H1 locs1 ht hvm hp hB hz hk hS => ?_)
  · obtain ⟨hX, hB1, hB2⟩ := hB
    rw [ht] at hB1
    obtain ⟨j1, j2⟩ := join_PD hf hI.1 hI.2.1 hFc hk hB1 hB2
    exact kx En ce q9 u H1 locs1 hX ⟨j1, j2, hS⟩ hz hq1 hq2 hq3
  · obtain ⟨hB1, hB2⟩ := hB
    rw [ht] at hB1
    obtain ⟨j1, j2⟩ := join_PD hf hI.1 hI.2.1 hFc hk hB1 hB2
    exact kk u H1 locs1 hp ⟨j1, j2, hS⟩ hz
theorem kSVX {post : S → Prop} {ws1 : S → va_W} (f : va_W → va_W) (hexec : p.tables.exec = Jvm.exec) (hb : c.code = cc) (hml : c.maxLocals = nL1) (hts : ∀ w ∈ lw_all, w.before args s = true) (hown : s.vm.findClass own = some m.cls) (hK : KX E A s) (hA : ∀ q, s.heap.size ≤ q → A q) (hl : ls.size = nL1) (hf : isCtx f) (hI : wI E A s H locs (f wc))
    (hM : XtV l E y (ws_ y bytes nL none) F mc ms As wc post ws1 Xp wsX) (hw : GoodIn lw_all (va_wsS own index y (ws_ y bytes nL none))) (hd : y.cls ≠ "java/lang/invoke/MethodHandle" ∧ y.cls ≠ "java/lang/invoke/VarHandle" ∧ (parseMethodDescriptor y.desc).map (fun d => d.parameters.length) = some n) (hn : As.length = n) (hF : F + 1 ≤ F1) (hL : nL ≤ 81) (hcs : cells + mc ≤ mc1 ∧ slots + ms ≤ ms1) (hroom : (rest.map fun v => v.category).sum ≤ 8) (hdg : decode cc pc = .ok (.invokestatic index, 3))
    (kx : ∀ (En : String) (ce : Cell) (q9 : Nat) (u : SX) (H1 : Heap) (locs1 : List Loc), Xp En u → wI E A s H1 locs1 (f (wsX u q9)) → H.size ≤ H1.size → H1[q9]? = some ce → ce.vm = .none → s.vm.findClass En = some ce.cls → vx_W p l e (rmF F1 mc1 ms1) s m args below meth c H1 locs1 (cells + mc) (slots + ms) Q (F0 m pc ls rest) q9)
    (kk : ∀ (u : S) (H1 : Heap) (locs1 : List Loc), post u → wI E A s H1 locs1 (f (ws1 u)) → H.size ≤ H1.size → W p l e (rmF F1 mc1 ms1) s m args below meth c H1 locs1 (cells + mc) (slots + ms) Q (F0 m (pc + 3) ls rest)) : W p l e (rmF F1 mc1 ms1) s m args below meth c H locs cells slots Q (F0 m pc ls (As.reverse ++ rest)) := by
  have hFc := cut_A hf hI.2.1 hI.2.2 hA
  refine vy_callv (vy_runS (As := As) (rest := rest) ⟨hexec, hb, hml, hown, hts⟩ (hM H.size) (va_cwS n hts hw rfl rfl rfl hd ⟨hF, by show 8 + (nL + 11) + 100 * F ≤ 100 * F1; omega⟩) ⟨mPre_blind, mPre_at hf hA hK hI⟩ rfl hn hl rfl (lv_room hroom) hdg hcs) hI.2.2 (fun q _ h => hFc q h) hFc (fun q _ h => hFc q h) (fun En ce q9 u t H1 locs1 ht hvm hp hB hz hk hS hq1 hq2 hq3 => ?_) (fun u t H1 locs1 ht hvm hp hB hz hk hS => ?_)
  · obtain ⟨hX, hB1, hB2⟩ := hB
    rw [ht] at hB1
    obtain ⟨j1, j2⟩ := join_PD hf hI.1 hI.2.1 hFc hk hB1 hB2
    exact kx En ce q9 u H1 locs1 hX ⟨j1, j2, hS⟩ hz hq1 hq2 hq3
  · obtain ⟨hB1, hB2⟩ := hB
    rw [ht] at hB1
    obtain ⟨j1, j2⟩ := join_PD hf hI.1 hI.2.1 hFc hk hB1 hB2
    exact kk u H1 locs1 hp ⟨j1, j2, hS⟩ hz
theorem kSVXH {post : S → Prop} {ws1 : S → va_W} (f : va_W → va_W) (hexec : p.tables.exec = Jvm.exec) (hb : c.code = cc) (hml : c.maxLocals = nL1) (hts : ∀ w ∈ lw_all, w.before args s = true) (hown : s.vm.findClass own = some m.cls) (hK : KX E A s) (hA : ∀ q, s.heap.size ≤ q → A q) (hl : ls.size = nL1) (hf : isCtx f) (hI : wI E A s H locs (f wc))
    (hM : XtV l E y (wsW_ y bytes nL none hh) F mc ms As wc post ws1 Xp wsX) (hw : GoodIn lw_all (va_wsS own index y (wsW_ y bytes nL none hh))) (hd : y.cls ≠ "java/lang/invoke/MethodHandle" ∧ y.cls ≠ "java/lang/invoke/VarHandle" ∧ (parseMethodDescriptor y.desc).map (fun d => d.parameters.length) = some n) (hn : As.length = n) (hF : F + 1 ≤ F1) (hL : nL ≤ 81) (hcs : cells + mc ≤ mc1 ∧ slots + ms ≤ ms1) (hroom : (rest.map fun v => v.category).sum ≤ 8) (hdg : decode cc pc = .ok (.invokestatic index, 3))
    (kx : ∀ (En : String) (ce : Cell) (q9 : Nat) (u : SX) (H1 : Heap) (locs1 : List Loc), Xp En u → wI E A s H1 locs1 (f (wsX u q9)) → H.size ≤ H1.size → H1[q9]? = some ce → ce.vm = .none → s.vm.findClass En = some ce.cls → vx_W p l e (rmF F1 mc1 ms1) s m args below meth c H1 locs1 (cells + mc) (slots + ms) Q (F0 m pc ls rest) q9)
    (kk : ∀ (u : S) (H1 : Heap) (locs1 : List Loc), post u → wI E A s H1 locs1 (f (ws1 u)) → H.size ≤ H1.size → W p l e (rmF F1 mc1 ms1) s m args below meth c H1 locs1 (cells + mc) (slots + ms) Q (F0 m (pc + 3) ls rest)) : W p l e (rmF F1 mc1 ms1) s m args below meth c H locs cells slots Q (F0 m pc ls (As.reverse ++ rest)) := by
  have hFc := cut_A hf hI.2.1 hI.2.2 hA
  refine vy_callv (vy_runSX (hh := hh) (As := As) (rest := rest) ⟨hexec, hb, hml, hown, hts⟩ (hM H.size) (vx_cwSW n hts hw rfl rfl rfl hd ⟨hF, by show 8 + (nL + 11) + 100 * F ≤ 100 * F1; omega⟩) ⟨mPre_blind, mPre_at hf hA hK hI⟩ rfl hn hl rfl (lv_room hroom) hdg hcs) hI.2.2 (fun q _ h => hFc q h) hFc (fun q _ h => hFc q h) (fun En ce q9 u t H1 locs1 ht hvm hp hB hz hk hS hq1 hq2 hq3 => ?_) (fun u t H1 locs1 ht hvm hp hB hz hk hS => ?_)
  · obtain ⟨hX, hB1, hB2⟩ := hB
    rw [ht] at hB1
    obtain ⟨j1, j2⟩ := join_PD hf hI.1 hI.2.1 hFc hk hB1 hB2
    exact kx En ce q9 u H1 locs1 hX ⟨j1, j2, hS⟩ hz hq1 hq2 hq3
  · obtain ⟨hB1, hB2⟩ := hB
    rw [ht] at hB1
    obtain ⟨j1, j2⟩ := join_PD hf hI.1 hI.2.1 hFc hk hB1 hB2
    exact kk u H1 locs1 hp ⟨j1, j2, hS⟩ hz
theorem kVRX {ret : FieldType} {post : Nat → S → Prop} {ws1 : S → Nat → va_W} (f : va_W → va_W) (hexec : p.tables.exec = Jvm.exec) (hb : c.code = cc) (hml : c.maxLocals = nL1) (hts : ∀ w ∈ lw_all, w.before args s = true) (hown : s.vm.findClass own = some m.cls) (hK : KX E A s) (hA : ∀ q, s.heap.size ≤ q → A q) (hl : ls.size = nL1) (hf : isCtx f) (hI : wI E A s H locs (f wc))
    (hM : XtR l E y (ws_ y bytes nL (some ret)) F mc ms (.ref b :: As) wc post ws1 Xp wsX) (hw : GoodIn lw_all (wsV own index y.cls y (ws_ y bytes nL (some ret)))) (hd : y.cls = y.cls ∧ y.cls ≠ "java/lang/invoke/MethodHandle" ∧ y.cls ≠ "java/lang/invoke/VarHandle" ∧ (parseMethodDescriptor y.desc).map (fun d => d.parameters.length) = some n) (q0 ci : Nat) {q : vw_C} {fs : List Value} (hc : CL[ci]? = some q) (hq : q.1 = y.cls) (hrc : wc[q0]? = some (b, .inr (ci, fs))) (hn : As.length = n) (hF : F + 1 ≤ F1) (hL : nL ≤ 81) (hcs : cells + mc ≤ mc1 ∧ slots + ms ≤ ms1) (hroom : (rest.map fun v => v.category).sum ≤ 8) (hdg : decode cc pc = .ok (.invokevirtual index, 3))
    (kx : ∀ (En : String) (ce : Cell) (q9 : Nat) (u : SX) (H1 : Heap) (locs1 : List Loc), Xp En u → wI E A s H1 locs1 (f (wsX u q9)) → H.size ≤ H1.size → H1[q9]? = some ce → ce.vm = .none → s.vm.findClass En = some ce.cls → vx_W p l e (rmF F1 mc1 ms1) s m args below meth c H1 locs1 (cells + mc) (slots + ms) Q (F0 m pc ls rest) q9)
    (kk : ∀ (r : Nat) (u : S) (H1 : Heap) (locs1 : List Loc), post r u → wI E A s H1 locs1 (f (ws1 u r)) → H.size ≤ H1.size → W p l e (rmF F1 mc1 ms1) s m args below meth c H1 locs1 (cells + mc) (slots + ms) Q (F0 m (pc + 3) ls (.ref r :: rest))) : W p l e (rmF F1 mc1 ms1) s m args below meth c H locs cells slots Q (F0 m pc ls (As.reverse ++ .ref b :: rest)) := by
  have hFc := cut_A hf hI.2.1 hI.2.2 hA
  refine vy_callr (vy_runV (As := As) (rest := rest) ⟨hexec, hb, hml, hown, hts⟩ (hM H.size) (cwV n hts hw rfl rfl rfl hd ⟨hF, by show 8 + (nL + 11) + 100 * F ≤ 100 * F1; omega⟩) ⟨mPre_blind, by have h := va_recv hK.1 (cut_P hf hI.1) hc hrc; rw [hq] at h; exact h, mPre_at hf hA hK hI⟩ rfl hn hl rfl (lv_room hroom) hdg hcs) hI.2.2 (fun q _ h => hFc q h) hFc (fun q _ h => hFc q h) (fun En ce q9 u t H1 locs1 ht hvm hp hB hz hk hS hq1 hq2 hq3 => ?_) (fun u r t H1 locs1 ht hvm hp hB hz hk hS => ?_)
  · obtain ⟨hX, hB1, hB2⟩ := hB
    rw [ht] at hB1
    obtain ⟨j1, j2⟩ := join_PD hf hI.1 hI.2.1 hFc hk hB1 hB2
    exact kx En ce q9 u H1 locs1 hX ⟨j1, j2, hS⟩ hz hq1 hq2 hq3
  · obtain ⟨hp9, hB1, hB2⟩ := hB
    rw [ht] at hB1
    obtain ⟨j1, j2⟩ := join_PD hf hI.1 hI.2.1 hFc hk hB1 hB2
    exact kk r u H1 locs1 hp9 ⟨j1, j2, hS⟩ hz
theorem kVRXH {ret : FieldType} {post : Nat → S → Prop} {ws1 : S → Nat → va_W} (f : va_W → va_W) (hexec : p.tables.exec = Jvm.exec) (hb : c.code = cc) (hml : c.maxLocals = nL1) (hts : ∀ w ∈ lw_all, w.before args s = true) (hown : s.vm.findClass own = some m.cls) (hK : KX E A s) (hA : ∀ q, s.heap.size ≤ q → A q) (hl : ls.size = nL1) (hf : isCtx f) (hI : wI E A s H locs (f wc))
    (hM : XtR l E y (wsW_ y bytes nL (some ret) hh) F mc ms (.ref b :: As) wc post ws1 Xp wsX) (hw : GoodIn lw_all (wsV own index y.cls y (wsW_ y bytes nL (some ret) hh))) (hd : y.cls = y.cls ∧ y.cls ≠ "java/lang/invoke/MethodHandle" ∧ y.cls ≠ "java/lang/invoke/VarHandle" ∧ (parseMethodDescriptor y.desc).map (fun d => d.parameters.length) = some n) (q0 ci : Nat) {q : vw_C} {fs : List Value} (hc : CL[ci]? = some q) (hq : q.1 = y.cls) (hrc : wc[q0]? = some (b, .inr (ci, fs))) (hn : As.length = n) (hF : F + 1 ≤ F1) (hL : nL ≤ 81) (hcs : cells + mc ≤ mc1 ∧ slots + ms ≤ ms1) (hroom : (rest.map fun v => v.category).sum ≤ 8) (hdg : decode cc pc = .ok (.invokevirtual index, 3))
    (kx : ∀ (En : String) (ce : Cell) (q9 : Nat) (u : SX) (H1 : Heap) (locs1 : List Loc), Xp En u → wI E A s H1 locs1 (f (wsX u q9)) → H.size ≤ H1.size → H1[q9]? = some ce → ce.vm = .none → s.vm.findClass En = some ce.cls → vx_W p l e (rmF F1 mc1 ms1) s m args below meth c H1 locs1 (cells + mc) (slots + ms) Q (F0 m pc ls rest) q9)
    (kk : ∀ (r : Nat) (u : S) (H1 : Heap) (locs1 : List Loc), post r u → wI E A s H1 locs1 (f (ws1 u r)) → H.size ≤ H1.size → W p l e (rmF F1 mc1 ms1) s m args below meth c H1 locs1 (cells + mc) (slots + ms) Q (F0 m (pc + 3) ls (.ref r :: rest))) : W p l e (rmF F1 mc1 ms1) s m args below meth c H locs cells slots Q (F0 m pc ls (As.reverse ++ .ref b :: rest)) := by
  have hFc := cut_A hf hI.2.1 hI.2.2 hA
  refine vy_callr (vy_runVX (hh := hh) (As := As) (rest := rest) ⟨hexec, hb, hml, hown, hts⟩ (hM H.size) (vx_cwVW n hts hw rfl rfl rfl hd ⟨hF, by show 8 + (nL + 11) + 100 * F ≤ 100 * F1; omega⟩) ⟨mPre_blind, by have h := va_recv hK.1 (cut_P hf hI.1) hc hrc; rw [hq] at h; exact h, mPre_at hf hA hK hI⟩ rfl hn hl rfl (lv_room hroom) hdg hcs) hI.2.2 (fun q _ h => hFc q h) hFc (fun q _ h => hFc q h) (fun En ce q9 u t H1 locs1 ht hvm hp hB hz hk hS hq1 hq2 hq3 => ?_) (fun u r t H1 locs1 ht hvm hp hB hz hk hS => ?_)
  · obtain ⟨hX, hB1, hB2⟩ := hB
    rw [ht] at hB1
    obtain ⟨j1, j2⟩ := join_PD hf hI.1 hI.2.1 hFc hk hB1 hB2
    exact kx En ce q9 u H1 locs1 hX ⟨j1, j2, hS⟩ hz hq1 hq2 hq3
  · obtain ⟨hp9, hB1, hB2⟩ := hB
    rw [ht] at hB1
    obtain ⟨j1, j2⟩ := join_PD hf hI.1 hI.2.1 hFc hk hB1 hB2
    exact kk r u H1 locs1 hp9 ⟨j1, j2, hS⟩ hz
theorem kSRX {ret : FieldType} {post : Nat → S → Prop} {ws1 : S → Nat → va_W} (f : va_W → va_W) (hexec : p.tables.exec = Jvm.exec) (hb : c.code = cc) (hml : c.maxLocals = nL1) (hts : ∀ w ∈ lw_all, w.before args s = true) (hown : s.vm.findClass own = some m.cls) (hK : KX E A s) (hA : ∀ q, s.heap.size ≤ q → A q) (hl : ls.size = nL1) (hf : isCtx f) (hI : wI E A s H locs (f wc))
    (hM : XtR l E y (ws_ y bytes nL (some ret)) F mc ms As wc post ws1 Xp wsX) (hw : GoodIn lw_all (va_wsS own index y (ws_ y bytes nL (some ret)))) (hd : y.cls ≠ "java/lang/invoke/MethodHandle" ∧ y.cls ≠ "java/lang/invoke/VarHandle" ∧ (parseMethodDescriptor y.desc).map (fun d => d.parameters.length) = some n) (hn : As.length = n) (hF : F + 1 ≤ F1) (hL : nL ≤ 81) (hcs : cells + mc ≤ mc1 ∧ slots + ms ≤ ms1) (hroom : (rest.map fun v => v.category).sum ≤ 8) (hdg : decode cc pc = .ok (.invokestatic index, 3))
    (kx : ∀ (En : String) (ce : Cell) (q9 : Nat) (u : SX) (H1 : Heap) (locs1 : List Loc), Xp En u → wI E A s H1 locs1 (f (wsX u q9)) → H.size ≤ H1.size → H1[q9]? = some ce → ce.vm = .none → s.vm.findClass En = some ce.cls → vx_W p l e (rmF F1 mc1 ms1) s m args below meth c H1 locs1 (cells + mc) (slots + ms) Q (F0 m pc ls rest) q9)
    (kk : ∀ (r : Nat) (u : S) (H1 : Heap) (locs1 : List Loc), post r u → wI E A s H1 locs1 (f (ws1 u r)) → H.size ≤ H1.size → W p l e (rmF F1 mc1 ms1) s m args below meth c H1 locs1 (cells + mc) (slots + ms) Q (F0 m (pc + 3) ls (.ref r :: rest))) : W p l e (rmF F1 mc1 ms1) s m args below meth c H locs cells slots Q (F0 m pc ls (As.reverse ++ rest)) := by
  have hFc := cut_A hf hI.2.1 hI.2.2 hA
  refine vy_callr (vy_runS (As := As) (rest := rest) ⟨hexec, hb, hml, hown, hts⟩ (hM H.size) (va_cwS n hts hw rfl rfl rfl hd ⟨hF, by show 8 + (nL + 11) + 100 * F ≤ 100 * F1; omega⟩) ⟨mPre_blind, mPre_at hf hA hK hI⟩ rfl hn hl rfl (lv_room hroom) hdg hcs) hI.2.2 (fun q _ h => hFc q h) hFc (fun q _ h => hFc q h) (fun En ce q9 u t H1 locs1 ht hvm hp hB hz hk hS hq1 hq2 hq3 => ?_) (fun u r t H1 locs1 ht hvm hp hB hz hk hS => ?_)
  · obtain ⟨hX, hB1, hB2⟩ := hB
    rw [ht] at hB1
    obtain ⟨j1, j2⟩ := join_PD hf hI.1 hI.2.1 hFc hk hB1 hB2
    exact kx En ce q9 u H1 locs1 hX ⟨j1, j2, hS⟩ hz hq1 hq2 hq3
  · obtain ⟨hp9, hB1, hB2⟩ := hB
    rw [ht] at hB1
    obtain ⟨j1, j2⟩ := join_PD hf hI.1 hI.2.1 hFc hk hB1 hB2
    exact kk r u H1 locs1 hp9 ⟨j1, j2, hS⟩ hz
theorem kSRXH {ret : FieldType} {post : Nat → S → Prop} {ws1 : S → Nat → va_W} (f : va_W → va_W) (hexec : p.tables.exec = Jvm.exec) (hb : c.code = cc) (hml : c.maxLocals = nL1) (hts : ∀ w ∈ lw_all, w.before args s = true) (hown : s.vm.findClass own = some m.cls) (hK : KX E A s) (hA : ∀ q, s.heap.size ≤ q → A q) (hl : ls.size = nL1) (hf : isCtx f) (hI : wI E A s H locs (f wc))
    (hM : XtR l E y (wsW_ y bytes nL (some ret) hh) F mc ms As wc post ws1 Xp wsX) (hw : GoodIn lw_all (va_wsS own index y (wsW_ y bytes nL (some ret) hh))) (hd : y.cls ≠ "java/lang/invoke/MethodHandle" ∧ y.cls ≠ "java/lang/invoke/VarHandle" ∧ (parseMethodDescriptor y.desc).map (fun d => d.parameters.length) = some n) (hn : As.length = n) (hF : F + 1 ≤ F1) (hL : nL ≤ 81) (hcs : cells + mc ≤ mc1 ∧ slots + ms ≤ ms1) (hroom : (rest.map fun v => v.category).sum ≤ 8) (hdg : decode cc pc = .ok (.invokestatic index, 3))
    (kx : ∀ (En : String) (ce : Cell) (q9 : Nat) (u : SX) (H1 : Heap) (locs1 : List Loc), Xp En u → wI E A s H1 locs1 (f (wsX u q9)) → H.size ≤ H1.size → H1[q9]? = some ce → ce.vm = .none → s.vm.findClass En = some ce.cls → vx_W p l e (rmF F1 mc1 ms1) s m args below meth c H1 locs1 (cells + mc) (slots + ms) Q (F0 m pc ls rest) q9)
    (kk : ∀ (r : Nat) (u : S) (H1 : Heap) (locs1 : List Loc), post r u → wI E A s H1 locs1 (f (ws1 u r)) → H.size ≤ H1.size → W p l e (rmF F1 mc1 ms1) s m args below meth c H1 locs1 (cells + mc) (slots + ms) Q (F0 m (pc + 3) ls (.ref r :: rest))) : W p l e (rmF F1 mc1 ms1) s m args below meth c H locs cells slots Q (F0 m pc ls (As.reverse ++ rest)) := by
  have hFc := cut_A hf hI.2.1 hI.2.2 hA
  refine vy_callr (vy_runSX (hh := hh) (As := As) (rest := rest) ⟨hexec, hb, hml, hown, hts⟩ (hM H.size) (vx_cwSW n hts hw rfl rfl rfl hd ⟨hF, by show 8 + (nL + 11) + 100 * F ≤ 100 * F1; omega⟩) ⟨mPre_blind, mPre_at hf hA hK hI⟩ rfl hn hl rfl (lv_room hroom) hdg hcs) hI.2.2 (fun q _ h => hFc q h) hFc (fun q _ h => hFc q h) (fun En ce q9 u t H1 locs1 ht hvm hp hB hz hk hS hq1 hq2 hq3 => ?_) (fun u r t H1 locs1 ht hvm hp hB hz hk hS => ?_)
  · obtain ⟨hX, hB1, hB2⟩ := hB
    rw [ht] at hB1
    obtain ⟨j1, j2⟩ := join_PD hf hI.1 hI.2.1 hFc hk hB1 hB2
    exact kx En ce q9 u H1 locs1 hX ⟨j1, j2, hS⟩ hz hq1 hq2 hq3
  · obtain ⟨hp9, hB1, hB2⟩ := hB
    rw [ht] at hB1
    obtain ⟨j1, j2⟩ := join_PD hf hI.1 hI.2.1 hFc hk hB1 hB2
    exact kk r u H1 locs1 hp9 ⟨j1, j2, hS⟩ hz
end CLX
/-- an object of the world is thrown: what its cell is -/
theorem wI_thrown {E : En} {A : Nat → Prop} {s : State} {H : Heap} {locs : List Loc} {ws : va_W} (hK : KX E A s) (hI : wI E A s H locs ws) {q0 ci a : Nat} {q : vw_C} {fs : List Value} {nm : String} (hc : CL[ci]? = some q) (hn : q.1 = nm) (he : ws[q0]? = some (a, .inr (ci, fs))) : ∃ ce : Cell, H[a]? = some ce ∧ ce.vm = .none ∧ s.vm.findClass nm = some ce.cls := by
  subst hn
  obtain ⟨q', h1, cell, g1, g2, g3, -⟩ := hI.1 q0 _ he
  exact ⟨cell, g1, g3, by rw [g2]; exact (hK.1.1 ci q hc).2.1⟩
theorem wI.kept {E : En} {A : Nat → Prop} {s : State} {H H1 : Heap} {locs : List Loc} {ws : va_W} (hI : wI E A s H locs ws) (hk : ∀ q : Nat, q < H.size → H1[q]? = H[q]?) (hS : va_S A s.heap H1 locs) : wI E A s H1 locs ws :=
  ⟨fun k q hq => (hI.1 k q hq).kept (hk _ (hI.1 k q hq).lt), hI.2.1, hS⟩
/-- words of the start's tables, of a state since -/
theorem k2_ns {w : Cond} (l : List (MethodName × Nat)) (h : w ∈ k2_sels l) : ∃ C y, w = .selects C y y := by
  unfold k2_sels at h
  obtain ⟨x, -, e⟩ := List.mem_map.mp h
  exact ⟨_, _, e.symm⟩
theorem tbl_t {w : Cond} (h : w ∈ lw_tbl) (hn : ∀ C y, w ≠ .selects C y y) : w ∈ tables_1 := by
  rcases List.mem_append.mp (show w ∈ k2_sels lw_privs ++ tables_1 from h) with h | h
  · obtain ⟨C, y, e⟩ := k2_ns _ h
    exact absurd e (hn C y)
  · exact h
theorem XW.cast {C D : String} {s : State} (h : XW s) (hw : Cond.castable C D ∈ lw_tbl) : va_Nw (.castable C D) s := by
  obtain ⟨U0, a0, h1, -, -, h3⟩ := h
  exact va_Nw.warmC h3 (va_Nw.of rfl (h1 _ (tbl_t hw (fun C y e => Cond.noConfusion e))))
/-- the leaves of a condition -/
def cLeaves : Cond → List Cond
  | .and a b => cLeaves a ++ cLeaves b
  | c => [c]
theorem cLeaves_ok {a0 : Array Value} {U : State} : ∀ c : Cond, c.before a0 U = true → ∀ w ∈ cLeaves c, w.before a0 U = true := by
  intro c
  induction c using cLeaves.induct with
  | case1 a b iha ihb =>
    intro h w hw
    rw [Cond.before_and, Bool.and_eq_true] at h
    rw [cLeaves] at hw
    rcases List.mem_append.mp hw with g | g
    · exact iha h.1 w g
    · exact ihb h.2 w g
  | case2 c hc =>
    intro h w hw
    rw [cLeaves] at hw
    · rw [List.mem_singleton.mp hw]; exact h
    · exact hc
theorem XW.nocast {C D : String} {s : State} (h : XW s) (hw : Cond.not (.castable C D) ∈ cLeaves narrow_1) : va_Nc C D s := by
  obtain ⟨U0, a0, -, h2, -, h3⟩ := h
  exact va_Nc.moved h3.alike (va_Nc.of (cLeaves_ok _ h2 _ hw))
