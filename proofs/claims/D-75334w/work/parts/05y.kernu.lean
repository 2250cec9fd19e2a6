/-! a method's contract that doesn't ask whether its class has been initialised: an object's method runs all the same (the constants' own classes aren't said to be) -/
section BU
/-- what the machine must be like where a method is about to be invoked -/
def AppU (S : Spec) (x : MethodName) (pl : Platform) (s : State) (m : MethodId) (args : Array Value) (below : List Frame) : Prop :=
  s.status = .running ∧ s.curStatus? = some .runnable ∧ s.alone = true ∧ s.methodNamed? x = some m ∧ s.hears m below = true ∧ s.hasRoom pl S.room = true ∧ S.pre.before args s = true
def MetU (l : Launch) (x : MethodName) (S : Spec) (P : Array Value → State → Prop) (Q : Array Value → State → Outcome → State → Prop) : Prop :=
  ∀ (p : Program) (e : Env), l.admits e → FairCas e.choices → FairClock e.choices → ∀ (s : State) (m : MethodId) (args : Array Value) (below : List Frame),
    s.frames = .invoking m args :: below → AppU S x e.platform s m args below → P args s →
    ∃ n o, (∀ k, k < n → Within (stepsAlone p.tables e k s) below) ∧ (stepsAlone p.tables e n s).status = .running ∧ Ended (stepsAlone p.tables e n s) below o ∧ Q args s o (stepsAlone p.tables e n s)
/-- what a body's walk begins with -/
def BodyU (p : Program) (l : Launch) (x : MethodName) (S : Spec) (code : ByteArray) (maxLocals : Nat) (ret : Option FieldType) (e : Env) (s : State) (m : MethodId) (args : Array Value) (below : List Frame) (meth : Method) (c : Code) (s₁ : State) : Prop :=
  p.tables.exec = Jvm.exec ∧ s.methodNamed? x = some m ∧ S.pre.before args s = true ∧ s.vm.method? m = some meth ∧ meth.sig.returnType = ret ∧ meth.locks = false ∧ c.code = code ∧ s₁ = s.setFrames (.java (entryFrame m args maxLocals) :: below) ∧ Stand p l e S.room s m args below meth c s₁ [] 0 0
variable {p : Program} {l : Launch} {x : MethodName} {S : Spec} {code : ByteArray} {maxLocals : Nat} {ret : Option FieldType} {e : Env} {s : State} {m : MethodId} {args : Array Value} {below : List Frame} {meth : Method} {c : Code} {s₁ : State}
theorem BodyU.exec (B : BodyU p l x S code maxLocals ret e s m args below meth c s₁) : p.tables.exec = Jvm.exec := B.1
theorem BodyU.named (B : BodyU p l x S code maxLocals ret e s m args below meth c s₁) : s.methodNamed? x = some m := B.2.1
theorem BodyU.pre (B : BodyU p l x S code maxLocals ret e s m args below meth c s₁) : S.pre.before args s = true := B.2.2.1
theorem BodyU.method (B : BodyU p l x S code maxLocals ret e s m args below meth c s₁) : s.vm.method? m = some meth := B.2.2.2.1
theorem BodyU.returns (B : BodyU p l x S code maxLocals ret e s m args below meth c s₁) : meth.sig.returnType = ret := B.2.2.2.2.1
theorem BodyU.notSynchronized (B : BodyU p l x S code maxLocals ret e s m args below meth c s₁) : meth.locks = false := B.2.2.2.2.2.1
theorem BodyU.bytes (B : BodyU p l x S code maxLocals ret e s m args below meth c s₁) : c.code = code := B.2.2.2.2.2.2.1
theorem BodyU.state (B : BodyU p l x S code maxLocals ret e s m args below meth c s₁) : s₁ = s.setFrames (.java (entryFrame m args maxLocals) :: below) := B.2.2.2.2.2.2.2.1
theorem BodyU.stand (B : BodyU p l x S code maxLocals ret e s m args below meth c s₁) : Stand p l e S.room s m args below meth c s₁ [] 0 0 := B.2.2.2.2.2.2.2.2
theorem MetU.of_body {P : Array Value → State → Prop} {Q : Array Value → State → Outcome → State → Prop} (hx : plainName x.cls = true)
    (his : ∀ args (s : State) m, S.pre.before args s = true → s.methodNamed? x = some m → ∃ meth c, s.vm.method? m = some meth ∧ meth.code = some c ∧ c.code = code ∧ c.maxLocals = maxLocals ∧ meth.sig.returnType = ret ∧ meth.locks = false)
    (body : ∀ p e s m args below meth c s₁, BodyU p l x S code maxLocals ret e s m args below meth c s₁ → c.maxLocals = maxLocals → P args s →
      ∃ s₂ o, Steps p.tables e below (s₁.setTop (entryFrame m args maxLocals)) s₂ ∧ s₂.status = .running ∧ Ended s₂ below o ∧ Q args s o s₂) : MetU l x S P Q := by
  intro p e ha hc hk s m args below hf happ hP
  obtain ⟨hrun, hable, halone, hname, hhears, hroom, hpre⟩ := happ
  obtain ⟨meth, c, hmeth, hcode, hbytes, hlocals, hret, hlocks⟩ := his args s m hpre hname
  have hcur := State.cur_lt_of_frames hf
  have hf1 : (s.setFrames (.java (entryFrame m args maxLocals) :: below)).frames = .java (entryFrame m args maxLocals) :: below := State.frames_setFrames _ hcur
  have ht1 := State.topJava?_of_frames hf1
  have hplain : (s.setFrames (.java (entryFrame m args maxLocals) :: below)).plainMethod m := State.plainMethod.of_named (s := s) (plainFor_of_name hx) hname hmeth
  have hAt : At (s.setFrames (.java (entryFrame m args maxLocals) :: below)) m c below :=
    ⟨by rw [ht1]; rfl, ⟨[], by rw [hf1]; rfl⟩, hrun, by simpa using hable, by simpa using halone, by rw [State.code?_eq]; simp [State.setFrames, hmeth, hcode], hplain⟩
  obtain ⟨t, ht, -⟩ := State.frames_cons hf
  have hst : Stand p l e S.room s m args below meth c (s.setFrames (.java (entryFrame m args maxLocals) :: below)) [] 0 0 :=
    ⟨ha, hc, hk, hf, hroom, hhears, hmeth, hcode, hAt, by rw [hf1]; rfl, State.WarmedH.refl s, by rw [State.stackLimits_setFrames], by rw [State.stackBytes_setFrames], (State.sameButNew.refl s ht).setFrames (.java (entryFrame m args maxLocals) :: below) hcur⟩
  have hstep : (stepThread p.tables e s).1 = (s.setFrames (.java (entryFrame m args maxLocals) :: below)).setTop (entryFrame m args maxLocals) := by
    have hfull : e.platform.stackFull (s.setFrames below).me (s.setFrames below).frames c.maxLocals = false := by
      obtain ⟨-, h1, -, h2⟩ := State.hasRoom_stack hroom
      rw [hf, List.length_cons] at h1
      rw [State.localsInUse_invoking hf hmeth hcode] at h2
      have hw := stackUse_le_stackWeight below
      rw [State.frames_setFrames _ hcur]
      exact Platform.stackFull_eq_false (by rw [State.stackLimits_setFrames]; omega) (by rw [State.stackLimits_setFrames]; omega)
    rw [stepThread_invoking hf, (doInvoke_java (s := s.setFrames below) (e := e) (meth := meth) (code := c) hmeth hcode hlocks hfull).1, State.setTop_self ht1]
    simp only [State.pushFrame, State.frames_setFrames _ hcur, State.setFrames_setFrames, hlocals, entryFrame]
  obtain ⟨s₂, o, hs, hr, he, hp⟩ := body p e s m args below meth c _ ⟨by cases p <;> rfl, hname, hpre, hmeth, hret, hlocks, hbytes, rfl, hst⟩ hlocals hP
  obtain ⟨n, hn, hw⟩ := Steps.head (tb := p.tables) (e := e) ⟨hrun, hable, halone⟩ ⟨[.invoking m args], hf, by simp, by simp⟩ (hstep ▸ hs)
  exact ⟨n, o, hw, hn ▸ hr, hn ▸ he, hn ▸ hp⟩
theorem AppU.calling {g : JFrame} {mk : MethodId} {a : Array Value} (h : At s g.method c below) {ig : Instr} {len : Nat} (hdg : decode c.code g.pc = .ok (ig, len)) (hnamed : s.methodNamed? x = some mk) (hroom : (s.calling g mk a).hasRoom e.platform S.room = true) (hpre : S.pre.before a s = true) : AppU S x e.platform (s.calling g mk a) mk a (s.setTop g).frames := by
  have hcode : (s.calling g mk a).code? g.method = some c := by
    have := h.code
    rw [State.code?_eq] at this ⊢
    simpa [State.calling, State.pushFrame, State.setFrames] using this
  refine ⟨h.running, ?_, ?_, hnamed, ?_, hroom, ?_⟩
  · simpa [State.calling] using h.runnable
  · simpa [State.calling] using h.alone
  · rw [State.frames_setTop' g h.top]; simp [State.hears, hcode, hdg, Except.toOption]
  · rw [State.calling_eq h.top, Cond.before_setFrames]; exact hpre
theorem Steps.callU {P : Array Value → State → Prop} {Q : Array Value → State → Outcome → State → Prop} (hM : MetU l x S P Q) (p : Program) (ha : l.admits e) (hc : FairCas e.choices) (hk : FairClock e.choices) {acts : List Action} {mid : List Frame} (hfr : s.frames = mid ++ below) (hne : s.frames ≠ []) (happ : AppU S x e.platform (s.pushFrame (.invoking m args)) m args s.frames) (hP : P args (s.pushFrame (.invoking m args))) :
    ∃ o s₂, Steps p.tables e below (doInvoke e s acts m args).1 s₂ ∧ s₂.status = .running ∧ Ended s₂ s.frames o ∧ Q args (s.pushFrame (.invoking m args)) o s₂ := by
  obtain ⟨t, ht⟩ : ∃ t, s.threads[s.cur]? = some t := by
    cases h : s.threads[s.cur]? with
    | some t => exact ⟨t, rfl⟩
    | none => exact absurd (by simp [State.frames, h]) hne
  have hlt : s.cur < s.threads.size := (Array.getElem?_eq_some_iff.mp ht).1
  have hf' : (s.pushFrame (.invoking m args)).frames = .invoking m args :: s.frames := State.frames_setFrames _ hlt
  obtain ⟨hrun, hable, halone, -⟩ := id happ
  have hgo : (s.pushFrame (.invoking m args)).goesOn := ⟨hrun, hable, halone⟩
  obtain ⟨n, o, hw, hr, he, hp⟩ := hM p e ha hc hk (s.pushFrame (.invoking m args)) m args s.frames hf' happ hP
  have hstep : (stepThread p.tables e (s.pushFrame (.invoking m args))).1 = (doInvoke e s acts m args).1 := by
    rw [stepThread_invoking hf', doInvoke_state e s acts, State.pushFrame, State.setFrames_setFrames, State.setFrames_self ht]
  cases n with
  | zero => exact absurd ⟨[.invoking m args], hf', by simp, by simp⟩ he.not_within
  | succ k =>
    rw [stepsAlone_succ _ hgo, hstep] at hr he hp
    refine ⟨o, _, ⟨k, rfl, fun j hj => ?_⟩, hr, he, hp⟩
    have := hw (j + 1) (by omega)
    rw [stepsAlone_succ _ hgo, hstep, hfr] at this
    exact this.weaken
end BU
