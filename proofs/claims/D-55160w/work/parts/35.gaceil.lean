/-! Math.ceil: the machine has an entry of its own for it, that calls StrictMath.ceil; its contract out of the latter's -/
def ga_ceilRow : NativeRow := Jvm.Native.java_lang_Math.nans.byStrictMath "ceil" "nat.java_lang_Math.ceil"
set_option maxRecDepth 100000 in
theorem ga_ceilFind (p : Program) : NativeRow.find? p.tables.natives "java/lang/Math" "ceil" "(D)D" = some ga_ceilRow := by
  cases p <;> rfl
theorem ga_ceilRun (b : UInt64) (e : Env) (S : State) {cS : ClassId} {kS : Class} {i : Nat} (hf : S.vm.findClass "java/lang/StrictMath" = some cS) (hk : S.vm.classes[cS]? = some kS) (hi : kS.init = .initialized) (hm : kS.findMethod "ceil" "(D)D" = some i) : ∃ as, (ga_ceilRow.sem #[.double b]).run e S = .ctl (.call ⟨cS, i⟩ #[.double b] 1 #[]) S as := by
  have hs : ga_ceilRow.sem #[.double b] = (do
      let c ← classNamed "java/lang/StrictMath"
      ensureInit c
      let some i := (← theClass c).findMethod "ceil" "(D)D" | modelBug ("StrictMath lacks " ++ "ceil")
      callThen ⟨c, i⟩ #[.double b] 1 #[]) := rfl
  obtain ⟨as, h, -⟩ := Sem.run_eq_ctl (t := ga_ceilRow.sem #[.double b]) (e := e) (s := S) (s' := S) (c := .call ⟨cS, i⟩ #[.double b] 1 #[]) (acts := [.initLock cS false]) (by
    rw [hs]
    simp [jvm, wpRun, W.classNamed_ready hf, W.ensureInit_ready ⟨kS, hk, hi⟩, theClass, Jvm.callThen, wp_ctl, Control.isStop, Control.restarts, hk, hm])
  exact ⟨as, h⟩
theorem ga_ceilBack {r : UInt64} (hn : vf_n64 r) (e : Env) (S : State) : ∃ as, (ga_ceilRow.resume 1 #[] (.returned (some (.double r)))).run e S = .ok (some (.double r)) S as := by
  have hs : ga_ceilRow.resume 1 #[] (.returned (some (.double r))) = (do
      let r ← anyNaN64 r
      mark "nat.java_lang_Math.ceil"
      Pure.pure (some (.double r))) := rfl
  obtain ⟨as, h, -⟩ := Sem.run_eq_ok (t := ga_ceilRow.resume 1 #[] (.returned (some (.double r)))) (e := e) (s := S) (s' := S) (a := some (.double r)) (acts := []) (by
    rw [hs]
    have hn' : r &&& 0x7fffffffffffffff ≤ 0x7ff0000000000000 := hn
    simp [jvm, wpRun, anyNaN64, hn'])
  exact ⟨as, h⟩
set_option maxHeartbeats 1000000 in
theorem ga_ceilMet {l : Launch} {g : ga_G} {h : ga_H} {x : UInt64} {F post : UInt64 → ga_H → Prop} {fr lo : Nat} (hM : Met l yJ31_ceil (ws_ yJ31_ceil cJ31_ceil 2 (some .double)) { frames := fr, cells := 0, slots := 0, locals := lo } (va_Pc [.double x] (ga_B g h)) (va_Qd F (ga_E g) (ga_A g)) 0 0 (ga_A g)) (hn : ∀ r h1, F r h1 → vf_n64 r) (hp : ∀ r h1, F r h1 → post r h1) :
    Met l yJ14_ceil (ws_ yJ14_ceil cJ14_ceil 2 (some .double)) { frames := fr + 2, cells := 0, slots := 0, locals := lo + 1100 } (va_Pc [.double x] (ga_B g h)) (va_Qd post (ga_E g) (ga_A g)) 0 0 (ga_A g) := by
  intro p e ha hcas hclk s m args below hf happ hP _
  obtain ⟨hrun, hable, halone, hname, hhears, hinit, hroom, hpre⟩ := (Spec.appliesLoose_iff hf).mp happ
  obtain ⟨rfl, hR, hKn⟩ := hP
  have hts0 := atoms_spec (ws := ws_ yJ14_ceil cJ14_ceil 2 (some .double)) hpre
  have hts : ∀ w ∈ lw_all, w.before #[.double x] s = true := fun w hw => hts0 w (List.mem_cons_of_mem _ hw)
  obtain ⟨meth, c, hmeth, hcode, hbytes, hlocals, hret, hlocks, -, hsig⟩ := Cond.code_spec hname (hts _ q1438)
  obtain ⟨mS, hnS⟩ := Cond.code_named (hts _ q1441)
  obtain ⟨methS, cS, hmS, hcS, -, hlS, -, hlkS, -, -⟩ := Cond.code_spec hnS (hts _ q1441)
  obtain ⟨kS, hkS, -⟩ := className_of_methodNamed hnS
  have hfS : s.vm.findClass "java/lang/StrictMath" = some mS.cls := findClass_of_methodNamed hnS
  have hiS : kS.init = .initialized := Cond.initialized_spec hfS hkS (hts _ q141)
  have hfm : kS.findMethod "ceil" "(D)D" = some mS.idx := by
    have h := hnS
    simp only [State.methodNamed?, Option.bind_eq_bind, Option.pure_def] at h
    rw [hfS] at h
    simp only [Option.bind_some, hkS] at h
    cases hfm : kS.findMethod "ceil" "(D)D" with
    | none => rw [hfm] at h; cases h
    | some j => rw [hfm] at h; simp at h; rw [← h]
  have hst := Cond.static_spec hname hmeth (hts _ q1437)
  obtain ⟨k, hk, hkn⟩ := className_of_methodNamed hname
  obtain ⟨hmn, hmd⟩ := name_of_methodNamed hname hmeth
  have hx : k.methods[m.idx]? = some meth := by simpa [Vm.method?, hk] using hmeth
  have hboot : k.loader = none := Vm.bootOf_findClass (findClass_of_methodNamed hname) hk
  have hcur := State.cur_lt_of_frames hf
  have hpar : meth.sig.parameters.length = 1 := by
    have h0 : parseMethodDescriptor "(D)D" = some { parameters := [.double], returnType := some .double } := by decide +kernel
    have h1 : some meth.sig = some { parameters := [.double], returnType := some .double } := hsig.symm.trans h0
    rw [Option.some.inj h1]
    rfl
  -- the first step: its own frame
  have hstep1 : (stepThread p.tables e s).1 = s.setFrames (.java (entryFrame m #[.double x] 2) :: below) := by
    have hfull : e.platform.stackFull (s.setFrames below).me (s.setFrames below).frames c.maxLocals = false := by
      obtain ⟨-, h1, -, h2⟩ := State.hasRoom_stack hroom
      rw [hf, List.length_cons] at h1
      rw [State.localsInUse_invoking hf hmeth hcode] at h2
      have hw := stackUse_le_stackWeight below
      rw [State.frames_setFrames _ hcur]
      exact Platform.stackFull_eq_false (by rw [State.stackLimits_setFrames]; omega) (by rw [State.stackLimits_setFrames]; omega)
    rw [stepThread_invoking hf, (doInvoke_java (s := s.setFrames below) (e := e) (meth := meth) (code := c) hmeth hcode hlocks hfull).1]
    simp only [State.pushFrame, State.frames_setFrames _ hcur, State.setFrames_setFrames, hlocals, entryFrame]
  -- the second: the entry calls
  obtain ⟨s1, hs1⟩ : ∃ z, z = s.setFrames (.java (entryFrame m #[.double x] 2) :: below) := ⟨_, rfl⟩
  obtain ⟨gN, hgN⟩ : ∃ z : NFrame, z = { method := m, args := #[.double x], locked := none, stage := 1, saved := #[], awaiting := true, answer := none, words := 0 } := ⟨_, rfl⟩
  obtain ⟨V, hV⟩ : ∃ z, z = s.setFrames (.native gN :: below) := ⟨_, rfl⟩
  have hf1 : s1.frames = .java (entryFrame m #[.double x] 2) :: below := by rw [hs1]; exact State.frames_setFrames _ hcur
  have hVf : V.frames = .native gN :: below := by rw [hV]; exact State.frames_setFrames _ hcur
  have hstep2 : ∃ acts, (stepThread p.tables e s1).1 = (doInvoke e V acts mS #[.double x]).1 := by
    obtain ⟨as, hrn⟩ := ga_ceilRun x e (s1.setFrames (.native { method := m, args := #[.double x], locked := none } :: below)) (cS := mS.cls) (kS := kS) (i := mS.idx) (by rw [hs1]; exact hfS) (by rw [hs1]; exact hkS) hiS hfm
    have hov : overridden p.tables e s1 (entryFrame m #[.double x] 2) = some ga_ceilRow := by
      unfold overridden
      have hk1 : s1.vm.classes[(entryFrame m #[.double x] 2).method.cls]? = some k := by rw [hs1]; exact hk
      rw [hk1]
      have hx1 : k.methods[(entryFrame m #[.double x] 2).method.idx]? = some meth := hx
      simp only [hx1, hmn, hmd, hkn, hboot]
      rw [show yJ14_ceil.cls = "java/lang/Math" from rfl, show yJ14_ceil.name = "ceil" from rfl, show yJ14_ceil.desc = "(D)D" from rfl, ga_ceilFind p]
      rfl
    have hac : argCount s1 m = 1 := by
      unfold argCount
      have hk1 : s1.vm.classes[m.cls]? = some k := by rw [hs1]; exact hk
      rw [hk1]
      simp [hx, hpar, hst]
    refine ⟨as, ?_⟩
    unfold stepThread
    rw [hf1]
    simp only [hov]
    rw [show argCount s1 (entryFrame m #[.double x] 2).method = 1 from hac]
    change (afterNative e { method := m, args := #[.double x], locked := none } below ((ga_ceilRow.sem #[.double x]).run e (s1.setFrames (.native { method := m, args := #[.double x], locked := none } :: below)))).1 = _
    rw [hrn]
    unfold afterNative
    simp only
    have hw0 : (((s1.setFrames (.native { method := m, args := #[.double x], locked := none } :: below)).vm.classes[m.cls]?).bind fun k => (k.methods[m.idx]?).map fun n => upcallWords k.name n.name).getD 0 = 0 := by
      have hk1 : (s1.setFrames (.native { method := m, args := #[.double x], locked := none } :: below)).vm.classes[m.cls]? = some k := by rw [hs1]; exact hk
      rw [hk1]
      simp [hx, hmn, hkn, upcallWords, yJ14_ceil, RJ14]
    rw [hw0, hs1, State.setFrames_setFrames, State.setFrames_setFrames, hV, hgN]
  obtain ⟨acts, hstep2⟩ := hstep2
  have eP : V.pushFrame (.invoking mS #[.double x]) = s.setFrames (.invoking mS #[.double x] :: .native gN :: below) := by
    rw [State.pushFrame, hVf, hV, State.setFrames_setFrames]
  have hfI : (s.setFrames (.invoking mS #[.double x] :: .native gN :: below)).frames = .invoking mS #[.double x] :: .native gN :: below := State.frames_setFrames _ hcur
  have hroom2 : (s.setFrames (.invoking mS #[.double x] :: .native gN :: below)).hasRoom e.platform { frames := fr, cells := 0, slots := 0, locals := lo } = true := by
    have hr : s.hasRoom e.platform { frames := fr + 2, cells := 0, slots := 0, locals := lo + 1100 } = true := hroom
    have hl1 : s.localsInUse = stackWeight below + vmFrameWords + (2 + 11) := by rw [State.localsInUse_invoking hf hmeth hcode, hlocals]
    have hl2 : (s.setFrames (.invoking mS #[.double x] :: .native gN :: below)).localsInUse = stackWeight below + vmFrameWords + vmFrameWords + (2 + 11) := by
      rw [State.localsInUse_invoking hfI (meth := methS) (c := cS) hmS hcS, hlS, stackWeight_other (.native gN) below (fun f h => by cases h) (by rw [hgN]; rfl)]
    have hv : vmFrameWords = 1024 := rfl
    simp only [State.hasRoom, Bool.and_eq_true, decide_eq_true_eq] at hr ⊢
    rw [hl2, hfI]
    rw [hl1, hf] at hr
    simp only [List.length_cons, State.stackLimits_setFrames, State.stackBytes_setFrames] at hr ⊢
    obtain ⟨⟨⟨⟨r0, r1, r2, r3, r4, r5⟩, r6⟩, r7⟩, r8⟩ := (show (((_ ∧ _) ∧ _) ∧ _) ∧ _ from hr) |> fun z => (⟨⟨⟨⟨z.1.1.1.1, z.1.1.1.2.1, z.1.1.1.2.2.1, z.1.1.1.2.2.2.1, z.1.1.1.2.2.2.2.1, z.1.1.1.2.2.2.2.2⟩, z.1.1.2⟩, z.1.2⟩, z.2⟩ : (((_ ∧ _ ∧ _ ∧ _ ∧ _ ∧ _) ∧ _) ∧ _) ∧ _)
    refine ⟨⟨⟨⟨by omega, by omega, by omega, by omega, by omega, r5⟩, r6⟩, r7⟩, r8⟩
  have happ2 : (headSpec (ws_ yJ31_ceil cJ31_ceil 2 (some .double)) { frames := fr, cells := 0, slots := 0, locals := lo }).appliesLoose yJ31_ceil e.platform (V.pushFrame (.invoking mS #[.double x])) = true := by
    rw [eP]
    refine (Spec.appliesLoose_iff hfI).mpr ⟨hrun, by simpa using hable, by simpa using halone, hnS, rfl, State.classRipe_of (s := s.setFrames _) hkS hiS, hroom2, ?_⟩
    rw [Cond.before_setFrames]
    refine atoms_intro fun w hw => ?_
    rcases List.mem_cons.mp hw with e | e
    · rw [e]; exact hts _ q1441
    · exact hts _ e
  have hP2 : va_Pc [.double x] (ga_B g h) #[.double x] (V.pushFrame (.invoking mS #[.double x])) := by
    rw [eP]
    exact ⟨rfl, hR, hKn.same rfl rfl⟩
  obtain ⟨o, s₂, hsteps, hrun2, hend, hq⟩ := Steps.callFree hM p ha hcas hclk (s := V) (m := mS) (args := #[.double x]) (acts := acts) (mid := [.native gN]) (below := below) (by rw [hVf]; rfl) happ2 hP2 trivial
  rw [eP] at hq
  obtain ⟨⟨⟨r, h1, rfl, hF, hE⟩, hFr⟩, L, hfe, hL⟩ := hq
  obtain ⟨-, hW, e2, q2, q3, q4, q5, q6⟩ := id hfe
  rw [hVf] at hend
  have hend : s₂.frames = .native { gN with awaiting := false, answer := some (.returned (some (.double r))) } :: below := hend
  have hW' : s.WarmedH s₂.vm := hW
  obtain ⟨k2, hk2, he2⟩ := hW'.alike.2.2 _ _ hk
  have hcur2 : s₂.cur < s₂.threads.size := State.cur_lt_of_frames hend
  have hcs : s₂.curStatus? = some .runnable := by
    have z : s₂.curStatus? = ({ s₂ with vm := (s.setFrames (.invoking mS #[.double x] :: .native gN :: below)).vm } : State).curStatus? := rfl
    rw [z, e2]
    show ((s.setFrames (.invoking mS #[.double x] :: .native gN :: below)).setFrames _).curStatus? = _
    simpa using hable
  have hal2 : s₂.alone = true := by
    have z : s₂.alone = ({ s₂ with vm := (s.setFrames (.invoking mS #[.double x] :: .native gN :: below)).vm } : State).alone := rfl
    rw [z, e2]
    show ((s.setFrames (.invoking mS #[.double x] :: .native gN :: below)).setFrames _).alone = _
    simpa using halone
  have hho : ∃ fs, handOver s₂ (some (.double r)) below = some fs ∧ ∃ x r', below = x :: r' ∧ match x with | .java _ | .native _ | .proc _ => True | _ => False := by
    have hno : (s.vm.method? m).any (·.sig.returnType.isNone) = true → False := by
      intro z
      rw [hmeth] at z
      simp [hret] at z
    cases hb9 : below with
    | nil => rw [hb9] at hhears; exact (hno hhears).elim
    | cons y rr =>
      rw [hb9] at hhears
      cases y with
      | java g0 =>
        have z1 : ((s.code? g0.method).bind fun c => (decode c.code g0.pc).toOption).isSome = true := hhears
        have z2 : s₂.code? g0.method = s.code? g0.method := by rw [State.code?_eq, State.code?_eq, hW'.alike.method?]
        rw [← z2] at z1
        obtain ⟨w, hw⟩ := Option.isSome_iff_exists.mp z1
        exact ⟨_, by simp only [handOver]; rw [hw]; rfl, _, _, rfl, trivial⟩
      | native g0 => exact ⟨_, rfl, _, _, rfl, trivial⟩
      | proc g0 => exact ⟨_, rfl, _, _, rfl, trivial⟩
      | _ => exact (hno hhears).elim
  obtain ⟨fs, hfs, hx9⟩ := hho
  have hstep3 : (stepThread p.tables e s₂).1 = s₂.setFrames fs := by
    obtain ⟨as, hrn⟩ := ga_ceilBack (hn r h1 hF) e s₂
    unfold stepThread
    rw [hend]
    have hk9 : s₂.vm.classes[gN.method.cls]? = some k2 := by rw [hgN]; exact hk2
    have hx2 : k2.methods[gN.method.idx]? = some meth := by rw [hgN, he2]; exact hx
    have hb2 : k2.loader = none := by rw [he2]; exact hboot
    have hn2 : k2.name = "java/lang/Math" := by rw [he2]; exact hkn
    have hm2 : meth.name = "ceil" := hmn
    have hd2 : meth.desc = "(D)D" := hmd
    simp only [hk9, hx2, hb2, hn2, hm2, hd2, Option.bind_some, Option.bind_eq_bind, Option.pure_def, Option.isNone_none, if_true, ga_ceilFind p]
    rw [show gN.stage = 1 by rw [hgN], show gN.saved = #[] by rw [hgN], hrn]
    show (doReturn e s₂ as (some (.double r))).1 = _
    exact doReturn_native hend (by rw [hgN]) hfs
  have hall : Steps p.tables e below s (s₂.setFrames fs) := by
    refine Steps.head ⟨hrun, hable, halone⟩ ⟨[.invoking m #[.double x]], hf, by simp, by simp⟩ ?_
    rw [hstep1, ← hs1]
    refine Steps.head ⟨by rw [hs1]; exact hrun, by rw [hs1]; simpa using hable, by rw [hs1]; simpa using halone⟩ ⟨[.java (entryFrame m #[.double x] 2)], hf1, by simp, by simp⟩ ?_
    rw [hstep2]
    refine hsteps.trans ?_
    refine Steps.head ⟨hrun2, hcs, hal2⟩ ⟨[.native { gN with awaiting := false, answer := some (.returned (some (.double r))) }], hend, by simp, by simp⟩ ?_
    rw [hstep3]
    exact Steps.refl _
  obtain ⟨n, hnn, hww⟩ := hall
  have hft : (s₂.setFrames fs).frames = fs := State.frames_setFrames _ hcur2
  refine ⟨n, .returned (some (.double r)), hww, by rw [hnn]; exact hrun2, by rw [hnn]; exact ended_of_handOver hfs hcur2 (Or.inr hx9), ?_⟩
  rw [hnn]
  refine ⟨⟨⟨r, h1, rfl, hp r h1 hF, hE⟩, hFr⟩, L, ⟨⟨_, rfl⟩, hW', ?_, q2, q3, q4, q5, q6⟩, hL⟩
  refine Eq.trans (b := ({ s.setFrames fs with heap := s₂.heap, slotsUsed := s₂.slotsUsed } : State)) ?_ ?_
  · show ({ s₂ with vm := (s.setFrames (.invoking mS #[.double x] :: .native gN :: below)).vm } : State).setFrames fs = _
    rw [e2]
    show ({ ((s.setFrames (.invoking mS #[.double x] :: .native gN :: below)).setFrames s₂.frames).setFrames fs with heap := s₂.heap, slotsUsed := s₂.slotsUsed } : State) = _
    rw [State.setFrames_setFrames, State.setFrames_setFrames]
  · show _ = ({ s.setFrames (s₂.setFrames fs).frames with heap := s₂.heap, slotsUsed := s₂.slotsUsed } : State)
    rw [hft]
