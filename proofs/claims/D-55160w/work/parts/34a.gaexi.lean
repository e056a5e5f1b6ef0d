/-! an exception class of ours: its constructor's call of Exception.<init>(), on the object just made -/
def ga_oa0 (own : String) (ic : Nat) (cls : String) (names : List String) (obj : String) (N : Nat) : List Cond :=
  (Bundle.throwableAtoms ++ Bundle.chain0Atoms cls names) ++
  [.methodLink own ic (Bundle.init0 cls), .instantiable obj N, .selects obj Bundle.tFill0 Bundle.tFill0, .selects obj Bundle.tFill Bundle.tFill,
   .lays obj Bundle.tN "cause" "Ljava/lang/Throwable;", .lays obj Bundle.tN "stackTrace" Bundle.steD, .lays obj Bundle.tN "suppressedExceptions" Bundle.listD,
   .isRef (.static Bundle.tN "UNASSIGNED_STACK" Bundle.steD), .isRef (.static Bundle.tN "SUPPRESSED_SENTINEL" Bundle.listD),
   .fieldLink Bundle.tN 198 Bundle.tN "backtrace" "Ljava/lang/Object;", .lays Bundle.tN Bundle.tN "backtrace" "Ljava/lang/Object;", .lays obj Bundle.tN "backtrace" "Ljava/lang/Object;"]
/-- the cell at a is one just made of the class called C -/
def ga_rawH (s : State) (C : String) (a : Nat) (H : Heap) : Prop := ∃ (cX : ClassId) (kX : Class), s.vm.findClass C = some cX ∧ s.vm.classes[cX]? = some kX ∧ H[a]? = some (freshCell cX kX)
theorem ga_rawH.moved {s U : State} {C : String} {a : Nat} {H : Heap} (hvm : s.vm.Alike U.vm) (h : ga_rawH s C a H) : ga_rawH U C a H := by
  obtain ⟨cX, kX, h1, h2, h3⟩ := h
  obtain ⟨k', hk', he⟩ := hvm.2.2 _ _ h2
  exact ⟨cX, k', by rw [hvm.findClass]; exact h1, hk', by rw [h3, he]⟩
section GEXI0
variable {p : Program} {l : Launch} {e : Env} {R : Room} {s : State} {m₀ : MethodId} {args : Array Value} {below : List Frame} {meth : Method} {c : Code} {W : State} {locs : List Loc} {cells slots : Nat}
set_option maxHeartbeats 1000000 in
/-- follows vx_ctorMade0 of the kit, for an object of another class than the constructor's -/
theorem ga_ctor0 (X : Stand p l e R s m₀ args below meth c W locs cells slots) (hexec : p.tables.exec = Jvm.exec) (htr : e.platform.stackTraces = false) {own cls obj : String} {names : List String} {ic N : Nat}
    (hown : s.vm.findClass own = some m₀.cls) (hcls : Bundle.fit cls = true) (hnames : ∀ n ∈ names, Bundle.fit n = true)
    (h : ∀ a ∈ ga_oa0 own ic cls names obj N, a.before args s = true)
    (hlocs : ∀ x ∈ locs, ∀ cell, s.heap[x.base]? = some cell → cell.vm.isStatics = false)
    {a : Addr} {cX : ClassId} {kX : Class} (hfoundX : s.vm.findClass obj = some cX) (hkX : s.vm.classes[cX]? = some kX) (hcell : W.heap[a]? = some (freshCell cX kX))
    {g : JFrame} (hg : g.method = m₀) (hsize : g.locals.size = c.maxLocals) {rest : List Value} (hstack : g.stack = .ref a :: rest)
    (hd6 : decode c.code g.pc = .ok (.invokespecial ic, 3))
    (hRframes : names.length + 3 < R.frames) (hRlocals : 2 * g.monitorRoom + (rest.map fun v => v.category).sum + (13 * (names.length + 1) + 41) ≤ R.locals) :
    ∃ (V : State) (ce : Cell) (L : List Loc) (i0 i1 i2 : Nat), Stand p l e R s m₀ args below meth c (V.setCell a ce) (locs ++ L) cells slots ∧ (∀ y ∈ L, y.base = a) ∧ a < V.heap.size ∧ ce.cls = cX ∧ ce.vm = .none ∧
      (∀ q : Nat, V.heap[q]? = W.heap[q]?) ∧ V.heap.size = W.heap.size ∧
      SlotIs s Bundle.tN "cause" "Ljava/lang/Throwable;" i0 ∧ SlotIs s Bundle.tN "stackTrace" Bundle.steD i1 ∧ SlotIs s Bundle.tN "suppressedExceptions" Bundle.listD i2 ∧
      ce.slots.size = (freshCell cX kX).slots.size ∧ (∀ i : Nat, i ≠ i0 → i ≠ i1 → i ≠ i2 → ce.slots[i]? = (freshCell cX kX).slots[i]?) ∧
      ∀ target, Steps p.tables e below ((V.setCell a ce).setTop { g with stack := rest, pc := g.pc + 3 }) target → Steps p.tables e below (W.setTop g) target := by
  have howns : e.platform.frameOwnsMonitors = true := by rw [X.admits.platform]
  have hfin : e.platform.finalization = false := by rw [X.admits.platform]
  have hpl : e.platform.magicAccessors = ({} : Platform).magicAccessors := by rw [X.admits.platform]
  have a' : ∀ x, x ∈ ga_oa0 own ic cls names obj N → x.holds args s none s [] = true := fun x hx => h x hx
  obtain ⟨T, Z, L, LZ, Y⟩ := ThrowableC.of_atoms (args := args) howns hfin hpl (fun x hx => h x (by simp [ga_oa0, hx]))
  obtain ⟨P1, Ps, hlen, L1, hL, hP1m, hlink1, hlink⟩ := Bundle.chain0 (args := args) hpl Y.init0 names cls hcls hnames (fun x hx => h x (by simp [ga_oa0, hx]))
  obtain ⟨c1, kX', hc1, hk, hord, -, -, hn6⟩ := Cond.instantiable_spec (a' (.instantiable obj N) (by simp [ga_oa0]))
  cases Option.some.inj (hc1.symm.trans hfoundX)
  cases Option.some.inj (hkX.symm.trans hk)
  have hsel0 : selectMethod e.platform s.vm cX T.fill0 = .method T.fill0 := by
    obtain ⟨c2, r2, m2, q1, q2, q3, q4, -⟩ := Cond.selects_spec (a' (.selects obj Bundle.tFill0 Bundle.tFill0) (by simp [ga_oa0]))
    cases Option.some.inj (q1.symm.trans hfoundX)
    cases Option.some.inj (q2.symm.trans (State.methodFound?_of_named Y.fill0 (by decide)))
    cases Option.some.inj (q3.symm.trans Y.fill0)
    rw [Launch.admits_selectMethod X.admits]; exact q4
  have hselF : selectMethod e.platform s.vm cX T.fill = .method T.fill := by
    obtain ⟨c2, r2, m2, q1, q2, q3, q4, -⟩ := Cond.selects_spec (a' (.selects obj Bundle.tFill Bundle.tFill) (by simp [ga_oa0]))
    cases Option.some.inj (q1.symm.trans hfoundX)
    cases Option.some.inj (q2.symm.trans (State.methodFound?_of_named Y.fill (by decide)))
    cases Option.some.inj (q3.symm.trans Y.fill)
    rw [Launch.admits_selectMethod X.admits]; exact q4
  obtain ⟨cellS0, hcS0, hiss⟩ := Y.statics
  obtain ⟨u0, hu0⟩ := Cond.staticRefV Y.unassigned L.unassignedStatic L.statics hcS0 hiss (a' (.isRef (.static Bundle.tN "UNASSIGNED_STACK" Bundle.steD)) (by simp [ga_oa0]))
  obtain ⟨sen, hsen⟩ := Cond.staticRefV Y.sentinel L.sentinelStatic L.statics hcS0 hiss (a' (.isRef (.static Bundle.tN "SUPPRESSED_SENTINEL" Bundle.listD)) (by simp [ga_oa0]))
  obtain ⟨ci198, i198, fB, hk198, hg198, ha198, hsB, -, hnB, htB, hffB⟩ := Cond.ownField (t := .object "java/lang/Object") Y.found L.cls (by decide +kernel) (a' (.fieldLink Bundle.tN 198 Bundle.tN "backtrace" "Ljava/lang/Object;") (by simp [ga_oa0])) (a' (.lays Bundle.tN Bundle.tN "backtrace" "Ljava/lang/Object;") (by simp [ga_oa0])) e.platform hpl
  obtain ⟨cellS, hcS', heS, -, hkeep⟩ := X.same.2.2.2.2.2 T.aS cellS0 hcS0
  have hcellS : W.heap[T.aS]? = some cellS := hcS'
  have hout' : ∀ i, (⟨T.aS, i⟩ : Loc) ∉ locs := fun i hmem => by
    have := hlocs _ hmem cellS0 hcS0
    rw [hiss] at this; cases this
  have hknownS : cellS.vm ≠ .unknown := by
    rw [heS]; intro hu
    rw [show cellS0.vm = .unknown from hu] at hiss
    cases hiss
  have hneS : T.aS ≠ a := by
    intro hq
    rw [hq, hcell] at hcellS
    cases hcellS
    have h9 : (freshCell cX kX).vm = cellS0.vm := by rw [heS]
    rw [← h9] at hiss
    cases hiss
  obtain ⟨tyC, dC, hdC, hdnC⟩ := Cond.laysAt hfoundX hk Y.cause (a' (.lays obj Bundle.tN "cause" "Ljava/lang/Throwable;") (by simp [ga_oa0]))
  obtain ⟨tyS, dS, hdS, hdnS⟩ := Cond.laysAt hfoundX hk Y.stack (a' (.lays obj Bundle.tN "stackTrace" Bundle.steD) (by simp [ga_oa0]))
  obtain ⟨tyP, dP, hdP, hdnP⟩ := Cond.laysAt hfoundX hk Y.supp (a' (.lays obj Bundle.tN "suppressedExceptions" Bundle.listD) (by simp [ga_oa0]))
  obtain ⟨tyB, dB, hdB, hdnB⟩ := Cond.laysAt hfoundX hk hffB (a' (.lays obj Bundle.tN "backtrace" "Ljava/lang/Object;") (by simp [ga_oa0]))
  have bC := Cond.laysApart hdB hdC hdnB hdnC (by rw [hnB, Y.causeName]; decide)
  have bS := Cond.laysApart hdB hdS hdnB hdnS (by rw [hnB, Y.stackName]; decide)
  have bP := Cond.laysApart hdB hdP hdnB hdnP (by rw [hnB, Y.suppName]; decide)
  have hskip : SkipFacts T e.platform s (fun u => u) u0 ((preparedCellV T.toThrowableT (freshCell cX kX) a u0 sen).withEntry W.cur) :=
    ⟨{ ci198 := ci198, i198 := i198, fBack := fB }, ⟨hk198, hg198, ha198, hsB⟩, by
      have := fresh_default (c := cX) tyB
      rw [htB] at this
      simpa [preparedCellV, Cell.setSlot, Cell.withEntry, Array.getElem?_setIfInBounds, bC, bS, bP, bC.symm, bS.symm, bP.symm, defaultValue] using this, fun _ _ => rfl⟩
  obtain ⟨tm, methC, cdC, kC, vm₁, hnC, -, -, -, -, -, -, -, hW₁, st1⟩ := Steps.initCold (tb := p.tables) (e := e) (below := below) (s := s) (U := W) X.here hexec X.warmed hpl hown (t := Bundle.init0 cls) rfl rfl (Bundle.fit_spec hcls).2
    (a' (.methodLink own ic (Bundle.init0 cls)) (by simp [ga_oa0])) (h (.instanceMethod (Bundle.init0 cls)) (by cases names <;> simp [ga_oa0, Bundle.chain0Atoms, Bundle.passAtoms])) (bytes := Bundle.five) (maxL := 1) (h (.code (Bundle.init0 cls) Bundle.five 1 none) (by cases names <;> simp [ga_oa0, Bundle.chain0Atoms, Bundle.passAtoms]))
    (f := g) hg (a := a) (rest := rest) hstack hd6
  cases Option.some.inj (hnC.symm.trans hP1m)
  have X₁ := X.noted hW₁
  obtain ⟨vm₂, X₂, st2⟩ := X₁.ctorPlainOffV hexec (g := { g with stack := rest }) hg hsize T L Z LZ (P1 :: Ps)
    (fun P hP => by rcases List.mem_cons.mp hP with rfl | hP; exact L1; exact hL P hP) ⟨hlink1, hlink⟩ (u0 := u0) (sen := sen) (self := a) (cell := freshCell cX kX) (cellS := cellS)
    hcell (fun _ => by simp) (by simp) rfl rfl hsel0 hselF hcellS hneS hknownS (by rw [hkeep _ (hout' _)]; exact hu0) (by rw [hkeep _ (hout' _)]; exact hsen)
    (Takes.of_laid hk hord tyC (by rw [Y.causeType]; rfl)) (Takes.of_laid hk hord tyS (by rw [Y.stackType]; exact fits_refV_array _ u0)) (Takes.of_laid hk hord tyP (by rw [Y.suppType]; exact fits_refV_object _ sen)) Y.objLocals hskip htr [] hd6
    (by simp only [List.length_cons, hlen]; omega) (by simp only [List.length_cons, hlen]; exact hRlocals)
  have hlt : a < ((W.setVm vm₁).setVm vm₂).heap.size := (Array.getElem?_eq_some_iff.mp hcell).1
  refine ⟨(W.setVm vm₁).setVm vm₂, _, _, T.fCause.slot, T.fStack.slot, T.fSupp.slot, X₂, fun y hy => ?_, hlt, rfl, rfl, fun _ => rfl, rfl, ⟨_, _, _, _, Y.cause, rfl⟩, ⟨_, _, _, _, Y.stack, rfl⟩, ⟨_, _, _, _, Y.supp, rfl⟩, ?_, fun i h1 h2 h3 => ?_, fun target hwalk => st1 _ (fun acts => ?_)⟩
  · simp only [List.mem_cons, List.not_mem_nil, or_false] at hy
    rcases hy with rfl | rfl | rfl | rfl <;> rfl
  · simp [preparedCellV, Cell.setSlot]
  · simp [preparedCellV, Cell.setSlot, Array.getElem?_setIfInBounds, h1, h2, h3, Ne.symm h1, Ne.symm h2, Ne.symm h3]
  · rw [doInvoke_state]
    exact st2 _ hwalk
end GEXI0
theorem ga_atomsL {L : List Cond} {g : ga_G} {h : ga_H} {s : State} {H : Heap} {locs : List Loc} {args : Array Value} (hts : ∀ w ∈ lw_all, w.before args s = true) (hI : ga_I g h s H locs) (hw : ∀ w ∈ L, vx_no w = true → w ∈ lw_all ∨ w ∈ ga_nw) : ∀ w ∈ L.filter vx_no, w.before args s = true := by
  intro w hq
  obtain ⟨h1, h2⟩ := List.mem_filter.mp hq
  rcases hw w h1 h2 with h3 | h3
  · exact hts w h3
  · have h4 := hI.2.1.1.2.1 w h3
    have h5 := (List.mem_filter.mp h3).2
    cases w with
    | fieldLinkNest a b c d e f => exact va_Nw.use rfl h4
    | methodLinkNest a b c d => exact va_Nw.use rfl h4
    | castable a b => exact va_Nw.use rfl h4
    | declares a => exact va_Nw.use rfl h4
    | privateMethod a => exact va_Nw.use rfl h4
    | arrayOver t => exact h4
    | _ => cases h5
theorem ga_otokL {L : List Cond} (hno : ∀ t, Cond.arrayOver t ∉ L) (hw : ∀ w ∈ L, vx_no w = true → w ∈ lw_all ∨ w ∈ ga_nw) : ∀ w ∈ L.filter vx_no, vx_ot w = true := by
  intro w hq
  obtain ⟨h1, h2⟩ := List.mem_filter.mp hq
  rcases hw w h1 h2 with h3 | h3
  · have h5 := (List.mem_filter.mp h3).2
    show (w.onTables || goodWord w) = true
    rw [h5, Bool.or_true]
  · have h5 := (List.mem_filter.mp h3).2
    cases w with
    | fieldLinkNest a b c d e f => rfl
    | methodLinkNest a b c d => rfl
    | castable a b => rfl
    | declares a => rfl
    | privateMethod a => rfl
    | arrayOver t => exact absurd h1 (hno t)
    | _ => cases h5
section GEXI
variable {p : Program} {l : Launch} {e : Env} {R : Room} {s : State} {m : MethodId} {args : Array Value} {below : List Frame} {meth : Method} {c : Code} {H : Heap} {locs : List Loc} {cells slots : Nat} {Q : State → Prop}
variable {cc : ByteArray} {pc nL : Nat} {ls : Array Slot} {rest st : List Value} {g : ga_G} {h : ga_H} {bc bs mc ms : Nat} {own : String} {ic : Nat}
/-- as vx_back9 of the kit, where cells that were there are written -/
theorem ga_back9 {T S : State} {R' : Room} {L : List Loc} {k n : Nat} (X : Stand p l e R s m args below meth c T locs cells slots) (Y : Stand p l e R' ((T.setVm s.vm).setFrames (.invoking m args :: below)) m args below meth c T [] 0 0) (Z : Stand p l e R' ((T.setVm s.vm).setFrames (.invoking m args :: below)) m args below meth c S L k n) :
    Stand p l e R s m args below meth c S (locs ++ L) (cells + k) (slots + n) := by
  have hW0 : s.WarmedH ((T.setVm s.vm).setFrames (.invoking m args :: below)).vm := State.WarmedH.refl s
  refine { admits := X.admits, cas := X.cas, clock := X.clock, frames := X.frames, room := X.room, hears := X.hears, method := X.method, code := X.code, here := Z.here, tail := Z.tail, warmed := State.WarmedH.trans hW0 Z.warmed, limits := Z.limits.trans (Y.limits.symm.trans X.limits), bytes := Z.bytes.trans (Y.bytes.symm.trans X.bytes), same := ?_ }
  obtain ⟨e1, e2⟩ := Z.same
  rw [State.setFrames_setFrames] at e1
  have h2 : (T.setVm s.vm).sameButNew (S.setVm s.vm) L k n := ⟨e1, e2⟩
  exact X.same.trans h2
set_option maxHeartbeats 1000000 in
theorem ga_exinit {ci N a : Nat} {X : String} {T : u_T} {fs : List Value} (hw : ∀ w ∈ ga_oa0 own ic "java/lang/Exception" [] X N, vx_no w = true → w ∈ lw_all ∨ w ∈ ga_nw) (hx : p.tables.exec = Jvm.exec) (hb : c.code = cc) (hst : l.stackTraces = false) (hts : ∀ w ∈ lw_all, w.before args s = true) (hown : s.vm.findClass own = some m.cls) (hI : ga_I g h s H locs) (hsize : ls.size = c.maxLocals)
    (hin : ∀ w ∈ u_ws X T N, w ∈ lw_all) (ty0 : Nat → FieldType) (hty : ∀ k, k < N → parseFieldDescriptor (T k).2.2.1 = some (ty0 k)) (hnm : ∀ a, a < N → ∀ b, b < N → a ≠ b → (T a).2.1 ≠ (T b).2.1) (hc : ga_cl[ci]? = some (X, T, N))
    (h3 : 3 ≤ N) (t0 : (T 0).1 = Bundle.tN ∧ (T 0).2.1 = "cause" ∧ (T 0).2.2.1 = "Ljava/lang/Throwable;") (t1 : (T 1).1 = Bundle.tN ∧ (T 1).2.1 = "stackTrace" ∧ (T 1).2.2.1 = Bundle.steD) (t2 : (T 2).1 = Bundle.tN ∧ (T 2).2.1 = "suppressedExceptions" ∧ (T 2).2.2.1 = Bundle.listD)
    (ha : h a = some (ga_O ci fs)) (hlen : fs.length = N) (hraw : ga_rawH s X a H)
    (hdg : decode cc pc = .ok (.invokespecial ic, 3)) (hRf : 5 < R.frames) (hRl : (rest.map fun v => v.category).sum + 81 ≤ R.locals) (hc0 : cells ≤ R.cells) (hs0 : slots ≤ R.slots)
    (kk : ∀ (fs2 : List Value) (H : Heap) (locs : List Loc), fs2.length = N → (∀ k : Nat, 3 ≤ k → fs2[k]? = fs[k]?) → ga_I g (ga_set h a (ga_O ci fs2)) s H locs → W p l e R s m args below meth c H locs cells slots Q (F0 m (pc + 3) ls rest)) : W p l e R s m args below meth c H locs cells slots Q (F0 m pc ls (.ref a :: rest)) := by
  have hat := ga_atomsL hts hI hw
  have hot := ga_otokL (L := ga_oa0 own ic "java/lang/Exception" [] X N) (fun t => by simp [ga_oa0, Bundle.throwableAtoms, Bundle.chain0Atoms, Bundle.passAtoms]) hw
  intro T0 hT X0
  subst hT
  have htr : e.platform.stackTraces = false := (show e.platform.stackTraces = l.stackTraces by rw [X0.admits.platform]).trans hst
  have Y := vx_rebase X0 (R' := { frames := R.frames, locals := R.locals, cells := 0, slots := 0 }) (Nat.le_refl _) (Nat.le_refl _) hc0 hs0
  obtain ⟨s', hA'⟩ : ∃ z, z = (T0.setVm s.vm).setFrames (.invoking m args :: below) := ⟨_, rfl⟩
  rw [← hA'] at Y
  have hvm : s'.vm = s.vm := by rw [hA']; rfl
  have hhp : s'.heap = T0.heap := by rw [hA']; rfl
  have hW0 : s.WarmedH s'.vm := by rw [hvm]; exact State.WarmedH.refl s
  have hat' : ∀ w ∈ (ga_oa0 own ic "java/lang/Exception" [] X N).filter vx_no, w.before args s' = true := fun w hw => vx_ot_at hW0 hvm.symm (hot w hw) (hat w hw)
  have hU' : vx_Zq Bundle.tN "UNASSIGNED_STACK" Bundle.steD (ga_A g) s' s'.heap := by rw [hhp]; exact vx_Zq.moved hW0.alike (hI.2.1.2.2.2.2.1.kept hI.2.2.2.1)
  have hN' : vx_Zq Bundle.tN "SUPPRESSED_SENTINEL" Bundle.listD (ga_A g) s' s'.heap := by rw [hhp]; exact vx_Zq.moved hW0.alike (hI.2.1.2.2.2.2.2.1.kept hI.2.2.2.1)
  have hh : ∀ w ∈ ga_oa0 own ic "java/lang/Exception" [] X N, w.before args s' = true := vx_own hat' (vx_isRefq hU'.1) (vx_isRefq hN'.1) hU'.2.word hN'.2.word
  have hown' : s'.vm.findClass own = some m.cls := by rw [hvm]; exact hown
  obtain ⟨cX, kX, r1, r2, r3⟩ := hraw
  obtain ⟨V, ce, L, i0, i1, i2, Z, hL, hlt, hcl9, hvm9, hV, hVs, s0, s1, s2, hsz, hke, st⟩ := ga_ctor0 Y hx htr (own := own) (cls := "java/lang/Exception") (obj := X) (names := []) (ic := ic) (N := N) hown' (by decide +kernel) (fun n hn => by cases hn) hh (fun x hx => nomatch hx) (a := a) (cX := cX) (kX := kX) (by rw [hvm]; exact r1) (by rw [hvm]; exact r2) r3
    (g := F0 m pc ls (.ref a :: rest)) rfl hsize (rest := rest) rfl (by rw [hb]; exact hdg) (by simp; omega) (by show 2 * 0 + _ + _ ≤ _; simp; omega)
  subst hA'
  have X5 := ga_back9 X0 Y Z
  obtain ⟨ws, k0, hP, hD, hk0, hset⟩ := hI.1.put1 ha
  obtain ⟨r, q0, cell, q1, q2, q3, q4⟩ := hP k0 _ hk0
  have hr : r = (X, T, N) := Option.some.inj (q0.symm.trans hc)
  subst hr
  have hcell : cell = freshCell cX kX := Option.some.inj (q1.symm.trans r3)
  subst hcell
  have hap := va_apart (own := own) hts hin ty0 hty hnm hI.2.1.1.1 hc
  obtain ⟨hS, hfc⟩ := hI.2.1.1.1.1 ci _ hc
  have uniq : ∀ (k : Nat) (n d : String) (i : Nat), k < N → (T k).1 = Bundle.tN ∧ (T k).2.1 = n ∧ (T k).2.2.1 = d → SlotIs ((T0.setVm s.vm).setFrames (.invoking m args :: below)) Bundle.tN n d i → g.1.1.2 ci k = i := by
    intro k n d i hk ht hi
    obtain ⟨_, _, _, f1, e1, e2⟩ := hS k hk
    obtain ⟨_, _, _, f2, e3, e4⟩ := slotIs_moved (E := s) (by rw [hvm]; exact Vm.Alike.refl _) hi
    rw [ht.1, ht.2.1, ht.2.2] at e1
    have e5 := e1.symm.trans e3
    cases e5
    exact e2.symm.trans e4
  have u0 := uniq 0 _ _ _ (by omega) t0 s0
  have u1 := uniq 1 _ _ _ (by omega) t1 s1
  have u2 := uniq 2 _ _ _ (by omega) t2 s2
  have hin0 : ∀ k, k < N → g.1.1.2 ci k < ce.slots.size := by
    intro k hk
    rw [hsz]
    exact (Array.getElem?_eq_some_iff.mp (q4 k hk)).1
  obtain ⟨fs2, hfs2⟩ : ∃ z : List Value, z = (List.range N).map (fun k => if k < 3 then (ce.slots[g.1.1.2 ci k]?).getD .null else fs.getD k .null) := ⟨_, rfl⟩
  have hl2 : fs2.length = N := by rw [hfs2]; simp
  have hg2 : ∀ k, 3 ≤ k → fs2[k]? = fs[k]? := by
    intro k hk
    by_cases hkN : k < N
    · rw [hfs2]
      have : fs[k]? = some (fs.getD k .null) := by
        rw [List.getD_eq_getElem?_getD]
        have : k < fs.length := by omega
        simp [this]
      rw [this]
      simp [hkN, Nat.not_lt.mpr hk]
    · rw [List.getElem?_eq_none (by omega), List.getElem?_eq_none (by omega)]
  have hheap : (V.setCell a ce).heap[a]? = some ce := heapAt_setCell_self (s := V) ce hlt
  have hoth : ∀ q : Nat, q ≠ a → (V.setCell a ce).heap[q]? = T0.heap[q]? := by
    intro q hq
    rw [← hV q]
    show (V.heap.setIfInBounds a ce)[q]? = _
    simp [Array.getElem?_setIfInBounds, Ne.symm hq]
  have hat9 : va_at g.1.1 ga_cl (a, ga_tr g (ga_O ci fs2)) (V.setCell a ce).heap := by
    refine ⟨(X, T, N), hc, ce, hheap, by rw [hcl9]; exact q2, hvm9, fun k hk => ?_⟩
    have hk : k < N := hk
    by_cases hk3 : k < 3
    · have : vp_V fs2 k = (ce.slots[g.1.1.2 ci k]?).getD .null := by
        rw [hfs2]
        simp [vp_V, hk, hk3]
      show ce.slots[g.1.1.2 ci k]? = some (vp_V fs2 k)
      rw [this, Array.getElem?_eq_getElem (hin0 k hk)]
      rfl
    · show ce.slots[g.1.1.2 ci k]? = some (vp_V fs2 k)
      rw [hke _ (by rw [← u0]; exact hap _ _ hk (by omega) (by omega)) (by rw [← u1]; exact hap _ _ hk (by omega) (by omega)) (by rw [← u2]; exact hap _ _ hk (by omega) (by omega))]
      have e9 : vp_V fs2 k = vp_V fs k := by
        have := hg2 k (by omega)
        simp [vp_V, this]
      rw [e9]
      exact q4 k hk
  have hA : ga_A g a := hI.1.in ha
  have hI2 : ga_I g (ga_set h a (ga_O ci fs2)) s (V.setCell a ce).heap (locs ++ L) := by
    refine ⟨hset _ (ga_O ci fs2) (hP.set hD hk0 hat9 hoth) (hD.set hk0), hI.2.1, ?_, fun q h1 h2 => ?_, fun z hz => ?_⟩
    · have : (V.setCell a ce).heap.size = T0.heap.size := by
        show (V.heap.setIfInBounds a ce).size = _
        simp [hVs]
      rw [this]
      exact hI.2.2.1
    · rw [hoth q (fun e => h2 (by rw [e]; exact hA))]
      exact hI.2.2.2.1 q h1 h2
    · rcases List.mem_append.mp hz with h9 | h9
      · exact hI.2.2.2.2 z h9
      · rw [hL z h9]
        exact hA
  obtain ⟨t, a1, b1⟩ := kk fs2 _ (locs ++ L) hl2 hg2 hI2 _ rfl X5
  exact ⟨t, st _ a1, b1⟩
end GEXI
