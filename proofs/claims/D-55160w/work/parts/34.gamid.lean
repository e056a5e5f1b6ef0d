/-! copies of arrays, mirrors, casts to arrays, literals by ldc_w, bits of doubles -/
theorem ga_R.put2 {g : ga_G} {h : ga_H} {H : Heap} (hR : ga_R g h H) {a b : Nat} {c cb : ga_C} (e : h a = some c) (eb : h b = some cb) : ∃ (ws : va_W) (k kb : Nat), va_P g.1.1 ga_cl ws H ∧ va_D (ga_A g) ws ∧ ws[k]? = some (a, ga_tr g c) ∧ ws[kb]? = some (b, ga_tr g cb) ∧ (∀ (H1 : Heap) (c1 : ga_C), va_P g.1.1 ga_cl (ws.set k (a, ga_tr g c1)) H1 → va_D (ga_A g) (ws.set k (a, ga_tr g c1)) → ga_R g (ga_set h a c1) H1) := by
  obtain ⟨L, hL, hP, hD⟩ := hR
  have ha : a ∈ L := (hL a).mpr (by rw [e]; simp)
  have hbm : b ∈ L := (hL b).mpr (by rw [eb]; simp)
  obtain ⟨k, hk⟩ := va_pl_get (X := []) (f := ga_f g h) ha
  obtain ⟨kb, hkb⟩ := va_pl_get (X := []) (f := ga_f g h) hbm
  rw [List.nil_append] at hk hkb
  refine ⟨va_pl L (ga_f g h), k, kb, hP, hD, by rw [hk, ga_f_s e], by rw [hkb, ga_f_s eb], fun H1 c1 h1 h2 => ⟨L, fun b => ?_, ?_⟩⟩
  · by_cases hb : b = a
    · subst hb
      simp [ga_set, ha]
    · rw [ga_set_n h c1 hb]
      exact hL b
  · have hs := va_pl_set (X := []) (A := ga_A g) (L := L) (f := ga_f g h) (e := ga_tr g c1) (by rw [List.nil_append]; exact hD) ha (by rw [List.nil_append]; exact hk)
    rw [List.nil_append, List.nil_append] at hs
    rw [hs] at h1 h2
    have hf : ga_f g (ga_set h a c1) = va_up (ga_f g h) a (ga_tr g c1) := by
      funext b
      by_cases hb : b = a
      · subst hb
        simp [ga_f, ga_set, va_up]
      · simp [ga_f, ga_set, va_up, hb]
    rw [hf]
    exact ⟨h1, h2⟩
theorem ga_constT {g : ga_G} {h : ga_H} {s : State} {H : Heap} {locs : List Loc} (hI : ga_I g h s H locs) {a t n : Nat} {ty : FieldType} {f : Nat → Value} {x : _} (e : g.2.2.1 a = some (.inl (t, n, x))) (ht : (ga_tys g)[t]? = some (g.1.2 t, ty)) (hx : vp_cell (g.1.2 t) (n, x) = arrV (g.1.2 t) n f) : va_T ty a n f (ga_A g) s s.heap := by
  obtain ⟨h1, h2⟩ := hI.2.1.2.2.1 a _ e
  have h3 : s.heap[a]? = some (arrV (g.1.2 t) n f) := by rw [← hx]; exact h2
  refine ⟨arrV (g.1.2 t) n f, h3, (hI.2.1.1.1.2 t _ ht).1 n f, (fun q => by cases q), Nat.le_of_eq (arrV_size _ _ _).symm, by rw [arrV_size], fun j hj => arrV_read _ _ hj, Nat.not_le.mpr h1⟩
/-- a private method of a superclass that can't be made is what is selected -/
theorem ga_selp {C : String} {y x0 y0 : MethodName} {s : State} {args : Array Value} (hy : y.cls ≠ "java/lang/invoke/MethodHandle" ∧ y.cls ≠ "java/lang/invoke/VarHandle") (h0 : (Cond.selects C x0 y0).before args s = true) (e0 : y0.cls = y.cls) (hpriv : (Cond.privateMethod y).before args s = true) (hinst : (Cond.instanceMethod y).before args s = true) :
    (Cond.selects C y y).before args s = true := by
  obtain ⟨c, r, m0, hc, -, hn0, -, k, hk, hni⟩ := Cond.selects_spec h0
  obtain ⟨mk, methM, hnamed, hmethM, -, -⟩ := Cond.instanceMethod_spec hinst
  have hfound : s.methodFound? y.cls y.name y.desc = some mk := State.methodFound?_of_named hnamed hy
  have hcls : mk.cls = m0.cls := by
    have e1 := findClass_of_methodNamed hnamed
    have e2 := findClass_of_methodNamed hn0
    rw [e0] at e2
    exact Option.some.inj (e1.symm.trans e2)
  have hsel : selectMethod {} s.vm c mk = .method mk := selectMethod_private hmethM (Cond.privateMethod_at hpriv mk methM hnamed hmethM)
  simp only [Cond.before, Cond.holds, Cond.value, hc, hfound, hnamed, hsel, hcls, hk]
  simp; exact hni
theorem ga_cwP {R : Room} {s : State} {args : Array Value} {own C : String} {index maxL mc ms : Nat} {y x0 y0 : MethodName} {bytes : ByteArray} {ret : Option FieldType} {ws ws' : List Cond} {rm : Room} (n : Nat) (hts : ∀ w ∈ lw_all, w.before args s = true) (hK : ∀ w ∈ ga_nw, va_Nw w s)
    (hl : Cond.methodLink own index y ∈ lw_all) (hsm : Cond.sameMethod y.cls y.cls y.name y.desc ∈ lw_all) (h0 : Cond.selects C x0 y0 ∈ lw_all) (e0 : y0.cls = y.cls) (hp : Cond.privateMethod y ∈ lw_tbl) (hi : Cond.instanceMethod y ∈ lw_all) (hini : Cond.initialized y.cls ∈ lw_all) (hT : GoodIn lw_all ws) (hw : ws = Cond.code y bytes maxL ret :: ws') (hrc : rm.cells = mc) (hrs : rm.slots = ms)
    (hd : y.cls ≠ "java/lang/invoke/MethodHandle" ∧ y.cls ≠ "java/lang/invoke/VarHandle" ∧ (parseMethodDescriptor y.desc).map (fun d => d.parameters.length) = some n) (hR : rm.frames + 1 ≤ R.frames ∧ 8 + (maxL + 11) + rm.locals ≤ R.locals) : va_CU R s args own C y.cls index y y bytes maxL ret ws rm mc ms n := by
  have hc : Cond.code y bytes maxL ret ∈ ws := by rw [hw]; exact List.mem_cons_self
  have hcc := hts _ (hT _ hc).1
  refine ⟨⟨hrc, hrs, hR.1, hR.2, pay_in hts hT, hc⟩, hcc, hts _ hini, ⟨hd.1, hd.2.1⟩, fun sig h => ?_, hts _ hl, hts _ hsm, va_Decl.of (hts _ hi) hcc, ga_selp ⟨hd.1, hd.2.1⟩ (hts _ h0) e0 (va_Nw.use rfl (hK _ (ga_nin hp rfl))) (hts _ hi), hts _ hi⟩
  have h2 := hd.2.2
  rw [h] at h2
  exact (Option.some.inj h2).symm
section GMID
variable {p : Program} {l : Launch} {e : Env} {R : Room} {s : State} {m : MethodId} {args : Array Value} {below : List Frame} {meth : Method} {c : Code} {H : Heap} {locs : List Loc} {cells slots : Nat} {Q : State → Prop}
variable {cc : ByteArray} {pc nL : Nat} {ls : Array Slot} {rest st : List Value} {g : ga_G} {h : ga_H} {bc bs : Nat} {own : String} {index : Nat} {a a0 : Nat}
/-- a copy between arrays of objects; the source may be a constant one without elements -/
theorem ga_copyq (hx : p.tables.exec = Jvm.exec) (hb : c.code = cc) (hml : c.maxLocals = ls.size) (hts : ∀ w ∈ lw_all, w.before args s = true) (hown : s.vm.findClass own = some m.cls) (hlink : Cond.methodLink own index arraycopyName ∈ lw_all) (hI : ga_I g h s H locs) {n0 n1 : Nat} {f f1 : Nat → Option Nat}
    (hs : h a0 = some (ga_Aq 5 n0 f) ∨ (n0 = 0 ∧ g.2.2.1 a0 = some (ga_Aq 5 0 f))) (hd : h a = some (ga_Aq 5 n1 f1)) {sp dp n : Int32} (h1 : ¬ sp < 0) (h2 : ¬ dp < 0) (h3 : ¬ n < 0) (h4 : sp.toNatClampNeg + n.toNatClampNeg ≤ n0) (h5 : dp.toNatClampNeg + n.toNatClampNeg ≤ n1) (hel : ∀ i : Nat, i < n.toNatClampNeg → ga_ok g.2.2 h "java/lang/Object" (f (sp.toNatClampNeg + i)))
    (hframes : 1 ≤ R.frames) (hlocals : (rest.map fun v => v.category).sum + (nativeFrameWords "java/lang/System" "arraycopy" 5 + 11) ≤ R.locals) (hdg : decode cc pc = .ok (.invokestatic index, 3))
    (kk : ∀ (H : Heap) (locs : List Loc), ga_I g (ga_set h a (ga_Aq 5 n1 (va_cpy f f1 sp.toNatClampNeg dp.toNatClampNeg n.toNatClampNeg))) s H locs → W p l e R s m args below meth c H locs cells slots Q (F0 m (pc + 3) ls rest)) : W p l e R s m args below meth c H locs cells slots Q (F0 m pc ls (.int n :: .int dp :: .ref a :: .int sp :: .ref a0 :: rest)) := by
  have hany : ∀ i : Nat, i < n.toNatClampNeg → ∀ y : Nat, f (sp.toNatClampNeg + i) = some y → va_Any "java/lang/Object" s H y := by
    intro i hi y hy
    rcases hel i hi with h9 | ⟨v, cv, fv, e1, e2, e3⟩
    · rw [hy] at h9; cases h9
    · rw [hy] at e1; cases e1
      exact ga_any hI e2 e3
  rcases hs with hs | ⟨rfl, hs⟩
  · obtain ⟨ws, k, kb, hP, hD, hk, hkb, hset⟩ := hI.1.put2 hd hs
    exact va_copyM (E0 := "java/lang/Object") (E1 := "java/lang/Object") hx hb hml hown (hts _ hlink) (hts _ q525) (hts _ q524) (hts _ q120) hI.2.1.1.1 hP hD hI.2.2 kb k 5 5 hkb hk rfl rfl h1 h2 h3 h4 h5 hany hframes hlocals hdg (fun H1 locs1 z1 z2 z3 => kk H1 locs1 ⟨hset H1 (ga_Aq 5 n1 (va_cpy f f1 sp.toNatClampNeg dp.toNatClampNeg n.toNatClampNeg)) z1 z2, hI.2.1, z3⟩)
  · obtain ⟨ws, k, hP, hD, hk, hset⟩ := hI.1.put1 hd
    have hX := ga_constT hI hs (ty := .object "java/lang/Object") (f := fun j => va_rf (f j)) rfl rfl
    have hn0 : n.toNatClampNeg = 0 := by omega
    have ecp : va_cpy f f1 sp.toNatClampNeg dp.toNatClampNeg n.toNatClampNeg = va_cpy (fun _ => none) f1 sp.toNatClampNeg dp.toNatClampNeg n.toNatClampNeg := by
      funext j
      have hne : ¬ (dp.toNatClampNeg ≤ j ∧ j < dp.toNatClampNeg + n.toNatClampNeg) := by omega
      simp only [va_cpy, if_neg hne]
    rw [ecp] at kk
    exact va_copyg (E0 := "java/lang/Object") (E1 := "java/lang/Object") hx hb hml hown (hts _ hlink) (hts _ q525) (hts _ q524) (hts _ q120) hI.2.1.1.1 hP hD hI.2.2 k 5 hX hk rfl h1 h2 h3 h4 h5 hframes hlocals hdg (fun H1 locs1 z1 z2 z3 => kk H1 locs1 ⟨hset H1 (ga_Aq 5 n1 (va_cpy (fun _ => none) f1 sp.toNatClampNeg dp.toNatClampNeg n.toNatClampNeg)) z1 z2, hI.2.1, z3⟩)
/-- a copy between arrays of bytes -/
theorem ga_copyb (hx : p.tables.exec = Jvm.exec) (hb : c.code = cc) (hml : c.maxLocals = ls.size) (hts : ∀ w ∈ lw_all, w.before args s = true) (hown : s.vm.findClass own = some m.cls) (hlink : Cond.methodLink own index arraycopyName ∈ lw_all) (hI : ga_I g h s H locs) {n0 n1 : Nat} {f f1 : Nat → Int32}
    (hs : ga_at g.2.2 h a0 (ga_Ab n0 f)) (hd : h a = some (ga_Ab n1 f1)) {sp dp n : Int32} (h1 : ¬ sp < 0) (h2 : ¬ dp < 0) (h3 : ¬ n < 0) (h4 : sp.toNatClampNeg + n.toNatClampNeg ≤ n0) (h5 : dp.toNatClampNeg + n.toNatClampNeg ≤ n1) (hfit : ∀ i : Nat, i < n.toNatClampNeg → fits .byte (.int (f (sp.toNatClampNeg + i))) = true)
    (hframes : 1 ≤ R.frames) (hlocals : (rest.map fun v => v.category).sum + (nativeFrameWords "java/lang/System" "arraycopy" 5 + 11) ≤ R.locals) (hdg : decode cc pc = .ok (.invokestatic index, 3))
    (kk : ∀ (H : Heap) (locs : List Loc), ga_I g (ga_set h a (ga_Ab n1 (va_cpy f f1 sp.toNatClampNeg dp.toNatClampNeg n.toNatClampNeg))) s H locs → W p l e R s m args below meth c H locs cells slots Q (F0 m (pc + 3) ls rest)) : W p l e R s m args below meth c H locs cells slots Q (F0 m pc ls (.int n :: .int dp :: .ref a :: .int sp :: .ref a0 :: rest)) := by
  rcases hs with hs | hs
  · obtain ⟨ws, k, kb, hP, hD, hk, hkb, hset⟩ := hI.1.put2 hd hs
    exact va_copyi (ty := .byte) hx hb hml hown (hts _ hlink) (hts _ q525) (hts _ q524) (hts _ q120) hI.2.1.1.1 hP hD hI.2.2 kb k 1 1 hkb hk rfl rfl rfl h1 h2 h3 h4 h5 hfit hframes hlocals hdg (fun H1 locs1 z1 z2 z3 => kk H1 locs1 ⟨hset H1 (ga_Ab n1 (va_cpy f f1 sp.toNatClampNeg dp.toNatClampNeg n.toNatClampNeg)) z1 z2, hI.2.1, z3⟩)
  · obtain ⟨ws, k, hP, hD, hk, hset⟩ := hI.1.put1 hd
    have hX := ga_constT hI hs (ty := .byte) (f := fun j => .int (f j)) rfl rfl
    exact vk_copyt hx hb hml hown (hts _ hlink) (hts _ q525) (hts _ q524) (hts _ q120) hI.2.1.1.1 hP hD hI.2.2 hX k 1 hk rfl h1 h2 h3 h4 h5 hfit hframes hlocals hdg (fun H1 locs1 z1 z2 z3 => kk H1 locs1 ⟨hset H1 (ga_Ab n1 (va_cpy f f1 sp.toNatClampNeg dp.toNatClampNeg n.toNatClampNeg)) z1 z2, hI.2.1, z3⟩)
/-- the class of an array of objects -/
theorem ga_getC (hx : p.tables.exec = Jvm.exec) (hb : c.code = cc) (hml : c.maxLocals = ls.size) (hts : ∀ w ∈ lw_all, w.before args s = true) (hown : s.vm.findClass own = some m.cls) (hlink : Cond.methodLink own index ⟨"java/lang/Object", "getClass", "()Ljava/lang/Class;"⟩ ∈ lw_all) (hI : ga_I g h s H locs) {n0 : Nat} {f : Nat → Option Nat}
    (ha : ga_at g.2.2 h a (ga_Aq 5 n0 f)) (hframes : 1 ≤ R.frames) (hlocals : (rest.map fun v => v.category).sum + 14 ≤ R.locals) (hdg : decode cc pc = .ok (.invokevirtual index, 3))
    (k : W p l e R s m args below meth c H locs cells slots Q (F0 m (pc + 3) ls (.ref (g.2.2.2 5) :: rest))) : W p l e R s m args below meth c H locs cells slots Q (F0 m pc ls (.ref a :: rest)) := by
  have hq := hI.get ha 0 _ rfl
  refine va_getC hx hb hml hown (hts _ hlink) (va_Nw.use rfl (hI.2.1.1.2.1 _ (ga_nin q4199 rfl))) (hts _ q4198) (hts _ q468) (hts _ q513) hI.2.1.2.2.2.2.2.2 ⟨_, hq, rfl, va_nmO (hI.2.1.1.1.2 5 _ rfl).2 (by decide)⟩ hframes hlocals hdg k
theorem ga_ldcM (hx : p.tables.exec = Jvm.exec) (hb : c.code = cc) (hts : ∀ w ∈ lw_all, w.before args s = true) (hown : s.vm.findClass own = some m.cls) (hlink : Cond.classLink own index "[Ljava/lang/Object;" ∈ lw_all) (hI : ga_I g h s H locs) (hdg : decode cc pc = .ok (.ldc index, 2))
    (k : W p l e R s m args below meth c H locs cells slots Q (F0 m (pc + 2) ls (.ref (g.2.2.2 5) :: rest))) : W p l e R s m args below meth c H locs cells slots Q (F0 m pc ls rest) :=
  va_ldcM hx hb hown (hts _ hlink) hI.2.1.2.2.2.2.2.2 hdg k
theorem ga_castA (hx : p.tables.exec = Jvm.exec) (hb : c.code = cc) (hts : ∀ w ∈ lw_all, w.before args s = true) (hown : s.vm.findClass own = some m.cls) {nm C : String} {t n0 : Nat} {f : Nat → Option Nat} (hlink : Cond.classLink own index nm ∈ lw_all) (hI : ga_I g h s H locs) (ha : ga_at g.2.2 h a (ga_Aq t n0 f)) (ht : (ga_tys g)[t]? = some (g.1.2 t, .object C)) (hn : "[" ++ (FieldType.object C).toString = nm) (hdg : decode cc pc = .ok (.checkcast index, 3))
    (k : W p l e R s m args below meth c H locs cells slots Q (F0 m (pc + 3) ls (.ref a :: rest))) : W p l e R s m args below meth c H locs cells slots Q (F0 m pc ls (.ref a :: rest)) :=
  va_castA hx hb hown (hts _ hlink) (hI.get ha) 0 rfl (va_nmO (hI.2.1.1.1.2 t _ ht).2 hn) hdg k
theorem ga_castB (hx : p.tables.exec = Jvm.exec) (hb : c.code = cc) (hts : ∀ w ∈ lw_all, w.before args s = true) (hown : s.vm.findClass own = some m.cls) {n0 : Nat} {f : Nat → Int32} (hlink : Cond.classLink own index "[B" ∈ lw_all) (hI : ga_I g h s H locs) (ha : ga_at g.2.2 h a (ga_Ab n0 f)) (hdg : decode cc pc = .ok (.checkcast index, 3))
    (k : W p l e R s m args below meth c H locs cells slots Q (F0 m (pc + 3) ls (.ref a :: rest))) : W p l e R s m args below meth c H locs cells slots Q (F0 m pc ls (.ref a :: rest)) :=
  va_castA hx hb hown (hts _ hlink) (hI.get ha) 0 rfl (hI.2.1.1.1.2 1 _ rfl).2 hdg k
theorem ga_ldcws (hx : p.tables.exec = Jvm.exec) (hb : c.code = cc) (hI : ga_I g h s H locs) (k : Nat) {tx : String} {q : Nat} (hown : s.vm.findClass own = some m.cls) (hz : (ga_ks g.2.2)[k]? = some (own, index, tx, q)) (hdg : decode cc pc = .ok (.ldc_w index, 3)) (kk : W p l e R s m args below meth c H locs cells slots Q (F0 m (pc + 3) ls (.ref q :: rest))) : W p l e R s m args below meth c H locs cells slots Q (F0 m pc ls rest) := by
  have hZ := hI.2.1.2.1.2.2 _ (List.mem_of_getElem? hz)
  intro T hT X
  obtain ⟨t, a1, b1⟩ := kk T hT X
  refine ⟨t, ?_, b1⟩
  obtain ⟨k1, cf, i, a', hk, hcf, hcp, -, hr, hev'⟩ := Cond.stringRef_spec hown hZ.1
  cases hZ.2.symm.trans hev'
  obtain ⟨k', hk', he⟩ := X.warmed.alike.2.2 _ _ hk
  have hr' : k'.resolved[index]? = some (some (.string q)) := by
    rcases X.warmed.entry hk hk' index with h | ⟨h, -⟩
    · rw [h]; exact hr
    · rw [hr] at h; cases h
  have hdg' : decode c.code (F0 m pc ls rest).pc = .ok (.ldc_w index, 3) := by rw [hb]; exact hdg
  have hrest := a1
  revert hrest
  generalize hg : F0 m pc ls rest = g0 at *
  have hm : g0.method = m := by rw [← hg]
  have e2 : F0 m (pc + 3) ls (.ref q :: rest) = { g0 with pc := g0.pc + 3, stack := .ref q :: g0.stack } := by rw [← hg]
  rw [e2]
  intro hrest
  subst hm
  jvm_step X.here [hx, hdg', ldc_w.wp_string (e := e) (s := T) (f := g0) X.here.top hk' (by rw [he]; exact hcf) hcp hr']
  exact hrest
end GMID
