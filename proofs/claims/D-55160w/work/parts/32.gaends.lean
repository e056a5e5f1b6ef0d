/-! contracts out of walks; calls of what looks at its arguments alone; throws and handlers -/
def ga_Cx (p : Program) (s : State) (m : MethodId) (args : Array Value) (meth : Method) (c : Code) (cc : ByteArray) (nL : Nat) (ret : Option FieldType) (own nm : String) : Prop :=
  p.tables.exec = Jvm.exec ∧ c.code = cc ∧ c.maxLocals = nL ∧ s.vm.findClass own = some m.cls ∧ (∀ w ∈ lw_all, w.before args s = true) ∧ meth.sig.returnType = ret ∧ meth.locks = false ∧ meth.name = nm
theorem ga_met {l : Launch} {g : ga_G} {h : ga_H} {y : MethodName} {cc : ByteArray} {nL mc ms fr lo : Nat} {ret : Option FieldType} {As : List Value} {Qc : Array Value → State → Outcome → State → Prop} {own nm : String} (hy : plainName y.cls = true) (ho : y.cls = own) (hm : y.name = nm) (hlen : (lg_sl As).length ≤ nL)
    (body : ∀ (p : Program) (e : Env) (s : State) (m : MethodId) (below : List Frame) (meth : Method) (c : Code) (ls : Array Slot), ga_Cx p s m As.toArray meth c cc nL ret own nm → ga_I g h s s.heap [] → lv_has ls nL (lv_args 0 As) → W p l e { frames := fr, cells := mc, slots := ms, locals := lo } s m As.toArray below meth c s.heap [] 0 0 (MQ below Qc As.toArray s mc ms (ga_A g)) (F0 m 0 ls [])) :
    Met l y (ws_ y cc nL ret) { frames := fr, cells := mc, slots := ms, locals := lo } (va_Pc As (ga_B g h)) Qc mc ms (ga_A g) := by
  subst ho; subst hm
  refine Met.ofW (cc := cc) (maxL := nL) (ret := ret) hy rfl ?_
  intro p e s m args below meth c s₁ B hml hv
  obtain ⟨rfl, hR, hK⟩ := hv
  have hts := atoms_spec (ws := ws_ y cc nL ret) B.pre
  have hl := lv_entry As hlen
  rw [lg_entry_eq]
  exact body p e s m below meth c _ ⟨B.exec, B.bytes, hml, findClass_of_methodNamed B.named, fun w h => hts w (List.mem_cons_of_mem _ h), B.returns, B.notSynchronized, (name_of_methodNamed B.named B.method).1⟩ ⟨hR, hK, va_S.rf⟩ hl
theorem ga_metF {l : Launch} {g : ga_G} {h : ga_H} {y : MethodName} {cc : ByteArray} {nL mc ms fr lo : Nat} {ret : Option FieldType} {As : List Value} {Qc : Array Value → State → Outcome → State → Prop} {own nm : String} (hy : plainFor y = true) (ho : y.cls = own) (hm : y.name = nm) (hlen : (lg_sl As).length ≤ nL)
    (body : ∀ (p : Program) (e : Env) (s : State) (m : MethodId) (below : List Frame) (meth : Method) (c : Code) (ls : Array Slot), ga_Cx p s m As.toArray meth c cc nL ret own nm → ga_I g h s s.heap [] → lv_has ls nL (lv_args 0 As) → W p l e { frames := fr, cells := mc, slots := ms, locals := lo } s m As.toArray below meth c s.heap [] 0 0 (MQ below Qc As.toArray s mc ms (ga_A g)) (F0 m 0 ls [])) :
    Met l y (ws_ y cc nL ret) { frames := fr, cells := mc, slots := ms, locals := lo } (va_Pc As (ga_B g h)) Qc mc ms (ga_A g) := by
  subst ho; subst hm
  refine va_MetF (cc := cc) (maxL := nL) (ret := ret) hy rfl ?_
  intro p e s m args below meth c s₁ B hml hv
  obtain ⟨rfl, hR, hK⟩ := hv
  have hts := atoms_spec (ws := ws_ y cc nL ret) B.pre
  have hl := lv_entry As hlen
  rw [lg_entry_eq]
  exact body p e s m below meth c _ ⟨B.exec, B.bytes, hml, findClass_of_methodNamed B.named, fun w h => hts w (List.mem_cons_of_mem _ h), B.returns, B.notSynchronized, (name_of_methodNamed B.named B.method).1⟩ ⟨hR, hK, va_S.rf⟩ hl
theorem ga_metx {l : Launch} {g : ga_G} {h : ga_H} {y : MethodName} {cc : ByteArray} {nL mc ms fr lo : Nat} {ret : Option FieldType} {As : List Value} {Qc : Array Value → State → Outcome → State → Prop} {XC : String → Addr → State → State → Prop} {own nm : String} (hy : plainName y.cls = true) (ho : y.cls = own) (hm : y.name = nm) (hlen : (lg_sl As).length ≤ nL)
    (body : ∀ (p : Program) (e : Env) (s : State) (m : MethodId) (below : List Frame) (meth : Method) (c : Code) (ls : Array Slot), ga_Cx p s m As.toArray meth c cc nL ret own nm → c.exceptionTable.toList = [] → ga_I g h s s.heap [] → lv_has ls nL (lv_args 0 As) → W p l e { frames := fr, cells := mc, slots := ms, locals := lo } s m As.toArray below meth c s.heap [] 0 0 (vx_MQ below Qc XC As.toArray s mc ms (ga_A g)) (F0 m 0 ls [])) :
    vx_Met l y (ws_ y cc nL ret) { frames := fr, cells := mc, slots := ms, locals := lo } (va_Pc As (ga_B g h)) Qc XC mc ms (ga_A g) := by
  subst ho; subst hm
  refine vx_ofW (cc := cc) (maxL := nL) (ret := ret) hy rfl ?_
  intro p e s m args below meth c s₁ B hml ht hv
  obtain ⟨rfl, hR, hK⟩ := hv
  have hts := atoms_spec (ws := ws_ y cc nL ret) B.pre
  have hl := lv_entry As hlen
  rw [lg_entry_eq]
  exact body p e s m below meth c _ ⟨B.exec, B.bytes, hml, findClass_of_methodNamed B.named, fun w h => hts w (List.mem_cons_of_mem _ h), B.returns, B.notSynchronized, (name_of_methodNamed B.named B.method).1⟩ (List.eq_nil_iff_forall_not_mem.mpr ht) ⟨hR, hK, va_S.rf⟩ hl
theorem ga_metxW {l : Launch} {g : ga_G} {h : ga_H} {y : MethodName} {cc : ByteArray} {nL mc ms fr lo : Nat} {ret : Option FieldType} {hh : List (Nat × Nat × Nat × Nat)} {As : List Value} {Qc : Array Value → State → Outcome → State → Prop} {XC : String → Addr → State → State → Prop} {own nm : String} (hy : plainName y.cls = true) (ho : y.cls = own) (hm : y.name = nm) (hlen : (lg_sl As).length ≤ nL)
    (body : ∀ (p : Program) (e : Env) (s : State) (m : MethodId) (below : List Frame) (meth : Method) (c : Code) (ls : Array Slot), ga_Cx p s m As.toArray meth c cc nL ret own nm → c.exceptionTable.toList = tableOf hh → ga_I g h s s.heap [] → lv_has ls nL (lv_args 0 As) → W p l e { frames := fr, cells := mc, slots := ms, locals := lo } s m As.toArray below meth c s.heap [] 0 0 (vx_MQ below Qc XC As.toArray s mc ms (ga_A g)) (F0 m 0 ls [])) :
    vx_Met l y (wsW_ y cc nL ret hh) { frames := fr, cells := mc, slots := ms, locals := lo } (va_Pc As (ga_B g h)) Qc XC mc ms (ga_A g) := by
  subst ho; subst hm
  refine vx_ofWH (cc := cc) (maxL := nL) (ret := ret) (hh := hh) hy rfl ?_
  intro p e s m args below meth c s₁ B hml hv
  obtain ⟨rfl, hR, hK⟩ := hv
  have hts := atoms_spec (ws := wsW_ y cc nL ret hh) B.pre
  have ht := vx_table (x := y) B (hts _ List.mem_cons_self)
  have hl := lv_entry As hlen
  rw [lg_entry_eq]
  exact body p e s m below meth c _ ⟨B.exec, B.bytes, hml, findClass_of_methodNamed B.named, fun w h => hts w (List.mem_cons_of_mem _ h), B.returns, B.notSynchronized, (name_of_methodNamed B.named B.method).1⟩ ht ⟨hR, hK, va_S.rf⟩ hl
/-- a static method that looks at its arguments alone -/
theorem ga_metS {l : Launch} {y : MethodName} {cc : ByteArray} {nL : Nat} {ret : Option FieldType} {rm : Room} {As : List Value} {Qc : Array Value → State → Outcome → State → Prop} {own nm : String} (hy : plainName y.cls = true) (ho : y.cls = own) (hm : y.name = nm) (hlen : (lg_sl As).length ≤ nL)
    (body : ∀ (p : Program) (e : Env) (s : State) (m : MethodId) (below : List Frame) (meth : Method) (c : Code) (ls : Array Slot), ga_Cx p s m As.toArray meth c cc nL ret own nm → lv_has ls nL (lv_args 0 As) → W p l e rm s m As.toArray below meth c s.heap [] 0 0 (MQ below Qc As.toArray s 0 0 (fun _ => False)) (F0 m 0 ls [])) :
    Met l y (ws_ y cc nL ret) rm (va_Pc As (fun _ => True)) Qc 0 0 (fun _ => False) := by
  subst ho; subst hm
  refine Met.ofW (cc := cc) (maxL := nL) (ret := ret) hy rfl ?_
  intro p e s m args below meth c s₁ B hml hv
  obtain ⟨rfl, -⟩ := hv
  have hts := atoms_spec (ws := ws_ y cc nL ret) B.pre
  have hl := lv_entry As hlen
  rw [lg_entry_eq]
  exact body p e s m below meth c _ ⟨B.exec, B.bytes, hml, findClass_of_methodNamed B.named, fun w h => hts w (List.mem_cons_of_mem _ h), B.returns, B.notSynchronized, (name_of_methodNamed B.named B.method).1⟩ hl
theorem ga_sum (rest : List Value) (h : rest.length ≤ 4) : (rest.map fun v => v.category).sum ≤ 8 := by
  have k : ∀ l : List Value, (l.map fun v => v.category).sum ≤ 2 * l.length := by
    intro l
    induction l with
    | nil => exact Nat.le_refl _
    | cons v l ih =>
      rw [List.map_cons, List.sum_cons, List.length_cons]
      rcases lv_cat v with e | e <;> omega
  have := k rest
  omega
section GE
variable {p : Program} {l : Launch} {e : Env} {R : Room} {s : State} {m : MethodId} {args : Array Value} {below : List Frame} {meth : Method} {c : Code} {H : Heap} {locs : List Loc} {cells slots : Nat} {Q : State → Prop}
variable {cc : ByteArray} {pc nL : Nat} {ls : Array Slot} {rest st : List Value} {g : ga_G} {h : ga_H} {bc bs : Nat} {own : String}
theorem ga_room (h : rest.length ≤ 4) : 2 * (F0 m pc ls st).monitorRoom + (rest.map fun v => v.category).sum ≤ 8 := lv_room (ga_sum rest h)
theorem ga_callS {y : MethodName} {bytes : ByteArray} {maxL n index : Nat} {ret : Option FieldType} {ws : List Cond} {rm : Room} {As : List Value} {post : Int32 → Prop} (S0 : CallFix p m c cc nL s args lw_all own) (hM : Met l y ws rm (va_Pc As (fun _ => True)) (vp_Si post) 0 0 (fun _ => False)) (cw : CallB R s args own index y bytes maxL ret ws rm 0 0 n ∧ (Cond.static y).before args s = true)
    (hn : As.length = n) (hsz : ls.size = nL) (hst : st = As.reverse ++ rest) (hW : 2 * (F0 m pc ls st).monitorRoom + (rest.map fun v => v.category).sum ≤ 8) (hdg : decode cc pc = .ok (.invokestatic index, 3)) (hc : cells + bc ≤ R.cells) (hs : slots + bs ≤ R.slots)
    (kk : ∀ (r : Int32), post r → W p l e R s m args below meth c H locs cells slots Q (F0 m (pc + 3) ls (.int r :: rest))) : W p l e R s m args below meth c H locs cells slots Q (F0 m pc ls st) :=
  vp_callSi (W.runS (As := As) (rest := rest) S0 hM cw ⟨fun a U gg mk h => ⟨h.1, trivial⟩, fun U hU hW => ⟨rfl, trivial⟩⟩ rfl hn hsz hst hW hdg ⟨by omega, by omega⟩) kk
theorem ga_callSN {host : String} {y : MethodName} {bytes : ByteArray} {maxL n index : Nat} {ret : Option FieldType} {ws : List Cond} {rm : Room} {As : List Value} {post : Int32 → Prop} (S0 : CallFix p m c cc nL s args lw_all own) (hM : Met l y ws rm (va_Pc As (fun _ => True)) (vp_Si post) 0 0 (fun _ => False)) (cw : va_CN R s args own index y host bytes maxL ret ws rm 0 0 n ∧ (Cond.static y).before args s = true ∧ True)
    (hn : As.length = n) (hsz : ls.size = nL) (hst : st = As.reverse ++ rest) (hW : 2 * (F0 m pc ls st).monitorRoom + (rest.map fun v => v.category).sum ≤ 8) (hdg : decode cc pc = .ok (.invokestatic index, 3)) (hc : cells + bc ≤ R.cells) (hs : slots + bs ≤ R.slots)
    (kk : ∀ (r : Int32), post r → W p l e R s m args below meth c H locs cells slots Q (F0 m (pc + 3) ls (.int r :: rest))) : W p l e R s m args below meth c H locs cells slots Q (F0 m pc ls st) :=
  vp_callSi (va_Run.run (va_runSN (As := As) (rest := rest) S0 hM cw ⟨fun a U gg mk h => ⟨h.1, trivial⟩, fun U hU hW => ⟨rfl, trivial⟩⟩ rfl hn hsz hst hW hdg ⟨by omega, by omega⟩)) kk
theorem ga_sret {v : Int32} {ty : FieldType} {post : Int32 → Prop} (hx : p.tables.exec = Jvm.exec) (hb : c.code = cc) (hr : meth.sig.returnType = some ty) (hlk : meth.locks = false) (hn : zt_nar ty v) (hp : post v) (hdg : decode cc pc = .ok (.ireturn, 1)) : W p l e R s m args below meth c s.heap [] 0 0 (MQ below (vp_Si post) args s 0 0 (fun _ => False)) (F0 m pc ls [.int v]) :=
  W.zret hx hb hr hn (fun t ht hW => ⟨v, rfl, hp, ht⟩) (fun q h => by cases h) hdg hlk
/-- out of the method: no handler takes it -/
theorem ga_out {Qc : Array Value → State → Outcome → State → Prop} {xp : String → Nat → ga_H → Prop} {mc ms q : Nat} {E : String} {ce : Cell} {pc : Nat} (hown : s.vm.findClass own = some m.cls) (hlk : meth.locks = false) (hI : ga_I g h s H locs) (hp : xp E q h) (hpass : ∀ z ∈ c.exceptionTable.toList, covers z pc = false ∨ (z.catchType ≠ 0 ∧ ∃ nm : String, (Cond.classLink own z.catchType nm).before args s = true ∧ va_Nc E nm s)) (hq : H[q]? = some ce ∧ ce.vm = .none ∧ s.vm.findClass E = some ce.cls) (h1 : cells ≤ mc) (h2 : slots ≤ ms) :
    vx_W p l e R s m args below meth c H locs cells slots (vx_MQ below Qc (ga_X g xp) args s mc ms (ga_A g)) (F0 m pc ls rest) q :=
  vx_outP hown hlk hpass hq.1 hq.2.1 hq.2.2 (fun t ht hW => ⟨(E, q, h), hp, ⟨rfl, rfl, by rw [ht]; exact hI.1⟩, hI.2.2.F ht⟩) hI.2.2.2.2 h1 h2
/-- a handler takes it -/
theorem ga_catch {q : Nat} {E nm : String} {ce : Cell} {pc : Nat} (hown : s.vm.findClass own = some m.cls) (hts : ∀ w ∈ lw_all, w.before args s = true) (hI : ga_I g h s H locs) (pre : List ExceptionTableEntry) (x : ExceptionTableEntry) (suf : List ExceptionTableEntry) (hsplit : c.exceptionTable.toList = pre ++ x :: suf)
    (hpass : ∀ z ∈ pre, covers z pc = false ∨ (z.catchType ≠ 0 ∧ ∃ nm : String, (Cond.classLink own z.catchType nm).before args s = true ∧ va_Nc E nm s)) (hx : covers x pc = true) (h0 : x.catchType ≠ 0) (hlink : Cond.classLink own x.catchType nm ∈ lw_all) (hcast : Cond.castable E nm ∈ lw_tbl) (hq : H[q]? = some ce ∧ ce.vm = .none ∧ s.vm.findClass E = some ce.cls)
    (kk : W p l e R s m args below meth c H locs cells slots Q (F0 m x.handlerPc ls [.ref q])) : vx_W p l e R s m args below meth c H locs cells slots Q (F0 m pc ls rest) q :=
  vx_catch hown pre x suf hsplit hpass hx h0 (hts _ hlink) (va_Nw.use rfl (hI.2.1.1.2.1 _ (ga_nin hcast rfl))) hq.1 hq.2.1 hq.2.2 kk
theorem ga_ncs {E nm : String} {k : Nat} (hts : ∀ w ∈ lw_all, w.before args s = true) (hI : ga_I g h s H locs) (hlink : Cond.classLink own k nm ∈ lw_all) (hno : (E, nm) ∈ ga_nc) : ∃ nm : String, (Cond.classLink own k nm).before args s = true ∧ va_Nc E nm s := ⟨nm, hts _ hlink, hI.2.1.2.1.1 _ hno⟩
/-- an object that lies in the heap is thrown -/
theorem ga_athrow {q ci N : Nat} {E : String} {T : u_T} {fs : List Value} (hx : p.tables.exec = Jvm.exec) (hb : c.code = cc) (hI : ga_I g h s H locs) (hq : ga_at g.2.2 h q (ga_O ci fs)) (hc : ga_cl[ci]? = some (E, T, N)) (hdg : decode cc pc = .ok (.athrow, 1)) (kk : ∀ ce : Cell, (H[q]? = some ce ∧ ce.vm = .none ∧ s.vm.findClass E = some ce.cls) → vx_W p l e R s m args below meth c H locs cells slots Q (F0 m pc ls rest) q) : W p l e R s m args below meth c H locs cells slots Q (F0 m pc ls (.ref q :: rest)) := by
  have hP := hI.get hq
  obtain ⟨r, h1, cell, q1, q2, q3, q4⟩ := hP 0 _ rfl
  have hr : r = (E, T, N) := Option.some.inj (h1.symm.trans hc)
  subst hr
  refine vx_athrow hx hb hdg (kk cell ⟨q1, q3, ?_⟩)
  have := (hI.2.1.1.1.1 ci _ hc).2.1
  rw [q2]
  exact this
end GE
