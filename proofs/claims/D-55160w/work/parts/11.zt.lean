/-! THE REFERENCE'S WORLD (PaperStoreModel): one object, four arrays. Its numbers S: S 0 k is field k, S 1 all, S 2 line, S 3 text, S 4 commands. -/
abbrev zt_S : Type := Nat → Nat → Int32
abbrev zt_G : Type := (va_G × ClassId × ClassId) × (Nat × Nat × Nat × Nat × Nat)
def zt_us (S : zt_S) (i k : Nat) (v : Int32) : zt_S := fun a => if a = i then upd (S a) k v else S a
def zt_fs (g : zt_G) (S : zt_S) : List Value := [.int (S 0 0), .ref g.2.2.1, .int (S 0 2), .int (S 0 3), .int (S 0 4), .int (S 0 5), .int (S 0 6), .ref g.2.2.2.1, .int (S 0 8), .ref g.2.2.2.2.1, .int (S 0 10), .int (S 0 11), .int (S 0 12), .int (S 0 13), .ref g.2.2.2.2.2, .int (S 0 15)]
def zt_ws (g : zt_G) (S : zt_S) : va_W := [(g.2.1, .inr (0, zt_fs g S)), (g.2.2.1, .inl (g.1.2.1, 3810, .inl (S 1))), (g.2.2.2.1, .inl (g.1.2.2, 100, .inl (S 2))), (g.2.2.2.2.1, .inl (g.1.2.2, 60, .inl (S 3))), (g.2.2.2.2.2, .inl (g.1.2.1, 244, .inl (S 4)))]
abbrev zt_cl : List vw_C := [(RX5, TX5, 16)]
def zt_ty (g : zt_G) : List (ClassId × FieldType) := [(g.1.2.1, .int), (g.1.2.2, .char)]
def zt_A (g : zt_G) : Nat → Prop := fun q => q = g.2.1 ∨ q = g.2.2.1 ∨ q = g.2.2.2.1 ∨ q = g.2.2.2.2.1 ∨ q = g.2.2.2.2.2
def zt_B (g : zt_G) (S : zt_S) (U : State) : Prop := va_P g.1.1 zt_cl (zt_ws g S) U.heap ∧ va_K g.1.1 zt_cl (zt_ty g) U ∧ va_D (zt_A g) (zt_ws g S)
def zt_I (g : zt_G) (S : zt_S) (s : State) (H : Heap) (locs : List Loc) : Prop := va_P g.1.1 zt_cl (zt_ws g S) H ∧ va_K g.1.1 zt_cl (zt_ty g) s ∧ va_D (zt_A g) (zt_ws g S) ∧ va_S (zt_A g) s.heap H locs
/-- what holds of a method's frame all through -/
def zt_C (p : Program) (s : State) (m : MethodId) (args : Array Value) (meth : Method) (c : Code) (cc : ByteArray) (nL : Nat) (ret : Option FieldType) : Prop :=
  p.tables.exec = Jvm.exec ∧ c.code = cc ∧ c.maxLocals = nL ∧ s.vm.findClass RX5 = some m.cls ∧ (∀ w ∈ lw_all, w.before args s = true) ∧ meth.sig.returnType = ret ∧ meth.locks = false
/-- a boolean, a char as the machine narrows it -/
def zt_nar (ty : FieldType) (x : Int32) : Prop := narrow ty (.int x) = .int x
theorem zt_us_s (S : zt_S) (i k : Nat) (v : Int32) : zt_us S i k v i k = v := by simp [zt_us, upd]
theorem zt_blind {g : zt_G} {S : zt_S} {As : List Value} : FrameBlind (va_Pc As (zt_B g S)) := by
  intro a U gg mk h
  obtain ⟨h1, hP, hK, hD⟩ := h
  exact ⟨h1, hP, va_K.moved (u := U) (U := U.calling gg mk a) (Vm.Alike.refl U.vm) hK, hD⟩
section ZT
variable {p : Program} {l : Launch} {e : Env} {R : Room} {s : State} {m : MethodId} {args : Array Value} {below : List Frame} {meth : Method} {c : Code} {H : Heap} {locs : List Loc} {cells slots : Nat} {Q : State → Prop}
variable {cc : ByteArray} {pc nL : Nat} {ls : Array Slot} {rest st : List Value} {g : zt_G} {S : zt_S}
theorem zt_get (hx : p.tables.exec = Jvm.exec) (hb : c.code = cc) (hts : ∀ w ∈ lw_all, w.before args s = true) (hown : s.vm.findClass RX5 = some m.cls) (hI : zt_I g S s H locs) (k : Nat) {index : Nat} {v : Value} (hk : k < 16) (hlink : Cond.fieldLink RX5 index RX5 (TX5 k).2.1 (TX5 k).2.2.1 ∈ lw_all) (hsm : (TX5 k).1 = RX5) (hv : (zt_fs g S)[k]? = some v) (hdg : decode cc pc = .ok (.getfield index, 3))
    (kk : W p l e R s m args below meth c H locs cells slots Q (F0 m (pc + 3) ls (v :: rest))) : W p l e R s m args below meth c H locs cells slots Q (F0 m pc ls (.ref g.2.1 :: rest)) :=
  va_get (ci := 0) (C := RX5) (T := TX5) (N := 16) hx hb hts in_X5 hown hI.2.1 hI.1 0 rfl rfl k hk (hts _ hlink) (fun x h => by rw [hsm] at h; exact h) hv hdg kk
theorem zt_put (hx : p.tables.exec = Jvm.exec) (hb : c.code = cc) (hts : ∀ w ∈ lw_all, w.before args s = true) (hown : s.vm.findClass RX5 = some m.cls) (hI : zt_I g S s H locs) (k : Nat) {index : Nat} {v : Int32} {ty : FieldType} (hk : k < 16) (hlink : Cond.fieldLink RX5 index RX5 (TX5 k).2.1 (TX5 k).2.2.1 ∈ lw_all) (hsm : (TX5 k).1 = RX5) (hfin : (TX5 k).2.2.2 = false) (hd : parseFieldDescriptor (TX5 k).2.2.1 = some ty) (hn : narrow ty (.int v) = .int v) (hfit : fits ty (.int v) = true) (hw : (zt_ws g S).set 0 (g.2.1, .inr (0, (zt_fs g S).set k (.int v))) = zt_ws g (zt_us S 0 k v)) (hdg : decode cc pc = .ok (.putfield index, 3))
    (kk : ∀ (H1 : Heap) (locs1 : List Loc), zt_I g (zt_us S 0 k v) s H1 locs1 → W p l e R s m args below meth c H1 locs1 cells slots Q (F0 m (pc + 3) ls rest)) : W p l e R s m args below meth c H locs cells slots Q (F0 m pc ls (.int v :: .ref g.2.1 :: rest)) :=
  va_put (ci := 0) (C := RX5) (T := TX5) (N := 16) hx hb hts in_X5 tyX5 tyX5_ok nmX5 hown hI.2.1 hI.1 hI.2.2.1 hI.2.2.2 0 rfl rfl k hk (hts _ hlink) (fun x h => by rw [hsm] at h; exact h) hfin hd hn hfit hk hdg (fun H1 locs1 hP hD hS => kk H1 locs1 ⟨by rw [← hw]; exact hP, hI.2.1, by rw [← hw]; exact hD, hS⟩)
theorem zt_ld1 (hx : p.tables.exec = Jvm.exec) (hb : c.code = cc) (hI : zt_I g S s H locs) {i : Int32} (hin : vp_in i 3810) (hdg : decode cc pc = .ok (.iaload, 1))
    (kk : W p l e R s m args below meth c H locs cells slots Q (F0 m (pc + 1) ls (.int (S 1 i.toNatClampNeg) :: rest))) : W p l e R s m args below meth c H locs cells slots Q (F0 m pc ls (.int i :: .ref g.2.2.1 :: rest)) :=
  va_iald hx hb hI.2.1 hI.1 1 0 rfl rfl hin hdg kk
theorem zt_ld4 (hx : p.tables.exec = Jvm.exec) (hb : c.code = cc) (hI : zt_I g S s H locs) {i : Int32} (hin : vp_in i 244) (hdg : decode cc pc = .ok (.iaload, 1))
    (kk : W p l e R s m args below meth c H locs cells slots Q (F0 m (pc + 1) ls (.int (S 4 i.toNatClampNeg) :: rest))) : W p l e R s m args below meth c H locs cells slots Q (F0 m pc ls (.int i :: .ref g.2.2.2.2.2 :: rest)) :=
  va_iald hx hb hI.2.1 hI.1 4 0 rfl rfl hin hdg kk
theorem zt_ld2 (hx : p.tables.exec = Jvm.exec) (hb : c.code = cc) (hI : zt_I g S s H locs) {i : Int32} (hin : vp_in i 100) (hdg : decode cc pc = .ok (.caload, 1))
    (kk : W p l e R s m args below meth c H locs cells slots Q (F0 m (pc + 1) ls (.int (S 2 i.toNatClampNeg) :: rest))) : W p l e R s m args below meth c H locs cells slots Q (F0 m pc ls (.int i :: .ref g.2.2.2.1 :: rest)) :=
  va_cald hx hb hI.2.1 hI.1 2 1 rfl rfl hin hdg kk
theorem zt_ld3 (hx : p.tables.exec = Jvm.exec) (hb : c.code = cc) (hI : zt_I g S s H locs) {i : Int32} (hin : vp_in i 60) (hdg : decode cc pc = .ok (.caload, 1))
    (kk : W p l e R s m args below meth c H locs cells slots Q (F0 m (pc + 1) ls (.int (S 3 i.toNatClampNeg) :: rest))) : W p l e R s m args below meth c H locs cells slots Q (F0 m pc ls (.int i :: .ref g.2.2.2.2.1 :: rest)) :=
  va_cald hx hb hI.2.1 hI.1 3 1 rfl rfl hin hdg kk
theorem zt_st1 (hx : p.tables.exec = Jvm.exec) (hb : c.code = cc) (hI : zt_I g S s H locs) {i v : Int32} (hin : vp_in i 3810) (hdg : decode cc pc = .ok (.iastore, 1))
    (kk : ∀ (H1 : Heap) (locs1 : List Loc), zt_I g (zt_us S 1 i.toNatClampNeg v) s H1 locs1 → W p l e R s m args below meth c H1 locs1 cells slots Q (F0 m (pc + 1) ls rest)) : W p l e R s m args below meth c H locs cells slots Q (F0 m pc ls (.int v :: .int i :: .ref g.2.2.1 :: rest)) :=
  va_iast hx hb hI.2.1 hI.1 hI.2.2.1 hI.2.2.2 1 0 rfl rfl hin hdg (fun H1 locs1 hP hD hS => kk H1 locs1 ⟨hP, hI.2.1, hD, hS⟩)
theorem zt_st4 (hx : p.tables.exec = Jvm.exec) (hb : c.code = cc) (hI : zt_I g S s H locs) {i v : Int32} (hin : vp_in i 244) (hdg : decode cc pc = .ok (.iastore, 1))
    (kk : ∀ (H1 : Heap) (locs1 : List Loc), zt_I g (zt_us S 4 i.toNatClampNeg v) s H1 locs1 → W p l e R s m args below meth c H1 locs1 cells slots Q (F0 m (pc + 1) ls rest)) : W p l e R s m args below meth c H locs cells slots Q (F0 m pc ls (.int v :: .int i :: .ref g.2.2.2.2.2 :: rest)) :=
  va_iast hx hb hI.2.1 hI.1 hI.2.2.1 hI.2.2.2 4 0 rfl rfl hin hdg (fun H1 locs1 hP hD hS => kk H1 locs1 ⟨hP, hI.2.1, hD, hS⟩)
theorem zt_st2 (hx : p.tables.exec = Jvm.exec) (hb : c.code = cc) (hI : zt_I g S s H locs) {i v : Int32} (hin : vp_in i 100) (hdg : decode cc pc = .ok (.castore, 1))
    (kk : ∀ (H1 : Heap) (locs1 : List Loc), zt_I g (zt_us S 2 i.toNatClampNeg (vp_nar .char v)) s H1 locs1 → W p l e R s m args below meth c H1 locs1 cells slots Q (F0 m (pc + 1) ls rest)) : W p l e R s m args below meth c H locs cells slots Q (F0 m pc ls (.int v :: .int i :: .ref g.2.2.2.1 :: rest)) :=
  va_cast hx hb hI.2.1 hI.1 hI.2.2.1 hI.2.2.2 2 1 rfl rfl hin hdg (fun H1 locs1 hP hD hS => kk H1 locs1 ⟨hP, hI.2.1, hD, hS⟩)
theorem zt_st3 (hx : p.tables.exec = Jvm.exec) (hb : c.code = cc) (hI : zt_I g S s H locs) {i v : Int32} (hin : vp_in i 60) (hdg : decode cc pc = .ok (.castore, 1))
    (kk : ∀ (H1 : Heap) (locs1 : List Loc), zt_I g (zt_us S 3 i.toNatClampNeg (vp_nar .char v)) s H1 locs1 → W p l e R s m args below meth c H1 locs1 cells slots Q (F0 m (pc + 1) ls rest)) : W p l e R s m args below meth c H locs cells slots Q (F0 m pc ls (.int v :: .int i :: .ref g.2.2.2.2.1 :: rest)) :=
  va_cast hx hb hI.2.1 hI.1 hI.2.2.1 hI.2.2.2 3 1 rfl rfl hin hdg (fun H1 locs1 hP hD hS => kk H1 locs1 ⟨hP, hI.2.1, hD, hS⟩)
theorem zt_iret {v : Int32} {post : Int32 → zt_S → Prop} (hx : p.tables.exec = Jvm.exec) (hb : c.code = cc) (hr : meth.sig.returnType = some .int) (hlk : meth.locks = false) (hI : zt_I g S s H locs) (hp : post v S) (hdg : decode cc pc = .ok (.ireturn, 1)) : W p l e R s m args below meth c H locs 0 0 (MQ below (va_Qi post (zt_B g) (zt_A g)) args s 0 0 (zt_A g)) (F0 m pc ls [.int v]) :=
  W.iret hx hb hr (fun t ht hW => ⟨⟨v, S, rfl, hp, by rw [ht]; exact hI.1, va_K.moved hW.alike hI.2.1, hI.2.2.1⟩, hI.2.2.2.F ht⟩) hI.2.2.2.2.2 hdg hlk
theorem zt_zret {v : Int32} {ty : FieldType} {post : Int32 → zt_S → Prop} (hx : p.tables.exec = Jvm.exec) (hb : c.code = cc) (hr : meth.sig.returnType = some ty) (hlk : meth.locks = false) (hI : zt_I g S s H locs) (hn : zt_nar ty v) (hp : post v S) (hdg : decode cc pc = .ok (.ireturn, 1)) : W p l e R s m args below meth c H locs 0 0 (MQ below (va_Qi post (zt_B g) (zt_A g)) args s 0 0 (zt_A g)) (F0 m pc ls [.int v]) :=
  W.zret hx hb hr hn (fun t ht hW => ⟨⟨v, S, rfl, hp, by rw [ht]; exact hI.1, va_K.moved hW.alike hI.2.1, hI.2.2.1⟩, hI.2.2.2.F ht⟩) hI.2.2.2.2.2 hdg hlk
theorem zt_fret {v : UInt32} {post : UInt32 → zt_S → Prop} (hx : p.tables.exec = Jvm.exec) (hb : c.code = cc) (hr : meth.sig.returnType = some .float) (hlk : meth.locks = false) (hI : zt_I g S s H locs) (hp : post v S) (hdg : decode cc pc = .ok (.freturn, 1)) : W p l e R s m args below meth c H locs 0 0 (MQ below (va_Qf post (zt_B g) (zt_A g)) args s 0 0 (zt_A g)) (F0 m pc ls [.float v]) :=
  W.fret hx hb hr (fun t ht hW => ⟨⟨v, S, rfl, hp, by rw [ht]; exact hI.1, va_K.moved hW.alike hI.2.1, hI.2.2.1⟩, hI.2.2.2.F ht⟩) hI.2.2.2.2.2 hdg hlk
theorem zt_dret {v : UInt64} {post : UInt64 → zt_S → Prop} (hx : p.tables.exec = Jvm.exec) (hb : c.code = cc) (hr : meth.sig.returnType = some .double) (hlk : meth.locks = false) (hI : zt_I g S s H locs) (hp : post v S) (hdg : decode cc pc = .ok (.dreturn, 1)) : W p l e R s m args below meth c H locs 0 0 (MQ below (va_Qd post (zt_B g) (zt_A g)) args s 0 0 (zt_A g)) (F0 m pc ls [.double v]) :=
  W.dret hx hb hr (fun t ht hW => ⟨⟨v, S, rfl, hp, by rw [ht]; exact hI.1, va_K.moved hW.alike hI.2.1, hI.2.2.1⟩, hI.2.2.2.F ht⟩) hI.2.2.2.2.2 hdg hlk
theorem zt_vret {post : zt_S → Prop} (hx : p.tables.exec = Jvm.exec) (hb : c.code = cc) (hr : meth.sig.returnType = none) (hlk : meth.locks = false) (hI : zt_I g S s H locs) (hp : post S) (hdg : decode cc pc = .ok (.return_, 1)) : W p l e R s m args below meth c H locs 0 0 (MQ below (va_Qv post (zt_B g) (zt_A g)) args s 0 0 (zt_A g)) (F0 m pc ls []) :=
  W.vret hx hb hr (fun t ht hW => ⟨⟨S, rfl, hp, by rw [ht]; exact hI.1, va_K.moved hW.alike hI.2.1, hI.2.2.1⟩, hI.2.2.2.F ht⟩) hI.2.2.2.2.2 hdg hlk
theorem zt_sret {v : Int32} {ty : FieldType} {post : Int32 → Prop} (hx : p.tables.exec = Jvm.exec) (hb : c.code = cc) (hr : meth.sig.returnType = some ty) (hlk : meth.locks = false) (hn : zt_nar ty v) (hp : post v) (hdg : decode cc pc = .ok (.ireturn, 1)) : W p l e R s m args below meth c s.heap [] 0 0 (MQ below (vp_Si post) args s 0 0 (fun _ => False)) (F0 m pc ls [.int v]) :=
  W.zret hx hb hr hn (fun t ht hW => ⟨v, rfl, hp, ht⟩) (fun q h => by cases h) hdg hlk
theorem zt_recv (hI : zt_I g S s H locs) : ∃ cell : Cell, H[g.2.1]? = some cell ∧ cell.vm.isStatics = false ∧ s.vm.findClass RX5 = some cell.cls := va_recv hI.2.1 hI.1 (ci := 0) (q0 := 0) rfl rfl
theorem zt_calli {y : MethodName} {bytes : ByteArray} {maxL n index : Nat} {ret : Option FieldType} {ws : List Cond} {rm : Room} {As : List Value} {post : Int32 → zt_S → Prop} (S0 : CallFix p m c cc nL s args lw_all RX5) (hI : zt_I g S s H locs) (hM : Met l y ws rm (va_Pc (.ref g.2.1 :: As) (zt_B g S)) (va_Qi post (zt_B g) (zt_A g)) 0 0 (zt_A g)) (cw : CallW R s args RX5 RX5 index y bytes maxL ret ws rm 0 0 n)
    (hn : As.length = n) (hsz : ls.size = nL) (hst : st = As.reverse ++ .ref g.2.1 :: rest) (hW : 2 * (F0 m pc ls st).monitorRoom + (rest.map fun v => v.category).sum ≤ 8) (hdg : decode cc pc = .ok (.invokevirtual index, 3)) (hf : cells ≤ R.cells ∧ slots ≤ R.slots)
    (kk : ∀ (r : Int32) (S1 : zt_S) (H1 : Heap) (locs1 : List Loc), post r S1 → zt_I g S1 s H1 locs1 → W p l e R s m args below meth c H1 locs1 cells slots Q (F0 m (pc + 3) ls (.int r :: rest))) : W p l e R s m args below meth c H locs cells slots Q (F0 m pc ls st) := by
  refine va_calli (va_runV (As := As) (rest := rest) S0 hM cw ⟨zt_blind, zt_recv hI, fun U hU hW => ⟨rfl, by rw [hU]; exact hI.1, va_K.moved hW.alike hI.2.1, hI.2.2.1⟩⟩ rfl hn hsz hst hW hdg hf) hI.2.2.2 (fun q _ h => h) (fun q h => h) (fun r u t H1 locs1 ht hvm hpost hB hz hk hS => ?_)
  exact kk r u H1 locs1 hpost ⟨by rw [← ht]; exact hB.1, hI.2.1, hB.2.2, hS⟩
theorem zt_callv {y : MethodName} {bytes : ByteArray} {maxL n index : Nat} {ret : Option FieldType} {ws : List Cond} {rm : Room} {As : List Value} {post : zt_S → Prop} (S0 : CallFix p m c cc nL s args lw_all RX5) (hI : zt_I g S s H locs) (hM : Met l y ws rm (va_Pc (.ref g.2.1 :: As) (zt_B g S)) (va_Qv post (zt_B g) (zt_A g)) 0 0 (zt_A g)) (cw : CallW R s args RX5 RX5 index y bytes maxL ret ws rm 0 0 n)
    (hn : As.length = n) (hsz : ls.size = nL) (hst : st = As.reverse ++ .ref g.2.1 :: rest) (hW : 2 * (F0 m pc ls st).monitorRoom + (rest.map fun v => v.category).sum ≤ 8) (hdg : decode cc pc = .ok (.invokevirtual index, 3)) (hf : cells ≤ R.cells ∧ slots ≤ R.slots)
    (kk : ∀ (S1 : zt_S) (H1 : Heap) (locs1 : List Loc), post S1 → zt_I g S1 s H1 locs1 → W p l e R s m args below meth c H1 locs1 cells slots Q (F0 m (pc + 3) ls rest)) : W p l e R s m args below meth c H locs cells slots Q (F0 m pc ls st) := by
  refine va_callv (va_runV (As := As) (rest := rest) S0 hM cw ⟨zt_blind, zt_recv hI, fun U hU hW => ⟨rfl, by rw [hU]; exact hI.1, va_K.moved hW.alike hI.2.1, hI.2.2.1⟩⟩ rfl hn hsz hst hW hdg hf) hI.2.2.2 (fun q _ h => h) (fun q h => h) (fun u t H1 locs1 ht hvm hpost hB hz hk hS => ?_)
  exact kk u H1 locs1 hpost ⟨by rw [← ht]; exact hB.1, hI.2.1, hB.2.2, hS⟩
theorem zt_callS {own : String} {y : MethodName} {bytes : ByteArray} {maxL n index : Nat} {ret : Option FieldType} {ws : List Cond} {rm : Room} {As : List Value} {post : Int32 → Prop} (S0 : CallFix p m c cc nL s args lw_all own) (hM : Met l y ws rm (va_Pc As (fun _ => True)) (vp_Si post) 0 0 (fun _ => False)) (cw : CallB R s args own index y bytes maxL ret ws rm 0 0 n ∧ (Cond.static y).before args s = true)
    (hn : As.length = n) (hsz : ls.size = nL) (hst : st = As.reverse ++ rest) (hW : 2 * (F0 m pc ls st).monitorRoom + (rest.map fun v => v.category).sum ≤ 8) (hdg : decode cc pc = .ok (.invokestatic index, 3)) (hf : cells ≤ R.cells ∧ slots ≤ R.slots)
    (kk : ∀ (r : Int32), post r → W p l e R s m args below meth c H locs cells slots Q (F0 m (pc + 3) ls (.int r :: rest))) : W p l e R s m args below meth c H locs cells slots Q (F0 m pc ls st) :=
  vp_callSi (W.runS (As := As) (rest := rest) S0 hM cw ⟨fun a U gg mk h => ⟨h.1, trivial⟩, fun U hU hW => ⟨rfl, trivial⟩⟩ rfl hn hsz hst hW hdg hf) kk
end ZT
/-- a contract of an object's method, from a walk of its body -/
theorem zt_met {l : Launch} {g : zt_G} {S : zt_S} {y : MethodName} {cc : ByteArray} {nL : Nat} {ret : Option FieldType} {rm : Room} {As : List Value} {Qc : Array Value → State → Outcome → State → Prop} (hy : plainName y.cls = true) (hcls : y.cls = RX5) (hlen : (lg_sl (.ref g.2.1 :: As)).length ≤ nL)
    (body : ∀ (p : Program) (e : Env) (s : State) (m : MethodId) (below : List Frame) (meth : Method) (c : Code) (ls : Array Slot), zt_C p s m (Value.ref g.2.1 :: As).toArray meth c cc nL ret → zt_I g S s s.heap [] → lv_has ls nL (lv_args 0 (.ref g.2.1 :: As)) → W p l e rm s m (Value.ref g.2.1 :: As).toArray below meth c s.heap [] 0 0 (MQ below Qc (Value.ref g.2.1 :: As).toArray s 0 0 (zt_A g)) (F0 m 0 ls [])) :
    Met l y (ws_ y cc nL ret) rm (va_Pc (.ref g.2.1 :: As) (zt_B g S)) Qc 0 0 (zt_A g) := by
  refine Met.ofW (cc := cc) (maxL := nL) (ret := ret) hy rfl ?_
  intro p e s m args below meth c s₁ B hml hv
  obtain ⟨rfl, hP, hK, hD⟩ := hv
  have hts := atoms_spec (ws := ws_ y cc nL ret) B.pre
  have hl := lv_entry (.ref g.2.1 :: As) hlen
  rw [lg_entry_eq]
  exact body p e s m below meth c _ ⟨B.exec, B.bytes, hml, by rw [← hcls]; exact findClass_of_methodNamed B.named, fun w h => hts w (List.mem_cons_of_mem _ h), B.returns, B.notSynchronized⟩ ⟨hP, hK, hD, va_S.rf⟩ hl
/-- of a static method that looks at its arguments alone -/
theorem zt_metS {l : Launch} {y : MethodName} {cc : ByteArray} {nL : Nat} {ret : Option FieldType} {rm : Room} {As : List Value} {Qc : Array Value → State → Outcome → State → Prop} (hy : plainName y.cls = true) (hcls : y.cls = RX5) (hlen : (lg_sl As).length ≤ nL)
    (body : ∀ (p : Program) (e : Env) (s : State) (m : MethodId) (below : List Frame) (meth : Method) (c : Code) (ls : Array Slot), zt_C p s m As.toArray meth c cc nL ret → lv_has ls nL (lv_args 0 As) → W p l e rm s m As.toArray below meth c s.heap [] 0 0 (MQ below Qc As.toArray s 0 0 (fun _ => False)) (F0 m 0 ls [])) :
    Met l y (ws_ y cc nL ret) rm (va_Pc As (fun _ => True)) Qc 0 0 (fun _ => False) := by
  refine Met.ofW (cc := cc) (maxL := nL) (ret := ret) hy rfl ?_
  intro p e s m args below meth c s₁ B hml hv
  obtain ⟨rfl, -⟩ := hv
  have hts := atoms_spec (ws := ws_ y cc nL ret) B.pre
  have hl := lv_entry As hlen
  rw [lg_entry_eq]
  exact body p e s m below meth c _ ⟨B.exec, B.bytes, hml, by rw [← hcls]; exact findClass_of_methodNamed B.named, fun w h => hts w (List.mem_cons_of_mem _ h), B.returns, B.notSynchronized⟩ hl
/-- a tableswitch: none of its numbers -/
theorem zs_out (lo hi : Int) (n : Nat) (ks : List Int32) {x : Int32} (hn : hi < lo + n) (hc : ∀ j, j < n → Int32.ofInt (lo + j) ∈ ks) (h : ∀ k ∈ ks, ¬ x = k) : x.toInt < lo ∨ hi < x.toInt := by
  by_cases h1 : x.toInt < lo
  · exact Or.inl h1
  · by_cases h2 : hi < x.toInt
    · exact Or.inr h2
    · have h3 := hc (x.toInt - lo).toNat (by omega)
      have h4 : lo + ((x.toInt - lo).toNat : Int) = x.toInt := by omega
      rw [h4, Int32.ofInt_toInt] at h3
      exact absurd rfl (h _ h3)
