set_option maxRecDepth 100000
def gw_J49_size (K : ga_K) (p0 : Nat) (h : ga_H) (post : Int32 → ga_H → Prop) : Prop :=
  ∃ (fs_1 : List Value) (v_2 : Option Nat), h p0 = some (ga_O 26 fs_1) ∧ fs_1[0]? = some (va_rf v_2) ∧ (∃ a_3 : Nat, v_2 = some a_3 ∧ ∃ (n_4 : Nat) (f_5 : Nat → Option Nat), ga_at K h a_3 (ga_Aq 5 n_4 f_5) ∧ (post (nI n_4) h))
set_option maxHeartbeats 4000000 in
theorem gm_J49_size (l : Launch) (g : ga_G) (p0 : Nat) (h : ga_H) (post : Int32 → ga_H → Prop) (hw : gw_J49_size g.2.2 p0 h post) : Met l yJ49_size (ws_ yJ49_size cJ49_size 1 (some .int)) ({ frames := 8, cells := 0, slots := 0, locals := 140 } : Room) (va_Pc [.ref p0] (ga_B g h)) (va_Qi post (ga_E g) (ga_A g)) 0 0 (ga_A g) := by
  refine ga_met (own := "java/util/ImmutableCollections$ListN") (nm := "size") (by decide) rfl rfl (by exact Nat.le_of_ble_eq_true rfl) (fun p e s m below meth c ls hC hI hl => ?_)
  have hl : lv_has ls 1 [(0, .ref p0)] := hl
  generalize ([.ref p0] : List Value).toArray = args at hC ⊢
  obtain ⟨hx, hb, hml, hown, hts, hr, hlk, hnm⟩ := hC
  unfold gw_J49_size at hw
  obtain ⟨H, eH⟩ : ∃ z, z = s.heap := ⟨_, rfl⟩
  obtain ⟨locs, elo⟩ : ∃ z : List Loc, z = [] := ⟨_, rfl⟩
  rw [← eH, ← elo] at hI ⊢
  obtain ⟨cells, slots, hbc, hbs, e0, e1⟩ : ∃ a b : Nat, a ≤ 0 ∧ b ≤ 0 ∧ a = 0 ∧ b = 0 := ⟨0, 0, by omega, by omega, rfl, rfl⟩
  show W p l e ({ frames := 8, cells := 0, slots := 0, locals := 140 } : Room) s m args below meth c H locs 0 0 (MQ below (va_Qi post (ga_E g) (ga_A g)) args s 0 0 (ga_A g)) (F0 m 0 ls [])
  suffices hgoal : W p l e ({ frames := 8, cells := 0, slots := 0, locals := 140 } : Room) s m args below meth c H locs cells slots (MQ below (va_Qi post (ga_E g) (ga_A g)) args s 0 0 (ga_A g)) (F0 m 0 ls []) by rw [e0, e1] at hgoal; exact hgoal
  refine lv_aload_n hx hb dJ49_size_0 rfl (lv_at hl 0 rfl) ?_
  obtain ⟨fs_1, v_2, hq, hv, hw⟩ := hw
  refine ga_get (ci := 26) (T := TJ49) (v := va_rf v_2) hx hb hts hown hI in_J49 rfl 0 (by decide) q2927 (fun _ z => z) (ga_at.h hq) hv dJ49_size_1 ?_
  obtain ⟨a_3, ea_3, hw⟩ := hw
  rewrite [ea_3]
  obtain ⟨n_4, f_5, hq, hw⟩ := hw
  refine ga_len hx hb hI hq rfl dJ49_size_4 ?_
  exact ga_iret hx hb hr rfl hlk hI hw hbc hbs dJ49_size_5
theorem hdG_J49_size : yJ49_size.cls ≠ "java/lang/invoke/MethodHandle" ∧ yJ49_size.cls ≠ "java/lang/invoke/VarHandle" ∧ (parseMethodDescriptor yJ49_size.desc).map (fun d => d.parameters.length) = some 0 := by decide +kernel
def gw_J4_calculateHashMapCapacity (K : ga_K) (p0 : Int32) (h : ga_H) (post : Int32 → ga_H → Prop) : Prop :=
  vf_n64 (FP.ddiv (FP.i2d p0) (4604930618986332160 : UInt64)) ∧ (gw_J14_ceil K (FP.ddiv (FP.i2d p0) (4604930618986332160 : UInt64)) h (fun (r_2 : UInt64) (h_1 : ga_H) => post (FP.d2i r_2) h_1))
set_option maxHeartbeats 4000000 in
theorem gm_J4_calculateHashMapCapacity (l : Launch) (g : ga_G) (p0 : Int32) (h : ga_H) (post : Int32 → ga_H → Prop) (hw : gw_J4_calculateHashMapCapacity g.2.2 p0 h post) : Met l yJ4_calculateHashMapCapacity (ws_ yJ4_calculateHashMapCapacity cJ4_calculateHashMapCapacity 1 (some .int)) ({ frames := 13, cells := 0, slots := 0, locals := 1316 } : Room) (va_Pc [.int p0] (ga_B g h)) (va_Qi post (ga_E g) (ga_A g)) 0 0 (ga_A g) := by
  refine ga_met (own := "java/util/HashMap") (nm := "calculateHashMapCapacity") (by decide) rfl rfl (by exact Nat.le_of_ble_eq_true rfl) (fun p e s m below meth c ls hC hI hl => ?_)
  have hl : lv_has ls 1 [(0, .int p0)] := hl
  generalize ([.int p0] : List Value).toArray = args at hC ⊢
  obtain ⟨hx, hb, hml, hown, hts, hr, hlk, hnm⟩ := hC
  unfold gw_J4_calculateHashMapCapacity at hw
  obtain ⟨H, eH⟩ : ∃ z, z = s.heap := ⟨_, rfl⟩
  obtain ⟨locs, elo⟩ : ∃ z : List Loc, z = [] := ⟨_, rfl⟩
  rw [← eH, ← elo] at hI ⊢
  obtain ⟨cells, slots, hbc, hbs, e0, e1⟩ : ∃ a b : Nat, a ≤ 0 ∧ b ≤ 0 ∧ a = 0 ∧ b = 0 := ⟨0, 0, by omega, by omega, rfl, rfl⟩
  show W p l e ({ frames := 13, cells := 0, slots := 0, locals := 1316 } : Room) s m args below meth c H locs 0 0 (MQ below (va_Qi post (ga_E g) (ga_A g)) args s 0 0 (ga_A g)) (F0 m 0 ls [])
  suffices hgoal : W p l e ({ frames := 13, cells := 0, slots := 0, locals := 1316 } : Room) s m args below meth c H locs cells slots (MQ below (va_Qi post (ga_E g) (ga_A g)) args s 0 0 (ga_A g)) (F0 m 0 ls []) by rw [e0, e1] at hgoal; exact hgoal
  refine lv_iload_n hx hb dJ4_calculateHashMapCapacity_0 rfl (lv_at hl 0 rfl) ?_
  refine lv_i2d hx hb dJ4_calculateHashMapCapacity_1 ?_
  refine lv_ldc2d (v := 4604930618986332160) hx hb hown (hts _ q2970) dJ4_calculateHashMapCapacity_2 ?_
  refine lv_ddiv hx hb dJ4_calculateHashMapCapacity_5 hw.1 ?_
  have hw := hw.2
  refine ga_calld (va_runS (As := [.double (FP.ddiv (FP.i2d p0) (4604930618986332160 : UInt64))]) (rest := []) ⟨hx, hb, hml, hown, hts⟩ (gm_J14_ceil l g (FP.ddiv (FP.i2d p0) (4604930618986332160 : UInt64)) h _ hw) (va_cwS 1 hts (lw_S q1436 q1437 q119 q1438) rfl rfl rfl hdG_J14_ceil ⟨Nat.le_of_ble_eq_true rfl, Nat.le_of_ble_eq_true rfl⟩) (ga_preS hI rfl) rfl rfl hl.1 rfl (ga_room (Nat.le_of_ble_eq_true rfl)) dJ4_calculateHashMapCapacity_6 ⟨hbc, hbs⟩) hI (bc := 0) (bs := 0) hbc hbs (Nat.zero_le _) (Nat.zero_le _) (fun r_2 h_1 H locs cells slots hw hI hbc hbs => ?_)
  refine lv_d2i hx hb dJ4_calculateHashMapCapacity_9 ?_
  exact ga_iret hx hb hr rfl hlk hI hw hbc hbs dJ4_calculateHashMapCapacity_10
theorem hdG_J4_calculateHashMapCapacity : yJ4_calculateHashMapCapacity.cls ≠ "java/lang/invoke/MethodHandle" ∧ yJ4_calculateHashMapCapacity.cls ≠ "java/lang/invoke/VarHandle" ∧ (parseMethodDescriptor yJ4_calculateHashMapCapacity.desc).map (fun d => d.parameters.length) = some 1 := by decide +kernel
def gw_J50_isNaN (K : ga_K) (p0 : UInt32) (h : ga_H) (post : Int32 → ga_H → Prop) : Prop :=
  (Op.cmpValue (FP.fcmp p0 p0) .l = (0 : Int32) → (post (0 : Int32) h)) ∧ (¬ Op.cmpValue (FP.fcmp p0 p0) .l = (0 : Int32) → (post (1 : Int32) h))
set_option maxHeartbeats 4000000 in
theorem gm_J50_isNaN (l : Launch) (g : ga_G) (p0 : UInt32) (h : ga_H) (post : Int32 → ga_H → Prop) (hw : gw_J50_isNaN g.2.2 p0 h post) : Met l yJ50_isNaN (ws_ yJ50_isNaN cJ50_isNaN 1 (some .boolean)) ({ frames := 8, cells := 0, slots := 0, locals := 140 } : Room) (va_Pc [.float p0] (ga_B g h)) (va_Qi post (ga_E g) (ga_A g)) 0 0 (ga_A g) := by
  refine ga_metF (own := "java/lang/Float") (nm := "isNaN") (by decide +kernel) rfl rfl (by exact Nat.le_of_ble_eq_true rfl) (fun p e s m below meth c ls hC hI hl => ?_)
  have hl : lv_has ls 1 [(0, .float p0)] := hl
  generalize ([.float p0] : List Value).toArray = args at hC ⊢
  obtain ⟨hx, hb, hml, hown, hts, hr, hlk, hnm⟩ := hC
  unfold gw_J50_isNaN at hw
  obtain ⟨H, eH⟩ : ∃ z, z = s.heap := ⟨_, rfl⟩
  obtain ⟨locs, elo⟩ : ∃ z : List Loc, z = [] := ⟨_, rfl⟩
  rw [← eH, ← elo] at hI ⊢
  obtain ⟨cells, slots, hbc, hbs, e0, e1⟩ : ∃ a b : Nat, a ≤ 0 ∧ b ≤ 0 ∧ a = 0 ∧ b = 0 := ⟨0, 0, by omega, by omega, rfl, rfl⟩
  show W p l e ({ frames := 8, cells := 0, slots := 0, locals := 140 } : Room) s m args below meth c H locs 0 0 (MQ below (va_Qi post (ga_E g) (ga_A g)) args s 0 0 (ga_A g)) (F0 m 0 ls [])
  suffices hgoal : W p l e ({ frames := 8, cells := 0, slots := 0, locals := 140 } : Room) s m args below meth c H locs cells slots (MQ below (va_Qi post (ga_E g) (ga_A g)) args s 0 0 (ga_A g)) (F0 m 0 ls []) by rw [e0, e1] at hgoal; exact hgoal
  refine lv_fload_n hx hb dJ50_isNaN_0 rfl (lv_at hl 0 rfl) ?_
  refine lv_fload_n hx hb dJ50_isNaN_1 rfl (lv_at hl 0 rfl) ?_
  refine lv_fcmp hx hb dJ50_isNaN_2 ?_
  refine lv_if_eq (tgt := 10) hx hb dJ50_isNaN_3 (by decide) (fun hc_1 => ?_) (fun hc_1 => ?_)
  · have hw := hw.1 hc_1
    refine lv_iconst (v := 0) hx hb dJ50_isNaN_10 (by decide) ?_
    exact ga_iret hx hb hr rfl hlk hI hw hbc hbs dJ50_isNaN_11
  · have hw := hw.2 hc_1
    refine lv_iconst (v := 1) hx hb dJ50_isNaN_6 (by decide) ?_
    refine lv_goto (tgt := 11) hx hb dJ50_isNaN_7 (by decide) ?_
    exact ga_iret hx hb hr rfl hlk hI hw hbc hbs dJ50_isNaN_11
theorem hdG_J50_isNaN : yJ50_isNaN.cls ≠ "java/lang/invoke/MethodHandle" ∧ yJ50_isNaN.cls ≠ "java/lang/invoke/VarHandle" ∧ (parseMethodDescriptor yJ50_isNaN.desc).map (fun d => d.parameters.length) = some 1 := by decide +kernel
def gw_J5_append_3 (K : ga_K) (p0 : Nat) (p1 : UInt32) (h : ga_H) (mc ms : Nat) (post : Option Nat → ga_H → Prop) (xp : String → Nat → ga_H → Prop) : Prop :=
  False
set_option maxHeartbeats 4000000 in
theorem gm_J5_append_3 (l : Launch) (hst : l.stackTraces = false) (g : ga_G) (p0 : Nat) (p1 : UInt32) (h : ga_H) (mc ms : Nat) (post : Option Nat → ga_H → Prop) (xp : String → Nat → ga_H → Prop) (hw : gw_J5_append_3 g.2.2 p0 p1 h mc ms post xp) : vx_Met l yJ5_append_3 (wsW_ yJ5_append_3 cJ5_append_3 3 (some (.object "java/lang/AbstractStringBuilder")) [(0, 6, 9, 271)]) ({ frames := 8, cells := mc, slots := ms, locals := 140 } : Room) (va_Pc [.ref p0, .float p1] (ga_B g h)) (va_Qq post (ga_E g) (ga_A g)) (ga_X g xp) mc ms (ga_A g) := by
  refine ga_metxW (own := "java/lang/AbstractStringBuilder") (nm := "append") (by decide) rfl rfl (by exact Nat.le_of_ble_eq_true rfl) (fun p e s m below meth c ls hC htab hI hl => ?_)
  have hl : lv_has ls 3 [(0, .ref p0), (1, .float p1)] := hl
  generalize ([.ref p0, .float p1] : List Value).toArray = args at hC ⊢
  obtain ⟨hx, hb, hml, hown, hts, hr, hlk, hnm⟩ := hC
  unfold gw_J5_append_3 at hw
  obtain ⟨H, eH⟩ : ∃ z, z = s.heap := ⟨_, rfl⟩
  obtain ⟨locs, elo⟩ : ∃ z : List Loc, z = [] := ⟨_, rfl⟩
  rw [← eH, ← elo] at hI ⊢
  obtain ⟨cells, slots, hbc, hbs, e0, e1⟩ : ∃ a b : Nat, a + mc ≤ mc ∧ b + ms ≤ ms ∧ a = 0 ∧ b = 0 := ⟨0, 0, by omega, by omega, rfl, rfl⟩
  show W p l e ({ frames := 8, cells := mc, slots := ms, locals := 140 } : Room) s m args below meth c H locs 0 0 (vx_MQ below (va_Qq post (ga_E g) (ga_A g)) (ga_X g xp) args s mc ms (ga_A g)) (F0 m 0 ls [])
  suffices hgoal : W p l e ({ frames := 8, cells := mc, slots := ms, locals := 140 } : Room) s m args below meth c H locs cells slots (vx_MQ below (va_Qq post (ga_E g) (ga_A g)) (ga_X g xp) args s mc ms (ga_A g)) (F0 m 0 ls []) by rw [e0, e1] at hgoal; exact hgoal
  exact hw.elim
theorem hdG_J5_append_3 : yJ5_append_3.cls ≠ "java/lang/invoke/MethodHandle" ∧ yJ5_append_3.cls ≠ "java/lang/invoke/VarHandle" ∧ (parseMethodDescriptor yJ5_append_3.desc).map (fun d => d.parameters.length) = some 1 := by decide +kernel
def gw_J6_append_3 (K : ga_K) (p0 : Nat) (p1 : UInt32) (h : ga_H) (mc ms : Nat) (post : Option Nat → ga_H → Prop) (xp : String → Nat → ga_H → Prop) : Prop :=
  False
set_option maxHeartbeats 4000000 in
theorem gm_J6_append_3 (l : Launch) (hst : l.stackTraces = false) (g : ga_G) (p0 : Nat) (p1 : UInt32) (h : ga_H) (mc ms : Nat) (post : Option Nat → ga_H → Prop) (xp : String → Nat → ga_H → Prop) (hw : gw_J6_append_3 g.2.2 p0 p1 h mc ms post xp) : vx_Met l yJ6_append_3 (ws_ yJ6_append_3 cJ6_append_3 2 (some (.object "java/lang/StringBuilder"))) ({ frames := 9, cells := mc, slots := ms, locals := 162 } : Room) (va_Pc [.ref p0, .float p1] (ga_B g h)) (va_Qq post (ga_E g) (ga_A g)) (ga_X g xp) mc ms (ga_A g) := by
  refine ga_metx (own := "java/lang/StringBuilder") (nm := "append") (by decide) rfl rfl (by exact Nat.le_of_ble_eq_true rfl) (fun p e s m below meth c ls hC htab hI hl => ?_)
  have hl : lv_has ls 2 [(0, .ref p0), (1, .float p1)] := hl
  generalize ([.ref p0, .float p1] : List Value).toArray = args at hC ⊢
  obtain ⟨hx, hb, hml, hown, hts, hr, hlk, hnm⟩ := hC
  unfold gw_J6_append_3 at hw
  obtain ⟨H, eH⟩ : ∃ z, z = s.heap := ⟨_, rfl⟩
  obtain ⟨locs, elo⟩ : ∃ z : List Loc, z = [] := ⟨_, rfl⟩
  rw [← eH, ← elo] at hI ⊢
  obtain ⟨cells, slots, hbc, hbs, e0, e1⟩ : ∃ a b : Nat, a + mc ≤ mc ∧ b + ms ≤ ms ∧ a = 0 ∧ b = 0 := ⟨0, 0, by omega, by omega, rfl, rfl⟩
  show W p l e ({ frames := 9, cells := mc, slots := ms, locals := 162 } : Room) s m args below meth c H locs 0 0 (vx_MQ below (va_Qq post (ga_E g) (ga_A g)) (ga_X g xp) args s mc ms (ga_A g)) (F0 m 0 ls [])
  suffices hgoal : W p l e ({ frames := 9, cells := mc, slots := ms, locals := 162 } : Room) s m args below meth c H locs cells slots (vx_MQ below (va_Qq post (ga_E g) (ga_A g)) (ga_X g xp) args s mc ms (ga_A g)) (F0 m 0 ls []) by rw [e0, e1] at hgoal; exact hgoal
  exact hw.elim
theorem hdG_J6_append_3 : yJ6_append_3.cls ≠ "java/lang/invoke/MethodHandle" ∧ yJ6_append_3.cls ≠ "java/lang/invoke/VarHandle" ∧ (parseMethodDescriptor yJ6_append_3.desc).map (fun d => d.parameters.length) = some 1 := by decide +kernel
def gw_J4_init_3_57 (K : ga_K) (post : ga_H → Prop) (xp : String → Nat → ga_H → Prop) (p0 : Nat) (v2 : UInt32) (h : ga_H) (bc bs : Nat) : Prop :=
  False
set_option maxHeartbeats 4000000 in
theorem gj_J4_init_3_57 {p : Program} {l : Launch} {e : Env} {s : State} {m : MethodId} {args : Array Value} {below : List Frame} {meth : Method} {c : Code} {mc ms : Nat} {H : Heap} {locs : List Loc} {cells slots : Nat} {ls : Array Slot} (hst : l.stackTraces = false) (htab : c.exceptionTable.toList = []) (g : ga_G) (post : ga_H → Prop) (xp : String → Nat → ga_H → Prop) (p0 : Nat) (v2 : UInt32) (h : ga_H) (bc bs : Nat) (hC : ga_Cx p s m args meth c cJ4_init_3 3 none "java/util/HashMap" "<init>") (hw : gw_J4_init_3_57 g.2.2 post xp p0 v2 h bc bs) (hI : ga_I g h s H locs) (hbc : cells + bc ≤ mc) (hbs : slots + bs ≤ ms) (hl : lv_has ls 3 [(2, .float v2)]) : W p l e ({ frames := 20, cells := mc, slots := ms, locals := 407 } : Room) s m args below meth c H locs cells slots (vx_MQ below (va_Qv post (ga_E g) (ga_A g)) (ga_X g xp) args s mc ms (ga_A g)) (F0 m 57 ls []) := by
  obtain ⟨hx, hb, hml, hown, hts, hr, hlk, hnm⟩ := hC
  unfold gw_J4_init_3_57 at hw
  exact hw.elim
def gw_J4_init_3_44 (K : ga_K) (post : ga_H → Prop) (xp : String → Nat → ga_H → Prop) (p0 : Nat) (v1 : Int32) (v2 : UInt32) (h : ga_H) (bc bs : Nat) : Prop :=
  (Op.cmpValue (FP.fcmp v2 (0 : UInt32)) .g ≤ (0 : Int32) → (gw_J4_init_3_57 K post xp p0 v2 h bc bs)) ∧ (¬ Op.cmpValue (FP.fcmp v2 (0 : UInt32)) .g ≤ (0 : Int32) → (gw_J50_isNaN K v2 h (fun (r_6 : Int32) (h_5 : ga_H) => (r_6 = (0 : Int32) → (∃ fs_8 : List Value, h_5 p0 = some (ga_O 15 fs_8) ∧ 7 < fs_8.length ∧ ∀ h_9 : ga_H, h_9 = ga_set h_5 p0 (ga_O 15 (fs_8.set 7 (.float v2))) → (gw_J4_tableSizeFor K v1 h_9 (fun (r_11 : Int32) (h_10 : ga_H) => ∃ fs_12 : List Value, h_10 p0 = some (ga_O 15 fs_12) ∧ 6 < fs_12.length ∧ ∀ h_13 : ga_H, h_13 = ga_set h_10 p0 (ga_O 15 (fs_12.set 6 (.int r_11))) → (post h_13))))) ∧ (¬ r_6 = (0 : Int32) → (gw_J4_init_3_57 K post xp p0 v2 h_5 bc bs)))))
set_option maxHeartbeats 4000000 in
theorem gj_J4_init_3_44 {p : Program} {l : Launch} {e : Env} {s : State} {m : MethodId} {args : Array Value} {below : List Frame} {meth : Method} {c : Code} {mc ms : Nat} {H : Heap} {locs : List Loc} {cells slots : Nat} {ls : Array Slot} (hst : l.stackTraces = false) (htab : c.exceptionTable.toList = []) (g : ga_G) (post : ga_H → Prop) (xp : String → Nat → ga_H → Prop) (p0 : Nat) (v1 : Int32) (v2 : UInt32) (h : ga_H) (bc bs : Nat) (hC : ga_Cx p s m args meth c cJ4_init_3 3 none "java/util/HashMap" "<init>") (hw : gw_J4_init_3_44 g.2.2 post xp p0 v1 v2 h bc bs) (hI : ga_I g h s H locs) (hbc : cells + bc ≤ mc) (hbs : slots + bs ≤ ms) (hl : lv_has ls 3 [(0, .ref p0), (1, .int v1), (2, .float v2)]) : W p l e ({ frames := 20, cells := mc, slots := ms, locals := 407 } : Room) s m args below meth c H locs cells slots (vx_MQ below (va_Qv post (ga_E g) (ga_A g)) (ga_X g xp) args s mc ms (ga_A g)) (F0 m 44 ls []) := by
  obtain ⟨hx, hb, hml, hown, hts, hr, hlk, hnm⟩ := hC
  unfold gw_J4_init_3_44 at hw
  refine lv_fload_n hx hb dJ4_init_3_44 rfl (lv_at hl 2 rfl) ?_
  refine lv_fconst0 hx hb dJ4_init_3_45 ?_
  refine lv_fcmp hx hb dJ4_init_3_46 ?_
  refine lv_if_le (tgt := 57) hx hb dJ4_init_3_47 (by decide) (fun hc_4 => ?_) (fun hc_4 => ?_)
  · have hw := hw.1 hc_4
    exact gj_J4_init_3_57 hst htab g post xp p0 v2 h bc bs ⟨hx, hb, hml, hown, hts, hr, hlk, hnm⟩ hw hI hbc hbs (lv_sub hl [2] rfl)
  · have hw := hw.2 hc_4
    refine lv_fload_n hx hb dJ4_init_3_50 rfl (lv_at hl 2 rfl) ?_
    refine ga_calli (va_runS (As := [.float v2]) (rest := []) ⟨hx, hb, hml, hown, hts⟩ (gm_J50_isNaN l g v2 h _ hw) (va_cwS 1 hts (lw_S q2978 q2979 q166 q2980) rfl rfl rfl hdG_J50_isNaN ⟨Nat.le_of_ble_eq_true rfl, Nat.le_of_ble_eq_true rfl⟩) (ga_preS hI rfl) rfl rfl hl.1 rfl (ga_room (Nat.le_of_ble_eq_true rfl)) dJ4_init_3_51 ⟨Nat.le_trans (Nat.add_le_add_left (Nat.zero_le _) _) hbc, Nat.le_trans (Nat.add_le_add_left (Nat.zero_le _) _) hbs⟩) hI hbc hbs (Nat.zero_le _) (Nat.zero_le _) (fun r_6 h_5 H locs cells slots hw hI hbc hbs => ?_)
    refine lv_if_eq (tgt := 84) hx hb dJ4_init_3_54 (by decide) (fun hc_7 => ?_) (fun hc_7 => ?_)
    · have hw := hw.1 hc_7
      refine lv_aload_n hx hb dJ4_init_3_84 rfl (lv_at hl 0 rfl) ?_
      refine lv_fload_n hx hb dJ4_init_3_85 rfl (lv_at hl 2 rfl) ?_
      obtain ⟨fs_8, hq, hk, hw⟩ := hw
      refine ga_putF (ci := 15) (T := TJ4) (v := .float v2) (ty := tyJ4 7) hx hb hts hown hI in_J4 rfl tyJ4 tyJ4_ok nmJ4 7 (by decide) q238 (fun _ z => z) rfl hnm rfl (tyJ4_ok 7 (by decide)) rfl rfl hq hk dJ4_init_3_86 (fun H locs hI => ?_)
      obtain ⟨h_9, eh_9⟩ : ∃ z, z = ga_set h_5 p0 (ga_O 15 (fs_8.set 7 (.float v2))) := ⟨_, rfl⟩
      rw [← eh_9] at hI
      have hw := hw h_9 eh_9
      refine lv_aload_n hx hb dJ4_init_3_89 rfl (lv_at hl 0 rfl) ?_
      refine lv_iload_n hx hb dJ4_init_3_90 rfl (lv_at hl 1 rfl) ?_
      refine ga_calli (va_runS (As := [.int v1]) (rest := [.ref p0]) ⟨hx, hb, hml, hown, hts⟩ (gm_J4_tableSizeFor l g v1 h_9 _ hw) (va_cwS 1 hts (lw_S q1464 q1465 q106 q1466) rfl rfl rfl hdG_J4_tableSizeFor ⟨Nat.le_of_ble_eq_true rfl, Nat.le_of_ble_eq_true rfl⟩) (ga_preS hI rfl) rfl rfl hl.1 rfl (ga_room (Nat.le_of_ble_eq_true rfl)) dJ4_init_3_91 ⟨Nat.le_trans (Nat.add_le_add_left (Nat.zero_le _) _) hbc, Nat.le_trans (Nat.add_le_add_left (Nat.zero_le _) _) hbs⟩) hI hbc hbs (Nat.zero_le _) (Nat.zero_le _) (fun r_11 h_10 H locs cells slots hw hI hbc hbs => ?_)
      obtain ⟨fs_12, hq, hk, hw⟩ := hw
      refine ga_put (ci := 15) (T := TJ4) (v := .int r_11) (ty := tyJ4 6) hx hb hts hown hI in_J4 rfl tyJ4 tyJ4_ok nmJ4 6 (by decide) q237 (fun _ z => z) rfl (tyJ4_ok 6 (by decide)) rfl rfl hq hk dJ4_init_3_94 (fun H locs hI => ?_)
      obtain ⟨h_13, eh_13⟩ : ∃ z, z = ga_set h_10 p0 (ga_O 15 (fs_12.set 6 (.int r_11))) := ⟨_, rfl⟩
      rw [← eh_13] at hI
      have hw := hw h_13 eh_13
      exact ga_vretx hx hb hr hlk hI hw (Nat.le_trans (Nat.le_add_right _ _) hbc) (Nat.le_trans (Nat.le_add_right _ _) hbs) dJ4_init_3_97
    · have hw := hw.2 hc_7
      exact gj_J4_init_3_57 hst htab g post xp p0 v2 h_5 bc bs ⟨hx, hb, hml, hown, hts, hr, hlk, hnm⟩ hw hI hbc hbs (lv_sub hl [2] rfl)
def gw_J4_init_3 (K : ga_K) (p0 : Nat) (p1 : Int32) (p2 : UInt32) (h : ga_H) (mc ms : Nat) (post : ga_H → Prop) (xp : String → Nat → ga_H → Prop) : Prop :=
  gw_J3_init K p0 h (fun (h_1 : ga_H) => ((0 : Int32) ≤ p1 → ((p1 ≤ (1073741824 : Int32) → (gw_J4_init_3_44 K post xp p0 p1 p2 h_1 mc ms)) ∧ (¬ p1 ≤ (1073741824 : Int32) → (gw_J4_init_3_44 K post xp p0 (1073741824 : Int32) p2 h_1 mc ms)))) ∧ (¬ (0 : Int32) ≤ p1 → False))
set_option maxHeartbeats 4000000 in
theorem gm_J4_init_3 (l : Launch) (hst : l.stackTraces = false) (g : ga_G) (p0 : Nat) (p1 : Int32) (p2 : UInt32) (h : ga_H) (mc ms : Nat) (post : ga_H → Prop) (xp : String → Nat → ga_H → Prop) (hw : gw_J4_init_3 g.2.2 p0 p1 p2 h mc ms post xp) : vx_Met l yJ4_init_3 (ws_ yJ4_init_3 cJ4_init_3 3 none) ({ frames := 20, cells := mc, slots := ms, locals := 407 } : Room) (va_Pc [.ref p0, .int p1, .float p2] (ga_B g h)) (va_Qv post (ga_E g) (ga_A g)) (ga_X g xp) mc ms (ga_A g) := by
  refine ga_metx (own := "java/util/HashMap") (nm := "<init>") (by decide) rfl rfl (by exact Nat.le_of_ble_eq_true rfl) (fun p e s m below meth c ls hC htab hI hl => ?_)
  have hl : lv_has ls 3 [(0, .ref p0), (1, .int p1), (2, .float p2)] := hl
  generalize ([.ref p0, .int p1, .float p2] : List Value).toArray = args at hC ⊢
  obtain ⟨hx, hb, hml, hown, hts, hr, hlk, hnm⟩ := hC
  unfold gw_J4_init_3 at hw
  obtain ⟨H, eH⟩ : ∃ z, z = s.heap := ⟨_, rfl⟩
  obtain ⟨locs, elo⟩ : ∃ z : List Loc, z = [] := ⟨_, rfl⟩
  rw [← eH, ← elo] at hI ⊢
  obtain ⟨cells, slots, hbc, hbs, e0, e1⟩ : ∃ a b : Nat, a + mc ≤ mc ∧ b + ms ≤ ms ∧ a = 0 ∧ b = 0 := ⟨0, 0, by omega, by omega, rfl, rfl⟩
  show W p l e ({ frames := 20, cells := mc, slots := ms, locals := 407 } : Room) s m args below meth c H locs 0 0 (vx_MQ below (va_Qv post (ga_E g) (ga_A g)) (ga_X g xp) args s mc ms (ga_A g)) (F0 m 0 ls [])
  suffices hgoal : W p l e ({ frames := 20, cells := mc, slots := ms, locals := 407 } : Room) s m args below meth c H locs cells slots (vx_MQ below (va_Qv post (ga_E g) (ga_A g)) (ga_X g xp) args s mc ms (ga_A g)) (F0 m 0 ls []) by rw [e0, e1] at hgoal; exact hgoal
  refine lv_aload_n hx hb dJ4_init_3_0 rfl (lv_at hl 0 rfl) ?_
  refine ga_callv (va_runI (As := []) (rest := []) ⟨hx, hb, hml, hown, hts⟩ (gm_J3_init l g p0 h _ hw) (cwI 0 hts (lw_meth q225) rfl rfl rfl (hts _ q105) (hts _ q223) (hts _ q224) rfl hdG_J3_init ⟨Nat.le_of_ble_eq_true rfl, Nat.le_of_ble_eq_true rfl⟩) (ga_preS hI rfl) rfl rfl hl.1 rfl (ga_room (Nat.le_of_ble_eq_true rfl)) dJ4_init_3_1 ⟨Nat.le_trans (Nat.add_le_add_left (Nat.zero_le _) _) hbc, Nat.le_trans (Nat.add_le_add_left (Nat.zero_le _) _) hbs⟩) hI hbc hbs (Nat.zero_le _) (Nat.zero_le _) (fun h_1 H locs cells slots hw hI hbc hbs => ?_)
  refine lv_iload_n hx hb dJ4_init_3_4 rfl (lv_at hl 1 rfl) ?_
  refine lv_if_ge (tgt := 35) hx hb dJ4_init_3_5 (by decide) (fun hc_2 => ?_) (fun hc_2 => ?_)
  · have hw := hw.1 hc_2
    refine lv_iload_n hx hb dJ4_init_3_35 rfl (lv_at hl 1 rfl) ?_
    refine lv_ldc (v := 1073741824) hx hb hown (hts _ q1463) dJ4_init_3_36 ?_
    refine lv_icmp_le (tgt := 44) hx hb dJ4_init_3_38 (by decide) (fun hc_3 => ?_) (fun hc_3 => ?_)
    · have hw := hw.1 hc_3
      exact gj_J4_init_3_44 hst htab g post xp p0 p1 p2 h_1 mc ms ⟨hx, hb, hml, hown, hts, hr, hlk, hnm⟩ hw hI hbc hbs (lv_sub hl [0, 1, 2] rfl)
    · have hw := hw.2 hc_3
      refine lv_ldc (v := 1073741824) hx hb hown (hts _ q1463) dJ4_init_3_41 ?_
      refine lv_istore_n (i := 1) (lv' := [(1, .int (1073741824 : Int32)), (0, .ref p0), (2, .float p2)]) hx hb dJ4_init_3_43 rfl hl (by decide) rfl (fun ls hl => ?_)
      exact gj_J4_init_3_44 hst htab g post xp p0 (1073741824 : Int32) p2 h_1 mc ms ⟨hx, hb, hml, hown, hts, hr, hlk, hnm⟩ hw hI hbc hbs (lv_sub hl [1, 0, 2] rfl)
  · have hw := hw.2 hc_2
    exact hw.elim
theorem hdG_J4_init_3 : yJ4_init_3.cls ≠ "java/lang/invoke/MethodHandle" ∧ yJ4_init_3.cls ≠ "java/lang/invoke/VarHandle" ∧ (parseMethodDescriptor yJ4_init_3.desc).map (fun d => d.parameters.length) = some 2 := by decide +kernel
def gw_J4_init_2 (K : ga_K) (p0 : Nat) (p1 : Int32) (h : ga_H) (mc ms : Nat) (post : ga_H → Prop) (xp : String → Nat → ga_H → Prop) : Prop :=
  ∃ kc_1 ks_2 : Nat, kc_1 ≤ mc ∧ ks_2 ≤ ms ∧ gw_J4_init_3 K p0 p1 (1061158912 : UInt32) h kc_1 ks_2 (fun (h_3 : ga_H) => post h_3) (fun (E_4 : String) (q_5 : Nat) (h_6 : ga_H) => False)
set_option maxHeartbeats 4000000 in
theorem gm_J4_init_2 (l : Launch) (hst : l.stackTraces = false) (g : ga_G) (p0 : Nat) (p1 : Int32) (h : ga_H) (mc ms : Nat) (post : ga_H → Prop) (xp : String → Nat → ga_H → Prop) (hw : gw_J4_init_2 g.2.2 p0 p1 h mc ms post xp) : vx_Met l yJ4_init_2 (ws_ yJ4_init_2 cJ4_init_2 2 none) ({ frames := 21, cells := mc, slots := ms, locals := 429 } : Room) (va_Pc [.ref p0, .int p1] (ga_B g h)) (va_Qv post (ga_E g) (ga_A g)) (ga_X g xp) mc ms (ga_A g) := by
  refine ga_metx (own := "java/util/HashMap") (nm := "<init>") (by decide) rfl rfl (by exact Nat.le_of_ble_eq_true rfl) (fun p e s m below meth c ls hC htab hI hl => ?_)
  have hl : lv_has ls 2 [(0, .ref p0), (1, .int p1)] := hl
  generalize ([.ref p0, .int p1] : List Value).toArray = args at hC ⊢
  obtain ⟨hx, hb, hml, hown, hts, hr, hlk, hnm⟩ := hC
  unfold gw_J4_init_2 at hw
  obtain ⟨H, eH⟩ : ∃ z, z = s.heap := ⟨_, rfl⟩
  obtain ⟨locs, elo⟩ : ∃ z : List Loc, z = [] := ⟨_, rfl⟩
  rw [← eH, ← elo] at hI ⊢
  obtain ⟨cells, slots, hbc, hbs, e0, e1⟩ : ∃ a b : Nat, a + mc ≤ mc ∧ b + ms ≤ ms ∧ a = 0 ∧ b = 0 := ⟨0, 0, by omega, by omega, rfl, rfl⟩
  show W p l e ({ frames := 21, cells := mc, slots := ms, locals := 429 } : Room) s m args below meth c H locs 0 0 (vx_MQ below (va_Qv post (ga_E g) (ga_A g)) (ga_X g xp) args s mc ms (ga_A g)) (F0 m 0 ls [])
  suffices hgoal : W p l e ({ frames := 21, cells := mc, slots := ms, locals := 429 } : Room) s m args below meth c H locs cells slots (vx_MQ below (va_Qv post (ga_E g) (ga_A g)) (ga_X g xp) args s mc ms (ga_A g)) (F0 m 0 ls []) by rw [e0, e1] at hgoal; exact hgoal
  refine lv_aload_n hx hb dJ4_init_2_0 rfl (lv_at hl 0 rfl) ?_
  refine lv_iload_n hx hb dJ4_init_2_1 rfl (lv_at hl 1 rfl) ?_
  refine lv_ldcf (v := 1061158912) hx hb hown (hts _ q227) dJ4_init_2_2 ?_
  obtain ⟨kc_1, ks_2, hk1, hk2, hw⟩ := hw
  refine ga_xcallv (vx_runI (As := [.int p1, .float (1061158912 : UInt32)]) (rest := []) ⟨hx, hb, hml, hown, hts⟩ (gm_J4_init_3 l hst g p0 p1 (1061158912 : UInt32) h kc_1 ks_2 _ _ hw) (cwI 2 hts (lw_meth q2976) rfl rfl rfl (hts _ q106) (hts _ q2974) (hts _ q2975) rfl hdG_J4_init_3 ⟨Nat.le_of_ble_eq_true rfl, Nat.le_of_ble_eq_true rfl⟩) (ga_preS hI rfl) rfl rfl hl.1 rfl (ga_room (Nat.le_of_ble_eq_true rfl)) dJ4_init_2_4 ⟨Nat.le_trans (Nat.add_le_add_left hk1 _) hbc, Nat.le_trans (Nat.add_le_add_left hk2 _) hbs⟩) hI hbc hbs hk1 hk2 (fun E_4 q_5 h_6 ce H locs cells slots hw hI hce hbc hbs => ?_) (fun h_3 H locs cells slots hw hI hbc hbs => ?_)
  · exact hw.elim
  · skip
    exact ga_vretx hx hb hr hlk hI hw (Nat.le_trans (Nat.le_add_right _ _) hbc) (Nat.le_trans (Nat.le_add_right _ _) hbs) dJ4_init_2_7
theorem hdG_J4_init_2 : yJ4_init_2.cls ≠ "java/lang/invoke/MethodHandle" ∧ yJ4_init_2.cls ≠ "java/lang/invoke/VarHandle" ∧ (parseMethodDescriptor yJ4_init_2.desc).map (fun d => d.parameters.length) = some 1 := by decide +kernel
def gw_J4_newHashMap (K : ga_K) (p0 : Int32) (h : ga_H) (mc ms : Nat) (post : Option Nat → ga_H → Prop) (xp : String → Nat → ga_H → Prop) : Prop :=
  ((0 : Int32) ≤ p0 → (1 ≤ mc ∧ 8 ≤ ms ∧ ∀ q_2 : Nat, h q_2 = none → ∀ h_3 : ga_H, h_3 = ga_set h q_2 (ga_O 15 [va_rf none, va_rf none, va_rf none, va_rf none, .int 0, .int 0, .int 0, .float 0]) → (gw_J4_calculateHashMapCapacity K p0 h_3 (fun (r_5 : Int32) (h_4 : ga_H) => ∃ kc_6 ks_7 : Nat, kc_6 ≤ (mc - 1) ∧ ks_7 ≤ (ms - 8) ∧ gw_J4_init_2 K q_2 r_5 h_4 kc_6 ks_7 (fun (h_8 : ga_H) => post (some q_2) h_8) (fun (E_9 : String) (q_10 : Nat) (h_11 : ga_H) => False))))) ∧ (¬ (0 : Int32) ≤ p0 → False)
set_option maxHeartbeats 4000000 in
theorem gm_J4_newHashMap (l : Launch) (hst : l.stackTraces = false) (g : ga_G) (p0 : Int32) (h : ga_H) (mc ms : Nat) (post : Option Nat → ga_H → Prop) (xp : String → Nat → ga_H → Prop) (hw : gw_J4_newHashMap g.2.2 p0 h mc ms post xp) : vx_Met l yJ4_newHashMap (ws_ yJ4_newHashMap cJ4_newHashMap 1 (some (.object "java/util/HashMap"))) ({ frames := 22, cells := mc, slots := ms, locals := 1336 } : Room) (va_Pc [.int p0] (ga_B g h)) (va_Qq post (ga_E g) (ga_A g)) (ga_X g xp) mc ms (ga_A g) := by
  refine ga_metx (own := "java/util/HashMap") (nm := "newHashMap") (by decide) rfl rfl (by exact Nat.le_of_ble_eq_true rfl) (fun p e s m below meth c ls hC htab hI hl => ?_)
  have hl : lv_has ls 1 [(0, .int p0)] := hl
  generalize ([.int p0] : List Value).toArray = args at hC ⊢
  obtain ⟨hx, hb, hml, hown, hts, hr, hlk, hnm⟩ := hC
  unfold gw_J4_newHashMap at hw
  obtain ⟨H, eH⟩ : ∃ z, z = s.heap := ⟨_, rfl⟩
  obtain ⟨locs, elo⟩ : ∃ z : List Loc, z = [] := ⟨_, rfl⟩
  rw [← eH, ← elo] at hI ⊢
  obtain ⟨cells, slots, hbc, hbs, e0, e1⟩ : ∃ a b : Nat, a + mc ≤ mc ∧ b + ms ≤ ms ∧ a = 0 ∧ b = 0 := ⟨0, 0, by omega, by omega, rfl, rfl⟩
  show W p l e ({ frames := 22, cells := mc, slots := ms, locals := 1336 } : Room) s m args below meth c H locs 0 0 (vx_MQ below (va_Qq post (ga_E g) (ga_A g)) (ga_X g xp) args s mc ms (ga_A g)) (F0 m 0 ls [])
  suffices hgoal : W p l e ({ frames := 22, cells := mc, slots := ms, locals := 1336 } : Room) s m args below meth c H locs cells slots (vx_MQ below (va_Qq post (ga_E g) (ga_A g)) (ga_X g xp) args s mc ms (ga_A g)) (F0 m 0 ls []) by rw [e0, e1] at hgoal; exact hgoal
  refine lv_iload_n hx hb dJ4_newHashMap_0 rfl (lv_at hl 0 rfl) ?_
  refine lv_if_ge (tgt := 32) hx hb dJ4_newHashMap_1 (by decide) (fun hc_1 => ?_) (fun hc_1 => ?_)
  · have hw := hw.1 hc_1
    refine ga_new (ci := 15) (T := TJ4) hx hb hts hown hI in_J4 rfl tyJ4 tyJ4_ok q2966 q219 q106 [va_rf none, va_rf none, va_rf none, va_rf none, .int 0, .int 0, .int 0, .float 0] ga_df_J4 hbc hbs hw.1 hw.2.1 dJ4_newHashMap_32 (fun q_2 H cells slots hn_q_2 hI hbc hbs => ?_)
    obtain ⟨h_3, eh_3⟩ : ∃ z, z = ga_set h q_2 (ga_O 15 [va_rf none, va_rf none, va_rf none, va_rf none, .int 0, .int 0, .int 0, .float 0]) := ⟨_, rfl⟩
    rw [← eh_3] at hI
    have hw := hw.2.2 q_2 hn_q_2 h_3 eh_3
    refine lv_dup hx hb dJ4_newHashMap_35 rfl ?_
    refine lv_iload_n hx hb dJ4_newHashMap_36 rfl (lv_at hl 0 rfl) ?_
    refine ga_calli (va_runS (As := [.int p0]) (rest := [.ref q_2, .ref q_2]) ⟨hx, hb, hml, hown, hts⟩ (gm_J4_calculateHashMapCapacity l g p0 h_3 _ hw) (va_cwS 1 hts (lw_S q2967 q2968 q106 q2969) rfl rfl rfl hdG_J4_calculateHashMapCapacity ⟨Nat.le_of_ble_eq_true rfl, Nat.le_of_ble_eq_true rfl⟩) (ga_preS hI rfl) rfl rfl hl.1 rfl (ga_room (Nat.le_of_ble_eq_true rfl)) dJ4_newHashMap_37 ⟨Nat.le_trans (Nat.add_le_add_left (Nat.zero_le _) _) hbc, Nat.le_trans (Nat.add_le_add_left (Nat.zero_le _) _) hbs⟩) hI hbc hbs (Nat.zero_le _) (Nat.zero_le _) (fun r_5 h_4 H locs cells slots hw hI hbc hbs => ?_)
    obtain ⟨kc_6, ks_7, hk1, hk2, hw⟩ := hw
    refine ga_xcallv (vx_runI (As := [.int r_5]) (rest := [.ref q_2]) ⟨hx, hb, hml, hown, hts⟩ (gm_J4_init_2 l hst g q_2 r_5 h_4 kc_6 ks_7 _ _ hw) (cwI 1 hts (lw_meth q2973) rfl rfl rfl (hts _ q106) (hts _ q2971) (hts _ q2972) rfl hdG_J4_init_2 ⟨Nat.le_of_ble_eq_true rfl, Nat.le_of_ble_eq_true rfl⟩) (ga_preS hI rfl) rfl rfl hl.1 rfl (ga_room (Nat.le_of_ble_eq_true rfl)) dJ4_newHashMap_40 ⟨Nat.le_trans (Nat.add_le_add_left hk1 _) hbc, Nat.le_trans (Nat.add_le_add_left hk2 _) hbs⟩) hI hbc hbs hk1 hk2 (fun E_9 q_10 h_11 ce H locs cells slots hw hI hce hbc hbs => ?_) (fun h_8 H locs cells slots hw hI hbc hbs => ?_)
    · exact hw.elim
    · skip
      exact ga_qretx (v := (some q_2)) hx hb hr (Or.inl ⟨_, rfl⟩) hlk hI hw (Nat.le_trans (Nat.le_add_right _ _) hbc) (Nat.le_trans (Nat.le_add_right _ _) hbs) dJ4_newHashMap_43
  · have hw := hw.2 hc_1
    exact hw.elim
theorem hdG_J4_newHashMap : yJ4_newHashMap.cls ≠ "java/lang/invoke/MethodHandle" ∧ yJ4_newHashMap.cls ≠ "java/lang/invoke/VarHandle" ∧ (parseMethodDescriptor yJ4_newHashMap.desc).map (fun d => d.parameters.length) = some 1 := by decide +kernel
def gw_J22_init (K : ga_K) (p0 : Nat) (p1 : Option Nat) (p2 : Int32) (h : ga_H) (post : ga_H → Prop) : Prop :=
  ∃ fs_1 : List Value, h p0 = some (ga_O 27 fs_1) ∧ 0 < fs_1.length ∧ ∀ h_2 : ga_H, h_2 = ga_set h p0 (ga_O 27 (fs_1.set 0 (va_rf p1))) → (∃ fs_3 : List Value, h_2 p0 = some (ga_O 27 fs_3) ∧ 1 < fs_3.length ∧ ∀ h_4 : ga_H, h_4 = ga_set h_2 p0 (ga_O 27 (fs_3.set 1 (.int p2))) → (∃ fs_5 : List Value, h_4 p0 = some (ga_O 27 fs_5) ∧ 3 < fs_5.length ∧ ∀ h_6 : ga_H, h_6 = ga_set h_4 p0 (ga_O 27 (fs_5.set 3 (.int (0 : Int32)))) → (∃ fs_7 : List Value, h_6 p0 = some (ga_O 27 fs_7) ∧ 2 < fs_7.length ∧ ∀ h_8 : ga_H, h_8 = ga_set h_6 p0 (ga_O 27 (fs_7.set 2 (.int (0 : Int32)))) → (post h_8))))
set_option maxHeartbeats 4000000 in
theorem gm_J22_init (l : Launch) (g : ga_G) (p0 : Nat) (p1 : Option Nat) (p2 : Int32) (h : ga_H) (post : ga_H → Prop) (hw : gw_J22_init g.2.2 p0 p1 p2 h post) : Met l yJ22_init (ws_ yJ22_init cJ22_init 3 none) ({ frames := 8, cells := 0, slots := 0, locals := 140 } : Room) (va_Pc [.ref p0, va_rf p1, .int p2] (ga_B g h)) (va_Qv post (ga_E g) (ga_A g)) 0 0 (ga_A g) := by
  refine ga_met (own := "java/util/ImmutableCollections$ListItr") (nm := "<init>") (by decide) rfl rfl (by cases p1 <;> exact Nat.le_of_ble_eq_true rfl) (fun p e s m below meth c ls hC hI hl => ?_)
  have hl : lv_has ls 3 [(0, .ref p0), (1, va_rf p1), (2, .int p2)] := (by cases p1 <;> exact hl)
  generalize ([.ref p0, va_rf p1, .int p2] : List Value).toArray = args at hC ⊢
  obtain ⟨hx, hb, hml, hown, hts, hr, hlk, hnm⟩ := hC
  unfold gw_J22_init at hw
  obtain ⟨H, eH⟩ : ∃ z, z = s.heap := ⟨_, rfl⟩
  obtain ⟨locs, elo⟩ : ∃ z : List Loc, z = [] := ⟨_, rfl⟩
  rw [← eH, ← elo] at hI ⊢
  obtain ⟨cells, slots, hbc, hbs, e0, e1⟩ : ∃ a b : Nat, a ≤ 0 ∧ b ≤ 0 ∧ a = 0 ∧ b = 0 := ⟨0, 0, by omega, by omega, rfl, rfl⟩
  show W p l e ({ frames := 8, cells := 0, slots := 0, locals := 140 } : Room) s m args below meth c H locs 0 0 (MQ below (va_Qv post (ga_E g) (ga_A g)) args s 0 0 (ga_A g)) (F0 m 0 ls [])
  suffices hgoal : W p l e ({ frames := 8, cells := 0, slots := 0, locals := 140 } : Room) s m args below meth c H locs cells slots (MQ below (va_Qv post (ga_E g) (ga_A g)) args s 0 0 (ga_A g)) (F0 m 0 ls []) by rw [e0, e1] at hgoal; exact hgoal
  refine lv_aload_n hx hb dJ22_init_0 rfl (lv_at hl 0 rfl) ?_
  refine W.objInit hx hb hown (hts _ q676) (hts _ q179) (hts _ q180) rfl (by rw [hml]; exact hl.1) rfl dJ22_init_1 (Nat.le_of_ble_eq_true rfl) (by have := ga_sum [] (Nat.le_of_ble_eq_true rfl); exact Nat.le_trans (Nat.add_le_add_right (Nat.add_le_add_left this 0) 12) (Nat.le_of_ble_eq_true rfl)) ?_
  refine W.eq (g2 := F0 m 4 ls []) rfl ?_
  refine lv_aload_n hx hb dJ22_init_4 rfl (lv_at hl 0 rfl) ?_
  refine ga_aload_n hx hb dJ22_init_5 rfl (lv_at hl 1 rfl) ?_
  obtain ⟨fs_1, hq, hk, hw⟩ := hw
  refine ga_putF (ci := 27) (T := TJ22) (v := va_rf p1) (ty := tyJ22 0) hx hb hts hown hI in_J22 rfl tyJ22 tyJ22_ok nmJ22 0 (by decide) q677 (fun _ z => z) rfl hnm rfl (tyJ22_ok 0 (by decide)) (ga_nq _ _) (ga_fq _ _) hq hk dJ22_init_6 (fun H locs hI => ?_)
  obtain ⟨h_2, eh_2⟩ : ∃ z, z = ga_set h p0 (ga_O 27 (fs_1.set 0 (va_rf p1))) := ⟨_, rfl⟩
  rw [← eh_2] at hI
  have hw := hw h_2 eh_2
  refine lv_aload_n hx hb dJ22_init_9 rfl (lv_at hl 0 rfl) ?_
  refine lv_iload_n hx hb dJ22_init_10 rfl (lv_at hl 2 rfl) ?_
  obtain ⟨fs_3, hq, hk, hw⟩ := hw
  refine ga_putF (ci := 27) (T := TJ22) (v := .int p2) (ty := tyJ22 1) hx hb hts hown hI in_J22 rfl tyJ22 tyJ22_ok nmJ22 1 (by decide) q678 (fun _ z => z) rfl hnm rfl (tyJ22_ok 1 (by decide)) rfl rfl hq hk dJ22_init_11 (fun H locs hI => ?_)
  obtain ⟨h_4, eh_4⟩ : ∃ z, z = ga_set h_2 p0 (ga_O 27 (fs_3.set 1 (.int p2))) := ⟨_, rfl⟩
  rw [← eh_4] at hI
  have hw := hw h_4 eh_4
  refine lv_aload_n hx hb dJ22_init_14 rfl (lv_at hl 0 rfl) ?_
  refine lv_iconst (v := 0) hx hb dJ22_init_15 (by decide) ?_
  obtain ⟨fs_5, hq, hk, hw⟩ := hw
  refine ga_put (ci := 27) (T := TJ22) (v := .int (0 : Int32)) (ty := tyJ22 3) hx hb hts hown hI in_J22 rfl tyJ22 tyJ22_ok nmJ22 3 (by decide) q680 (fun _ z => z) rfl (tyJ22_ok 3 (by decide)) rfl rfl hq hk dJ22_init_16 (fun H locs hI => ?_)
  obtain ⟨h_6, eh_6⟩ : ∃ z, z = ga_set h_4 p0 (ga_O 27 (fs_5.set 3 (.int (0 : Int32)))) := ⟨_, rfl⟩
  rw [← eh_6] at hI
  have hw := hw h_6 eh_6
  refine lv_aload_n hx hb dJ22_init_19 rfl (lv_at hl 0 rfl) ?_
  refine lv_iconst (v := 0) hx hb dJ22_init_20 (by decide) ?_
  obtain ⟨fs_7, hq, hk, hw⟩ := hw
  refine ga_putF (ci := 27) (T := TJ22) (v := .int (0 : Int32)) (ty := tyJ22 2) hx hb hts hown hI in_J22 rfl tyJ22 tyJ22_ok nmJ22 2 (by decide) q679 (fun _ z => z) rfl hnm rfl (tyJ22_ok 2 (by decide)) rfl rfl hq hk dJ22_init_21 (fun H locs hI => ?_)
  obtain ⟨h_8, eh_8⟩ : ∃ z, z = ga_set h_6 p0 (ga_O 27 (fs_7.set 2 (.int (0 : Int32)))) := ⟨_, rfl⟩
  rw [← eh_8] at hI
  have hw := hw h_8 eh_8
  exact ga_vret hx hb hr hlk hI hw hbc hbs dJ22_init_24
theorem hdG_J22_init : yJ22_init.cls ≠ "java/lang/invoke/MethodHandle" ∧ yJ22_init.cls ≠ "java/lang/invoke/VarHandle" ∧ (parseMethodDescriptor yJ22_init.desc).map (fun d => d.parameters.length) = some 2 := by decide +kernel
def gw_J47_iterator (K : ga_K) (p0 : Nat) (h : ga_H) (mc ms : Nat) (post : Option Nat → ga_H → Prop) : Prop :=
  1 ≤ mc ∧ 4 ≤ ms ∧ ∀ q_1 : Nat, h q_1 = none → ∀ h_2 : ga_H, h_2 = ga_set h q_1 (ga_O 27 [va_rf none, .int 0, .int 0, .int 0]) → (∃ fs_3 : List Value, ga_at K h_2 p0 (ga_O 26 fs_3) ∧ gw_J49_size K p0 h_2 (fun (r_5 : Int32) (h_4 : ga_H) => gw_J22_init K q_1 (some p0) r_5 h_4 (fun (h_6 : ga_H) => post (some q_1) h_6)))
set_option maxHeartbeats 4000000 in
theorem gm_J47_iterator (l : Launch) (g : ga_G) (p0 : Nat) (h : ga_H) (mc ms : Nat) (post : Option Nat → ga_H → Prop) (hw : gw_J47_iterator g.2.2 p0 h mc ms post) : Met l yJ47_iterator (ws_ yJ47_iterator cJ47_iterator 1 (some (.object "java/util/Iterator"))) ({ frames := 9, cells := mc, slots := ms, locals := 162 } : Room) (va_Pc [.ref p0] (ga_B g h)) (va_Qq post (ga_E g) (ga_A g)) mc ms (ga_A g) := by
  refine ga_met (own := "java/util/ImmutableCollections$AbstractImmutableList") (nm := "iterator") (by decide) rfl rfl (by exact Nat.le_of_ble_eq_true rfl) (fun p e s m below meth c ls hC hI hl => ?_)
  have hl : lv_has ls 1 [(0, .ref p0)] := hl
  generalize ([.ref p0] : List Value).toArray = args at hC ⊢
  obtain ⟨hx, hb, hml, hown, hts, hr, hlk, hnm⟩ := hC
  unfold gw_J47_iterator at hw
  obtain ⟨H, eH⟩ : ∃ z, z = s.heap := ⟨_, rfl⟩
  obtain ⟨locs, elo⟩ : ∃ z : List Loc, z = [] := ⟨_, rfl⟩
  rw [← eH, ← elo] at hI ⊢
  obtain ⟨cells, slots, hbc, hbs, e0, e1⟩ : ∃ a b : Nat, a + mc ≤ mc ∧ b + ms ≤ ms ∧ a = 0 ∧ b = 0 := ⟨0, 0, by omega, by omega, rfl, rfl⟩
  show W p l e ({ frames := 9, cells := mc, slots := ms, locals := 162 } : Room) s m args below meth c H locs 0 0 (MQ below (va_Qq post (ga_E g) (ga_A g)) args s mc ms (ga_A g)) (F0 m 0 ls [])
  suffices hgoal : W p l e ({ frames := 9, cells := mc, slots := ms, locals := 162 } : Room) s m args below meth c H locs cells slots (MQ below (va_Qq post (ga_E g) (ga_A g)) args s mc ms (ga_A g)) (F0 m 0 ls []) by rw [e0, e1] at hgoal; exact hgoal
  refine ga_new (ci := 27) (T := TJ22) hx hb hts hown hI in_J22 rfl tyJ22 tyJ22_ok q667 q668 q128 [va_rf none, .int 0, .int 0, .int 0] ga_df_J22 hbc hbs hw.1 hw.2.1 dJ47_iterator_0 (fun q_1 H cells slots hn_q_1 hI hbc hbs => ?_)
  obtain ⟨h_2, eh_2⟩ : ∃ z, z = ga_set h q_1 (ga_O 27 [va_rf none, .int 0, .int 0, .int 0]) := ⟨_, rfl⟩
  rw [← eh_2] at hI
  have hw := hw.2.2 q_1 hn_q_1 h_2 eh_2
  refine lv_dup hx hb dJ47_iterator_3 rfl ?_
  refine lv_aload_n hx hb dJ47_iterator_4 rfl (lv_at hl 0 rfl) ?_
  refine lv_aload_n hx hb dJ47_iterator_5 rfl (lv_at hl 0 rfl) ?_
  obtain ⟨fs_3, hq, hw⟩ := hw
  refine ga_calli (va_runU (As := []) (rest := [.ref p0, .ref q_1, .ref q_1]) ⟨hx, hb, hml, hown, hts⟩ (gm_J49_size l g p0 h_2 _ hw) (va_cwA 0 hts (lw_app (List.forall_mem_cons.mpr ⟨q669, List.forall_mem_cons.mpr ⟨q670, List.forall_mem_cons.mpr ⟨q672, List.forall_mem_cons.mpr ⟨q557, List.forall_mem_cons.mpr ⟨q165, fun _ h => absurd h List.not_mem_nil⟩⟩⟩⟩⟩) (lw_meth q558)) rfl rfl rfl (hI.2.1.1.2.1 _ (ga_nin q533 rfl)) (by decide +kernel) ⟨Nat.le_of_ble_eq_true rfl, Nat.le_of_ble_eq_true rfl⟩) (ga_preV (C := "java/util/ImmutableCollections$ListN") hI hq rfl rfl) rfl rfl hl.1 rfl (ga_room (Nat.le_of_ble_eq_true rfl)) dJ47_iterator_6 ⟨Nat.le_trans (Nat.add_le_add_left (Nat.zero_le _) _) hbc, Nat.le_trans (Nat.add_le_add_left (Nat.zero_le _) _) hbs⟩) hI hbc hbs (Nat.zero_le _) (Nat.zero_le _) (fun r_5 h_4 H locs cells slots hw hI hbc hbs => ?_)
  refine ga_callv (va_runI (As := [va_rf (some p0), .int r_5]) (rest := [.ref q_1]) ⟨hx, hb, hml, hown, hts⟩ (gm_J22_init l g q_1 (some p0) r_5 h_4 _ hw) (cwI 2 hts (lw_meth q675) rfl rfl rfl (hts _ q128) (hts _ q673) (hts _ q674) rfl hdG_J22_init ⟨Nat.le_of_ble_eq_true rfl, Nat.le_of_ble_eq_true rfl⟩) (ga_preS hI rfl) rfl rfl hl.1 rfl (ga_room (Nat.le_of_ble_eq_true rfl)) dJ47_iterator_9 ⟨Nat.le_trans (Nat.add_le_add_left (Nat.zero_le _) _) hbc, Nat.le_trans (Nat.add_le_add_left (Nat.zero_le _) _) hbs⟩) hI hbc hbs (Nat.zero_le _) (Nat.zero_le _) (fun h_6 H locs cells slots hw hI hbc hbs => ?_)
  exact ga_qret (v := (some q_1)) hx hb hr (Or.inl ⟨_, rfl⟩) hlk hI hw (Nat.le_trans (Nat.le_add_right _ _) hbc) (Nat.le_trans (Nat.le_add_right _ _) hbs) dJ47_iterator_12
theorem hdG_J47_iterator : yJ47_iterator.cls ≠ "java/lang/invoke/MethodHandle" ∧ yJ47_iterator.cls ≠ "java/lang/invoke/VarHandle" ∧ (parseMethodDescriptor yJ47_iterator.desc).map (fun d => d.parameters.length) = some 0 := by decide +kernel
def gw_J22_hasNext (K : ga_K) (p0 : Nat) (h : ga_H) (post : Int32 → ga_H → Prop) : Prop :=
  ∃ (fs_1 : List Value) (v_2 : Int32), h p0 = some (ga_O 27 fs_1) ∧ fs_1[3]? = some (.int v_2) ∧ (∃ (fs_3 : List Value) (v_4 : Int32), h p0 = some (ga_O 27 fs_3) ∧ fs_3[1]? = some (.int v_4) ∧ ((v_2 = v_4 → (post (0 : Int32) h)) ∧ (¬ v_2 = v_4 → (post (1 : Int32) h))))
set_option maxHeartbeats 4000000 in
theorem gm_J22_hasNext (l : Launch) (g : ga_G) (p0 : Nat) (h : ga_H) (post : Int32 → ga_H → Prop) (hw : gw_J22_hasNext g.2.2 p0 h post) : Met l yJ22_hasNext (ws_ yJ22_hasNext cJ22_hasNext 1 (some .boolean)) ({ frames := 8, cells := 0, slots := 0, locals := 140 } : Room) (va_Pc [.ref p0] (ga_B g h)) (va_Qi post (ga_E g) (ga_A g)) 0 0 (ga_A g) := by
  refine ga_met (own := "java/util/ImmutableCollections$ListItr") (nm := "hasNext") (by decide) rfl rfl (by exact Nat.le_of_ble_eq_true rfl) (fun p e s m below meth c ls hC hI hl => ?_)
  have hl : lv_has ls 1 [(0, .ref p0)] := hl
  generalize ([.ref p0] : List Value).toArray = args at hC ⊢
  obtain ⟨hx, hb, hml, hown, hts, hr, hlk, hnm⟩ := hC
  unfold gw_J22_hasNext at hw
  obtain ⟨H, eH⟩ : ∃ z, z = s.heap := ⟨_, rfl⟩
  obtain ⟨locs, elo⟩ : ∃ z : List Loc, z = [] := ⟨_, rfl⟩
  rw [← eH, ← elo] at hI ⊢
  obtain ⟨cells, slots, hbc, hbs, e0, e1⟩ : ∃ a b : Nat, a ≤ 0 ∧ b ≤ 0 ∧ a = 0 ∧ b = 0 := ⟨0, 0, by omega, by omega, rfl, rfl⟩
  show W p l e ({ frames := 8, cells := 0, slots := 0, locals := 140 } : Room) s m args below meth c H locs 0 0 (MQ below (va_Qi post (ga_E g) (ga_A g)) args s 0 0 (ga_A g)) (F0 m 0 ls [])
  suffices hgoal : W p l e ({ frames := 8, cells := 0, slots := 0, locals := 140 } : Room) s m args below meth c H locs cells slots (MQ below (va_Qi post (ga_E g) (ga_A g)) args s 0 0 (ga_A g)) (F0 m 0 ls []) by rw [e0, e1] at hgoal; exact hgoal
  refine lv_aload_n hx hb dJ22_hasNext_0 rfl (lv_at hl 0 rfl) ?_
  obtain ⟨fs_1, v_2, hq, hv, hw⟩ := hw
  refine ga_get (ci := 27) (T := TJ22) (v := .int v_2) hx hb hts hown hI in_J22 rfl 3 (by decide) q680 (fun _ z => z) (ga_at.h hq) hv dJ22_hasNext_1 ?_
  refine lv_aload_n hx hb dJ22_hasNext_4 rfl (lv_at hl 0 rfl) ?_
  obtain ⟨fs_3, v_4, hq, hv, hw⟩ := hw
  refine ga_get (ci := 27) (T := TJ22) (v := .int v_4) hx hb hts hown hI in_J22 rfl 1 (by decide) q678 (fun _ z => z) (ga_at.h hq) hv dJ22_hasNext_5 ?_
  refine lv_icmp_eq (tgt := 15) hx hb dJ22_hasNext_8 (by decide) (fun hc_5 => ?_) (fun hc_5 => ?_)
  · have hw := hw.1 hc_5
    refine lv_iconst (v := 0) hx hb dJ22_hasNext_15 (by decide) ?_
    exact ga_iret hx hb hr rfl hlk hI hw hbc hbs dJ22_hasNext_16
  · have hw := hw.2 hc_5
    refine lv_iconst (v := 1) hx hb dJ22_hasNext_11 (by decide) ?_
    refine lv_goto (tgt := 16) hx hb dJ22_hasNext_12 (by decide) ?_
    exact ga_iret hx hb hr rfl hlk hI hw hbc hbs dJ22_hasNext_16
theorem hdG_J22_hasNext : yJ22_hasNext.cls ≠ "java/lang/invoke/MethodHandle" ∧ yJ22_hasNext.cls ≠ "java/lang/invoke/VarHandle" ∧ (parseMethodDescriptor yJ22_hasNext.desc).map (fun d => d.parameters.length) = some 0 := by decide +kernel
def gw_J49_get (K : ga_K) (p0 : Nat) (p1 : Int32) (h : ga_H) (post : Option Nat → ga_H → Prop) : Prop :=
  ∃ (fs_1 : List Value) (v_2 : Option Nat), h p0 = some (ga_O 26 fs_1) ∧ fs_1[0]? = some (va_rf v_2) ∧ (∃ a_3 : Nat, v_2 = some a_3 ∧ ∃ (n_4 : Nat) (f_5 : Nat → Option Nat), ga_at K h a_3 (ga_Aq 5 n_4 f_5) ∧ vp_in p1 n_4 ∧ ∀ v_6 : Option Nat, v_6 = f_5 p1.toNatClampNeg → (post v_6 h))
set_option maxHeartbeats 4000000 in
theorem gm_J49_get (l : Launch) (g : ga_G) (p0 : Nat) (p1 : Int32) (h : ga_H) (post : Option Nat → ga_H → Prop) (hw : gw_J49_get g.2.2 p0 p1 h post) : Met l yJ49_get (ws_ yJ49_get cJ49_get 2 (some (.object "java/lang/Object"))) ({ frames := 8, cells := 0, slots := 0, locals := 140 } : Room) (va_Pc [.ref p0, .int p1] (ga_B g h)) (va_Qq post (ga_E g) (ga_A g)) 0 0 (ga_A g) := by
  refine ga_met (own := "java/util/ImmutableCollections$ListN") (nm := "get") (by decide) rfl rfl (by exact Nat.le_of_ble_eq_true rfl) (fun p e s m below meth c ls hC hI hl => ?_)
  have hl : lv_has ls 2 [(0, .ref p0), (1, .int p1)] := hl
  generalize ([.ref p0, .int p1] : List Value).toArray = args at hC ⊢
  obtain ⟨hx, hb, hml, hown, hts, hr, hlk, hnm⟩ := hC
  unfold gw_J49_get at hw
  obtain ⟨H, eH⟩ : ∃ z, z = s.heap := ⟨_, rfl⟩
  obtain ⟨locs, elo⟩ : ∃ z : List Loc, z = [] := ⟨_, rfl⟩
  rw [← eH, ← elo] at hI ⊢
  obtain ⟨cells, slots, hbc, hbs, e0, e1⟩ : ∃ a b : Nat, a ≤ 0 ∧ b ≤ 0 ∧ a = 0 ∧ b = 0 := ⟨0, 0, by omega, by omega, rfl, rfl⟩
  show W p l e ({ frames := 8, cells := 0, slots := 0, locals := 140 } : Room) s m args below meth c H locs 0 0 (MQ below (va_Qq post (ga_E g) (ga_A g)) args s 0 0 (ga_A g)) (F0 m 0 ls [])
  suffices hgoal : W p l e ({ frames := 8, cells := 0, slots := 0, locals := 140 } : Room) s m args below meth c H locs cells slots (MQ below (va_Qq post (ga_E g) (ga_A g)) args s 0 0 (ga_A g)) (F0 m 0 ls []) by rw [e0, e1] at hgoal; exact hgoal
  refine lv_aload_n hx hb dJ49_get_0 rfl (lv_at hl 0 rfl) ?_
  obtain ⟨fs_1, v_2, hq, hv, hw⟩ := hw
  refine ga_get (ci := 26) (T := TJ49) (v := va_rf v_2) hx hb hts hown hI in_J49 rfl 0 (by decide) q2927 (fun _ z => z) (ga_at.h hq) hv dJ49_get_1 ?_
  refine lv_iload_n hx hb dJ49_get_4 rfl (lv_at hl 1 rfl) ?_
  obtain ⟨a_3, ea_3, hw⟩ := hw
  rewrite [ea_3]
  obtain ⟨n_4, f_5, hq, hi, hw⟩ := hw
  refine ga_ldq hx hb hI hq rfl hi dJ49_get_5 ?_
  obtain ⟨v_6, ev_6⟩ : ∃ z, z = f_5 p1.toNatClampNeg := ⟨_, rfl⟩
  rw [← ev_6]
  have hw := hw v_6 ev_6
  exact ga_qret (v := v_6) hx hb hr (Or.inl ⟨_, rfl⟩) hlk hI hw hbc hbs dJ49_get_6
theorem hdG_J49_get : yJ49_get.cls ≠ "java/lang/invoke/MethodHandle" ∧ yJ49_get.cls ≠ "java/lang/invoke/VarHandle" ∧ (parseMethodDescriptor yJ49_get.desc).map (fun d => d.parameters.length) = some 1 := by decide +kernel
def gw_J22_next (K : ga_K) (p0 : Nat) (h : ga_H) (mc ms : Nat) (post : Option Nat → ga_H → Prop) (xp : String → Nat → ga_H → Prop) : Prop :=
  ∃ (fs_1 : List Value) (v_2 : Int32), h p0 = some (ga_O 27 fs_1) ∧ fs_1[3]? = some (.int v_2) ∧ (∃ (fs_3 : List Value) (v_4 : Option Nat), h p0 = some (ga_O 27 fs_3) ∧ fs_3[0]? = some (va_rf v_4) ∧ (∃ a_5 : Nat, v_4 = some a_5 ∧ ∃ fs_6 : List Value, ga_at K h a_5 (ga_O 26 fs_6) ∧ gw_J49_get K a_5 v_2 h (fun (r_8 : Option Nat) (h_7 : ga_H) => ∃ fs_9 : List Value, h_7 p0 = some (ga_O 27 fs_9) ∧ 3 < fs_9.length ∧ ∀ h_10 : ga_H, h_10 = ga_set h_7 p0 (ga_O 27 (fs_9.set 3 (.int (v_2 + (1 : Int32))))) → (post r_8 h_10))))
set_option maxHeartbeats 4000000 in
theorem gm_J22_next (l : Launch) (hst : l.stackTraces = false) (g : ga_G) (p0 : Nat) (h : ga_H) (mc ms : Nat) (post : Option Nat → ga_H → Prop) (xp : String → Nat → ga_H → Prop) (hw : gw_J22_next g.2.2 p0 h mc ms post xp) : vx_Met l yJ22_next (wsW_ yJ22_next cJ22_next 3 (some (.object "java/lang/Object")) [(0, 24, 25, 30)]) ({ frames := 9, cells := mc, slots := ms, locals := 161 } : Room) (va_Pc [.ref p0] (ga_B g h)) (va_Qq post (ga_E g) (ga_A g)) (ga_X g xp) mc ms (ga_A g) := by
  refine ga_metxW (own := "java/util/ImmutableCollections$ListItr") (nm := "next") (by decide) rfl rfl (by exact Nat.le_of_ble_eq_true rfl) (fun p e s m below meth c ls hC htab hI hl => ?_)
  have hl : lv_has ls 3 [(0, .ref p0)] := hl
  generalize ([.ref p0] : List Value).toArray = args at hC ⊢
  obtain ⟨hx, hb, hml, hown, hts, hr, hlk, hnm⟩ := hC
  unfold gw_J22_next at hw
  obtain ⟨H, eH⟩ : ∃ z, z = s.heap := ⟨_, rfl⟩
  obtain ⟨locs, elo⟩ : ∃ z : List Loc, z = [] := ⟨_, rfl⟩
  rw [← eH, ← elo] at hI ⊢
  obtain ⟨cells, slots, hbc, hbs, e0, e1⟩ : ∃ a b : Nat, a + mc ≤ mc ∧ b + ms ≤ ms ∧ a = 0 ∧ b = 0 := ⟨0, 0, by omega, by omega, rfl, rfl⟩
  show W p l e ({ frames := 9, cells := mc, slots := ms, locals := 161 } : Room) s m args below meth c H locs 0 0 (vx_MQ below (va_Qq post (ga_E g) (ga_A g)) (ga_X g xp) args s mc ms (ga_A g)) (F0 m 0 ls [])
  suffices hgoal : W p l e ({ frames := 9, cells := mc, slots := ms, locals := 161 } : Room) s m args below meth c H locs cells slots (vx_MQ below (va_Qq post (ga_E g) (ga_A g)) (ga_X g xp) args s mc ms (ga_A g)) (F0 m 0 ls []) by rw [e0, e1] at hgoal; exact hgoal
  refine lv_aload_n hx hb dJ22_next_0 rfl (lv_at hl 0 rfl) ?_
  obtain ⟨fs_1, v_2, hq, hv, hw⟩ := hw
  refine ga_get (ci := 27) (T := TJ22) (v := .int v_2) hx hb hts hown hI in_J22 rfl 3 (by decide) q680 (fun _ z => z) (ga_at.h hq) hv dJ22_next_1 ?_
  refine lv_istore_n (i := 1) (lv' := [(1, .int v_2), (0, .ref p0)]) hx hb dJ22_next_4 rfl hl (by decide) rfl (fun ls hl => ?_)
  refine lv_aload_n hx hb dJ22_next_5 rfl (lv_at hl 1 rfl) ?_
  obtain ⟨fs_3, v_4, hq, hv, hw⟩ := hw
  refine ga_get (ci := 27) (T := TJ22) (v := va_rf v_4) hx hb hts hown hI in_J22 rfl 0 (by decide) q677 (fun _ z => z) (ga_at.h hq) hv dJ22_next_6 ?_
  refine lv_iload_n hx hb dJ22_next_9 rfl (lv_at hl 0 rfl) ?_
  obtain ⟨a_5, ea_5, hw⟩ := hw
  rewrite [ea_5]
  obtain ⟨fs_6, hq, hw⟩ := hw
  refine ga_callFq (va_runF (As := [.int v_2]) (rest := []) (hI.2.1.1.1.1 26 _ rfl).2 ⟨hx, hb, hml, hown, hts⟩ (gm_J49_get l g a_5 v_2 h _ hw) (va_cwF 1 hts (lw_app (List.forall_mem_cons.mpr ⟨q833, List.forall_mem_cons.mpr ⟨q1114, List.forall_mem_cons.mpr ⟨q1116, List.forall_mem_cons.mpr ⟨q165, fun _ h => absurd h List.not_mem_nil⟩⟩⟩⟩) (lw_meth q1118)) rfl rfl rfl (hI.2.1.1.2.2 _ _ _ ⟨by decide +kernel, q835, q834, q1117, q1115, q1113⟩) (by decide +kernel) ⟨Nat.le_of_ble_eq_true rfl, Nat.le_of_ble_eq_true rfl⟩) (ga_preV (C := "java/util/ImmutableCollections$ListN") hI hq rfl rfl) rfl rfl hl.1 rfl (ga_room (Nat.le_of_ble_eq_true rfl)) dJ22_next_10 ⟨Nat.le_trans (Nat.add_le_add_left (Nat.zero_le _) _) hbc, Nat.le_trans (Nat.add_le_add_left (Nat.zero_le _) _) hbs⟩) hI hbc hbs (Nat.zero_le _) (Nat.zero_le _) (fun r_8 h_7 H locs cells slots hw hI hbc hbs => ?_)
  refine ga_astore_n (i := 2) (x := r_8) (lv' := [(2, va_rf r_8), (1, .int v_2), (0, .ref p0)]) hx hb dJ22_next_15 rfl hl (by decide) rfl (fun ls hl => ?_)
  refine lv_aload_n hx hb dJ22_next_16 rfl (lv_at hl 2 rfl) ?_
  refine lv_iload_n hx hb dJ22_next_17 rfl (lv_at hl 1 rfl) ?_
  refine lv_iconst (v := 1) hx hb dJ22_next_18 (by decide) ?_
  refine lv_iadd hx hb dJ22_next_19 ?_
  obtain ⟨fs_9, hq, hk, hw⟩ := hw
  refine ga_put (ci := 27) (T := TJ22) (v := .int (v_2 + (1 : Int32))) (ty := tyJ22 3) hx hb hts hown hI in_J22 rfl tyJ22 tyJ22_ok nmJ22 3 (by decide) q680 (fun _ z => z) rfl (tyJ22_ok 3 (by decide)) rfl rfl hq hk dJ22_next_20 (fun H locs hI => ?_)
  obtain ⟨h_10, eh_10⟩ : ∃ z, z = ga_set h_7 p0 (ga_O 27 (fs_9.set 3 (.int (v_2 + (1 : Int32))))) := ⟨_, rfl⟩
  rw [← eh_10] at hI
  have hw := hw h_10 eh_10
  refine ga_aload_n hx hb dJ22_next_23 rfl (lv_at hl 0 rfl) ?_
  exact ga_qretx (v := r_8) hx hb hr (Or.inl ⟨_, rfl⟩) hlk hI hw (Nat.le_trans (Nat.le_add_right _ _) hbc) (Nat.le_trans (Nat.le_add_right _ _) hbs) dJ22_next_24
theorem hdG_J22_next : yJ22_next.cls ≠ "java/lang/invoke/MethodHandle" ∧ yJ22_next.cls ≠ "java/lang/invoke/VarHandle" ∧ (parseMethodDescriptor yJ22_next.desc).map (fun d => d.parameters.length) = some 0 := by decide +kernel
def gw_J7_isLatin1 (K : ga_K) (p0 : Nat) (h : ga_H) (post : Int32 → ga_H → Prop) : Prop :=
  ∃ (fs_2 : List Value) (v_3 : Int32), ga_at K h p0 (ga_O 23 fs_2) ∧ fs_2[1]? = some (.int v_3) ∧ ((¬ v_3 = (0 : Int32) → (post (0 : Int32) h)) ∧ (v_3 = (0 : Int32) → (post (1 : Int32) h)))
set_option maxHeartbeats 4000000 in
theorem gm_J7_isLatin1 (l : Launch) (g : ga_G) (p0 : Nat) (h : ga_H) (post : Int32 → ga_H → Prop) (hw : gw_J7_isLatin1 g.2.2 p0 h post) : Met l yJ7_isLatin1 (ws_ yJ7_isLatin1 cJ7_isLatin1 1 (some .boolean)) ({ frames := 8, cells := 0, slots := 0, locals := 140 } : Room) (va_Pc [.ref p0] (ga_B g h)) (va_Qi post (ga_E g) (ga_A g)) 0 0 (ga_A g) := by
  refine ga_met (own := "java/lang/String") (nm := "isLatin1") (by decide) rfl rfl (by exact Nat.le_of_ble_eq_true rfl) (fun p e s m below meth c ls hC hI hl => ?_)
  have hl : lv_has ls 1 [(0, .ref p0)] := hl
  generalize ([.ref p0] : List Value).toArray = args at hC ⊢
  obtain ⟨hx, hb, hml, hown, hts, hr, hlk, hnm⟩ := hC
  unfold gw_J7_isLatin1 at hw
  obtain ⟨H, eH⟩ : ∃ z, z = s.heap := ⟨_, rfl⟩
  obtain ⟨locs, elo⟩ : ∃ z : List Loc, z = [] := ⟨_, rfl⟩
  rw [← eH, ← elo] at hI ⊢
  obtain ⟨cells, slots, hbc, hbs, e0, e1⟩ : ∃ a b : Nat, a ≤ 0 ∧ b ≤ 0 ∧ a = 0 ∧ b = 0 := ⟨0, 0, by omega, by omega, rfl, rfl⟩
  show W p l e ({ frames := 8, cells := 0, slots := 0, locals := 140 } : Room) s m args below meth c H locs 0 0 (MQ below (va_Qi post (ga_E g) (ga_A g)) args s 0 0 (ga_A g)) (F0 m 0 ls [])
  suffices hgoal : W p l e ({ frames := 8, cells := 0, slots := 0, locals := 140 } : Room) s m args below meth c H locs cells slots (MQ below (va_Qi post (ga_E g) (ga_A g)) args s 0 0 (ga_A g)) (F0 m 0 ls []) by rw [e0, e1] at hgoal; exact hgoal
  refine ga_sget (v := .int (1 : Int32)) hx hb hts hown hI 1 rfl q955 (fun _ z => z) dJ7_isLatin1_0 ?_
  refine lv_if_eq (tgt := 17) hx hb dJ7_isLatin1_3 (by decide) (fun hc_1 => by first | exact absurd hc_1 (by decide) | exact absurd (by decide) hc_1) (fun _ => ?_)
  refine lv_aload_n hx hb dJ7_isLatin1_6 rfl (lv_at hl 0 rfl) ?_
  obtain ⟨fs_2, v_3, hq, hv, hw⟩ := hw
  refine ga_get (ci := 23) (T := TJ7) (v := .int v_3) hx hb hts hown hI in_J7 rfl 1 (by decide) q1095 (fun _ z => z) hq hv dJ7_isLatin1_7 ?_
  refine lv_if_ne (tgt := 17) hx hb dJ7_isLatin1_10 (by decide) (fun hc_4 => ?_) (fun hc_4 => ?_)
  · have hw := hw.1 hc_4
    refine lv_iconst (v := 0) hx hb dJ7_isLatin1_17 (by decide) ?_
    exact ga_iret hx hb hr rfl hlk hI hw hbc hbs dJ7_isLatin1_18
  · have hw := hw.2 hc_4
    refine lv_iconst (v := 1) hx hb dJ7_isLatin1_13 (by decide) ?_
    refine lv_goto (tgt := 18) hx hb dJ7_isLatin1_14 (by decide) ?_
    exact ga_iret hx hb hr rfl hlk hI hw hbc hbs dJ7_isLatin1_18
theorem hdG_J7_isLatin1 : yJ7_isLatin1.cls ≠ "java/lang/invoke/MethodHandle" ∧ yJ7_isLatin1.cls ≠ "java/lang/invoke/VarHandle" ∧ (parseMethodDescriptor yJ7_isLatin1.desc).map (fun d => d.parameters.length) = some 0 := by decide +kernel
def gw_J27_signedHashCode (K : ga_K) (p0 : Int32) (p1 : Option Nat) (p2 : Int32) (p3 : Int32) (h : ga_H) (post : Int32 → ga_H → Prop) : Prop :=
  ∃ (In_1 : Int32 → Int32 → Prop) (mu_1 : Int32 → Int32 → Nat), In_1 p0 p2 ∧ ∀ (x0_1 : Int32) (x5_1 : Int32), In_1 x0_1 x5_1 → ((p2 + p3 ≤ x5_1 → (post x0_1 h)) ∧ (¬ p2 + p3 ≤ x5_1 → (∃ a_3 : Nat, p1 = some a_3 ∧ ∃ (n_4 : Nat) (f_5 : Nat → Int32), ga_at K h a_3 (ga_Ab n_4 f_5) ∧ vp_in x5_1 n_4 ∧ (∀ x_6 : Int32, x_6 = ((31 : Int32) * x0_1) + ((f_5 x5_1.toNatClampNeg) &&& (255 : Int32)) → (In_1 x_6 (x5_1 + (1 : Int32)) ∧ mu_1 x_6 (x5_1 + (1 : Int32)) < mu_1 x0_1 x5_1)))))
set_option maxHeartbeats 4000000 in
theorem gm_J27_signedHashCode (l : Launch) (g : ga_G) (p0 : Int32) (p1 : Option Nat) (p2 : Int32) (p3 : Int32) (h : ga_H) (post : Int32 → ga_H → Prop) (hw : gw_J27_signedHashCode g.2.2 p0 p1 p2 p3 h post) : Met l yJ27_signedHashCode (ws_ yJ27_signedHashCode cJ27_signedHashCode 6 (some .int)) ({ frames := 8, cells := 0, slots := 0, locals := 140 } : Room) (va_Pc [.int p0, va_rf p1, .int p2, .int p3] (ga_B g h)) (va_Qi post (ga_E g) (ga_A g)) 0 0 (ga_A g) := by
  refine ga_met (own := "jdk/internal/util/ArraysSupport") (nm := "signedHashCode") (by decide) rfl rfl (by cases p1 <;> exact Nat.le_of_ble_eq_true rfl) (fun p e s m below meth c ls hC hI hl => ?_)
  have hl : lv_has ls 6 [(0, .int p0), (1, va_rf p1), (2, .int p2), (3, .int p3)] := (by cases p1 <;> exact hl)
  generalize ([.int p0, va_rf p1, .int p2, .int p3] : List Value).toArray = args at hC ⊢
  obtain ⟨hx, hb, hml, hown, hts, hr, hlk, hnm⟩ := hC
  unfold gw_J27_signedHashCode at hw
  obtain ⟨H, eH⟩ : ∃ z, z = s.heap := ⟨_, rfl⟩
  obtain ⟨locs, elo⟩ : ∃ z : List Loc, z = [] := ⟨_, rfl⟩
  rw [← eH, ← elo] at hI ⊢
  obtain ⟨cells, slots, hbc, hbs, e0, e1⟩ : ∃ a b : Nat, a ≤ 0 ∧ b ≤ 0 ∧ a = 0 ∧ b = 0 := ⟨0, 0, by omega, by omega, rfl, rfl⟩
  show W p l e ({ frames := 8, cells := 0, slots := 0, locals := 140 } : Room) s m args below meth c H locs 0 0 (MQ below (va_Qi post (ga_E g) (ga_A g)) args s 0 0 (ga_A g)) (F0 m 0 ls [])
  suffices hgoal : W p l e ({ frames := 8, cells := 0, slots := 0, locals := 140 } : Room) s m args below meth c H locs cells slots (MQ below (va_Qi post (ga_E g) (ga_A g)) args s 0 0 (ga_A g)) (F0 m 0 ls []) by rw [e0, e1] at hgoal; exact hgoal
  refine lv_iload_n hx hb dJ27_signedHashCode_0 rfl (lv_at hl 2 rfl) ?_
  refine lv_iload_n hx hb dJ27_signedHashCode_1 rfl (lv_at hl 3 rfl) ?_
  refine lv_iadd hx hb dJ27_signedHashCode_2 ?_
  refine lv_istore (lv' := [(4, .int (p2 + p3)), (0, .int p0), (1, va_rf p1), (2, .int p2), (3, .int p3)]) hx hb dJ27_signedHashCode_3 hl (by decide) rfl (fun ls hl => ?_)
  refine lv_iload_n hx hb dJ27_signedHashCode_5 rfl (lv_at hl 3 rfl) ?_
  refine lv_istore (lv' := [(5, .int p2), (4, .int (p2 + p3)), (0, .int p0), (1, va_rf p1), (2, .int p2), (3, .int p3)]) hx hb dJ27_signedHashCode_6 hl (by decide) rfl (fun ls hl => ?_)
  obtain ⟨In_1, mu_1, h0_1, hw⟩ := hw
  have hL_1 : ∀ (n : Nat) (x0_1 : Int32) (x5_1 : Int32) (ls : Array Slot), mu_1 x0_1 x5_1 < n → In_1 x0_1 x5_1 → lv_has ls 6 [(0, .int x0_1), (1, va_rf p1), (4, .int (p2 + p3)), (5, .int x5_1)] → W p l e ({ frames := 8, cells := 0, slots := 0, locals := 140 } : Room) s m args below meth c H locs cells slots (MQ below (va_Qi post (ga_E g) (ga_A g)) args s 0 0 (ga_A g)) (F0 m 8 ls []) := by
    intro n
    induction n with
    | zero => intro x0_1 x5_1 ls hn _ _; exact absurd hn (Nat.not_lt_zero _)
    | succ n ih_1 =>
      intro x0_1 x5_1 ls hn_1 hi_1 hl
      have hw := hw x0_1 x5_1 hi_1
      refine lv_iload hx hb dJ27_signedHashCode_8 (lv_at hl 3 rfl) ?_
      refine lv_iload hx hb dJ27_signedHashCode_10 (lv_at hl 2 rfl) ?_
      refine lv_icmp_ge (tgt := 35) hx hb dJ27_signedHashCode_12 (by decide) (fun hc_2 => ?_) (fun hc_2 => ?_)
      · have hw := hw.1 hc_2
        refine lv_iload_n hx hb dJ27_signedHashCode_35 rfl (lv_at hl 0 rfl) ?_
        exact ga_iret hx hb hr rfl hlk hI hw hbc hbs dJ27_signedHashCode_36
      · have hw := hw.2 hc_2
        refine lv_bipush (v := 31) hx hb dJ27_signedHashCode_15 (by decide) ?_
        refine lv_iload_n hx hb dJ27_signedHashCode_17 rfl (lv_at hl 0 rfl) ?_
        refine lv_imul hx hb dJ27_signedHashCode_18 ?_
        refine ga_aload_n hx hb dJ27_signedHashCode_19 rfl (lv_at hl 1 rfl) ?_
        refine lv_iload hx hb dJ27_signedHashCode_20 (lv_at hl 3 rfl) ?_
        obtain ⟨a_3, ea_3, hw⟩ := hw
        rewrite [ea_3]
        obtain ⟨n_4, f_5, hq, hi, hw⟩ := hw
        refine ga_ldb hx hb hI hq hi dJ27_signedHashCode_22 ?_
        refine lv_sipush (v := 255) hx hb dJ27_signedHashCode_23 (by decide) ?_
        refine lv_iand hx hb dJ27_signedHashCode_26 ?_
        refine lv_iadd hx hb dJ27_signedHashCode_27 ?_
        refine lv_topi (fun x_6 ex_6 => ?_)
        have hw := hw x_6 ex_6
        refine lv_istore_n (i := 0) (lv' := [(0, .int x_6), (1, va_rf p1), (4, .int (p2 + p3)), (5, .int x5_1)]) hx hb dJ27_signedHashCode_28 rfl hl (by decide) rfl (fun ls hl => ?_)
        refine lv_iinc (v := x5_1 + (1 : Int32)) (lv' := [(5, .int (x5_1 + (1 : Int32))), (0, .int x_6), (1, va_rf p1), (4, .int (p2 + p3))]) hx hb dJ27_signedHashCode_29 hl (k := 3) rfl rfl (by decide) rfl (fun ls hl => ?_)
        refine lv_goto (tgt := 8) hx hb dJ27_signedHashCode_32 (by decide) ?_
        exact ih_1 _ _ ls (Nat.lt_of_lt_of_le hw.2 (Nat.le_of_lt_succ hn_1)) hw.1 (lv_sub hl [1, 2, 3, 0] rfl)
  exact hL_1 _ _ _ ls (Nat.lt_succ_self _) h0_1 (lv_sub hl [2, 3, 1, 0] rfl)
theorem hdG_J27_signedHashCode : yJ27_signedHashCode.cls ≠ "java/lang/invoke/MethodHandle" ∧ yJ27_signedHashCode.cls ≠ "java/lang/invoke/VarHandle" ∧ (parseMethodDescriptor yJ27_signedHashCode.desc).map (fun d => d.parameters.length) = some 4 := by decide +kernel
def gw_J27_utf16hashCode (K : ga_K) (p0 : Int32) (p1 : Option Nat) (p2 : Int32) (p3 : Int32) (h : ga_H) (post : Int32 → ga_H → Prop) : Prop :=
  ∃ (In_1 : Int32 → Int32 → ga_H → Prop) (mu_1 : Int32 → Int32 → ga_H → Nat), In_1 p0 p2 h ∧ ∀ (x0_1 : Int32) (x5_1 : Int32) (h_1 : ga_H), In_1 x0_1 x5_1 h_1 → ((p2 + p3 ≤ x5_1 → (post x0_1 h_1)) ∧ (¬ p2 + p3 ≤ x5_1 → False))
set_option maxHeartbeats 4000000 in
theorem gm_J27_utf16hashCode (l : Launch) (g : ga_G) (p0 : Int32) (p1 : Option Nat) (p2 : Int32) (p3 : Int32) (h : ga_H) (post : Int32 → ga_H → Prop) (hw : gw_J27_utf16hashCode g.2.2 p0 p1 p2 p3 h post) : Met l yJ27_utf16hashCode (ws_ yJ27_utf16hashCode cJ27_utf16hashCode 6 (some .int)) ({ frames := 8, cells := 0, slots := 0, locals := 140 } : Room) (va_Pc [.int p0, va_rf p1, .int p2, .int p3] (ga_B g h)) (va_Qi post (ga_E g) (ga_A g)) 0 0 (ga_A g) := by
  refine ga_met (own := "jdk/internal/util/ArraysSupport") (nm := "utf16hashCode") (by decide) rfl rfl (by cases p1 <;> exact Nat.le_of_ble_eq_true rfl) (fun p e s m below meth c ls hC hI hl => ?_)
  have hl : lv_has ls 6 [(0, .int p0), (1, va_rf p1), (2, .int p2), (3, .int p3)] := (by cases p1 <;> exact hl)
  generalize ([.int p0, va_rf p1, .int p2, .int p3] : List Value).toArray = args at hC ⊢
  obtain ⟨hx, hb, hml, hown, hts, hr, hlk, hnm⟩ := hC
  unfold gw_J27_utf16hashCode at hw
  obtain ⟨H, eH⟩ : ∃ z, z = s.heap := ⟨_, rfl⟩
  obtain ⟨locs, elo⟩ : ∃ z : List Loc, z = [] := ⟨_, rfl⟩
  rw [← eH, ← elo] at hI ⊢
  obtain ⟨cells, slots, hbc, hbs, e0, e1⟩ : ∃ a b : Nat, a ≤ 0 ∧ b ≤ 0 ∧ a = 0 ∧ b = 0 := ⟨0, 0, by omega, by omega, rfl, rfl⟩
  show W p l e ({ frames := 8, cells := 0, slots := 0, locals := 140 } : Room) s m args below meth c H locs 0 0 (MQ below (va_Qi post (ga_E g) (ga_A g)) args s 0 0 (ga_A g)) (F0 m 0 ls [])
  suffices hgoal : W p l e ({ frames := 8, cells := 0, slots := 0, locals := 140 } : Room) s m args below meth c H locs cells slots (MQ below (va_Qi post (ga_E g) (ga_A g)) args s 0 0 (ga_A g)) (F0 m 0 ls []) by rw [e0, e1] at hgoal; exact hgoal
  refine lv_iload_n hx hb dJ27_utf16hashCode_0 rfl (lv_at hl 2 rfl) ?_
  refine lv_iload_n hx hb dJ27_utf16hashCode_1 rfl (lv_at hl 3 rfl) ?_
  refine lv_iadd hx hb dJ27_utf16hashCode_2 ?_
  refine lv_istore (lv' := [(4, .int (p2 + p3)), (0, .int p0), (1, va_rf p1), (2, .int p2), (3, .int p3)]) hx hb dJ27_utf16hashCode_3 hl (by decide) rfl (fun ls hl => ?_)
  refine lv_iload_n hx hb dJ27_utf16hashCode_5 rfl (lv_at hl 3 rfl) ?_
  refine lv_istore (lv' := [(5, .int p2), (4, .int (p2 + p3)), (0, .int p0), (1, va_rf p1), (2, .int p2), (3, .int p3)]) hx hb dJ27_utf16hashCode_6 hl (by decide) rfl (fun ls hl => ?_)
  obtain ⟨In_1, mu_1, h0_1, hw⟩ := hw
  have hL_1 : ∀ (n : Nat) (x0_1 : Int32) (x5_1 : Int32) (h_1 : ga_H) (H : Heap) (locs : List Loc) (cells slots : Nat) (ls : Array Slot), mu_1 x0_1 x5_1 h_1 < n → In_1 x0_1 x5_1 h_1 → ga_I g h_1 s H locs → cells ≤ 0 → slots ≤ 0 → lv_has ls 6 [(0, .int x0_1), (1, va_rf p1), (4, .int (p2 + p3)), (5, .int x5_1)] → W p l e ({ frames := 8, cells := 0, slots := 0, locals := 140 } : Room) s m args below meth c H locs cells slots (MQ below (va_Qi post (ga_E g) (ga_A g)) args s 0 0 (ga_A g)) (F0 m 8 ls []) := by
    intro n
    induction n with
    | zero => intro x0_1 x5_1 h_1 H locs cells slots ls hn _ _ _ _ _; exact absurd hn (Nat.not_lt_zero _)
    | succ n ih_1 =>
      intro x0_1 x5_1 h_1 H locs cells slots ls hn_1 hi_1 hI hbc hbs hl
      have hw := hw x0_1 x5_1 h_1 hi_1
      refine lv_iload hx hb dJ27_utf16hashCode_8 (lv_at hl 3 rfl) ?_
      refine lv_iload hx hb dJ27_utf16hashCode_10 (lv_at hl 2 rfl) ?_
      refine lv_icmp_ge (tgt := 38) hx hb dJ27_utf16hashCode_12 (by decide) (fun hc_2 => ?_) (fun hc_2 => ?_)
      · have hw := hw.1 hc_2
        refine lv_iload_n hx hb dJ27_utf16hashCode_38 rfl (lv_at hl 0 rfl) ?_
        exact ga_iret hx hb hr rfl hlk hI hw hbc hbs dJ27_utf16hashCode_39
      · have hw := hw.2 hc_2
        exact hw.elim
  exact hL_1 _ _ _ _ H locs cells slots ls (Nat.lt_succ_self _) h0_1 hI hbc hbs (lv_sub hl [2, 3, 1, 0] rfl)
theorem hdG_J27_utf16hashCode : yJ27_utf16hashCode.cls ≠ "java/lang/invoke/MethodHandle" ∧ yJ27_utf16hashCode.cls ≠ "java/lang/invoke/VarHandle" ∧ (parseMethodDescriptor yJ27_utf16hashCode.desc).map (fun d => d.parameters.length) = some 4 := by decide +kernel
def gw_J27_hashCode (K : ga_K) (p0 : Int32) (p1 : Option Nat) (p2 : Int32) (p3 : Int32) (h : ga_H) (post : Int32 → ga_H → Prop) : Prop :=
  ∃ (In_1 : Int32 → Int32 → Prop) (mu_1 : Int32 → Int32 → Nat), In_1 p0 p2 ∧ ∀ (x0_1 : Int32) (x5_1 : Int32), In_1 x0_1 x5_1 → ((p2 + p3 ≤ x5_1 → (post x0_1 h)) ∧ (¬ p2 + p3 ≤ x5_1 → (∃ a_3 : Nat, p1 = some a_3 ∧ ∃ (n_4 : Nat) (f_5 : Nat → Int32), h a_3 = some (ga_Ac n_4 f_5) ∧ vp_in x5_1 n_4 ∧ (∀ x_6 : Int32, x_6 = ((31 : Int32) * x0_1) + (f_5 x5_1.toNatClampNeg) → (In_1 x_6 (x5_1 + (1 : Int32)) ∧ mu_1 x_6 (x5_1 + (1 : Int32)) < mu_1 x0_1 x5_1)))))
set_option maxHeartbeats 4000000 in
theorem gm_J27_hashCode (l : Launch) (g : ga_G) (p0 : Int32) (p1 : Option Nat) (p2 : Int32) (p3 : Int32) (h : ga_H) (post : Int32 → ga_H → Prop) (hw : gw_J27_hashCode g.2.2 p0 p1 p2 p3 h post) : Met l yJ27_hashCode (ws_ yJ27_hashCode cJ27_hashCode 6 (some .int)) ({ frames := 8, cells := 0, slots := 0, locals := 140 } : Room) (va_Pc [.int p0, va_rf p1, .int p2, .int p3] (ga_B g h)) (va_Qi post (ga_E g) (ga_A g)) 0 0 (ga_A g) := by
  refine ga_met (own := "jdk/internal/util/ArraysSupport") (nm := "hashCode") (by decide) rfl rfl (by cases p1 <;> exact Nat.le_of_ble_eq_true rfl) (fun p e s m below meth c ls hC hI hl => ?_)
  have hl : lv_has ls 6 [(0, .int p0), (1, va_rf p1), (2, .int p2), (3, .int p3)] := (by cases p1 <;> exact hl)
  generalize ([.int p0, va_rf p1, .int p2, .int p3] : List Value).toArray = args at hC ⊢
  obtain ⟨hx, hb, hml, hown, hts, hr, hlk, hnm⟩ := hC
  unfold gw_J27_hashCode at hw
  obtain ⟨H, eH⟩ : ∃ z, z = s.heap := ⟨_, rfl⟩
  obtain ⟨locs, elo⟩ : ∃ z : List Loc, z = [] := ⟨_, rfl⟩
  rw [← eH, ← elo] at hI ⊢
  obtain ⟨cells, slots, hbc, hbs, e0, e1⟩ : ∃ a b : Nat, a ≤ 0 ∧ b ≤ 0 ∧ a = 0 ∧ b = 0 := ⟨0, 0, by omega, by omega, rfl, rfl⟩
  show W p l e ({ frames := 8, cells := 0, slots := 0, locals := 140 } : Room) s m args below meth c H locs 0 0 (MQ below (va_Qi post (ga_E g) (ga_A g)) args s 0 0 (ga_A g)) (F0 m 0 ls [])
  suffices hgoal : W p l e ({ frames := 8, cells := 0, slots := 0, locals := 140 } : Room) s m args below meth c H locs cells slots (MQ below (va_Qi post (ga_E g) (ga_A g)) args s 0 0 (ga_A g)) (F0 m 0 ls []) by rw [e0, e1] at hgoal; exact hgoal
  refine lv_iload_n hx hb dJ27_hashCode_0 rfl (lv_at hl 2 rfl) ?_
  refine lv_iload_n hx hb dJ27_hashCode_1 rfl (lv_at hl 3 rfl) ?_
  refine lv_iadd hx hb dJ27_hashCode_2 ?_
  refine lv_istore (lv' := [(4, .int (p2 + p3)), (0, .int p0), (1, va_rf p1), (2, .int p2), (3, .int p3)]) hx hb dJ27_hashCode_3 hl (by decide) rfl (fun ls hl => ?_)
  refine lv_iload_n hx hb dJ27_hashCode_5 rfl (lv_at hl 3 rfl) ?_
  refine lv_istore (lv' := [(5, .int p2), (4, .int (p2 + p3)), (0, .int p0), (1, va_rf p1), (2, .int p2), (3, .int p3)]) hx hb dJ27_hashCode_6 hl (by decide) rfl (fun ls hl => ?_)
  obtain ⟨In_1, mu_1, h0_1, hw⟩ := hw
  have hL_1 : ∀ (n : Nat) (x0_1 : Int32) (x5_1 : Int32) (ls : Array Slot), mu_1 x0_1 x5_1 < n → In_1 x0_1 x5_1 → lv_has ls 6 [(0, .int x0_1), (1, va_rf p1), (4, .int (p2 + p3)), (5, .int x5_1)] → W p l e ({ frames := 8, cells := 0, slots := 0, locals := 140 } : Room) s m args below meth c H locs cells slots (MQ below (va_Qi post (ga_E g) (ga_A g)) args s 0 0 (ga_A g)) (F0 m 8 ls []) := by
    intro n
    induction n with
    | zero => intro x0_1 x5_1 ls hn _ _; exact absurd hn (Nat.not_lt_zero _)
    | succ n ih_1 =>
      intro x0_1 x5_1 ls hn_1 hi_1 hl
      have hw := hw x0_1 x5_1 hi_1
      refine lv_iload hx hb dJ27_hashCode_8 (lv_at hl 3 rfl) ?_
      refine lv_iload hx hb dJ27_hashCode_10 (lv_at hl 2 rfl) ?_
      refine lv_icmp_ge (tgt := 31) hx hb dJ27_hashCode_12 (by decide) (fun hc_2 => ?_) (fun hc_2 => ?_)
      · have hw := hw.1 hc_2
        refine lv_iload_n hx hb dJ27_hashCode_31 rfl (lv_at hl 0 rfl) ?_
        exact ga_iret hx hb hr rfl hlk hI hw hbc hbs dJ27_hashCode_32
      · have hw := hw.2 hc_2
        refine lv_bipush (v := 31) hx hb dJ27_hashCode_15 (by decide) ?_
        refine lv_iload_n hx hb dJ27_hashCode_17 rfl (lv_at hl 0 rfl) ?_
        refine lv_imul hx hb dJ27_hashCode_18 ?_
        refine ga_aload_n hx hb dJ27_hashCode_19 rfl (lv_at hl 1 rfl) ?_
        refine lv_iload hx hb dJ27_hashCode_20 (lv_at hl 3 rfl) ?_
        obtain ⟨a_3, ea_3, hw⟩ := hw
        rewrite [ea_3]
        obtain ⟨n_4, f_5, hq, hi, hw⟩ := hw
        refine ga_ldc hx hb hI (ga_at.h hq) hi dJ27_hashCode_22 ?_
        refine lv_iadd hx hb dJ27_hashCode_23 ?_
        refine lv_topi (fun x_6 ex_6 => ?_)
        have hw := hw x_6 ex_6
        refine lv_istore_n (i := 0) (lv' := [(0, .int x_6), (1, va_rf p1), (4, .int (p2 + p3)), (5, .int x5_1)]) hx hb dJ27_hashCode_24 rfl hl (by decide) rfl (fun ls hl => ?_)
        refine lv_iinc (v := x5_1 + (1 : Int32)) (lv' := [(5, .int (x5_1 + (1 : Int32))), (0, .int x_6), (1, va_rf p1), (4, .int (p2 + p3))]) hx hb dJ27_hashCode_25 hl (k := 3) rfl rfl (by decide) rfl (fun ls hl => ?_)
        refine lv_goto (tgt := 8) hx hb dJ27_hashCode_28 (by decide) ?_
        exact ih_1 _ _ ls (Nat.lt_of_lt_of_le hw.2 (Nat.le_of_lt_succ hn_1)) hw.1 (lv_sub hl [1, 2, 3, 0] rfl)
  exact hL_1 _ _ _ ls (Nat.lt_succ_self _) h0_1 (lv_sub hl [2, 3, 1, 0] rfl)
theorem hdG_J27_hashCode : yJ27_hashCode.cls ≠ "java/lang/invoke/MethodHandle" ∧ yJ27_hashCode.cls ≠ "java/lang/invoke/VarHandle" ∧ (parseMethodDescriptor yJ27_hashCode.desc).map (fun d => d.parameters.length) = some 4 := by decide +kernel
def gw_J27_hashCode_2 (K : ga_K) (p0 : Int32) (p1 : Option Nat) (p2 : Int32) (p3 : Int32) (h : ga_H) (post : Int32 → ga_H → Prop) : Prop :=
  ∃ (In_1 : Int32 → Int32 → Prop) (mu_1 : Int32 → Int32 → Nat), In_1 p0 p2 ∧ ∀ (x0_1 : Int32) (x5_1 : Int32), In_1 x0_1 x5_1 → ((p2 + p3 ≤ x5_1 → (post x0_1 h)) ∧ (¬ p2 + p3 ≤ x5_1 → (∃ a_3 : Nat, p1 = some a_3 ∧ ∃ (n_4 : Nat) (f_5 : Nat → Int32), ga_at K h a_3 (ga_Ab n_4 f_5) ∧ vp_in x5_1 n_4 ∧ (∀ x_6 : Int32, x_6 = ((31 : Int32) * x0_1) + (f_5 x5_1.toNatClampNeg) → (In_1 x_6 (x5_1 + (1 : Int32)) ∧ mu_1 x_6 (x5_1 + (1 : Int32)) < mu_1 x0_1 x5_1)))))
set_option maxHeartbeats 4000000 in
theorem gm_J27_hashCode_2 (l : Launch) (g : ga_G) (p0 : Int32) (p1 : Option Nat) (p2 : Int32) (p3 : Int32) (h : ga_H) (post : Int32 → ga_H → Prop) (hw : gw_J27_hashCode_2 g.2.2 p0 p1 p2 p3 h post) : Met l yJ27_hashCode_2 (ws_ yJ27_hashCode_2 cJ27_hashCode_2 6 (some .int)) ({ frames := 8, cells := 0, slots := 0, locals := 140 } : Room) (va_Pc [.int p0, va_rf p1, .int p2, .int p3] (ga_B g h)) (va_Qi post (ga_E g) (ga_A g)) 0 0 (ga_A g) := by
  refine ga_met (own := "jdk/internal/util/ArraysSupport") (nm := "hashCode") (by decide) rfl rfl (by cases p1 <;> exact Nat.le_of_ble_eq_true rfl) (fun p e s m below meth c ls hC hI hl => ?_)
  have hl : lv_has ls 6 [(0, .int p0), (1, va_rf p1), (2, .int p2), (3, .int p3)] := (by cases p1 <;> exact hl)
  generalize ([.int p0, va_rf p1, .int p2, .int p3] : List Value).toArray = args at hC ⊢
  obtain ⟨hx, hb, hml, hown, hts, hr, hlk, hnm⟩ := hC
  unfold gw_J27_hashCode_2 at hw
  obtain ⟨H, eH⟩ : ∃ z, z = s.heap := ⟨_, rfl⟩
  obtain ⟨locs, elo⟩ : ∃ z : List Loc, z = [] := ⟨_, rfl⟩
  rw [← eH, ← elo] at hI ⊢
  obtain ⟨cells, slots, hbc, hbs, e0, e1⟩ : ∃ a b : Nat, a ≤ 0 ∧ b ≤ 0 ∧ a = 0 ∧ b = 0 := ⟨0, 0, by omega, by omega, rfl, rfl⟩
  show W p l e ({ frames := 8, cells := 0, slots := 0, locals := 140 } : Room) s m args below meth c H locs 0 0 (MQ below (va_Qi post (ga_E g) (ga_A g)) args s 0 0 (ga_A g)) (F0 m 0 ls [])
  suffices hgoal : W p l e ({ frames := 8, cells := 0, slots := 0, locals := 140 } : Room) s m args below meth c H locs cells slots (MQ below (va_Qi post (ga_E g) (ga_A g)) args s 0 0 (ga_A g)) (F0 m 0 ls []) by rw [e0, e1] at hgoal; exact hgoal
  refine lv_iload_n hx hb dJ27_hashCode_2_0 rfl (lv_at hl 2 rfl) ?_
  refine lv_iload_n hx hb dJ27_hashCode_2_1 rfl (lv_at hl 3 rfl) ?_
  refine lv_iadd hx hb dJ27_hashCode_2_2 ?_
  refine lv_istore (lv' := [(4, .int (p2 + p3)), (0, .int p0), (1, va_rf p1), (2, .int p2), (3, .int p3)]) hx hb dJ27_hashCode_2_3 hl (by decide) rfl (fun ls hl => ?_)
  refine lv_iload_n hx hb dJ27_hashCode_2_5 rfl (lv_at hl 3 rfl) ?_
  refine lv_istore (lv' := [(5, .int p2), (4, .int (p2 + p3)), (0, .int p0), (1, va_rf p1), (2, .int p2), (3, .int p3)]) hx hb dJ27_hashCode_2_6 hl (by decide) rfl (fun ls hl => ?_)
  obtain ⟨In_1, mu_1, h0_1, hw⟩ := hw
  have hL_1 : ∀ (n : Nat) (x0_1 : Int32) (x5_1 : Int32) (ls : Array Slot), mu_1 x0_1 x5_1 < n → In_1 x0_1 x5_1 → lv_has ls 6 [(0, .int x0_1), (1, va_rf p1), (4, .int (p2 + p3)), (5, .int x5_1)] → W p l e ({ frames := 8, cells := 0, slots := 0, locals := 140 } : Room) s m args below meth c H locs cells slots (MQ below (va_Qi post (ga_E g) (ga_A g)) args s 0 0 (ga_A g)) (F0 m 8 ls []) := by
    intro n
    induction n with
    | zero => intro x0_1 x5_1 ls hn _ _; exact absurd hn (Nat.not_lt_zero _)
    | succ n ih_1 =>
      intro x0_1 x5_1 ls hn_1 hi_1 hl
      have hw := hw x0_1 x5_1 hi_1
      refine lv_iload hx hb dJ27_hashCode_2_8 (lv_at hl 3 rfl) ?_
      refine lv_iload hx hb dJ27_hashCode_2_10 (lv_at hl 2 rfl) ?_
      refine lv_icmp_ge (tgt := 31) hx hb dJ27_hashCode_2_12 (by decide) (fun hc_2 => ?_) (fun hc_2 => ?_)
      · have hw := hw.1 hc_2
        refine lv_iload_n hx hb dJ27_hashCode_2_31 rfl (lv_at hl 0 rfl) ?_
        exact ga_iret hx hb hr rfl hlk hI hw hbc hbs dJ27_hashCode_2_32
      · have hw := hw.2 hc_2
        refine lv_bipush (v := 31) hx hb dJ27_hashCode_2_15 (by decide) ?_
        refine lv_iload_n hx hb dJ27_hashCode_2_17 rfl (lv_at hl 0 rfl) ?_
        refine lv_imul hx hb dJ27_hashCode_2_18 ?_
        refine ga_aload_n hx hb dJ27_hashCode_2_19 rfl (lv_at hl 1 rfl) ?_
        refine lv_iload hx hb dJ27_hashCode_2_20 (lv_at hl 3 rfl) ?_
        obtain ⟨a_3, ea_3, hw⟩ := hw
        rewrite [ea_3]
        obtain ⟨n_4, f_5, hq, hi, hw⟩ := hw
        refine ga_ldb hx hb hI hq hi dJ27_hashCode_2_22 ?_
        refine lv_iadd hx hb dJ27_hashCode_2_23 ?_
        refine lv_topi (fun x_6 ex_6 => ?_)
        have hw := hw x_6 ex_6
        refine lv_istore_n (i := 0) (lv' := [(0, .int x_6), (1, va_rf p1), (4, .int (p2 + p3)), (5, .int x5_1)]) hx hb dJ27_hashCode_2_24 rfl hl (by decide) rfl (fun ls hl => ?_)
        refine lv_iinc (v := x5_1 + (1 : Int32)) (lv' := [(5, .int (x5_1 + (1 : Int32))), (0, .int x_6), (1, va_rf p1), (4, .int (p2 + p3))]) hx hb dJ27_hashCode_2_25 hl (k := 3) rfl rfl (by decide) rfl (fun ls hl => ?_)
        refine lv_goto (tgt := 8) hx hb dJ27_hashCode_2_28 (by decide) ?_
        exact ih_1 _ _ ls (Nat.lt_of_lt_of_le hw.2 (Nat.le_of_lt_succ hn_1)) hw.1 (lv_sub hl [1, 2, 3, 0] rfl)
  exact hL_1 _ _ _ ls (Nat.lt_succ_self _) h0_1 (lv_sub hl [2, 3, 1, 0] rfl)
theorem hdG_J27_hashCode_2 : yJ27_hashCode_2.cls ≠ "java/lang/invoke/MethodHandle" ∧ yJ27_hashCode_2.cls ≠ "java/lang/invoke/VarHandle" ∧ (parseMethodDescriptor yJ27_hashCode_2.desc).map (fun d => d.parameters.length) = some 4 := by decide +kernel
def gw_J27_hashCode_3 (K : ga_K) (p0 : Int32) (p1 : Option Nat) (p2 : Int32) (p3 : Int32) (h : ga_H) (post : Int32 → ga_H → Prop) : Prop :=
  ∃ (In_1 : Int32 → Int32 → Prop) (mu_1 : Int32 → Int32 → Nat), In_1 p0 p2 ∧ ∀ (x0_1 : Int32) (x5_1 : Int32), In_1 x0_1 x5_1 → ((p2 + p3 ≤ x5_1 → (post x0_1 h)) ∧ (¬ p2 + p3 ≤ x5_1 → False))
set_option maxHeartbeats 4000000 in
theorem gm_J27_hashCode_3 (l : Launch) (g : ga_G) (p0 : Int32) (p1 : Option Nat) (p2 : Int32) (p3 : Int32) (h : ga_H) (post : Int32 → ga_H → Prop) (hw : gw_J27_hashCode_3 g.2.2 p0 p1 p2 p3 h post) : Met l yJ27_hashCode_3 (ws_ yJ27_hashCode_3 cJ27_hashCode_3 6 (some .int)) ({ frames := 8, cells := 0, slots := 0, locals := 140 } : Room) (va_Pc [.int p0, va_rf p1, .int p2, .int p3] (ga_B g h)) (va_Qi post (ga_E g) (ga_A g)) 0 0 (ga_A g) := by
  refine ga_met (own := "jdk/internal/util/ArraysSupport") (nm := "hashCode") (by decide) rfl rfl (by cases p1 <;> exact Nat.le_of_ble_eq_true rfl) (fun p e s m below meth c ls hC hI hl => ?_)
  have hl : lv_has ls 6 [(0, .int p0), (1, va_rf p1), (2, .int p2), (3, .int p3)] := (by cases p1 <;> exact hl)
  generalize ([.int p0, va_rf p1, .int p2, .int p3] : List Value).toArray = args at hC ⊢
  obtain ⟨hx, hb, hml, hown, hts, hr, hlk, hnm⟩ := hC
  unfold gw_J27_hashCode_3 at hw
  obtain ⟨H, eH⟩ : ∃ z, z = s.heap := ⟨_, rfl⟩
  obtain ⟨locs, elo⟩ : ∃ z : List Loc, z = [] := ⟨_, rfl⟩
  rw [← eH, ← elo] at hI ⊢
  obtain ⟨cells, slots, hbc, hbs, e0, e1⟩ : ∃ a b : Nat, a ≤ 0 ∧ b ≤ 0 ∧ a = 0 ∧ b = 0 := ⟨0, 0, by omega, by omega, rfl, rfl⟩
  show W p l e ({ frames := 8, cells := 0, slots := 0, locals := 140 } : Room) s m args below meth c H locs 0 0 (MQ below (va_Qi post (ga_E g) (ga_A g)) args s 0 0 (ga_A g)) (F0 m 0 ls [])
  suffices hgoal : W p l e ({ frames := 8, cells := 0, slots := 0, locals := 140 } : Room) s m args below meth c H locs cells slots (MQ below (va_Qi post (ga_E g) (ga_A g)) args s 0 0 (ga_A g)) (F0 m 0 ls []) by rw [e0, e1] at hgoal; exact hgoal
  refine lv_iload_n hx hb dJ27_hashCode_3_0 rfl (lv_at hl 2 rfl) ?_
  refine lv_iload_n hx hb dJ27_hashCode_3_1 rfl (lv_at hl 3 rfl) ?_
  refine lv_iadd hx hb dJ27_hashCode_3_2 ?_
  refine lv_istore (lv' := [(4, .int (p2 + p3)), (0, .int p0), (1, va_rf p1), (2, .int p2), (3, .int p3)]) hx hb dJ27_hashCode_3_3 hl (by decide) rfl (fun ls hl => ?_)
  refine lv_iload_n hx hb dJ27_hashCode_3_5 rfl (lv_at hl 3 rfl) ?_
  refine lv_istore (lv' := [(5, .int p2), (4, .int (p2 + p3)), (0, .int p0), (1, va_rf p1), (2, .int p2), (3, .int p3)]) hx hb dJ27_hashCode_3_6 hl (by decide) rfl (fun ls hl => ?_)
  obtain ⟨In_1, mu_1, h0_1, hw⟩ := hw
  have hL_1 : ∀ (n : Nat) (x0_1 : Int32) (x5_1 : Int32) (ls : Array Slot), mu_1 x0_1 x5_1 < n → In_1 x0_1 x5_1 → lv_has ls 6 [(0, .int x0_1), (1, va_rf p1), (4, .int (p2 + p3)), (5, .int x5_1)] → W p l e ({ frames := 8, cells := 0, slots := 0, locals := 140 } : Room) s m args below meth c H locs cells slots (MQ below (va_Qi post (ga_E g) (ga_A g)) args s 0 0 (ga_A g)) (F0 m 8 ls []) := by
    intro n
    induction n with
    | zero => intro x0_1 x5_1 ls hn _ _; exact absurd hn (Nat.not_lt_zero _)
    | succ n ih_1 =>
      intro x0_1 x5_1 ls hn_1 hi_1 hl
      have hw := hw x0_1 x5_1 hi_1
      refine lv_iload hx hb dJ27_hashCode_3_8 (lv_at hl 3 rfl) ?_
      refine lv_iload hx hb dJ27_hashCode_3_10 (lv_at hl 2 rfl) ?_
      refine lv_icmp_ge (tgt := 31) hx hb dJ27_hashCode_3_12 (by decide) (fun hc_2 => ?_) (fun hc_2 => ?_)
      · have hw := hw.1 hc_2
        refine lv_iload_n hx hb dJ27_hashCode_3_31 rfl (lv_at hl 0 rfl) ?_
        exact ga_iret hx hb hr rfl hlk hI hw hbc hbs dJ27_hashCode_3_32
      · have hw := hw.2 hc_2
        exact hw.elim
  exact hL_1 _ _ _ ls (Nat.lt_succ_self _) h0_1 (lv_sub hl [2, 3, 1, 0] rfl)
theorem hdG_J27_hashCode_3 : yJ27_hashCode_3.cls ≠ "java/lang/invoke/MethodHandle" ∧ yJ27_hashCode_3.cls ≠ "java/lang/invoke/VarHandle" ∧ (parseMethodDescriptor yJ27_hashCode_3.desc).map (fun d => d.parameters.length) = some 4 := by decide +kernel
def gw_J27_hashCode_4 (K : ga_K) (p0 : Int32) (p1 : Option Nat) (p2 : Int32) (p3 : Int32) (h : ga_H) (post : Int32 → ga_H → Prop) : Prop :=
  ∃ (In_1 : Int32 → Int32 → Prop) (mu_1 : Int32 → Int32 → Nat), In_1 p0 p2 ∧ ∀ (x0_1 : Int32) (x5_1 : Int32), In_1 x0_1 x5_1 → ((p2 + p3 ≤ x5_1 → (post x0_1 h)) ∧ (¬ p2 + p3 ≤ x5_1 → (∃ a_3 : Nat, p1 = some a_3 ∧ ∃ (n_4 : Nat) (f_5 : Nat → Int32), h a_3 = some (ga_Ai n_4 f_5) ∧ vp_in x5_1 n_4 ∧ (∀ x_6 : Int32, x_6 = ((31 : Int32) * x0_1) + (f_5 x5_1.toNatClampNeg) → (In_1 x_6 (x5_1 + (1 : Int32)) ∧ mu_1 x_6 (x5_1 + (1 : Int32)) < mu_1 x0_1 x5_1)))))
set_option maxHeartbeats 4000000 in
theorem gm_J27_hashCode_4 (l : Launch) (g : ga_G) (p0 : Int32) (p1 : Option Nat) (p2 : Int32) (p3 : Int32) (h : ga_H) (post : Int32 → ga_H → Prop) (hw : gw_J27_hashCode_4 g.2.2 p0 p1 p2 p3 h post) : Met l yJ27_hashCode_4 (ws_ yJ27_hashCode_4 cJ27_hashCode_4 6 (some .int)) ({ frames := 8, cells := 0, slots := 0, locals := 140 } : Room) (va_Pc [.int p0, va_rf p1, .int p2, .int p3] (ga_B g h)) (va_Qi post (ga_E g) (ga_A g)) 0 0 (ga_A g) := by
  refine ga_met (own := "jdk/internal/util/ArraysSupport") (nm := "hashCode") (by decide) rfl rfl (by cases p1 <;> exact Nat.le_of_ble_eq_true rfl) (fun p e s m below meth c ls hC hI hl => ?_)
  have hl : lv_has ls 6 [(0, .int p0), (1, va_rf p1), (2, .int p2), (3, .int p3)] := (by cases p1 <;> exact hl)
  generalize ([.int p0, va_rf p1, .int p2, .int p3] : List Value).toArray = args at hC ⊢
  obtain ⟨hx, hb, hml, hown, hts, hr, hlk, hnm⟩ := hC
  unfold gw_J27_hashCode_4 at hw
  obtain ⟨H, eH⟩ : ∃ z, z = s.heap := ⟨_, rfl⟩
  obtain ⟨locs, elo⟩ : ∃ z : List Loc, z = [] := ⟨_, rfl⟩
  rw [← eH, ← elo] at hI ⊢
  obtain ⟨cells, slots, hbc, hbs, e0, e1⟩ : ∃ a b : Nat, a ≤ 0 ∧ b ≤ 0 ∧ a = 0 ∧ b = 0 := ⟨0, 0, by omega, by omega, rfl, rfl⟩
  show W p l e ({ frames := 8, cells := 0, slots := 0, locals := 140 } : Room) s m args below meth c H locs 0 0 (MQ below (va_Qi post (ga_E g) (ga_A g)) args s 0 0 (ga_A g)) (F0 m 0 ls [])
  suffices hgoal : W p l e ({ frames := 8, cells := 0, slots := 0, locals := 140 } : Room) s m args below meth c H locs cells slots (MQ below (va_Qi post (ga_E g) (ga_A g)) args s 0 0 (ga_A g)) (F0 m 0 ls []) by rw [e0, e1] at hgoal; exact hgoal
  refine lv_iload_n hx hb dJ27_hashCode_4_0 rfl (lv_at hl 2 rfl) ?_
  refine lv_iload_n hx hb dJ27_hashCode_4_1 rfl (lv_at hl 3 rfl) ?_
  refine lv_iadd hx hb dJ27_hashCode_4_2 ?_
  refine lv_istore (lv' := [(4, .int (p2 + p3)), (0, .int p0), (1, va_rf p1), (2, .int p2), (3, .int p3)]) hx hb dJ27_hashCode_4_3 hl (by decide) rfl (fun ls hl => ?_)
  refine lv_iload_n hx hb dJ27_hashCode_4_5 rfl (lv_at hl 3 rfl) ?_
  refine lv_istore (lv' := [(5, .int p2), (4, .int (p2 + p3)), (0, .int p0), (1, va_rf p1), (2, .int p2), (3, .int p3)]) hx hb dJ27_hashCode_4_6 hl (by decide) rfl (fun ls hl => ?_)
  obtain ⟨In_1, mu_1, h0_1, hw⟩ := hw
  have hL_1 : ∀ (n : Nat) (x0_1 : Int32) (x5_1 : Int32) (ls : Array Slot), mu_1 x0_1 x5_1 < n → In_1 x0_1 x5_1 → lv_has ls 6 [(0, .int x0_1), (1, va_rf p1), (4, .int (p2 + p3)), (5, .int x5_1)] → W p l e ({ frames := 8, cells := 0, slots := 0, locals := 140 } : Room) s m args below meth c H locs cells slots (MQ below (va_Qi post (ga_E g) (ga_A g)) args s 0 0 (ga_A g)) (F0 m 8 ls []) := by
    intro n
    induction n with
    | zero => intro x0_1 x5_1 ls hn _ _; exact absurd hn (Nat.not_lt_zero _)
    | succ n ih_1 =>
      intro x0_1 x5_1 ls hn_1 hi_1 hl
      have hw := hw x0_1 x5_1 hi_1
      refine lv_iload hx hb dJ27_hashCode_4_8 (lv_at hl 3 rfl) ?_
      refine lv_iload hx hb dJ27_hashCode_4_10 (lv_at hl 2 rfl) ?_
      refine lv_icmp_ge (tgt := 31) hx hb dJ27_hashCode_4_12 (by decide) (fun hc_2 => ?_) (fun hc_2 => ?_)
      · have hw := hw.1 hc_2
        refine lv_iload_n hx hb dJ27_hashCode_4_31 rfl (lv_at hl 0 rfl) ?_
        exact ga_iret hx hb hr rfl hlk hI hw hbc hbs dJ27_hashCode_4_32
      · have hw := hw.2 hc_2
        refine lv_bipush (v := 31) hx hb dJ27_hashCode_4_15 (by decide) ?_
        refine lv_iload_n hx hb dJ27_hashCode_4_17 rfl (lv_at hl 0 rfl) ?_
        refine lv_imul hx hb dJ27_hashCode_4_18 ?_
        refine ga_aload_n hx hb dJ27_hashCode_4_19 rfl (lv_at hl 1 rfl) ?_
        refine lv_iload hx hb dJ27_hashCode_4_20 (lv_at hl 3 rfl) ?_
        obtain ⟨a_3, ea_3, hw⟩ := hw
        rewrite [ea_3]
        obtain ⟨n_4, f_5, hq, hi, hw⟩ := hw
        refine ga_ldi hx hb hI (ga_at.h hq) hi dJ27_hashCode_4_22 ?_
        refine lv_iadd hx hb dJ27_hashCode_4_23 ?_
        refine lv_topi (fun x_6 ex_6 => ?_)
        have hw := hw x_6 ex_6
        refine lv_istore_n (i := 0) (lv' := [(0, .int x_6), (1, va_rf p1), (4, .int (p2 + p3)), (5, .int x5_1)]) hx hb dJ27_hashCode_4_24 rfl hl (by decide) rfl (fun ls hl => ?_)
        refine lv_iinc (v := x5_1 + (1 : Int32)) (lv' := [(5, .int (x5_1 + (1 : Int32))), (0, .int x_6), (1, va_rf p1), (4, .int (p2 + p3))]) hx hb dJ27_hashCode_4_25 hl (k := 3) rfl rfl (by decide) rfl (fun ls hl => ?_)
        refine lv_goto (tgt := 8) hx hb dJ27_hashCode_4_28 (by decide) ?_
        exact ih_1 _ _ ls (Nat.lt_of_lt_of_le hw.2 (Nat.le_of_lt_succ hn_1)) hw.1 (lv_sub hl [1, 2, 3, 0] rfl)
  exact hL_1 _ _ _ ls (Nat.lt_succ_self _) h0_1 (lv_sub hl [2, 3, 1, 0] rfl)
theorem hdG_J27_hashCode_4 : yJ27_hashCode_4.cls ≠ "java/lang/invoke/MethodHandle" ∧ yJ27_hashCode_4.cls ≠ "java/lang/invoke/VarHandle" ∧ (parseMethodDescriptor yJ27_hashCode_4.desc).map (fun d => d.parameters.length) = some 4 := by decide +kernel
def gw_J27_vectorizedHashCode_129 (K : ga_K) (post : Int32 → ga_H → Prop) (v4 : Int32) (h : ga_H) (bc bs : Nat) : Prop :=
  False
set_option maxHeartbeats 4000000 in
theorem gj_J27_vectorizedHashCode_129 {p : Program} {l : Launch} {e : Env} {s : State} {m : MethodId} {args : Array Value} {below : List Frame} {meth : Method} {c : Code} {mc ms : Nat} {H : Heap} {locs : List Loc} {cells slots : Nat} {ls : Array Slot} (g : ga_G) (post : Int32 → ga_H → Prop) (v4 : Int32) (h : ga_H) (bc bs : Nat) (hC : ga_Cx p s m args meth c cJ27_vectorizedHashCode 5 (some .int) "jdk/internal/util/ArraysSupport" "vectorizedHashCode") (hw : gw_J27_vectorizedHashCode_129 g.2.2 post v4 h bc bs) (hI : ga_I g h s H locs) (hbc : cells + bc ≤ mc) (hbs : slots + bs ≤ ms) (hl : lv_has ls 5 [(4, .int v4)]) : W p l e ({ frames := 20, cells := mc, slots := ms, locals := 407 } : Room) s m args below meth c H locs cells slots (MQ below (va_Qi post (ga_E g) (ga_A g)) args s mc ms (ga_A g)) (F0 m 129 ls []) := by
  obtain ⟨hx, hb, hml, hown, hts, hr, hlk, hnm⟩ := hC
  unfold gw_J27_vectorizedHashCode_129 at hw
  exact hw.elim
def gw_J27_vectorizedHashCode (K : ga_K) (p0 : Option Nat) (p1 : Int32) (p2 : Int32) (p3 : Int32) (p4 : Int32) (h : ga_H) (mc ms : Nat) (post : Int32 → ga_H → Prop) : Prop :=
  (p4 = (4 : Int32) → (∃ a_2 : Nat, p0 = some a_2 ∧ ∃ (n_3 : Nat) (f_4 : Nat → Int32), ga_at K h a_2 (ga_Ab n_3 f_4) ∧ (gw_J27_signedHashCode K p3 (some a_2) p1 p2 h (fun (r_6 : Int32) (h_5 : ga_H) => post r_6 h_5)))) ∧ (¬ p4 = (4 : Int32) → ((p4 = (5 : Int32) → False) ∧ (¬ p4 = (5 : Int32) → ((p4 = (6 : Int32) → (gw_J27_vectorizedHashCode_129 K post p4 h mc ms)) ∧ (¬ p4 = (6 : Int32) → ((p4 = (7 : Int32) → (gw_J27_vectorizedHashCode_129 K post p4 h mc ms)) ∧ (¬ p4 = (7 : Int32) → ((p4 = (8 : Int32) → (∃ a_11 : Nat, p0 = some a_11 ∧ ∃ (n_12 : Nat) (f_13 : Nat → Int32), ga_at K h a_11 (ga_Ab n_12 f_13) ∧ (gw_J27_hashCode_2 K p3 (some a_11) p1 p2 h (fun (r_15 : Int32) (h_14 : ga_H) => post r_15 h_14)))) ∧ (¬ p4 = (8 : Int32) → ((p4 = (9 : Int32) → False) ∧ (¬ p4 = (9 : Int32) → ((p4 = (10 : Int32) → False) ∧ (¬ p4 = (10 : Int32) → (gw_J27_vectorizedHashCode_129 K post p4 h mc ms))))))))))))))
set_option maxHeartbeats 4000000 in
theorem gm_J27_vectorizedHashCode (l : Launch) (g : ga_G) (p0 : Option Nat) (p1 : Int32) (p2 : Int32) (p3 : Int32) (p4 : Int32) (h : ga_H) (mc ms : Nat) (post : Int32 → ga_H → Prop) (hw : gw_J27_vectorizedHashCode g.2.2 p0 p1 p2 p3 p4 h mc ms post) : Met l yJ27_vectorizedHashCode (ws_ yJ27_vectorizedHashCode cJ27_vectorizedHashCode 5 (some .int)) ({ frames := 20, cells := mc, slots := ms, locals := 407 } : Room) (va_Pc [va_rf p0, .int p1, .int p2, .int p3, .int p4] (ga_B g h)) (va_Qi post (ga_E g) (ga_A g)) mc ms (ga_A g) := by
  refine ga_met (own := "jdk/internal/util/ArraysSupport") (nm := "vectorizedHashCode") (by decide) rfl rfl (by cases p0 <;> exact Nat.le_of_ble_eq_true rfl) (fun p e s m below meth c ls hC hI hl => ?_)
  have hl : lv_has ls 5 [(0, va_rf p0), (1, .int p1), (2, .int p2), (3, .int p3), (4, .int p4)] := (by cases p0 <;> exact hl)
  generalize ([va_rf p0, .int p1, .int p2, .int p3, .int p4] : List Value).toArray = args at hC ⊢
  obtain ⟨hx, hb, hml, hown, hts, hr, hlk, hnm⟩ := hC
  unfold gw_J27_vectorizedHashCode at hw
  obtain ⟨H, eH⟩ : ∃ z, z = s.heap := ⟨_, rfl⟩
  obtain ⟨locs, elo⟩ : ∃ z : List Loc, z = [] := ⟨_, rfl⟩
  rw [← eH, ← elo] at hI ⊢
  obtain ⟨cells, slots, hbc, hbs, e0, e1⟩ : ∃ a b : Nat, a + mc ≤ mc ∧ b + ms ≤ ms ∧ a = 0 ∧ b = 0 := ⟨0, 0, by omega, by omega, rfl, rfl⟩
  show W p l e ({ frames := 20, cells := mc, slots := ms, locals := 407 } : Room) s m args below meth c H locs 0 0 (MQ below (va_Qi post (ga_E g) (ga_A g)) args s mc ms (ga_A g)) (F0 m 0 ls [])
  suffices hgoal : W p l e ({ frames := 20, cells := mc, slots := ms, locals := 407 } : Room) s m args below meth c H locs cells slots (MQ below (va_Qi post (ga_E g) (ga_A g)) args s mc ms (ga_A g)) (F0 m 0 ls []) by rw [e0, e1] at hgoal; exact hgoal
  refine lv_iload hx hb dJ27_vectorizedHashCode_0 (lv_at hl 4 rfl) ?_
  by_cases hc_1 : p4 = (4 : Int32)
  · have hw := hw.1 hc_1
    refine lv_tableIn (tgt := 44) hx hb dJ27_vectorizedHashCode_2 (by rw [hc_1]; decide) (by rw [hc_1]; decide) (off := 42) (by rw [hc_1]; rfl) (by decide) ?_
    refine lv_iload_n hx hb dJ27_vectorizedHashCode_44 rfl (lv_at hl 3 rfl) ?_
    refine ga_aload_n hx hb dJ27_vectorizedHashCode_45 rfl (lv_at hl 0 rfl) ?_
    obtain ⟨a_2, ea_2, hw⟩ := hw
    rewrite [ea_2]
    obtain ⟨n_3, f_4, hq, hw⟩ := hw
    refine ga_castB hx hb hts hown q1838 hI hq dJ27_vectorizedHashCode_46 ?_
    refine lv_iload_n hx hb dJ27_vectorizedHashCode_49 rfl (lv_at hl 1 rfl) ?_
    refine lv_iload_n hx hb dJ27_vectorizedHashCode_50 rfl (lv_at hl 2 rfl) ?_
    refine ga_calli (va_runS (As := [.int p3, va_rf (some a_2), .int p1, .int p2]) (rest := []) ⟨hx, hb, hml, hown, hts⟩ (gm_J27_signedHashCode l g p3 (some a_2) p1 p2 h _ hw) (va_cwS 4 hts (lw_S q1839 q1840 q133 q1841) rfl rfl rfl hdG_J27_signedHashCode ⟨Nat.le_of_ble_eq_true rfl, Nat.le_of_ble_eq_true rfl⟩) (ga_preS hI rfl) rfl rfl hl.1 rfl (ga_room (Nat.le_of_ble_eq_true rfl)) dJ27_vectorizedHashCode_51 ⟨Nat.le_trans (Nat.add_le_add_left (Nat.zero_le _) _) hbc, Nat.le_trans (Nat.add_le_add_left (Nat.zero_le _) _) hbs⟩) hI hbc hbs (Nat.zero_le _) (Nat.zero_le _) (fun r_6 h_5 H locs cells slots hw hI hbc hbs => ?_)
    refine lv_goto (tgt := 157) hx hb dJ27_vectorizedHashCode_54 (by decide) ?_
    exact ga_iret hx hb hr rfl hlk hI hw (Nat.le_trans (Nat.le_add_right _ _) hbc) (Nat.le_trans (Nat.le_add_right _ _) hbs) dJ27_vectorizedHashCode_157
  have hw := hw.2 hc_1
  by_cases hc_7 : p4 = (5 : Int32)
  · have hw := hw.1 hc_7
    refine lv_tableIn (tgt := 57) hx hb dJ27_vectorizedHashCode_2 (by rw [hc_7]; decide) (by rw [hc_7]; decide) (off := 55) (by rw [hc_7]; rfl) (by decide) ?_
    exact hw.elim
  have hw := hw.2 hc_7
  by_cases hc_8 : p4 = (6 : Int32)
  · have hw := hw.1 hc_8
    refine lv_tableIn (tgt := 129) hx hb dJ27_vectorizedHashCode_2 (by rw [hc_8]; decide) (by rw [hc_8]; decide) (off := 127) (by rw [hc_8]; rfl) (by decide) ?_
    exact gj_J27_vectorizedHashCode_129 g post p4 h mc ms ⟨hx, hb, hml, hown, hts, hr, hlk, hnm⟩ hw hI hbc hbs (lv_sub hl [4] rfl)
  have hw := hw.2 hc_8
  by_cases hc_9 : p4 = (7 : Int32)
  · have hw := hw.1 hc_9
    refine lv_tableIn (tgt := 129) hx hb dJ27_vectorizedHashCode_2 (by rw [hc_9]; decide) (by rw [hc_9]; decide) (off := 127) (by rw [hc_9]; rfl) (by decide) ?_
    exact gj_J27_vectorizedHashCode_129 g post p4 h mc ms ⟨hx, hb, hml, hown, hts, hr, hlk, hnm⟩ hw hI hbc hbs (lv_sub hl [4] rfl)
  have hw := hw.2 hc_9
  by_cases hc_10 : p4 = (8 : Int32)
  · have hw := hw.1 hc_10
    refine lv_tableIn (tgt := 90) hx hb dJ27_vectorizedHashCode_2 (by rw [hc_10]; decide) (by rw [hc_10]; decide) (off := 88) (by rw [hc_10]; rfl) (by decide) ?_
    refine lv_iload_n hx hb dJ27_vectorizedHashCode_90 rfl (lv_at hl 3 rfl) ?_
    refine ga_aload_n hx hb dJ27_vectorizedHashCode_91 rfl (lv_at hl 0 rfl) ?_
    obtain ⟨a_11, ea_11, hw⟩ := hw
    rewrite [ea_11]
    obtain ⟨n_12, f_13, hq, hw⟩ := hw
    refine ga_castB hx hb hts hown q1838 hI hq dJ27_vectorizedHashCode_92 ?_
    refine lv_iload_n hx hb dJ27_vectorizedHashCode_95 rfl (lv_at hl 1 rfl) ?_
    refine lv_iload_n hx hb dJ27_vectorizedHashCode_96 rfl (lv_at hl 2 rfl) ?_
    refine ga_calli (va_runS (As := [.int p3, va_rf (some a_11), .int p1, .int p2]) (rest := []) ⟨hx, hb, hml, hown, hts⟩ (gm_J27_hashCode_2 l g p3 (some a_11) p1 p2 h _ hw) (va_cwS 4 hts (lw_S q1862 q1863 q133 q1864) rfl rfl rfl hdG_J27_hashCode_2 ⟨Nat.le_of_ble_eq_true rfl, Nat.le_of_ble_eq_true rfl⟩) (ga_preS hI rfl) rfl rfl hl.1 rfl (ga_room (Nat.le_of_ble_eq_true rfl)) dJ27_vectorizedHashCode_97 ⟨Nat.le_trans (Nat.add_le_add_left (Nat.zero_le _) _) hbc, Nat.le_trans (Nat.add_le_add_left (Nat.zero_le _) _) hbs⟩) hI hbc hbs (Nat.zero_le _) (Nat.zero_le _) (fun r_15 h_14 H locs cells slots hw hI hbc hbs => ?_)
    refine lv_goto (tgt := 157) hx hb dJ27_vectorizedHashCode_100 (by decide) ?_
    exact ga_iret hx hb hr rfl hlk hI hw (Nat.le_trans (Nat.le_add_right _ _) hbc) (Nat.le_trans (Nat.le_add_right _ _) hbs) dJ27_vectorizedHashCode_157
  have hw := hw.2 hc_10
  by_cases hc_16 : p4 = (9 : Int32)
  · have hw := hw.1 hc_16
    refine lv_tableIn (tgt := 103) hx hb dJ27_vectorizedHashCode_2 (by rw [hc_16]; decide) (by rw [hc_16]; decide) (off := 101) (by rw [hc_16]; rfl) (by decide) ?_
    exact hw.elim
  have hw := hw.2 hc_16
  by_cases hc_17 : p4 = (10 : Int32)
  · have hw := hw.1 hc_17
    refine lv_tableIn (tgt := 116) hx hb dJ27_vectorizedHashCode_2 (by rw [hc_17]; decide) (by rw [hc_17]; decide) (off := 114) (by rw [hc_17]; rfl) (by decide) ?_
    exact hw.elim
  have hw := hw.2 hc_17
  refine lv_tableOut (tgt := 129) hx hb dJ27_vectorizedHashCode_2 (zs_out 4 10 7 [4, 5, 6, 7, 8, 9, 10] (by decide) (by decide) (List.forall_mem_cons.mpr ⟨hc_1, List.forall_mem_cons.mpr ⟨hc_7, List.forall_mem_cons.mpr ⟨hc_8, List.forall_mem_cons.mpr ⟨hc_9, List.forall_mem_cons.mpr ⟨hc_10, List.forall_mem_cons.mpr ⟨hc_16, List.forall_mem_cons.mpr ⟨hc_17, fun _ h => absurd h List.not_mem_nil⟩⟩⟩⟩⟩⟩⟩)) (by decide) ?_
  exact gj_J27_vectorizedHashCode_129 g post p4 h mc ms ⟨hx, hb, hml, hown, hts, hr, hlk, hnm⟩ hw hI hbc hbs (lv_sub hl [4] rfl)
theorem hdG_J27_vectorizedHashCode : yJ27_vectorizedHashCode.cls ≠ "java/lang/invoke/MethodHandle" ∧ yJ27_vectorizedHashCode.cls ≠ "java/lang/invoke/VarHandle" ∧ (parseMethodDescriptor yJ27_vectorizedHashCode.desc).map (fun d => d.parameters.length) = some 5 := by decide +kernel
def gw_J28_hashCode (K : ga_K) (p0 : Option Nat) (h : ga_H) (mc ms : Nat) (post : Int32 → ga_H → Prop) : Prop :=
  ∃ a_1 : Nat, p0 = some a_1 ∧ ∃ (n_2 : Nat) (f_3 : Nat → Int32), ga_at K h a_1 (ga_Ab n_2 f_3) ∧ ((nI n_2 = (0 : Int32) → (post (0 : Int32) h)) ∧ (¬ nI n_2 = (0 : Int32) → ((nI n_2 = (1 : Int32) → (∃ a_6 : Nat, p0 = some a_6 ∧ ∃ (n_7 : Nat) (f_8 : Nat → Int32), ga_at K h a_6 (ga_Ab n_7 f_8) ∧ vp_in (0 : Int32) n_7 ∧ (post ((f_8 (0 : Int32).toNatClampNeg) &&& (255 : Int32)) h))) ∧ (¬ nI n_2 = (1 : Int32) → (∃ a_9 : Nat, p0 = some a_9 ∧ ∃ (n_10 : Nat) (f_11 : Nat → Int32), ga_at K h a_9 (ga_Ab n_10 f_11) ∧ (∃ kc_12 ks_13 : Nat, kc_12 ≤ mc ∧ ks_13 ≤ ms ∧ gw_J27_vectorizedHashCode K (some a_9) (0 : Int32) (nI n_10) (0 : Int32) (4 : Int32) h kc_12 ks_13 (fun (r_15 : Int32) (h_14 : ga_H) => post r_15 h_14)))))))
set_option maxHeartbeats 4000000 in
theorem gm_J28_hashCode (l : Launch) (g : ga_G) (p0 : Option Nat) (h : ga_H) (mc ms : Nat) (post : Int32 → ga_H → Prop) (hw : gw_J28_hashCode g.2.2 p0 h mc ms post) : Met l yJ28_hashCode (ws_ yJ28_hashCode cJ28_hashCode 1 (some .int)) ({ frames := 21, cells := mc, slots := ms, locals := 431 } : Room) (va_Pc [va_rf p0] (ga_B g h)) (va_Qi post (ga_E g) (ga_A g)) mc ms (ga_A g) := by
  refine ga_met (own := "java/lang/StringLatin1") (nm := "hashCode") (by decide) rfl rfl (by cases p0 <;> exact Nat.le_of_ble_eq_true rfl) (fun p e s m below meth c ls hC hI hl => ?_)
  have hl : lv_has ls 1 [(0, va_rf p0)] := (by cases p0 <;> exact hl)
  generalize ([va_rf p0] : List Value).toArray = args at hC ⊢
  obtain ⟨hx, hb, hml, hown, hts, hr, hlk, hnm⟩ := hC
  unfold gw_J28_hashCode at hw
  obtain ⟨H, eH⟩ : ∃ z, z = s.heap := ⟨_, rfl⟩
  obtain ⟨locs, elo⟩ : ∃ z : List Loc, z = [] := ⟨_, rfl⟩
  rw [← eH, ← elo] at hI ⊢
  obtain ⟨cells, slots, hbc, hbs, e0, e1⟩ : ∃ a b : Nat, a + mc ≤ mc ∧ b + ms ≤ ms ∧ a = 0 ∧ b = 0 := ⟨0, 0, by omega, by omega, rfl, rfl⟩
  show W p l e ({ frames := 21, cells := mc, slots := ms, locals := 431 } : Room) s m args below meth c H locs 0 0 (MQ below (va_Qi post (ga_E g) (ga_A g)) args s mc ms (ga_A g)) (F0 m 0 ls [])
  suffices hgoal : W p l e ({ frames := 21, cells := mc, slots := ms, locals := 431 } : Room) s m args below meth c H locs cells slots (MQ below (va_Qi post (ga_E g) (ga_A g)) args s mc ms (ga_A g)) (F0 m 0 ls []) by rw [e0, e1] at hgoal; exact hgoal
  refine ga_aload_n hx hb dJ28_hashCode_0 rfl (lv_at hl 0 rfl) ?_
  obtain ⟨a_1, ea_1, hw⟩ := hw
  rewrite [ea_1]
  obtain ⟨n_2, f_3, hq, hw⟩ := hw
  refine ga_len hx hb hI hq rfl dJ28_hashCode_1 ?_
  by_cases hc_4 : nI n_2 = (0 : Int32)
  · have hw := hw.1 hc_4
    refine lv_lookup (tgt := 28) (off := 26) hx hb dJ28_hashCode_2 (by decide) (by rw [hc_4]; decide) (by decide) ?_
    refine lv_iconst (v := 0) hx hb dJ28_hashCode_28 (by decide) ?_
    refine lv_goto (tgt := 51) hx hb dJ28_hashCode_29 (by decide) ?_
    exact ga_iret hx hb hr rfl hlk hI hw (Nat.le_trans (Nat.le_add_right _ _) hbc) (Nat.le_trans (Nat.le_add_right _ _) hbs) dJ28_hashCode_51
  have hw := hw.2 hc_4
  by_cases hc_5 : nI n_2 = (1 : Int32)
  · have hw := hw.1 hc_5
    refine lv_lookup (tgt := 32) (off := 30) hx hb dJ28_hashCode_2 (by decide) (by rw [hc_5]; decide) (by decide) ?_
    refine ga_aload_n hx hb dJ28_hashCode_32 rfl (lv_at hl 0 rfl) ?_
    refine lv_iconst (v := 0) hx hb dJ28_hashCode_33 (by decide) ?_
    obtain ⟨a_6, ea_6, hw⟩ := hw
    rewrite [ea_6]
    obtain ⟨n_7, f_8, hq, hi, hw⟩ := hw
    refine ga_ldb hx hb hI hq hi dJ28_hashCode_34 ?_
    refine lv_sipush (v := 255) hx hb dJ28_hashCode_35 (by decide) ?_
    refine lv_iand hx hb dJ28_hashCode_38 ?_
    refine lv_goto (tgt := 51) hx hb dJ28_hashCode_39 (by decide) ?_
    exact ga_iret hx hb hr rfl hlk hI hw (Nat.le_trans (Nat.le_add_right _ _) hbc) (Nat.le_trans (Nat.le_add_right _ _) hbs) dJ28_hashCode_51
  have hw := hw.2 hc_5
  refine lv_lookup (tgt := 42) (off := 40) hx hb dJ28_hashCode_2 (by decide) ((lv_osw hc_4 (by decide)).trans ((lv_osw hc_5 (by decide)).trans (rfl))) (by decide) ?_
  refine ga_aload_n hx hb dJ28_hashCode_42 rfl (lv_at hl 0 rfl) ?_
  refine lv_iconst (v := 0) hx hb dJ28_hashCode_43 (by decide) ?_
  refine ga_aload_n hx hb dJ28_hashCode_44 rfl (lv_at hl 0 rfl) ?_
  obtain ⟨a_9, ea_9, hw⟩ := hw
  rewrite [ea_9]
  obtain ⟨n_10, f_11, hq, hw⟩ := hw
  refine ga_len hx hb hI hq rfl dJ28_hashCode_45 ?_
  refine lv_iconst (v := 0) hx hb dJ28_hashCode_46 (by decide) ?_
  refine lv_iconst (v := 4) hx hb dJ28_hashCode_47 (by decide) ?_
  obtain ⟨kc_12, ks_13, hk1, hk2, hw⟩ := hw
  refine ga_calli (va_runS (As := [va_rf (some a_9), .int (0 : Int32), .int (nI n_10), .int (0 : Int32), .int (4 : Int32)]) (rest := []) ⟨hx, hb, hml, hown, hts⟩ (gm_J27_vectorizedHashCode l g (some a_9) (0 : Int32) (nI n_10) (0 : Int32) (4 : Int32) h kc_12 ks_13 _ hw) (va_cwS 5 hts (lw_S q1835 q1836 q133 q1837) rfl rfl rfl hdG_J27_vectorizedHashCode ⟨Nat.le_of_ble_eq_true rfl, Nat.le_of_ble_eq_true rfl⟩) (ga_preS hI rfl) rfl rfl hl.1 rfl (ga_room (Nat.le_of_ble_eq_true rfl)) dJ28_hashCode_48 ⟨Nat.le_trans (Nat.add_le_add_left hk1 _) hbc, Nat.le_trans (Nat.add_le_add_left hk2 _) hbs⟩) hI hbc hbs hk1 hk2 (fun r_15 h_14 H locs cells slots hw hI hbc hbs => ?_)
  exact ga_iret hx hb hr rfl hlk hI hw (Nat.le_trans (Nat.le_add_right _ _) hbc) (Nat.le_trans (Nat.le_add_right _ _) hbs) dJ28_hashCode_51
theorem hdG_J28_hashCode : yJ28_hashCode.cls ≠ "java/lang/invoke/MethodHandle" ∧ yJ28_hashCode.cls ≠ "java/lang/invoke/VarHandle" ∧ (parseMethodDescriptor yJ28_hashCode.desc).map (fun d => d.parameters.length) = some 1 := by decide +kernel
def gw_J7_hashCode_40 (K : ga_K) (post : Int32 → ga_H → Prop) (p0 : Nat) (t0 : Int32) (h : ga_H) (bc bs : Nat) : Prop :=
  (¬ t0 = (0 : Int32) → (∃ fs_20 : List Value, h p0 = some (ga_O 23 fs_20) ∧ 2 < fs_20.length ∧ ∀ h_21 : ga_H, h_21 = ga_set h p0 (ga_O 23 (fs_20.set 2 (.int t0))) → (post t0 h_21))) ∧ (t0 = (0 : Int32) → (∃ fs_22 : List Value, h p0 = some (ga_O 23 fs_22) ∧ 3 < fs_22.length ∧ ∀ h_23 : ga_H, h_23 = ga_set h p0 (ga_O 23 (fs_22.set 3 (.int (1 : Int32)))) → (post t0 h_23)))
set_option maxHeartbeats 4000000 in
theorem gj_J7_hashCode_40 {p : Program} {l : Launch} {e : Env} {s : State} {m : MethodId} {args : Array Value} {below : List Frame} {meth : Method} {c : Code} {mc ms : Nat} {H : Heap} {locs : List Loc} {cells slots : Nat} {ls : Array Slot} (g : ga_G) (post : Int32 → ga_H → Prop) (p0 : Nat) (t0 : Int32) (h : ga_H) (bc bs : Nat) (hC : ga_Cx p s m args meth c cJ7_hashCode 2 (some .int) "java/lang/String" "hashCode") (hw : gw_J7_hashCode_40 g.2.2 post p0 t0 h bc bs) (hI : ga_I g h s H locs) (hbc : cells + bc ≤ mc) (hbs : slots + bs ≤ ms) (hl : lv_has ls 2 [(0, .ref p0)]) : W p l e ({ frames := 22, cells := mc, slots := ms, locals := 451 } : Room) s m args below meth c H locs cells slots (MQ below (va_Qi post (ga_E g) (ga_A g)) args s mc ms (ga_A g)) (F0 m 40 ls [.int t0]) := by
  obtain ⟨hx, hb, hml, hown, hts, hr, hlk, hnm⟩ := hC
  unfold gw_J7_hashCode_40 at hw
  refine lv_istore_n (i := 1) (lv' := [(1, .int t0), (0, .ref p0)]) hx hb dJ7_hashCode_40 rfl hl (by decide) rfl (fun ls hl => ?_)
  refine lv_iload_n hx hb dJ7_hashCode_41 rfl (lv_at hl 0 rfl) ?_
  refine lv_if_ne (tgt := 53) hx hb dJ7_hashCode_42 (by decide) (fun hc_19 => ?_) (fun hc_19 => ?_)
  · have hw := hw.1 hc_19
    refine lv_aload_n hx hb dJ7_hashCode_53 rfl (lv_at hl 1 rfl) ?_
    refine lv_iload_n hx hb dJ7_hashCode_54 rfl (lv_at hl 0 rfl) ?_
    obtain ⟨fs_20, hq, hk, hw⟩ := hw
    refine ga_put (ci := 23) (T := TJ7) (v := .int t0) (ty := tyJ7 2) hx hb hts hown hI in_J7 rfl tyJ7 tyJ7_ok nmJ7 2 (by decide) q1096 (fun _ z => z) rfl (tyJ7_ok 2 (by decide)) rfl rfl hq hk dJ7_hashCode_55 (fun H locs hI => ?_)
    obtain ⟨h_21, eh_21⟩ : ∃ z, z = ga_set h p0 (ga_O 23 (fs_20.set 2 (.int t0))) := ⟨_, rfl⟩
    rw [← eh_21] at hI
    have hw := hw h_21 eh_21
    refine lv_iload_n hx hb dJ7_hashCode_58 rfl (lv_at hl 0 rfl) ?_
    exact ga_iret hx hb hr rfl hlk hI hw (Nat.le_trans (Nat.le_add_right _ _) hbc) (Nat.le_trans (Nat.le_add_right _ _) hbs) dJ7_hashCode_59
  · have hw := hw.2 hc_19
    refine lv_aload_n hx hb dJ7_hashCode_45 rfl (lv_at hl 1 rfl) ?_
    refine lv_iconst (v := 1) hx hb dJ7_hashCode_46 (by decide) ?_
    obtain ⟨fs_22, hq, hk, hw⟩ := hw
    refine ga_put (ci := 23) (T := TJ7) (v := .int (1 : Int32)) (ty := tyJ7 3) hx hb hts hown hI in_J7 rfl tyJ7 tyJ7_ok nmJ7 3 (by decide) q1097 (fun _ z => z) rfl (tyJ7_ok 3 (by decide)) rfl rfl hq hk dJ7_hashCode_47 (fun H locs hI => ?_)
    obtain ⟨h_23, eh_23⟩ : ∃ z, z = ga_set h p0 (ga_O 23 (fs_22.set 3 (.int (1 : Int32)))) := ⟨_, rfl⟩
    rw [← eh_23] at hI
    have hw := hw h_23 eh_23
    refine lv_goto (tgt := 58) hx hb dJ7_hashCode_50 (by decide) ?_
    refine lv_iload_n hx hb dJ7_hashCode_58 rfl (lv_at hl 0 rfl) ?_
    exact ga_iret hx hb hr rfl hlk hI hw (Nat.le_trans (Nat.le_add_right _ _) hbc) (Nat.le_trans (Nat.le_add_right _ _) hbs) dJ7_hashCode_59
def gw_J7_hashCode (K : ga_K) (p0 : Nat) (h : ga_H) (mc ms : Nat) (post : Int32 → ga_H → Prop) : Prop :=
  ∃ (fs_1 : List Value) (v_2 : Int32), ga_at K h p0 (ga_O 23 fs_1) ∧ fs_1[2]? = some (.int v_2) ∧ ((¬ v_2 = (0 : Int32) → (post v_2 h)) ∧ (v_2 = (0 : Int32) → (∃ (fs_4 : List Value) (v_5 : Int32), ga_at K h p0 (ga_O 23 fs_4) ∧ fs_4[3]? = some (.int v_5) ∧ ((¬ v_5 = (0 : Int32) → (post v_2 h)) ∧ (v_5 = (0 : Int32) → (∃ fs_7 : List Value, ga_at K h p0 (ga_O 23 fs_7) ∧ gw_J7_isLatin1 K p0 h (fun (r_9 : Int32) (h_8 : ga_H) => (r_9 = (0 : Int32) → False) ∧ (¬ r_9 = (0 : Int32) → (∃ (fs_13 : List Value) (v_14 : Option Nat), ga_at K h_8 p0 (ga_O 23 fs_13) ∧ fs_13[0]? = some (va_rf v_14) ∧ (∃ kc_15 ks_16 : Nat, kc_15 ≤ mc ∧ ks_16 ≤ ms ∧ gw_J28_hashCode K v_14 h_8 kc_15 ks_16 (fun (r_18 : Int32) (h_17 : ga_H) => gw_J7_hashCode_40 K post p0 r_18 h_17 (mc - kc_15) (ms - ks_16))))))))))))
set_option maxHeartbeats 4000000 in
theorem gm_J7_hashCode (l : Launch) (g : ga_G) (p0 : Nat) (h : ga_H) (mc ms : Nat) (post : Int32 → ga_H → Prop) (hw : gw_J7_hashCode g.2.2 p0 h mc ms post) : Met l yJ7_hashCode (ws_ yJ7_hashCode cJ7_hashCode 2 (some .int)) ({ frames := 22, cells := mc, slots := ms, locals := 451 } : Room) (va_Pc [.ref p0] (ga_B g h)) (va_Qi post (ga_E g) (ga_A g)) mc ms (ga_A g) := by
  refine ga_met (own := "java/lang/String") (nm := "hashCode") (by decide) rfl rfl (by exact Nat.le_of_ble_eq_true rfl) (fun p e s m below meth c ls hC hI hl => ?_)
  have hl : lv_has ls 2 [(0, .ref p0)] := hl
  generalize ([.ref p0] : List Value).toArray = args at hC ⊢
  obtain ⟨hx, hb, hml, hown, hts, hr, hlk, hnm⟩ := hC
  unfold gw_J7_hashCode at hw
  obtain ⟨H, eH⟩ : ∃ z, z = s.heap := ⟨_, rfl⟩
  obtain ⟨locs, elo⟩ : ∃ z : List Loc, z = [] := ⟨_, rfl⟩
  rw [← eH, ← elo] at hI ⊢
  obtain ⟨cells, slots, hbc, hbs, e0, e1⟩ : ∃ a b : Nat, a + mc ≤ mc ∧ b + ms ≤ ms ∧ a = 0 ∧ b = 0 := ⟨0, 0, by omega, by omega, rfl, rfl⟩
  show W p l e ({ frames := 22, cells := mc, slots := ms, locals := 451 } : Room) s m args below meth c H locs 0 0 (MQ below (va_Qi post (ga_E g) (ga_A g)) args s mc ms (ga_A g)) (F0 m 0 ls [])
  suffices hgoal : W p l e ({ frames := 22, cells := mc, slots := ms, locals := 451 } : Room) s m args below meth c H locs cells slots (MQ below (va_Qi post (ga_E g) (ga_A g)) args s mc ms (ga_A g)) (F0 m 0 ls []) by rw [e0, e1] at hgoal; exact hgoal
  refine lv_aload_n hx hb dJ7_hashCode_0 rfl (lv_at hl 0 rfl) ?_
  obtain ⟨fs_1, v_2, hq, hv, hw⟩ := hw
  refine ga_get (ci := 23) (T := TJ7) (v := .int v_2) hx hb hts hown hI in_J7 rfl 2 (by decide) q1096 (fun _ z => z) hq hv dJ7_hashCode_1 ?_
  refine lv_istore_n (i := 1) (lv' := [(1, .int v_2), (0, .ref p0)]) hx hb dJ7_hashCode_4 rfl hl (by decide) rfl (fun ls hl => ?_)
  refine lv_iload_n hx hb dJ7_hashCode_5 rfl (lv_at hl 0 rfl) ?_
  refine lv_if_ne (tgt := 58) hx hb dJ7_hashCode_6 (by decide) (fun hc_3 => ?_) (fun hc_3 => ?_)
  · have hw := hw.1 hc_3
    refine lv_iload_n hx hb dJ7_hashCode_58 rfl (lv_at hl 0 rfl) ?_
    exact ga_iret hx hb hr rfl hlk hI hw (Nat.le_trans (Nat.le_add_right _ _) hbc) (Nat.le_trans (Nat.le_add_right _ _) hbs) dJ7_hashCode_59
  · have hw := hw.2 hc_3
    refine lv_aload_n hx hb dJ7_hashCode_9 rfl (lv_at hl 1 rfl) ?_
    obtain ⟨fs_4, v_5, hq, hv, hw⟩ := hw
    refine ga_get (ci := 23) (T := TJ7) (v := .int v_5) hx hb hts hown hI in_J7 rfl 3 (by decide) q1097 (fun _ z => z) hq hv dJ7_hashCode_10 ?_
    refine lv_if_ne (tgt := 58) hx hb dJ7_hashCode_13 (by decide) (fun hc_6 => ?_) (fun hc_6 => ?_)
    · have hw := hw.1 hc_6
      refine lv_iload_n hx hb dJ7_hashCode_58 rfl (lv_at hl 0 rfl) ?_
      exact ga_iret hx hb hr rfl hlk hI hw (Nat.le_trans (Nat.le_add_right _ _) hbc) (Nat.le_trans (Nat.le_add_right _ _) hbs) dJ7_hashCode_59
    · have hw := hw.2 hc_6
      refine lv_aload_n hx hb dJ7_hashCode_16 rfl (lv_at hl 1 rfl) ?_
      obtain ⟨fs_7, hq, hw⟩ := hw
      refine ga_calli (va_runV (As := []) (rest := []) ⟨hx, hb, hml, hown, hts⟩ (gm_J7_isLatin1 l g p0 h _ hw) (cwV 0 hts (lw_V q1828 q1829 q1830 q111 q1831) rfl rfl rfl ⟨rfl, hdG_J7_isLatin1⟩ ⟨Nat.le_of_ble_eq_true rfl, Nat.le_of_ble_eq_true rfl⟩) (ga_preV hI hq rfl rfl) rfl rfl hl.1 rfl (ga_room (Nat.le_of_ble_eq_true rfl)) dJ7_hashCode_17 ⟨Nat.le_trans (Nat.add_le_add_left (Nat.zero_le _) _) hbc, Nat.le_trans (Nat.add_le_add_left (Nat.zero_le _) _) hbs⟩) hI hbc hbs (Nat.zero_le _) (Nat.zero_le _) (fun r_9 h_8 H locs cells slots hw hI hbc hbs => ?_)
      refine lv_if_eq (tgt := 33) hx hb dJ7_hashCode_20 (by decide) (fun hc_10 => ?_) (fun hc_10 => ?_)
      · have hw := hw.1 hc_10
        exact hw.elim
      · have hw := hw.2 hc_10
        refine lv_aload_n hx hb dJ7_hashCode_23 rfl (lv_at hl 1 rfl) ?_
        obtain ⟨fs_13, v_14, hq, hv, hw⟩ := hw
        refine ga_get (ci := 23) (T := TJ7) (v := va_rf v_14) hx hb hts hown hI in_J7 rfl 0 (by decide) q1094 (fun _ z => z) hq hv dJ7_hashCode_24 ?_
        obtain ⟨kc_15, ks_16, hk1, hk2, hw⟩ := hw
        refine ga_calli (va_runS (As := [va_rf v_14]) (rest := []) ⟨hx, hb, hml, hown, hts⟩ (gm_J28_hashCode l g v_14 h_8 kc_15 ks_16 _ hw) (va_cwS 1 hts (lw_S q1832 q1833 q134 q1834) rfl rfl rfl hdG_J28_hashCode ⟨Nat.le_of_ble_eq_true rfl, Nat.le_of_ble_eq_true rfl⟩) (ga_preS hI rfl) rfl rfl hl.1 rfl (ga_room (Nat.le_of_ble_eq_true rfl)) dJ7_hashCode_27 ⟨Nat.le_trans (Nat.add_le_add_left hk1 _) hbc, Nat.le_trans (Nat.add_le_add_left hk2 _) hbs⟩) hI hbc hbs hk1 hk2 (fun r_18 h_17 H locs cells slots hw hI hbc hbs => ?_)
        refine lv_goto (tgt := 40) hx hb dJ7_hashCode_30 (by decide) ?_
        exact gj_J7_hashCode_40 g post p0 r_18 h_17 (mc - kc_15) (ms - ks_16) ⟨hx, hb, hml, hown, hts, hr, hlk, hnm⟩ hw hI hbc hbs (lv_sub hl [1] rfl)
theorem hdG_J7_hashCode : yJ7_hashCode.cls ≠ "java/lang/invoke/MethodHandle" ∧ yJ7_hashCode.cls ≠ "java/lang/invoke/VarHandle" ∧ (parseMethodDescriptor yJ7_hashCode.desc).map (fun d => d.parameters.length) = some 0 := by decide +kernel
def gw_J4_hash_S (K : ga_K) (p0 : Option Nat) (h : ga_H) (mc ms : Nat) (post : Int32 → ga_H → Prop) : Prop :=
  (p0 = none → (post (0 : Int32) h)) ∧ (∀ a_1 : Nat, p0 = some a_1 → (∃ a_2 : Nat, p0 = some a_2 ∧ ∃ kc_3 ks_4 : Nat, kc_3 ≤ mc ∧ ks_4 ≤ ms ∧ ∃ fs_5 : List Value, ga_at K h a_2 (ga_O 23 fs_5) ∧ gw_J7_hashCode K a_2 h kc_3 ks_4 (fun (r_7 : Int32) (h_6 : ga_H) => post (r_7 ^^^ ((r_7.toUInt32 >>> ((16 : Int32).toUInt32 &&& Int32.toUInt32 31)).toInt32)) h_6)))
set_option maxHeartbeats 4000000 in
theorem gm_J4_hash_S (l : Launch) (g : ga_G) (p0 : Option Nat) (h : ga_H) (mc ms : Nat) (post : Int32 → ga_H → Prop) (hw : gw_J4_hash_S g.2.2 p0 h mc ms post) : Met l yJ4_hash (ws_ yJ4_hash cJ4_hash 2 (some .int)) ({ frames := 23, cells := mc, slots := ms, locals := 472 } : Room) (va_Pc [va_rf p0] (ga_B g h)) (va_Qi post (ga_E g) (ga_A g)) mc ms (ga_A g) := by
  refine ga_met (own := "java/util/HashMap") (nm := "hash") (by decide) rfl rfl (by cases p0 <;> exact Nat.le_of_ble_eq_true rfl) (fun p e s m below meth c ls hC hI hl => ?_)
  have hl : lv_has ls 2 [(0, va_rf p0)] := (by cases p0 <;> exact hl)
  generalize ([va_rf p0] : List Value).toArray = args at hC ⊢
  obtain ⟨hx, hb, hml, hown, hts, hr, hlk, hnm⟩ := hC
  unfold gw_J4_hash_S at hw
  obtain ⟨H, eH⟩ : ∃ z, z = s.heap := ⟨_, rfl⟩
  obtain ⟨locs, elo⟩ : ∃ z : List Loc, z = [] := ⟨_, rfl⟩
  rw [← eH, ← elo] at hI ⊢
  obtain ⟨cells, slots, hbc, hbs, e0, e1⟩ : ∃ a b : Nat, a + mc ≤ mc ∧ b + ms ≤ ms ∧ a = 0 ∧ b = 0 := ⟨0, 0, by omega, by omega, rfl, rfl⟩
  show W p l e ({ frames := 23, cells := mc, slots := ms, locals := 472 } : Room) s m args below meth c H locs 0 0 (MQ below (va_Qi post (ga_E g) (ga_A g)) args s mc ms (ga_A g)) (F0 m 0 ls [])
  suffices hgoal : W p l e ({ frames := 23, cells := mc, slots := ms, locals := 472 } : Room) s m args below meth c H locs cells slots (MQ below (va_Qi post (ga_E g) (ga_A g)) args s mc ms (ga_A g)) (F0 m 0 ls []) by rw [e0, e1] at hgoal; exact hgoal
  refine ga_aload_n hx hb dJ4_hash_0 rfl (lv_at hl 0 rfl) ?_
  refine ga_ifnonnull (tgt := 8) hx hb dJ4_hash_1 (by decide) (fun a_1 hc_a_1 => ?_) (fun hc_a_1 => ?_)
  · have hw := hw.2 a_1 hc_a_1
    skip
    refine ga_aload_n hx hb dJ4_hash_8 rfl (lv_at hl 0 rfl) ?_
    obtain ⟨a_2, ea_2, hw⟩ := hw
    rewrite [ea_2]
    obtain ⟨kc_3, ks_4, hk1, hk2, hw⟩ := hw
    obtain ⟨fs_5, hq, hw⟩ := hw
    refine ga_calli (va_runU (As := []) (rest := []) ⟨hx, hb, hml, hown, hts⟩ (gm_J7_hashCode l g a_2 h kc_3 ks_4 _ hw) (va_cwA 0 hts (lw_app (List.forall_mem_cons.mpr ⟨q1794, List.forall_mem_cons.mpr ⟨q1796, List.forall_mem_cons.mpr ⟨q1825, List.forall_mem_cons.mpr ⟨q1826, List.forall_mem_cons.mpr ⟨q111, fun _ h => absurd h List.not_mem_nil⟩⟩⟩⟩⟩) (lw_meth q1827)) rfl rfl rfl (hI.2.1.1.2.1 _ (ga_nin q1793 rfl)) (by decide +kernel) ⟨Nat.le_of_ble_eq_true rfl, Nat.le_of_ble_eq_true rfl⟩) (ga_preV (C := "java/lang/String") hI hq rfl rfl) rfl rfl hl.1 rfl (ga_room (Nat.le_of_ble_eq_true rfl)) dJ4_hash_9 ⟨Nat.le_trans (Nat.add_le_add_left hk1 _) hbc, Nat.le_trans (Nat.add_le_add_left hk2 _) hbs⟩) hI hbc hbs hk1 hk2 (fun r_7 h_6 H locs cells slots hw hI hbc hbs => ?_)
    refine lv_dup hx hb dJ4_hash_12 rfl ?_
    refine lv_istore_n (i := 1) (lv' := [(1, .int r_7), (0, va_rf p0)]) hx hb dJ4_hash_13 rfl hl (by decide) (by simp [ga_rcat, ga_cat_r, ga_cat_i, ga_cat_f, ga_cat_l, ga_cat_d]) (fun ls hl => ?_)
    refine lv_iload_n hx hb dJ4_hash_14 rfl (lv_at hl 0 rfl) ?_
    refine lv_bipush (v := 16) hx hb dJ4_hash_15 (by decide) ?_
    refine lv_iushr (v := (r_7.toUInt32 >>> ((16 : Int32).toUInt32 &&& Int32.toUInt32 31)).toInt32) hx hb dJ4_hash_17 rfl ?_
    refine lv_ixor hx hb dJ4_hash_18 ?_
    exact ga_iret hx hb hr rfl hlk hI hw (Nat.le_trans (Nat.le_add_right _ _) hbc) (Nat.le_trans (Nat.le_add_right _ _) hbs) dJ4_hash_19
  · have hw := hw.1 hc_a_1
    refine lv_iconst (v := 0) hx hb dJ4_hash_4 (by decide) ?_
    refine lv_goto (tgt := 19) hx hb dJ4_hash_5 (by decide) ?_
    exact ga_iret hx hb hr rfl hlk hI hw (Nat.le_trans (Nat.le_add_right _ _) hbc) (Nat.le_trans (Nat.le_add_right _ _) hbs) dJ4_hash_19
theorem hdG_J4_hash_S : yJ4_hash.cls ≠ "java/lang/invoke/MethodHandle" ∧ yJ4_hash.cls ≠ "java/lang/invoke/VarHandle" ∧ (parseMethodDescriptor yJ4_hash.desc).map (fun d => d.parameters.length) = some 1 := by decide +kernel
def gw_J28_equals (K : ga_K) (p0 : Option Nat) (p1 : Option Nat) (h : ga_H) (post : Int32 → ga_H → Prop) : Prop :=
  ∃ a_1 : Nat, p0 = some a_1 ∧ ∃ (n_2 : Nat) (f_3 : Nat → Int32), ga_at K h a_1 (ga_Ab n_2 f_3) ∧ (∃ a_4 : Nat, p1 = some a_4 ∧ ∃ (n_5 : Nat) (f_6 : Nat → Int32), ga_at K h a_4 (ga_Ab n_5 f_6) ∧ ((¬ nI n_2 = nI n_5 → (post (0 : Int32) h)) ∧ (nI n_2 = nI n_5 → (∃ (In_8 : Int32 → Prop) (mu_8 : Int32 → Nat), In_8 (0 : Int32) ∧ ∀ (x2_8 : Int32), In_8 x2_8 → (∃ a_9 : Nat, p0 = some a_9 ∧ ∃ (n_10 : Nat) (f_11 : Nat → Int32), ga_at K h a_9 (ga_Ab n_10 f_11) ∧ ((nI n_10 ≤ x2_8 → (post (1 : Int32) h)) ∧ (¬ nI n_10 ≤ x2_8 → (∃ a_13 : Nat, p0 = some a_13 ∧ ∃ (n_14 : Nat) (f_15 : Nat → Int32), ga_at K h a_13 (ga_Ab n_14 f_15) ∧ vp_in x2_8 n_14 ∧ (∃ a_16 : Nat, p1 = some a_16 ∧ ∃ (n_17 : Nat) (f_18 : Nat → Int32), ga_at K h a_16 (ga_Ab n_17 f_18) ∧ vp_in x2_8 n_17 ∧ ((f_15 x2_8.toNatClampNeg = f_18 x2_8.toNatClampNeg → (In_8 (x2_8 + (1 : Int32)) ∧ mu_8 (x2_8 + (1 : Int32)) < mu_8 x2_8)) ∧ (¬ f_15 x2_8.toNatClampNeg = f_18 x2_8.toNatClampNeg → (post (0 : Int32) h))))))))))))
set_option maxHeartbeats 4000000 in
theorem gm_J28_equals (l : Launch) (g : ga_G) (p0 : Option Nat) (p1 : Option Nat) (h : ga_H) (post : Int32 → ga_H → Prop) (hw : gw_J28_equals g.2.2 p0 p1 h post) : Met l yJ28_equals (ws_ yJ28_equals cJ28_equals 3 (some .boolean)) ({ frames := 8, cells := 0, slots := 0, locals := 140 } : Room) (va_Pc [va_rf p0, va_rf p1] (ga_B g h)) (va_Qi post (ga_E g) (ga_A g)) 0 0 (ga_A g) := by
  refine ga_met (own := "java/lang/StringLatin1") (nm := "equals") (by decide) rfl rfl (by cases p0 <;> cases p1 <;> exact Nat.le_of_ble_eq_true rfl) (fun p e s m below meth c ls hC hI hl => ?_)
  have hl : lv_has ls 3 [(0, va_rf p0), (1, va_rf p1)] := (by cases p0 <;> cases p1 <;> exact hl)
  generalize ([va_rf p0, va_rf p1] : List Value).toArray = args at hC ⊢
  obtain ⟨hx, hb, hml, hown, hts, hr, hlk, hnm⟩ := hC
  unfold gw_J28_equals at hw
  obtain ⟨H, eH⟩ : ∃ z, z = s.heap := ⟨_, rfl⟩
  obtain ⟨locs, elo⟩ : ∃ z : List Loc, z = [] := ⟨_, rfl⟩
  rw [← eH, ← elo] at hI ⊢
  obtain ⟨cells, slots, hbc, hbs, e0, e1⟩ : ∃ a b : Nat, a ≤ 0 ∧ b ≤ 0 ∧ a = 0 ∧ b = 0 := ⟨0, 0, by omega, by omega, rfl, rfl⟩
  show W p l e ({ frames := 8, cells := 0, slots := 0, locals := 140 } : Room) s m args below meth c H locs 0 0 (MQ below (va_Qi post (ga_E g) (ga_A g)) args s 0 0 (ga_A g)) (F0 m 0 ls [])
  suffices hgoal : W p l e ({ frames := 8, cells := 0, slots := 0, locals := 140 } : Room) s m args below meth c H locs cells slots (MQ below (va_Qi post (ga_E g) (ga_A g)) args s 0 0 (ga_A g)) (F0 m 0 ls []) by rw [e0, e1] at hgoal; exact hgoal
  refine ga_aload_n hx hb dJ28_equals_0 rfl (lv_at hl 0 rfl) ?_
  obtain ⟨a_1, ea_1, hw⟩ := hw
  rewrite [ea_1]
  obtain ⟨n_2, f_3, hq, hw⟩ := hw
  refine ga_len hx hb hI hq rfl dJ28_equals_1 ?_
  refine ga_aload_n hx hb dJ28_equals_2 rfl (lv_at hl 1 rfl) ?_
  obtain ⟨a_4, ea_4, hw⟩ := hw
  rewrite [ea_4]
  obtain ⟨n_5, f_6, hq, hw⟩ := hw
  refine ga_len hx hb hI hq rfl dJ28_equals_3 ?_
  refine lv_icmp_ne (tgt := 34) hx hb dJ28_equals_4 (by decide) (fun hc_7 => ?_) (fun hc_7 => ?_)
  · have hw := hw.1 hc_7
    refine lv_iconst (v := 0) hx hb dJ28_equals_34 (by decide) ?_
    exact ga_iret hx hb hr rfl hlk hI hw hbc hbs dJ28_equals_35
  · have hw := hw.2 hc_7
    refine lv_iconst (v := 0) hx hb dJ28_equals_7 (by decide) ?_
    refine lv_istore_n (i := 2) (lv' := [(2, .int (0 : Int32)), (0, va_rf p0), (1, va_rf p1)]) hx hb dJ28_equals_8 rfl hl (by decide) (by simp [ga_rcat, ga_cat_r, ga_cat_i, ga_cat_f, ga_cat_l, ga_cat_d]) (fun ls hl => ?_)
    obtain ⟨In_8, mu_8, h0_8, hw⟩ := hw
    have hL_8 : ∀ (n : Nat) (x2_8 : Int32) (ls : Array Slot), mu_8 x2_8 < n → In_8 x2_8 → lv_has ls 3 [(0, va_rf p0), (1, va_rf p1), (2, .int x2_8)] → W p l e ({ frames := 8, cells := 0, slots := 0, locals := 140 } : Room) s m args below meth c H locs cells slots (MQ below (va_Qi post (ga_E g) (ga_A g)) args s 0 0 (ga_A g)) (F0 m 9 ls []) := by
      intro n
      induction n with
      | zero => intro x2_8 ls hn _ _; exact absurd hn (Nat.not_lt_zero _)
      | succ n ih_8 =>
        intro x2_8 ls hn_8 hi_8 hl
        have hw := hw x2_8 hi_8
        refine lv_iload_n hx hb dJ28_equals_9 rfl (lv_at hl 2 rfl) ?_
        refine ga_aload_n hx hb dJ28_equals_10 rfl (lv_at hl 0 rfl) ?_
        obtain ⟨a_9, ea_9, hw⟩ := hw
        rewrite [ea_9]
        obtain ⟨n_10, f_11, hq, hw⟩ := hw
        refine ga_len hx hb hI hq rfl dJ28_equals_11 ?_
        refine lv_icmp_ge (tgt := 32) hx hb dJ28_equals_12 (by decide) (fun hc_12 => ?_) (fun hc_12 => ?_)
        · have hw := hw.1 hc_12
          refine lv_iconst (v := 1) hx hb dJ28_equals_32 (by decide) ?_
          exact ga_iret hx hb hr rfl hlk hI hw hbc hbs dJ28_equals_33
        · have hw := hw.2 hc_12
          refine ga_aload_n hx hb dJ28_equals_15 rfl (lv_at hl 0 rfl) ?_
          refine lv_iload_n hx hb dJ28_equals_16 rfl (lv_at hl 2 rfl) ?_
          obtain ⟨a_13, ea_13, hw⟩ := hw
          rewrite [ea_13]
          obtain ⟨n_14, f_15, hq, hi, hw⟩ := hw
          refine ga_ldb hx hb hI hq hi dJ28_equals_17 ?_
          refine ga_aload_n hx hb dJ28_equals_18 rfl (lv_at hl 1 rfl) ?_
          refine lv_iload_n hx hb dJ28_equals_19 rfl (lv_at hl 2 rfl) ?_
          obtain ⟨a_16, ea_16, hw⟩ := hw
          rewrite [ea_16]
          obtain ⟨n_17, f_18, hq, hi, hw⟩ := hw
          refine ga_ldb hx hb hI hq hi dJ28_equals_20 ?_
          refine lv_icmp_eq (tgt := 26) hx hb dJ28_equals_21 (by decide) (fun hc_19 => ?_) (fun hc_19 => ?_)
          · have hw := hw.1 hc_19
            refine lv_iinc (v := x2_8 + (1 : Int32)) (lv' := [(2, .int (x2_8 + (1 : Int32))), (0, va_rf p0), (1, va_rf p1)]) hx hb dJ28_equals_26 hl (k := 2) rfl rfl (by decide) (by simp [ga_rcat, ga_cat_r, ga_cat_i, ga_cat_f, ga_cat_l, ga_cat_d]) (fun ls hl => ?_)
            refine lv_goto (tgt := 9) hx hb dJ28_equals_29 (by decide) ?_
            exact ih_8 _ ls (Nat.lt_of_lt_of_le hw.2 (Nat.le_of_lt_succ hn_8)) hw.1 (lv_sub hl [1, 2, 0] rfl)
          · have hw := hw.2 hc_19
            refine lv_iconst (v := 0) hx hb dJ28_equals_24 (by decide) ?_
            exact ga_iret hx hb hr rfl hlk hI hw hbc hbs dJ28_equals_25
    exact hL_8 _ _ ls (Nat.lt_succ_self _) h0_8 (lv_sub hl [1, 2, 0] rfl)
theorem hdG_J28_equals : yJ28_equals.cls ≠ "java/lang/invoke/MethodHandle" ∧ yJ28_equals.cls ≠ "java/lang/invoke/VarHandle" ∧ (parseMethodDescriptor yJ28_equals.desc).map (fun d => d.parameters.length) = some 2 := by decide +kernel
def gw_J7_equals_36 (K : ga_K) (post : Int32 → ga_H → Prop) (p0 : Nat) (v2 : Option Nat) (h : ga_H) : Prop :=
  ∃ (fs_12 : List Value) (v_13 : Option Nat), ga_at K h p0 (ga_O 23 fs_12) ∧ fs_12[0]? = some (va_rf v_13) ∧ (∃ a_14 : Nat, v2 = some a_14 ∧ ∃ (fs_15 : List Value) (v_16 : Option Nat), ga_at K h a_14 (ga_O 23 fs_15) ∧ fs_15[0]? = some (va_rf v_16) ∧ (gw_J28_equals K v_13 v_16 h (fun (r_18 : Int32) (h_17 : ga_H) => (r_18 = (0 : Int32) → (post (0 : Int32) h_17)) ∧ (¬ r_18 = (0 : Int32) → (post (1 : Int32) h_17)))))
set_option maxHeartbeats 4000000 in
theorem gj_J7_equals_36 {p : Program} {l : Launch} {e : Env} {s : State} {m : MethodId} {args : Array Value} {below : List Frame} {meth : Method} {c : Code} {H : Heap} {locs : List Loc} {cells slots : Nat} {ls : Array Slot} (g : ga_G) (post : Int32 → ga_H → Prop) (p0 : Nat) (v2 : Option Nat) (h : ga_H) (hC : ga_Cx p s m args meth c cJ7_equals 3 (some .boolean) "java/lang/String" "equals") (hw : gw_J7_equals_36 g.2.2 post p0 v2 h) (hI : ga_I g h s H locs) (hbc : cells ≤ 0) (hbs : slots ≤ 0) (hl : lv_has ls 3 [(0, .ref p0), (2, va_rf v2)]) : W p l e ({ frames := 9, cells := 0, slots := 0, locals := 162 } : Room) s m args below meth c H locs cells slots (MQ below (va_Qi post (ga_E g) (ga_A g)) args s 0 0 (ga_A g)) (F0 m 36 ls []) := by
  obtain ⟨hx, hb, hml, hown, hts, hr, hlk, hnm⟩ := hC
  unfold gw_J7_equals_36 at hw
  refine lv_aload_n hx hb dJ7_equals_36 rfl (lv_at hl 0 rfl) ?_
  obtain ⟨fs_12, v_13, hq, hv, hw⟩ := hw
  refine ga_get (ci := 23) (T := TJ7) (v := va_rf v_13) hx hb hts hown hI in_J7 rfl 0 (by decide) q1094 (fun _ z => z) hq hv dJ7_equals_37 ?_
  refine ga_aload_n hx hb dJ7_equals_40 rfl (lv_at hl 1 rfl) ?_
  obtain ⟨a_14, ea_14, hw⟩ := hw
  rewrite [ea_14]
  obtain ⟨fs_15, v_16, hq, hv, hw⟩ := hw
  refine ga_get (ci := 23) (T := TJ7) (v := va_rf v_16) hx hb hts hown hI in_J7 rfl 0 (by decide) q1094 (fun _ z => z) hq hv dJ7_equals_41 ?_
  refine ga_calli (va_runS (As := [va_rf v_13, va_rf v_16]) (rest := []) ⟨hx, hb, hml, hown, hts⟩ (gm_J28_equals l g v_13 v_16 h _ hw) (va_cwS 2 hts (lw_S q1937 q1938 q134 q1939) rfl rfl rfl hdG_J28_equals ⟨Nat.le_of_ble_eq_true rfl, Nat.le_of_ble_eq_true rfl⟩) (ga_preS hI rfl) rfl rfl hl.1 rfl (ga_room (Nat.le_of_ble_eq_true rfl)) dJ7_equals_44 ⟨hbc, hbs⟩) hI (bc := 0) (bs := 0) hbc hbs (Nat.zero_le _) (Nat.zero_le _) (fun r_18 h_17 H locs cells slots hw hI hbc hbs => ?_)
  refine lv_if_eq (tgt := 54) hx hb dJ7_equals_47 (by decide) (fun hc_19 => ?_) (fun hc_19 => ?_)
  · have hw := hw.1 hc_19
    refine lv_iconst (v := 0) hx hb dJ7_equals_54 (by decide) ?_
    exact ga_iret hx hb hr rfl hlk hI hw hbc hbs dJ7_equals_55
  · have hw := hw.2 hc_19
    refine lv_iconst (v := 1) hx hb dJ7_equals_50 (by decide) ?_
    refine lv_goto (tgt := 55) hx hb dJ7_equals_51 (by decide) ?_
    exact ga_iret hx hb hr rfl hlk hI hw hbc hbs dJ7_equals_55
def gw_J7_equals (K : ga_K) (p0 : Nat) (p1 : Option Nat) (h : ga_H) (post : Int32 → ga_H → Prop) : Prop :=
  (¬ (some p0) = p1 → (∃ a_3 : Nat, p1 = some a_3 ∧ ∃ fs_2 : List Value, ga_at K h a_3 (ga_O 23 fs_2) ∧ (ga_ok K h "java/lang/String" p1 ∧ (∃ (fs_6 : List Value) (v_7 : Int32), ga_at K h p0 (ga_O 23 fs_6) ∧ fs_6[1]? = some (.int v_7) ∧ (∃ a_8 : Nat, p1 = some a_8 ∧ ∃ (fs_9 : List Value) (v_10 : Int32), ga_at K h a_8 (ga_O 23 fs_9) ∧ fs_9[1]? = some (.int v_10) ∧ ((¬ v_7 = v_10 → (post (0 : Int32) h)) ∧ (v_7 = v_10 → (gw_J7_equals_36 K post p0 p1 h)))))))) ∧ ((some p0) = p1 → (post (1 : Int32) h))
set_option maxHeartbeats 4000000 in
theorem gm_J7_equals (l : Launch) (g : ga_G) (p0 : Nat) (p1 : Option Nat) (h : ga_H) (post : Int32 → ga_H → Prop) (hw : gw_J7_equals g.2.2 p0 p1 h post) : Met l yJ7_equals (ws_ yJ7_equals cJ7_equals 3 (some .boolean)) ({ frames := 9, cells := 0, slots := 0, locals := 162 } : Room) (va_Pc [.ref p0, va_rf p1] (ga_B g h)) (va_Qi post (ga_E g) (ga_A g)) 0 0 (ga_A g) := by
  refine ga_met (own := "java/lang/String") (nm := "equals") (by decide) rfl rfl (by cases p1 <;> exact Nat.le_of_ble_eq_true rfl) (fun p e s m below meth c ls hC hI hl => ?_)
  have hl : lv_has ls 3 [(0, .ref p0), (1, va_rf p1)] := (by cases p1 <;> exact hl)
  generalize ([.ref p0, va_rf p1] : List Value).toArray = args at hC ⊢
  obtain ⟨hx, hb, hml, hown, hts, hr, hlk, hnm⟩ := hC
  unfold gw_J7_equals at hw
  obtain ⟨H, eH⟩ : ∃ z, z = s.heap := ⟨_, rfl⟩
  obtain ⟨locs, elo⟩ : ∃ z : List Loc, z = [] := ⟨_, rfl⟩
  rw [← eH, ← elo] at hI ⊢
  obtain ⟨cells, slots, hbc, hbs, e0, e1⟩ : ∃ a b : Nat, a ≤ 0 ∧ b ≤ 0 ∧ a = 0 ∧ b = 0 := ⟨0, 0, by omega, by omega, rfl, rfl⟩
  show W p l e ({ frames := 9, cells := 0, slots := 0, locals := 162 } : Room) s m args below meth c H locs 0 0 (MQ below (va_Qi post (ga_E g) (ga_A g)) args s 0 0 (ga_A g)) (F0 m 0 ls [])
  suffices hgoal : W p l e ({ frames := 9, cells := 0, slots := 0, locals := 162 } : Room) s m args below meth c H locs cells slots (MQ below (va_Qi post (ga_E g) (ga_A g)) args s 0 0 (ga_A g)) (F0 m 0 ls []) by rw [e0, e1] at hgoal; exact hgoal
  refine lv_aload_n hx hb dJ7_equals_0 rfl (lv_at hl 0 rfl) ?_
  refine ga_aload_n hx hb dJ7_equals_1 rfl (lv_at hl 1 rfl) ?_
  refine lv_acmp_ne (rx := (some p0)) (ry := p1) (tgt := 7) hx hb dJ7_equals_2 (by decide) (fun hc_1 => ?_) (fun hc_1 => ?_)
  · have hw := hw.1 hc_1
    refine ga_aload_n hx hb dJ7_equals_7 rfl (lv_at hl 1 rfl) ?_
    obtain ⟨a_3, ea_3, hw⟩ := hw
    rewrite [ea_3]
    obtain ⟨fs_2, hq, hw⟩ := hw
    refine ga_instO (ci := 23) hx hb hts hown hI q1561 hq rfl dJ7_equals_8 ?_
    refine lv_if_eq (tgt := 54) hx hb dJ7_equals_11 (by decide) (fun hc_4 => by first | exact absurd hc_4 (by decide) | exact absurd (by decide) hc_4) (fun _ => ?_)
    refine ga_aload_n hx hb dJ7_equals_14 rfl (lv_at hl 1 rfl) ?_
    refine ga_cast (x := p1) hx hb hts hown hI q1561 hw.1 dJ7_equals_15 ?_
    have hw := hw.2
    refine ga_astore_n (i := 2) (x := p1) (lv' := [(2, va_rf p1), (0, .ref p0), (1, va_rf p1)]) hx hb dJ7_equals_18 rfl hl (by decide) (by simp [ga_rcat, ga_cat_r, ga_cat_i, ga_cat_f, ga_cat_l, ga_cat_d]) (fun ls hl => ?_)
    refine ga_sget (v := .int (1 : Int32)) hx hb hts hown hI 1 rfl q955 (fun _ z => z) dJ7_equals_19 ?_
    refine lv_if_eq (tgt := 36) hx hb dJ7_equals_22 (by decide) (fun hc_5 => by first | exact absurd hc_5 (by decide) | exact absurd (by decide) hc_5) (fun _ => ?_)
    refine lv_aload_n hx hb dJ7_equals_25 rfl (lv_at hl 1 rfl) ?_
    obtain ⟨fs_6, v_7, hq, hv, hw⟩ := hw
    refine ga_get (ci := 23) (T := TJ7) (v := .int v_7) hx hb hts hown hI in_J7 rfl 1 (by decide) q1095 (fun _ z => z) hq hv dJ7_equals_26 ?_
    refine ga_aload_n hx hb dJ7_equals_29 rfl (lv_at hl 0 rfl) ?_
    obtain ⟨a_8, ea_8, hw⟩ := hw
    rewrite [ea_8]
    obtain ⟨fs_9, v_10, hq, hv, hw⟩ := hw
    refine ga_get (ci := 23) (T := TJ7) (v := .int v_10) hx hb hts hown hI in_J7 rfl 1 (by decide) q1095 (fun _ z => z) hq hv dJ7_equals_30 ?_
    refine lv_icmp_ne (tgt := 54) hx hb dJ7_equals_33 (by decide) (fun hc_11 => ?_) (fun hc_11 => ?_)
    · have hw := hw.1 hc_11
      refine lv_iconst (v := 0) hx hb dJ7_equals_54 (by decide) ?_
      exact ga_iret hx hb hr rfl hlk hI hw hbc hbs dJ7_equals_55
    · have hw := hw.2 hc_11
      exact gj_J7_equals_36 g post p0 p1 h ⟨hx, hb, hml, hown, hts, hr, hlk, hnm⟩ hw hI hbc hbs (lv_sub hl [1, 0] rfl)
  · have hw := hw.2 hc_1
    refine lv_iconst (v := 1) hx hb dJ7_equals_5 (by decide) ?_
    exact ga_iret hx hb hr rfl hlk hI hw hbc hbs dJ7_equals_6
theorem hdG_J7_equals : yJ7_equals.cls ≠ "java/lang/invoke/MethodHandle" ∧ yJ7_equals.cls ≠ "java/lang/invoke/VarHandle" ∧ (parseMethodDescriptor yJ7_equals.desc).map (fun d => d.parameters.length) = some 1 := by decide +kernel
def gw_J4_putVal_S_292 (K : ga_K) (post : Option Nat → ga_H → Prop) (p0 : Nat) (v5 : Int32) (h : ga_H) (bc bs : Nat) : Prop :=
  ∃ fs_49 : List Value, ga_at K h p0 (ga_O 15 fs_49) ∧ gw_J4_afterNodeInsertion K p0 v5 h (fun (h_50 : ga_H) => post none h_50)
set_option maxHeartbeats 4000000 in
theorem gj_J4_putVal_S_292 {p : Program} {l : Launch} {e : Env} {s : State} {m : MethodId} {args : Array Value} {below : List Frame} {meth : Method} {c : Code} {mc ms : Nat} {H : Heap} {locs : List Loc} {cells slots : Nat} {ls : Array Slot} (g : ga_G) (post : Option Nat → ga_H → Prop) (p0 : Nat) (v5 : Int32) (h : ga_H) (bc bs : Nat) (hC : ga_Cx p s m args meth c cJ4_putVal 13 (some (.object "java/lang/Object")) "java/util/HashMap" "putVal") (hw : gw_J4_putVal_S_292 g.2.2 post p0 v5 h bc bs) (hI : ga_I g h s H locs) (hbc : cells + bc ≤ mc) (hbs : slots + bs ≤ ms) (hl : lv_has ls 13 [(0, .ref p0), (5, .int v5)]) : W p l e ({ frames := 10, cells := mc, slots := ms, locals := 188 } : Room) s m args below meth c H locs cells slots (MQ below (va_Qq post (ga_E g) (ga_A g)) args s mc ms (ga_A g)) (F0 m 292 ls []) := by
  obtain ⟨hx, hb, hml, hown, hts, hr, hlk, hnm⟩ := hC
  unfold gw_J4_putVal_S_292 at hw
  refine lv_aload_n hx hb dJ4_putVal_292 rfl (lv_at hl 0 rfl) ?_
  refine lv_iload hx hb dJ4_putVal_293 (lv_at hl 1 rfl) ?_
  obtain ⟨fs_49, hq, hw⟩ := hw
  refine ga_callv (va_runV (As := [.int v5]) (rest := []) ⟨hx, hb, hml, hown, hts⟩ (gm_J4_afterNodeInsertion l g p0 v5 h _ hw) (cwV 1 hts (lw_V q2010 q2011 q2012 q106 q2013) rfl rfl rfl ⟨rfl, hdG_J4_afterNodeInsertion⟩ ⟨Nat.le_of_ble_eq_true rfl, Nat.le_of_ble_eq_true rfl⟩) (ga_preV hI hq rfl rfl) rfl rfl hl.1 rfl (ga_room (Nat.le_of_ble_eq_true rfl)) dJ4_putVal_295 ⟨Nat.le_trans (Nat.add_le_add_left (Nat.zero_le _) _) hbc, Nat.le_trans (Nat.add_le_add_left (Nat.zero_le _) _) hbs⟩) hI hbc hbs (Nat.zero_le _) (Nat.zero_le _) (fun h_50 H locs cells slots hw hI hbc hbs => ?_)
  refine lv_null hx hb dJ4_putVal_298 ?_
  exact ga_qret (v := none) hx hb hr (Or.inl ⟨_, rfl⟩) hlk hI hw (Nat.le_trans (Nat.le_add_right _ _) hbc) (Nat.le_trans (Nat.le_add_right _ _) hbs) dJ4_putVal_299
def gw_J4_putVal_S_259 (K : ga_K) (post : Option Nat → ga_H → Prop) (p0 : Nat) (v5 : Int32) (h : ga_H) (bc bs : Nat) : Prop :=
  ∃ (fs_38 : List Value) (v_39 : Int32), h p0 = some (ga_O 15 fs_38) ∧ fs_38[5]? = some (.int v_39) ∧ (∃ fs_40 : List Value, h p0 = some (ga_O 15 fs_40) ∧ 5 < fs_40.length ∧ ∀ h_41 : ga_H, h_41 = ga_set h p0 (ga_O 15 (fs_40.set 5 (.int (v_39 + (1 : Int32))))) → (∃ (fs_42 : List Value) (v_43 : Int32), h_41 p0 = some (ga_O 15 fs_42) ∧ fs_42[4]? = some (.int v_43) ∧ (∃ fs_44 : List Value, h_41 p0 = some (ga_O 15 fs_44) ∧ 4 < fs_44.length ∧ ∀ h_45 : ga_H, h_45 = ga_set h_41 p0 (ga_O 15 (fs_44.set 4 (.int (v_43 + (1 : Int32))))) → (∃ (fs_46 : List Value) (v_47 : Int32), h_45 p0 = some (ga_O 15 fs_46) ∧ fs_46[6]? = some (.int v_47) ∧ ((v_43 + (1 : Int32) ≤ v_47 → (gw_J4_putVal_S_292 K post p0 v5 h_45 bc bs)) ∧ (¬ v_43 + (1 : Int32) ≤ v_47 → (∃ kc_51 ks_52 : Nat, kc_51 ≤ bc ∧ ks_52 ≤ bs ∧ ∃ fs_53 : List Value, ga_at K h_45 p0 (ga_O 15 fs_53) ∧ gw_J4_resize K p0 h_45 kc_51 ks_52 (fun (r_55 : Option Nat) (h_54 : ga_H) => gw_J4_putVal_S_292 K post p0 v5 h_54 (bc - kc_51) (bs - ks_52)))))))))
set_option maxHeartbeats 4000000 in
theorem gj_J4_putVal_S_259 {p : Program} {l : Launch} {e : Env} {s : State} {m : MethodId} {args : Array Value} {below : List Frame} {meth : Method} {c : Code} {mc ms : Nat} {H : Heap} {locs : List Loc} {cells slots : Nat} {ls : Array Slot} (g : ga_G) (post : Option Nat → ga_H → Prop) (p0 : Nat) (v5 : Int32) (h : ga_H) (bc bs : Nat) (hC : ga_Cx p s m args meth c cJ4_putVal 13 (some (.object "java/lang/Object")) "java/util/HashMap" "putVal") (hw : gw_J4_putVal_S_259 g.2.2 post p0 v5 h bc bs) (hI : ga_I g h s H locs) (hbc : cells + bc ≤ mc) (hbs : slots + bs ≤ ms) (hl : lv_has ls 13 [(0, .ref p0), (5, .int v5)]) : W p l e ({ frames := 10, cells := mc, slots := ms, locals := 188 } : Room) s m args below meth c H locs cells slots (MQ below (va_Qq post (ga_E g) (ga_A g)) args s mc ms (ga_A g)) (F0 m 259 ls []) := by
  obtain ⟨hx, hb, hml, hown, hts, hr, hlk, hnm⟩ := hC
  unfold gw_J4_putVal_S_259 at hw
  refine lv_aload_n hx hb dJ4_putVal_259 rfl (lv_at hl 0 rfl) ?_
  refine lv_dup hx hb dJ4_putVal_260 rfl ?_
  obtain ⟨fs_38, v_39, hq, hv, hw⟩ := hw
  refine ga_get (ci := 15) (T := TJ4) (v := .int v_39) hx hb hts hown hI in_J4 rfl 5 (by decide) q236 (fun _ z => z) (ga_at.h hq) hv dJ4_putVal_261 ?_
  refine lv_iconst (v := 1) hx hb dJ4_putVal_264 (by decide) ?_
  refine lv_iadd hx hb dJ4_putVal_265 ?_
  obtain ⟨fs_40, hq, hk, hw⟩ := hw
  refine ga_put (ci := 15) (T := TJ4) (v := .int (v_39 + (1 : Int32))) (ty := tyJ4 5) hx hb hts hown hI in_J4 rfl tyJ4 tyJ4_ok nmJ4 5 (by decide) q236 (fun _ z => z) rfl (tyJ4_ok 5 (by decide)) rfl rfl hq hk dJ4_putVal_266 (fun H locs hI => ?_)
  obtain ⟨h_41, eh_41⟩ : ∃ z, z = ga_set h p0 (ga_O 15 (fs_40.set 5 (.int (v_39 + (1 : Int32))))) := ⟨_, rfl⟩
  rw [← eh_41] at hI
  have hw := hw h_41 eh_41
  refine lv_aload_n hx hb dJ4_putVal_269 rfl (lv_at hl 0 rfl) ?_
  refine lv_dup hx hb dJ4_putVal_270 rfl ?_
  obtain ⟨fs_42, v_43, hq, hv, hw⟩ := hw
  refine ga_get (ci := 15) (T := TJ4) (v := .int v_43) hx hb hts hown hI in_J4 rfl 4 (by decide) q234 (fun _ z => z) (ga_at.h hq) hv dJ4_putVal_271 ?_
  refine lv_iconst (v := 1) hx hb dJ4_putVal_274 (by decide) ?_
  refine lv_iadd hx hb dJ4_putVal_275 ?_
  refine lv_dup_x1 hx hb dJ4_putVal_276 rfl rfl ?_
  obtain ⟨fs_44, hq, hk, hw⟩ := hw
  refine ga_put (ci := 15) (T := TJ4) (v := .int (v_43 + (1 : Int32))) (ty := tyJ4 4) hx hb hts hown hI in_J4 rfl tyJ4 tyJ4_ok nmJ4 4 (by decide) q234 (fun _ z => z) rfl (tyJ4_ok 4 (by decide)) rfl rfl hq hk dJ4_putVal_277 (fun H locs hI => ?_)
  obtain ⟨h_45, eh_45⟩ : ∃ z, z = ga_set h_41 p0 (ga_O 15 (fs_44.set 4 (.int (v_43 + (1 : Int32))))) := ⟨_, rfl⟩
  rw [← eh_45] at hI
  have hw := hw h_45 eh_45
  refine lv_aload_n hx hb dJ4_putVal_280 rfl (lv_at hl 0 rfl) ?_
  obtain ⟨fs_46, v_47, hq, hv, hw⟩ := hw
  refine ga_get (ci := 15) (T := TJ4) (v := .int v_47) hx hb hts hown hI in_J4 rfl 6 (by decide) q237 (fun _ z => z) (ga_at.h hq) hv dJ4_putVal_281 ?_
  refine lv_icmp_le (tgt := 292) hx hb dJ4_putVal_284 (by decide) (fun hc_48 => ?_) (fun hc_48 => ?_)
  · have hw := hw.1 hc_48
    exact gj_J4_putVal_S_292 g post p0 v5 h_45 bc bs ⟨hx, hb, hml, hown, hts, hr, hlk, hnm⟩ hw hI hbc hbs (lv_sub hl [0, 1] rfl)
  · have hw := hw.2 hc_48
    refine lv_aload_n hx hb dJ4_putVal_287 rfl (lv_at hl 0 rfl) ?_
    obtain ⟨kc_51, ks_52, hk1, hk2, hw⟩ := hw
    obtain ⟨fs_53, hq, hw⟩ := hw
    refine ga_callq (va_runV (As := []) (rest := []) ⟨hx, hb, hml, hown, hts⟩ (gm_J4_resize l g p0 h_45 kc_51 ks_52 _ hw) (cwV 0 hts (lw_V q1470 q1471 q1472 q106 q1473) rfl rfl rfl ⟨rfl, hdG_J4_resize⟩ ⟨Nat.le_of_ble_eq_true rfl, Nat.le_of_ble_eq_true rfl⟩) (ga_preV hI hq rfl rfl) rfl rfl hl.1 rfl (ga_room (Nat.le_of_ble_eq_true rfl)) dJ4_putVal_288 ⟨Nat.le_trans (Nat.add_le_add_left hk1 _) hbc, Nat.le_trans (Nat.add_le_add_left hk2 _) hbs⟩) hI hbc hbs hk1 hk2 (fun r_55 h_54 H locs cells slots hw hI hbc hbs => ?_)
    refine lv_pop hx hb dJ4_putVal_291 (ga_rcat _) ?_
    exact gj_J4_putVal_S_292 g post p0 v5 h_54 (bc - kc_51) (bs - ks_52) ⟨hx, hb, hml, hown, hts, hr, hlk, hnm⟩ hw hI hbc hbs (lv_sub hl [0, 1] rfl)
def gw_J4_putVal_S_250 (K : ga_K) (post : Option Nat → ga_H → Prop) (p0 : Nat) (v10 : Option Nat) (v12 : Option Nat) (h : ga_H) (bc bs : Nat) : Prop :=
  ∃ fs_63 : List Value, ga_at K h p0 (ga_O 15 fs_63) ∧ gw_J4_afterNodeAccess K p0 v10 h (fun (h_64 : ga_H) => post v12 h_64)
set_option maxHeartbeats 4000000 in
theorem gj_J4_putVal_S_250 {p : Program} {l : Launch} {e : Env} {s : State} {m : MethodId} {args : Array Value} {below : List Frame} {meth : Method} {c : Code} {mc ms : Nat} {H : Heap} {locs : List Loc} {cells slots : Nat} {ls : Array Slot} (g : ga_G) (post : Option Nat → ga_H → Prop) (p0 : Nat) (v10 : Option Nat) (v12 : Option Nat) (h : ga_H) (bc bs : Nat) (hC : ga_Cx p s m args meth c cJ4_putVal 13 (some (.object "java/lang/Object")) "java/util/HashMap" "putVal") (hw : gw_J4_putVal_S_250 g.2.2 post p0 v10 v12 h bc bs) (hI : ga_I g h s H locs) (hbc : cells + bc ≤ mc) (hbs : slots + bs ≤ ms) (hl : lv_has ls 13 [(0, .ref p0), (10, va_rf v10), (12, va_rf v12)]) : W p l e ({ frames := 10, cells := mc, slots := ms, locals := 188 } : Room) s m args below meth c H locs cells slots (MQ below (va_Qq post (ga_E g) (ga_A g)) args s mc ms (ga_A g)) (F0 m 250 ls []) := by
  obtain ⟨hx, hb, hml, hown, hts, hr, hlk, hnm⟩ := hC
  unfold gw_J4_putVal_S_250 at hw
  refine lv_aload_n hx hb dJ4_putVal_250 rfl (lv_at hl 0 rfl) ?_
  refine ga_aload hx hb dJ4_putVal_251 (lv_at hl 1 rfl) ?_
  obtain ⟨fs_63, hq, hw⟩ := hw
  refine ga_callv (va_runV (As := [va_rf v10]) (rest := []) ⟨hx, hb, hml, hown, hts⟩ (gm_J4_afterNodeAccess l g p0 v10 h _ hw) (cwV 1 hts (lw_V q2006 q2007 q2008 q106 q2009) rfl rfl rfl ⟨rfl, hdG_J4_afterNodeAccess⟩ ⟨Nat.le_of_ble_eq_true rfl, Nat.le_of_ble_eq_true rfl⟩) (ga_preV hI hq rfl rfl) rfl rfl hl.1 rfl (ga_room (Nat.le_of_ble_eq_true rfl)) dJ4_putVal_253 ⟨Nat.le_trans (Nat.add_le_add_left (Nat.zero_le _) _) hbc, Nat.le_trans (Nat.add_le_add_left (Nat.zero_le _) _) hbs⟩) hI hbc hbs (Nat.zero_le _) (Nat.zero_le _) (fun h_64 H locs cells slots hw hI hbc hbs => ?_)
  refine ga_aload hx hb dJ4_putVal_256 (lv_at hl 2 rfl) ?_
  exact ga_qret (v := v12) hx hb hr (Or.inl ⟨_, rfl⟩) hlk hI hw (Nat.le_trans (Nat.le_add_right _ _) hbc) (Nat.le_trans (Nat.le_add_right _ _) hbs) dJ4_putVal_258
def gw_J4_putVal_S_244 (K : ga_K) (post : Option Nat → ga_H → Prop) (p0 : Nat) (v3 : Option Nat) (v10 : Option Nat) (v12 : Option Nat) (h : ga_H) (bc bs : Nat) : Prop :=
  ∃ a_60 : Nat, v10 = some a_60 ∧ ∃ fs_61 : List Value, h a_60 = some (ga_O 16 fs_61) ∧ 2 < fs_61.length ∧ ∀ h_62 : ga_H, h_62 = ga_set h a_60 (ga_O 16 (fs_61.set 2 (va_rf v3))) → (gw_J4_putVal_S_250 K post p0 v10 v12 h_62 bc bs)
set_option maxHeartbeats 4000000 in
theorem gj_J4_putVal_S_244 {p : Program} {l : Launch} {e : Env} {s : State} {m : MethodId} {args : Array Value} {below : List Frame} {meth : Method} {c : Code} {mc ms : Nat} {H : Heap} {locs : List Loc} {cells slots : Nat} {ls : Array Slot} (g : ga_G) (post : Option Nat → ga_H → Prop) (p0 : Nat) (v3 : Option Nat) (v10 : Option Nat) (v12 : Option Nat) (h : ga_H) (bc bs : Nat) (hC : ga_Cx p s m args meth c cJ4_putVal 13 (some (.object "java/lang/Object")) "java/util/HashMap" "putVal") (hw : gw_J4_putVal_S_244 g.2.2 post p0 v3 v10 v12 h bc bs) (hI : ga_I g h s H locs) (hbc : cells + bc ≤ mc) (hbs : slots + bs ≤ ms) (hl : lv_has ls 13 [(0, .ref p0), (3, va_rf v3), (10, va_rf v10), (12, va_rf v12)]) : W p l e ({ frames := 10, cells := mc, slots := ms, locals := 188 } : Room) s m args below meth c H locs cells slots (MQ below (va_Qq post (ga_E g) (ga_A g)) args s mc ms (ga_A g)) (F0 m 244 ls []) := by
  obtain ⟨hx, hb, hml, hown, hts, hr, hlk, hnm⟩ := hC
  unfold gw_J4_putVal_S_244 at hw
  refine ga_aload hx hb dJ4_putVal_244 (lv_at hl 2 rfl) ?_
  refine ga_aload_n hx hb dJ4_putVal_246 rfl (lv_at hl 1 rfl) ?_
  obtain ⟨a_60, ea_60, hw⟩ := hw
  rewrite [ea_60]
  obtain ⟨fs_61, hq, hk, hw⟩ := hw
  refine ga_put (ci := 16) (T := TJ32) (v := va_rf v3) (ty := tyJ32 2) hx hb hts hown hI in_J32 rfl tyJ32 tyJ32_ok nmJ32 2 (by decide) q1507 (fun _ z => z) rfl (tyJ32_ok 2 (by decide)) (ga_nq _ _) (ga_fq _ _) hq hk dJ4_putVal_247 (fun H locs hI => ?_)
  obtain ⟨h_62, eh_62⟩ : ∃ z, z = ga_set h a_60 (ga_O 16 (fs_61.set 2 (va_rf v3))) := ⟨_, rfl⟩
  rw [← eh_62] at hI
  have hw := hw h_62 eh_62
  exact gj_J4_putVal_S_250 g post p0 v10 v12 h_62 bc bs ⟨hx, hb, hml, hown, hts, hr, hlk, hnm⟩ hw hI hbc hbs (lv_sub hl [0, 2, 3] rfl)
def gw_J4_putVal_S_222 (K : ga_K) (post : Option Nat → ga_H → Prop) (p0 : Nat) (v3 : Option Nat) (v4 : Int32) (v5 : Int32) (v10 : Option Nat) (h : ga_H) (bc bs : Nat) : Prop :=
  (v10 = none → (gw_J4_putVal_S_259 K post p0 v5 h bc bs)) ∧ (∀ a_37 : Nat, v10 = some a_37 → (∃ a_56 : Nat, v10 = some a_56 ∧ ∃ (fs_57 : List Value) (v_58 : Option Nat), h a_56 = some (ga_O 16 fs_57) ∧ fs_57[2]? = some (va_rf v_58) ∧ ((v4 = (0 : Int32) → (gw_J4_putVal_S_244 K post p0 v3 v10 v_58 h bc bs)) ∧ (¬ v4 = (0 : Int32) → ((v_58 = none → (gw_J4_putVal_S_244 K post p0 v3 v10 v_58 h bc bs)) ∧ (∀ a_65 : Nat, v_58 = some a_65 → (gw_J4_putVal_S_250 K post p0 v10 v_58 h bc bs)))))))
set_option maxHeartbeats 4000000 in
theorem gj_J4_putVal_S_222 {p : Program} {l : Launch} {e : Env} {s : State} {m : MethodId} {args : Array Value} {below : List Frame} {meth : Method} {c : Code} {mc ms : Nat} {H : Heap} {locs : List Loc} {cells slots : Nat} {ls : Array Slot} (g : ga_G) (post : Option Nat → ga_H → Prop) (p0 : Nat) (v3 : Option Nat) (v4 : Int32) (v5 : Int32) (v10 : Option Nat) (h : ga_H) (bc bs : Nat) (hC : ga_Cx p s m args meth c cJ4_putVal 13 (some (.object "java/lang/Object")) "java/util/HashMap" "putVal") (hw : gw_J4_putVal_S_222 g.2.2 post p0 v3 v4 v5 v10 h bc bs) (hI : ga_I g h s H locs) (hbc : cells + bc ≤ mc) (hbs : slots + bs ≤ ms) (hl : lv_has ls 13 [(0, .ref p0), (3, va_rf v3), (4, .int v4), (5, .int v5), (10, va_rf v10)]) : W p l e ({ frames := 10, cells := mc, slots := ms, locals := 188 } : Room) s m args below meth c H locs cells slots (MQ below (va_Qq post (ga_E g) (ga_A g)) args s mc ms (ga_A g)) (F0 m 222 ls []) := by
  obtain ⟨hx, hb, hml, hown, hts, hr, hlk, hnm⟩ := hC
  unfold gw_J4_putVal_S_222 at hw
  refine ga_aload hx hb dJ4_putVal_222 (lv_at hl 4 rfl) ?_
  refine ga_ifnull (tgt := 259) hx hb dJ4_putVal_224 (by decide) (fun hc_a_37 => ?_) (fun a_37 hc_a_37 => ?_)
  · have hw := hw.1 hc_a_37
    exact gj_J4_putVal_S_259 g post p0 v5 h bc bs ⟨hx, hb, hml, hown, hts, hr, hlk, hnm⟩ hw hI hbc hbs (lv_sub hl [0, 3] rfl)
  · have hw := hw.2 a_37 hc_a_37
    skip
    refine ga_aload hx hb dJ4_putVal_227 (lv_at hl 4 rfl) ?_
    obtain ⟨a_56, ea_56, hw⟩ := hw
    rewrite [ea_56]
    obtain ⟨fs_57, v_58, hq, hv, hw⟩ := hw
    refine ga_get (ci := 16) (T := TJ32) (v := va_rf v_58) hx hb hts hown hI in_J32 rfl 2 (by decide) q1507 (fun _ z => z) (ga_at.h hq) hv dJ4_putVal_229 ?_
    refine ga_astore (x := v_58) (lv' := [(12, va_rf v_58), (0, .ref p0), (3, va_rf v3), (4, .int v4), (5, .int v5), (10, va_rf v10)]) hx hb dJ4_putVal_232 hl (by decide) rfl (fun ls hl => ?_)
    refine lv_iload hx hb dJ4_putVal_234 (lv_at hl 3 rfl) ?_
    refine lv_if_eq (tgt := 244) hx hb dJ4_putVal_236 (by decide) (fun hc_59 => ?_) (fun hc_59 => ?_)
    · have hw := hw.1 hc_59
      exact gj_J4_putVal_S_244 g post p0 v3 v10 v_58 h bc bs ⟨hx, hb, hml, hown, hts, hr, hlk, hnm⟩ hw hI hbc hbs (lv_sub hl [1, 2, 5, 0] rfl)
    · have hw := hw.2 hc_59
      refine ga_aload hx hb dJ4_putVal_239 (lv_at hl 0 rfl) ?_
      refine ga_ifnonnull (tgt := 250) hx hb dJ4_putVal_241 (by decide) (fun a_65 hc_a_65 => ?_) (fun hc_a_65 => ?_)
      · have hw := hw.2 a_65 hc_a_65
        skip
        exact gj_J4_putVal_S_250 g post p0 v10 v_58 h bc bs ⟨hx, hb, hml, hown, hts, hr, hlk, hnm⟩ hw hI hbc hbs (lv_sub hl [1, 5, 0] rfl)
      · have hw := hw.1 hc_a_65
        exact gj_J4_putVal_S_244 g post p0 v3 v10 v_58 h bc bs ⟨hx, hb, hml, hown, hts, hr, hlk, hnm⟩ hw hI hbc hbs (lv_sub hl [1, 2, 5, 0] rfl)
def gw_J4_putVal_S_104 (K : ga_K) (post : Option Nat → ga_H → Prop) (p0 : Nat) (v1 : Int32) (v2 : Option Nat) (v3 : Option Nat) (v4 : Int32) (v5 : Int32) (v6 : Option Nat) (v7 : Option Nat) (h : ga_H) (bc bs : Nat) : Prop :=
  ∃ a_22 : Nat, v7 = some a_22 ∧ ∃ fs_21 : List Value, ga_at K h a_22 (ga_O 16 fs_21) ∧ (∃ (In_24 : Option Nat → Int32 → ga_H → Nat → Nat → Prop) (mu_24 : Option Nat → Int32 → ga_H → Nat → Nat → Nat), In_24 v7 (0 : Int32) h bc bs ∧ ∀ (x7_24 : Option Nat) (x12_24 : Int32) (h_24 : ga_H) (bc_24 : Nat) (bs_24 : Nat), In_24 x7_24 x12_24 h_24 bc_24 bs_24 → (∃ a_25 : Nat, x7_24 = some a_25 ∧ ∃ (fs_26 : List Value) (v_27 : Option Nat), h_24 a_25 = some (ga_O 16 fs_26) ∧ fs_26[3]? = some (va_rf v_27) ∧ ((v_27 = none → (∃ kc_72 ks_73 : Nat, kc_72 ≤ bc_24 ∧ ks_73 ≤ bs_24 ∧ ∃ fs_74 : List Value, ga_at K h_24 p0 (ga_O 15 fs_74) ∧ gw_J4_newNode K p0 v1 v2 v3 none h_24 kc_72 ks_73 (fun (r_76 : Option Nat) (h_75 : ga_H) => ∃ a_77 : Nat, x7_24 = some a_77 ∧ ∃ fs_78 : List Value, h_75 a_77 = some (ga_O 16 fs_78) ∧ 3 < fs_78.length ∧ ∀ h_79 : ga_H, h_79 = ga_set h_75 a_77 (ga_O 16 (fs_78.set 3 (va_rf r_76))) → ((x12_24 < (7 : Int32) → (gw_J4_putVal_S_222 K post p0 v3 v4 v5 v_27 h_79 (bc_24 - kc_72) (bs_24 - ks_73))) ∧ (¬ x12_24 < (7 : Int32) → False))))) ∧ (∀ a_28 : Nat, v_27 = some a_28 → (∃ a_29 : Nat, v_27 = some a_29 ∧ ∃ (fs_30 : List Value) (v_31 : Int32), h_24 a_29 = some (ga_O 16 fs_30) ∧ fs_30[0]? = some (.int v_31) ∧ ((¬ v_31 = v1 → (In_24 v_27 (x12_24 + (1 : Int32)) h_24 bc_24 bs_24 ∧ mu_24 v_27 (x12_24 + (1 : Int32)) h_24 bc_24 bs_24 < mu_24 x7_24 x12_24 h_24 bc_24 bs_24)) ∧ (v_31 = v1 → (∃ a_33 : Nat, v_27 = some a_33 ∧ ∃ (fs_34 : List Value) (v_35 : Option Nat), h_24 a_33 = some (ga_O 16 fs_34) ∧ fs_34[1]? = some (va_rf v_35) ∧ ((v_35 = v2 → (gw_J4_putVal_S_222 K post p0 v3 v4 v5 v_27 h_24 bc_24 bs_24)) ∧ (¬ v_35 = v2 → ((v2 = none → (In_24 v_27 (x12_24 + (1 : Int32)) h_24 bc_24 bs_24 ∧ mu_24 v_27 (x12_24 + (1 : Int32)) h_24 bc_24 bs_24 < mu_24 x7_24 x12_24 h_24 bc_24 bs_24)) ∧ (∀ a_66 : Nat, v2 = some a_66 → (∃ a_67 : Nat, v2 = some a_67 ∧ ∃ fs_68 : List Value, ga_at K h_24 a_67 (ga_O 23 fs_68) ∧ gw_J7_equals K a_67 v_35 h_24 (fun (r_70 : Int32) (h_69 : ga_H) => (r_70 = (0 : Int32) → (In_24 v_27 (x12_24 + (1 : Int32)) h_69 bc_24 bs_24 ∧ mu_24 v_27 (x12_24 + (1 : Int32)) h_69 bc_24 bs_24 < mu_24 x7_24 x12_24 h_24 bc_24 bs_24)) ∧ (¬ r_70 = (0 : Int32) → (gw_J4_putVal_S_222 K post p0 v3 v4 v5 v_27 h_69 bc_24 bs_24))))))))))))))))
set_option maxHeartbeats 4000000 in
theorem gj_J4_putVal_S_104 {p : Program} {l : Launch} {e : Env} {s : State} {m : MethodId} {args : Array Value} {below : List Frame} {meth : Method} {c : Code} {mc ms : Nat} {H : Heap} {locs : List Loc} {cells slots : Nat} {ls : Array Slot} (g : ga_G) (post : Option Nat → ga_H → Prop) (p0 : Nat) (v1 : Int32) (v2 : Option Nat) (v3 : Option Nat) (v4 : Int32) (v5 : Int32) (v6 : Option Nat) (v7 : Option Nat) (h : ga_H) (bc bs : Nat) (hC : ga_Cx p s m args meth c cJ4_putVal 13 (some (.object "java/lang/Object")) "java/util/HashMap" "putVal") (hw : gw_J4_putVal_S_104 g.2.2 post p0 v1 v2 v3 v4 v5 v6 v7 h bc bs) (hI : ga_I g h s H locs) (hbc : cells + bc ≤ mc) (hbs : slots + bs ≤ ms) (hl : lv_has ls 13 [(0, .ref p0), (1, .int v1), (2, va_rf v2), (3, va_rf v3), (4, .int v4), (5, .int v5), (6, va_rf v6), (7, va_rf v7)]) : W p l e ({ frames := 10, cells := mc, slots := ms, locals := 188 } : Room) s m args below meth c H locs cells slots (MQ below (va_Qq post (ga_E g) (ga_A g)) args s mc ms (ga_A g)) (F0 m 104 ls []) := by
  obtain ⟨hx, hb, hml, hown, hts, hr, hlk, hnm⟩ := hC
  unfold gw_J4_putVal_S_104 at hw
  refine ga_aload hx hb dJ4_putVal_104 (lv_at hl 7 rfl) ?_
  obtain ⟨a_22, ea_22, hw⟩ := hw
  rewrite [ea_22]
  obtain ⟨fs_21, hq, hw⟩ := hw
  refine ga_instN (ci := 16) hx hb hts hown hI q1478 hq rfl (List.mem_of_getElem? (i := 0) rfl) dJ4_putVal_106 ?_
  refine lv_if_eq (tgt := 131) hx hb dJ4_putVal_109 (by decide) (fun _ => ?_) (fun hc_23 => by first | exact absurd hc_23 (by decide) | exact absurd (by decide) hc_23)
  refine lv_iconst (v := 0) hx hb dJ4_putVal_131 (by decide) ?_
  refine lv_istore (lv' := [(12, .int (0 : Int32)), (0, .ref p0), (1, .int v1), (2, va_rf v2), (3, va_rf v3), (4, .int v4), (5, .int v5), (6, va_rf v6), (7, va_rf v7)]) hx hb dJ4_putVal_132 hl (by decide) rfl (fun ls hl => ?_)
  obtain ⟨In_24, mu_24, h0_24, hw⟩ := hw
  have hL_24 : ∀ (n : Nat) (x7_24 : Option Nat) (x12_24 : Int32) (h_24 : ga_H) (bc_24 : Nat) (bs_24 : Nat) (H : Heap) (locs : List Loc) (cells slots : Nat) (ls : Array Slot), mu_24 x7_24 x12_24 h_24 bc_24 bs_24 < n → In_24 x7_24 x12_24 h_24 bc_24 bs_24 → ga_I g h_24 s H locs → cells + bc_24 ≤ mc → slots + bs_24 ≤ ms → lv_has ls 13 [(0, .ref p0), (1, .int v1), (2, va_rf v2), (3, va_rf v3), (4, .int v4), (5, .int v5), (6, va_rf v6), (7, va_rf x7_24), (12, .int x12_24)] → W p l e ({ frames := 10, cells := mc, slots := ms, locals := 188 } : Room) s m args below meth c H locs cells slots (MQ below (va_Qq post (ga_E g) (ga_A g)) args s mc ms (ga_A g)) (F0 m 134 ls []) := by
    intro n
    induction n with
    | zero => intro x7_24 x12_24 h_24 bc_24 bs_24 H locs cells slots ls hn _ _ _ _ _; exact absurd hn (Nat.not_lt_zero _)
    | succ n ih_24 =>
      intro x7_24 x12_24 h_24 bc_24 bs_24 H locs cells slots ls hn_24 hi_24 hI hbc hbs hl
      have hw := hw x7_24 x12_24 h_24 bc_24 bs_24 hi_24
      refine ga_aload hx hb dJ4_putVal_134 (lv_at hl 7 rfl) ?_
      obtain ⟨a_25, ea_25, hw⟩ := hw
      rewrite [ea_25]
      obtain ⟨fs_26, v_27, hq, hv, hw⟩ := hw
      refine ga_get (ci := 16) (T := TJ32) (v := va_rf v_27) hx hb hts hown hI in_J32 rfl 3 (by decide) q1513 (fun _ z => z) (ga_at.h hq) hv dJ4_putVal_136 ?_
      refine lv_dup hx hb dJ4_putVal_139 (ga_rcat _) ?_
      refine ga_astore (x := v_27) (lv' := [(10, va_rf v_27), (0, .ref p0), (1, .int v1), (2, va_rf v2), (3, va_rf v3), (4, .int v4), (5, .int v5), (6, va_rf v6), (7, va_rf x7_24), (12, .int x12_24)]) hx hb dJ4_putVal_140 hl (by decide) rfl (fun ls hl => ?_)
      refine ga_ifnonnull (tgt := 175) hx hb dJ4_putVal_142 (by decide) (fun a_28 hc_a_28 => ?_) (fun hc_a_28 => ?_)
      · have hw := hw.2 a_28 hc_a_28
        skip
        refine ga_aload hx hb dJ4_putVal_175 (lv_at hl 0 rfl) ?_
        obtain ⟨a_29, ea_29, hw⟩ := hw
        rewrite [ea_29]
        obtain ⟨fs_30, v_31, hq, hv, hw⟩ := hw
        refine ga_get (ci := 16) (T := TJ32) (v := .int v_31) hx hb hts hown hI in_J32 rfl 0 (by decide) q1500 (fun _ z => z) (ga_at.h hq) hv dJ4_putVal_177 ?_
        refine lv_iload_n hx hb dJ4_putVal_180 rfl (lv_at hl 2 rfl) ?_
        refine lv_icmp_ne (tgt := 212) hx hb dJ4_putVal_181 (by decide) (fun hc_32 => ?_) (fun hc_32 => ?_)
        · have hw := hw.1 hc_32
          refine ga_aload hx hb dJ4_putVal_212 (lv_at hl 0 rfl) ?_
          refine ga_astore (x := v_27) (lv' := [(7, va_rf v_27), (10, va_rf v_27), (0, .ref p0), (1, .int v1), (2, va_rf v2), (3, va_rf v3), (4, .int v4), (5, .int v5), (6, va_rf v6), (12, .int x12_24)]) hx hb dJ4_putVal_214 hl (by decide) (by simp [ga_rcat, ga_cat_r, ga_cat_i, ga_cat_f, ga_cat_l, ga_cat_d]) (fun ls hl => ?_)
          refine lv_iinc (v := x12_24 + (1 : Int32)) (lv' := [(12, .int (x12_24 + (1 : Int32))), (7, va_rf v_27), (10, va_rf v_27), (0, .ref p0), (1, .int v1), (2, va_rf v2), (3, va_rf v3), (4, .int v4), (5, .int v5), (6, va_rf v6)]) hx hb dJ4_putVal_216 hl (k := 9) rfl rfl (by decide) rfl (fun ls hl => ?_)
          refine lv_goto (tgt := 134) hx hb dJ4_putVal_219 (by decide) ?_
          exact ih_24 _ _ _ _ _ H locs cells slots ls (Nat.lt_of_lt_of_le hw.2 (Nat.le_of_lt_succ hn_24)) hw.1 hI hbc hbs (lv_sub hl [3, 4, 5, 6, 7, 8, 9, 1, 0] rfl)
        · have hw := hw.2 hc_32
          refine ga_aload hx hb dJ4_putVal_184 (lv_at hl 0 rfl) ?_
          obtain ⟨a_33, ea_33, hw⟩ := hw
          rewrite [ea_33]
          obtain ⟨fs_34, v_35, hq, hv, hw⟩ := hw
          refine ga_get (ci := 16) (T := TJ32) (v := va_rf v_35) hx hb hts hown hI in_J32 rfl 1 (by decide) q1505 (fun _ z => z) (ga_at.h hq) hv dJ4_putVal_186 ?_
          refine lv_dup hx hb dJ4_putVal_189 (ga_rcat _) ?_
          refine ga_astore (x := v_35) (lv' := [(11, va_rf v_35), (10, va_rf v_27), (0, .ref p0), (1, .int v1), (2, va_rf v2), (3, va_rf v3), (4, .int v4), (5, .int v5), (6, va_rf v6), (7, va_rf x7_24), (12, .int x12_24)]) hx hb dJ4_putVal_190 hl (by decide) (by simp [ga_rcat, ga_cat_r, ga_cat_i, ga_cat_f, ga_cat_l, ga_cat_d]) (fun ls hl => ?_)
          refine ga_aload_n hx hb dJ4_putVal_192 rfl (lv_at hl 4 rfl) ?_
          refine lv_acmp_eq (rx := v_35) (ry := v2) (tgt := 222) hx hb dJ4_putVal_193 (by decide) (fun hc_36 => ?_) (fun hc_36 => ?_)
          · have hw := hw.1 hc_36
            exact gj_J4_putVal_S_222 g post p0 v3 v4 v5 v_27 h_24 bc_24 bs_24 ⟨hx, hb, hml, hown, hts, hr, hlk, hnm⟩ hw hI hbc hbs (lv_sub hl [2, 5, 6, 7, 1] rfl)
          · have hw := hw.2 hc_36
            refine ga_aload_n hx hb dJ4_putVal_196 rfl (lv_at hl 4 rfl) ?_
            refine ga_ifnull (tgt := 212) hx hb dJ4_putVal_197 (by decide) (fun hc_a_66 => ?_) (fun a_66 hc_a_66 => ?_)
            · have hw := hw.1 hc_a_66
              refine ga_aload hx hb dJ4_putVal_212 (lv_at hl 1 rfl) ?_
              refine ga_astore (x := v_27) (lv' := [(7, va_rf v_27), (11, va_rf v_35), (10, va_rf v_27), (0, .ref p0), (1, .int v1), (2, va_rf v2), (3, va_rf v3), (4, .int v4), (5, .int v5), (6, va_rf v6), (12, .int x12_24)]) hx hb dJ4_putVal_214 hl (by decide) (by simp [ga_rcat, ga_cat_r, ga_cat_i, ga_cat_f, ga_cat_l, ga_cat_d]) (fun ls hl => ?_)
              refine lv_iinc (v := x12_24 + (1 : Int32)) (lv' := [(12, .int (x12_24 + (1 : Int32))), (7, va_rf v_27), (11, va_rf v_35), (10, va_rf v_27), (0, .ref p0), (1, .int v1), (2, va_rf v2), (3, va_rf v3), (4, .int v4), (5, .int v5), (6, va_rf v6)]) hx hb dJ4_putVal_216 hl (k := 10) rfl rfl (by decide) (by simp [ga_rcat, ga_cat_r, ga_cat_i, ga_cat_f, ga_cat_l, ga_cat_d]) (fun ls hl => ?_)
              refine lv_goto (tgt := 134) hx hb dJ4_putVal_219 (by decide) ?_
              exact ih_24 _ _ _ _ _ H locs cells slots ls (Nat.lt_of_lt_of_le hw.2 (Nat.le_of_lt_succ hn_24)) hw.1 hI hbc hbs (lv_sub hl [4, 5, 6, 7, 8, 9, 10, 1, 0] rfl)
            · have hw := hw.2 a_66 hc_a_66
              skip
              refine ga_aload_n hx hb dJ4_putVal_200 rfl (lv_at hl 4 rfl) ?_
              refine ga_aload hx hb dJ4_putVal_201 (lv_at hl 0 rfl) ?_
              obtain ⟨a_67, ea_67, hw⟩ := hw
              rewrite [ea_67]
              obtain ⟨fs_68, hq, hw⟩ := hw
              refine ga_calli (va_runU (As := [va_rf v_35]) (rest := []) ⟨hx, hb, hml, hown, hts⟩ (gm_J7_equals l g a_67 v_35 h_24 _ hw) (va_cwO 1 hts (lw_app (List.forall_mem_cons.mpr ⟨q1901, List.forall_mem_cons.mpr ⟨q1903, List.forall_mem_cons.mpr ⟨q1902, List.forall_mem_cons.mpr ⟨q1934, List.forall_mem_cons.mpr ⟨q1935, List.forall_mem_cons.mpr ⟨q111, fun _ h => absurd h List.not_mem_nil⟩⟩⟩⟩⟩⟩) (lw_meth q1936)) rfl rfl rfl q1946 (by decide +kernel) ⟨Nat.le_of_ble_eq_true rfl, Nat.le_of_ble_eq_true rfl⟩) (ga_preV (C := "java/lang/String") hI hq rfl rfl) rfl rfl hl.1 rfl (ga_room (Nat.le_of_ble_eq_true rfl)) dJ4_putVal_203 ⟨Nat.le_trans (Nat.add_le_add_left (Nat.zero_le _) _) hbc, Nat.le_trans (Nat.add_le_add_left (Nat.zero_le _) _) hbs⟩) hI hbc hbs (Nat.zero_le _) (Nat.zero_le _) (fun r_70 h_69 H locs cells slots hw hI hbc hbs => ?_)
              refine lv_if_eq (tgt := 212) hx hb dJ4_putVal_206 (by decide) (fun hc_71 => ?_) (fun hc_71 => ?_)
              · have hw := hw.1 hc_71
                refine ga_aload hx hb dJ4_putVal_212 (lv_at hl 1 rfl) ?_
                refine ga_astore (x := v_27) (lv' := [(7, va_rf v_27), (11, va_rf v_35), (10, va_rf v_27), (0, .ref p0), (1, .int v1), (2, va_rf v2), (3, va_rf v3), (4, .int v4), (5, .int v5), (6, va_rf v6), (12, .int x12_24)]) hx hb dJ4_putVal_214 hl (by decide) (by simp [ga_rcat, ga_cat_r, ga_cat_i, ga_cat_f, ga_cat_l, ga_cat_d]) (fun ls hl => ?_)
                refine lv_iinc (v := x12_24 + (1 : Int32)) (lv' := [(12, .int (x12_24 + (1 : Int32))), (7, va_rf v_27), (11, va_rf v_35), (10, va_rf v_27), (0, .ref p0), (1, .int v1), (2, va_rf v2), (3, va_rf v3), (4, .int v4), (5, .int v5), (6, va_rf v6)]) hx hb dJ4_putVal_216 hl (k := 10) rfl rfl (by decide) (by simp [ga_rcat, ga_cat_r, ga_cat_i, ga_cat_f, ga_cat_l, ga_cat_d]) (fun ls hl => ?_)
                refine lv_goto (tgt := 134) hx hb dJ4_putVal_219 (by decide) ?_
                exact ih_24 _ _ _ _ _ H locs cells slots ls (Nat.lt_of_lt_of_le hw.2 (Nat.le_of_lt_succ hn_24)) hw.1 hI hbc hbs (lv_sub hl [4, 5, 6, 7, 8, 9, 10, 1, 0] rfl)
              · have hw := hw.2 hc_71
                refine lv_goto (tgt := 222) hx hb dJ4_putVal_209 (by decide) ?_
                exact gj_J4_putVal_S_222 g post p0 v3 v4 v5 v_27 h_69 bc_24 bs_24 ⟨hx, hb, hml, hown, hts, hr, hlk, hnm⟩ hw hI hbc hbs (lv_sub hl [2, 5, 6, 7, 1] rfl)
      · have hw := hw.1 hc_a_28
        refine ga_aload hx hb dJ4_putVal_145 (lv_at hl 8 rfl) ?_
        refine lv_aload_n hx hb dJ4_putVal_147 rfl (lv_at hl 1 rfl) ?_
        refine lv_iload_n hx hb dJ4_putVal_148 rfl (lv_at hl 2 rfl) ?_
        refine ga_aload_n hx hb dJ4_putVal_149 rfl (lv_at hl 3 rfl) ?_
        refine ga_aload_n hx hb dJ4_putVal_150 rfl (lv_at hl 4 rfl) ?_
        refine lv_null hx hb dJ4_putVal_151 ?_
        obtain ⟨kc_72, ks_73, hk1, hk2, hw⟩ := hw
        obtain ⟨fs_74, hq, hw⟩ := hw
        refine ga_callq (va_runV (As := [.int v1, va_rf v2, va_rf v3, va_rf none]) (rest := [va_rf x7_24]) ⟨hx, hb, hml, hown, hts⟩ (gm_J4_newNode l g p0 v1 v2 v3 none h_24 kc_72 ks_73 _ hw) (cwV 4 hts (lw_V q1896 q1897 q1898 q106 q1899) rfl rfl rfl ⟨rfl, hdG_J4_newNode⟩ ⟨Nat.le_of_ble_eq_true rfl, Nat.le_of_ble_eq_true rfl⟩) (ga_preV hI hq rfl rfl) rfl rfl hl.1 rfl (ga_room (Nat.le_of_ble_eq_true rfl)) dJ4_putVal_152 ⟨Nat.le_trans (Nat.add_le_add_left hk1 _) hbc, Nat.le_trans (Nat.add_le_add_left hk2 _) hbs⟩) hI hbc hbs hk1 hk2 (fun r_76 h_75 H locs cells slots hw hI hbc hbs => ?_)
        obtain ⟨a_77, ea_77, hw⟩ := hw
        rewrite [ea_77]
        obtain ⟨fs_78, hq, hk, hw⟩ := hw
        refine ga_put (ci := 16) (T := TJ32) (v := va_rf r_76) (ty := tyJ32 3) hx hb hts hown hI in_J32 rfl tyJ32 tyJ32_ok nmJ32 3 (by decide) q1513 (fun _ z => z) rfl (tyJ32_ok 3 (by decide)) (ga_nq _ _) (ga_fq _ _) hq hk dJ4_putVal_155 (fun H locs hI => ?_)
        obtain ⟨h_79, eh_79⟩ : ∃ z, z = ga_set h_75 a_77 (ga_O 16 (fs_78.set 3 (va_rf r_76))) := ⟨_, rfl⟩
        rw [← eh_79] at hI
        have hw := hw h_79 eh_79
        refine lv_iload hx hb dJ4_putVal_158 (lv_at hl 9 rfl) ?_
        refine lv_bipush (v := 7) hx hb dJ4_putVal_160 (by decide) ?_
        refine lv_icmp_lt (tgt := 222) hx hb dJ4_putVal_162 (by decide) (fun hc_80 => ?_) (fun hc_80 => ?_)
        · have hw := hw.1 hc_80
          exact gj_J4_putVal_S_222 g post p0 v3 v4 v5 v_27 h_79 (bc_24 - kc_72) (bs_24 - ks_73) ⟨hx, hb, hml, hown, hts, hr, hlk, hnm⟩ hw hI hbc hbs (lv_sub hl [1, 4, 5, 6, 0] rfl)
        · have hw := hw.2 hc_80
          exact hw.elim
  exact hL_24 _ _ _ _ _ _ H locs cells slots ls (Nat.lt_succ_self _) h0_24 hI hbc hbs (lv_sub hl [1, 2, 3, 4, 5, 6, 7, 8, 0] rfl)
def gw_J4_putVal_S_97 (K : ga_K) (post : Option Nat → ga_H → Prop) (p0 : Nat) (v3 : Option Nat) (v4 : Int32) (v5 : Int32) (v7 : Option Nat) (h : ga_H) (bc bs : Nat) : Prop :=
  gw_J4_putVal_S_222 K post p0 v3 v4 v5 v7 h bc bs
set_option maxHeartbeats 4000000 in
theorem gj_J4_putVal_S_97 {p : Program} {l : Launch} {e : Env} {s : State} {m : MethodId} {args : Array Value} {below : List Frame} {meth : Method} {c : Code} {mc ms : Nat} {H : Heap} {locs : List Loc} {cells slots : Nat} {ls : Array Slot} (g : ga_G) (post : Option Nat → ga_H → Prop) (p0 : Nat) (v3 : Option Nat) (v4 : Int32) (v5 : Int32) (v7 : Option Nat) (h : ga_H) (bc bs : Nat) (hC : ga_Cx p s m args meth c cJ4_putVal 13 (some (.object "java/lang/Object")) "java/util/HashMap" "putVal") (hw : gw_J4_putVal_S_97 g.2.2 post p0 v3 v4 v5 v7 h bc bs) (hI : ga_I g h s H locs) (hbc : cells + bc ≤ mc) (hbs : slots + bs ≤ ms) (hl : lv_has ls 13 [(0, .ref p0), (3, va_rf v3), (4, .int v4), (5, .int v5), (7, va_rf v7)]) : W p l e ({ frames := 10, cells := mc, slots := ms, locals := 188 } : Room) s m args below meth c H locs cells slots (MQ below (va_Qq post (ga_E g) (ga_A g)) args s mc ms (ga_A g)) (F0 m 97 ls []) := by
  obtain ⟨hx, hb, hml, hown, hts, hr, hlk, hnm⟩ := hC
  unfold gw_J4_putVal_S_97 at hw
  refine ga_aload hx hb dJ4_putVal_97 (lv_at hl 4 rfl) ?_
  refine ga_astore (x := v7) (lv' := [(10, va_rf v7), (0, .ref p0), (3, va_rf v3), (4, .int v4), (5, .int v5), (7, va_rf v7)]) hx hb dJ4_putVal_99 hl (by decide) rfl (fun ls hl => ?_)
  refine lv_goto (tgt := 222) hx hb dJ4_putVal_101 (by decide) ?_
  exact gj_J4_putVal_S_222 g post p0 v3 v4 v5 v7 h bc bs ⟨hx, hb, hml, hown, hts, hr, hlk, hnm⟩ hw hI hbc hbs (lv_sub hl [1, 2, 3, 4, 0] rfl)
def gw_J4_putVal_S_29 (K : ga_K) (post : Option Nat → ga_H → Prop) (p0 : Nat) (v1 : Int32) (v2 : Option Nat) (v3 : Option Nat) (v4 : Int32) (v5 : Int32) (v6 : Option Nat) (v8 : Int32) (h : ga_H) (bc bs : Nat) : Prop :=
  ∃ a_12 : Nat, v6 = some a_12 ∧ ∃ (n_13 : Nat) (f_14 : Nat → Option Nat), h a_12 = some (ga_Aq 8 n_13 f_14) ∧ vp_in ((v8 - (1 : Int32)) &&& v1) n_13 ∧ ∀ v_15 : Option Nat, v_15 = f_14 ((v8 - (1 : Int32)) &&& v1).toNatClampNeg → ((v_15 = none → (∃ kc_91 ks_92 : Nat, kc_91 ≤ bc ∧ ks_92 ≤ bs ∧ ∃ fs_93 : List Value, ga_at K h p0 (ga_O 15 fs_93) ∧ gw_J4_newNode K p0 v1 v2 v3 none h kc_91 ks_92 (fun (r_95 : Option Nat) (h_94 : ga_H) => ∃ a_96 : Nat, v6 = some a_96 ∧ ∃ (n_97 : Nat) (f_98 : Nat → Option Nat), h_94 a_96 = some (ga_Aq 8 n_97 f_98) ∧ vp_in ((v8 - (1 : Int32)) &&& v1) n_97 ∧ ga_ok K h_94 "java/util/HashMap$Node" r_95 ∧ ∀ h_99 : ga_H, h_99 = ga_set h_94 a_96 (ga_Aq 8 n_97 (va_up f_98 ((v8 - (1 : Int32)) &&& v1).toNatClampNeg r_95)) → (gw_J4_putVal_S_259 K post p0 v5 h_99 (bc - kc_91) (bs - ks_92))))) ∧ (∀ a_16 : Nat, v_15 = some a_16 → (∃ a_17 : Nat, v_15 = some a_17 ∧ ∃ (fs_18 : List Value) (v_19 : Int32), h a_17 = some (ga_O 16 fs_18) ∧ fs_18[0]? = some (.int v_19) ∧ ((¬ v_19 = v1 → (gw_J4_putVal_S_104 K post p0 v1 v2 v3 v4 v5 v6 v_15 h bc bs)) ∧ (v_19 = v1 → (∃ a_81 : Nat, v_15 = some a_81 ∧ ∃ (fs_82 : List Value) (v_83 : Option Nat), h a_81 = some (ga_O 16 fs_82) ∧ fs_82[1]? = some (va_rf v_83) ∧ ((v_83 = v2 → (gw_J4_putVal_S_97 K post p0 v3 v4 v5 v_15 h bc bs)) ∧ (¬ v_83 = v2 → ((v2 = none → (gw_J4_putVal_S_104 K post p0 v1 v2 v3 v4 v5 v6 v_15 h bc bs)) ∧ (∀ a_85 : Nat, v2 = some a_85 → (∃ a_86 : Nat, v2 = some a_86 ∧ ∃ fs_87 : List Value, ga_at K h a_86 (ga_O 23 fs_87) ∧ gw_J7_equals K a_86 v_83 h (fun (r_89 : Int32) (h_88 : ga_H) => (r_89 = (0 : Int32) → (gw_J4_putVal_S_104 K post p0 v1 v2 v3 v4 v5 v6 v_15 h_88 bc bs)) ∧ (¬ r_89 = (0 : Int32) → (gw_J4_putVal_S_97 K post p0 v3 v4 v5 v_15 h_88 bc bs))))))))))))))
set_option maxHeartbeats 4000000 in
theorem gj_J4_putVal_S_29 {p : Program} {l : Launch} {e : Env} {s : State} {m : MethodId} {args : Array Value} {below : List Frame} {meth : Method} {c : Code} {mc ms : Nat} {H : Heap} {locs : List Loc} {cells slots : Nat} {ls : Array Slot} (g : ga_G) (post : Option Nat → ga_H → Prop) (p0 : Nat) (v1 : Int32) (v2 : Option Nat) (v3 : Option Nat) (v4 : Int32) (v5 : Int32) (v6 : Option Nat) (v8 : Int32) (h : ga_H) (bc bs : Nat) (hC : ga_Cx p s m args meth c cJ4_putVal 13 (some (.object "java/lang/Object")) "java/util/HashMap" "putVal") (hw : gw_J4_putVal_S_29 g.2.2 post p0 v1 v2 v3 v4 v5 v6 v8 h bc bs) (hI : ga_I g h s H locs) (hbc : cells + bc ≤ mc) (hbs : slots + bs ≤ ms) (hl : lv_has ls 13 [(0, .ref p0), (1, .int v1), (2, va_rf v2), (3, va_rf v3), (4, .int v4), (5, .int v5), (6, va_rf v6), (8, .int v8)]) : W p l e ({ frames := 10, cells := mc, slots := ms, locals := 188 } : Room) s m args below meth c H locs cells slots (MQ below (va_Qq post (ga_E g) (ga_A g)) args s mc ms (ga_A g)) (F0 m 29 ls []) := by
  obtain ⟨hx, hb, hml, hown, hts, hr, hlk, hnm⟩ := hC
  unfold gw_J4_putVal_S_29 at hw
  refine ga_aload hx hb dJ4_putVal_29 (lv_at hl 6 rfl) ?_
  refine lv_iload hx hb dJ4_putVal_31 (lv_at hl 7 rfl) ?_
  refine lv_iconst (v := 1) hx hb dJ4_putVal_33 (by decide) ?_
  refine lv_isub hx hb dJ4_putVal_34 ?_
  refine lv_iload_n hx hb dJ4_putVal_35 rfl (lv_at hl 1 rfl) ?_
  refine lv_iand hx hb dJ4_putVal_36 ?_
  refine lv_dup hx hb dJ4_putVal_37 rfl ?_
  refine lv_istore (lv' := [(9, .int ((v8 - (1 : Int32)) &&& v1)), (0, .ref p0), (1, .int v1), (2, va_rf v2), (3, va_rf v3), (4, .int v4), (5, .int v5), (6, va_rf v6), (8, .int v8)]) hx hb dJ4_putVal_38 hl (by decide) rfl (fun ls hl => ?_)
  obtain ⟨a_12, ea_12, hw⟩ := hw
  rewrite [ea_12]
  obtain ⟨n_13, f_14, hq, hi, hw⟩ := hw
  refine ga_ldq hx hb hI (ga_at.h hq) rfl hi dJ4_putVal_40 ?_
  obtain ⟨v_15, ev_15⟩ : ∃ z, z = f_14 ((v8 - (1 : Int32)) &&& v1).toNatClampNeg := ⟨_, rfl⟩
  rw [← ev_15]
  have hw := hw v_15 ev_15
  refine lv_dup hx hb dJ4_putVal_41 (ga_rcat _) ?_
  refine ga_astore (x := v_15) (lv' := [(7, va_rf v_15), (9, .int ((v8 - (1 : Int32)) &&& v1)), (0, .ref p0), (1, .int v1), (2, va_rf v2), (3, va_rf v3), (4, .int v4), (5, .int v5), (6, va_rf v6), (8, .int v8)]) hx hb dJ4_putVal_42 hl (by decide) (by simp [ga_rcat, ga_cat_r, ga_cat_i, ga_cat_f, ga_cat_l, ga_cat_d]) (fun ls hl => ?_)
  refine ga_ifnonnull (tgt := 63) hx hb dJ4_putVal_44 (by decide) (fun a_16 hc_a_16 => ?_) (fun hc_a_16 => ?_)
  · have hw := hw.2 a_16 hc_a_16
    skip
    refine ga_aload hx hb dJ4_putVal_63 (lv_at hl 0 rfl) ?_
    obtain ⟨a_17, ea_17, hw⟩ := hw
    rewrite [ea_17]
    obtain ⟨fs_18, v_19, hq, hv, hw⟩ := hw
    refine ga_get (ci := 16) (T := TJ32) (v := .int v_19) hx hb hts hown hI in_J32 rfl 0 (by decide) q1500 (fun _ z => z) (ga_at.h hq) hv dJ4_putVal_65 ?_
    refine lv_iload_n hx hb dJ4_putVal_68 rfl (lv_at hl 3 rfl) ?_
    refine lv_icmp_ne (tgt := 104) hx hb dJ4_putVal_69 (by decide) (fun hc_20 => ?_) (fun hc_20 => ?_)
    · have hw := hw.1 hc_20
      exact gj_J4_putVal_S_104 g post p0 v1 v2 v3 v4 v5 v6 v_15 h bc bs ⟨hx, hb, hml, hown, hts, hr, hlk, hnm⟩ hw hI hbc hbs (lv_sub hl [2, 3, 4, 5, 6, 7, 8, 0] rfl)
    · have hw := hw.2 hc_20
      refine ga_aload hx hb dJ4_putVal_72 (lv_at hl 0 rfl) ?_
      obtain ⟨a_81, ea_81, hw⟩ := hw
      rewrite [ea_81]
      obtain ⟨fs_82, v_83, hq, hv, hw⟩ := hw
      refine ga_get (ci := 16) (T := TJ32) (v := va_rf v_83) hx hb hts hown hI in_J32 rfl 1 (by decide) q1505 (fun _ z => z) (ga_at.h hq) hv dJ4_putVal_74 ?_
      refine lv_dup hx hb dJ4_putVal_77 (ga_rcat _) ?_
      refine ga_astore (x := v_83) (lv' := [(11, va_rf v_83), (7, va_rf v_15), (9, .int ((v8 - (1 : Int32)) &&& v1)), (0, .ref p0), (1, .int v1), (2, va_rf v2), (3, va_rf v3), (4, .int v4), (5, .int v5), (6, va_rf v6), (8, .int v8)]) hx hb dJ4_putVal_78 hl (by decide) rfl (fun ls hl => ?_)
      refine ga_aload_n hx hb dJ4_putVal_80 rfl (lv_at hl 5 rfl) ?_
      refine lv_acmp_eq (rx := v_83) (ry := v2) (tgt := 97) hx hb dJ4_putVal_81 (by decide) (fun hc_84 => ?_) (fun hc_84 => ?_)
      · have hw := hw.1 hc_84
        exact gj_J4_putVal_S_97 g post p0 v3 v4 v5 v_15 h bc bs ⟨hx, hb, hml, hown, hts, hr, hlk, hnm⟩ hw hI hbc hbs (lv_sub hl [3, 6, 7, 8, 1] rfl)
      · have hw := hw.2 hc_84
        refine ga_aload_n hx hb dJ4_putVal_84 rfl (lv_at hl 5 rfl) ?_
        refine ga_ifnull (tgt := 104) hx hb dJ4_putVal_85 (by decide) (fun hc_a_85 => ?_) (fun a_85 hc_a_85 => ?_)
        · have hw := hw.1 hc_a_85
          exact gj_J4_putVal_S_104 g post p0 v1 v2 v3 v4 v5 v6 v_15 h bc bs ⟨hx, hb, hml, hown, hts, hr, hlk, hnm⟩ hw hI hbc hbs (lv_sub hl [3, 4, 5, 6, 7, 8, 9, 1] rfl)
        · have hw := hw.2 a_85 hc_a_85
          skip
          refine ga_aload_n hx hb dJ4_putVal_88 rfl (lv_at hl 5 rfl) ?_
          refine ga_aload hx hb dJ4_putVal_89 (lv_at hl 0 rfl) ?_
          obtain ⟨a_86, ea_86, hw⟩ := hw
          rewrite [ea_86]
          obtain ⟨fs_87, hq, hw⟩ := hw
          refine ga_calli (va_runU (As := [va_rf v_83]) (rest := []) ⟨hx, hb, hml, hown, hts⟩ (gm_J7_equals l g a_86 v_83 h _ hw) (va_cwO 1 hts (lw_app (List.forall_mem_cons.mpr ⟨q1901, List.forall_mem_cons.mpr ⟨q1903, List.forall_mem_cons.mpr ⟨q1902, List.forall_mem_cons.mpr ⟨q1934, List.forall_mem_cons.mpr ⟨q1935, List.forall_mem_cons.mpr ⟨q111, fun _ h => absurd h List.not_mem_nil⟩⟩⟩⟩⟩⟩) (lw_meth q1936)) rfl rfl rfl q1946 (by decide +kernel) ⟨Nat.le_of_ble_eq_true rfl, Nat.le_of_ble_eq_true rfl⟩) (ga_preV (C := "java/lang/String") hI hq rfl rfl) rfl rfl hl.1 rfl (ga_room (Nat.le_of_ble_eq_true rfl)) dJ4_putVal_91 ⟨Nat.le_trans (Nat.add_le_add_left (Nat.zero_le _) _) hbc, Nat.le_trans (Nat.add_le_add_left (Nat.zero_le _) _) hbs⟩) hI hbc hbs (Nat.zero_le _) (Nat.zero_le _) (fun r_89 h_88 H locs cells slots hw hI hbc hbs => ?_)
          refine lv_if_eq (tgt := 104) hx hb dJ4_putVal_94 (by decide) (fun hc_90 => ?_) (fun hc_90 => ?_)
          · have hw := hw.1 hc_90
            exact gj_J4_putVal_S_104 g post p0 v1 v2 v3 v4 v5 v6 v_15 h_88 bc bs ⟨hx, hb, hml, hown, hts, hr, hlk, hnm⟩ hw hI hbc hbs (lv_sub hl [3, 4, 5, 6, 7, 8, 9, 1] rfl)
          · have hw := hw.2 hc_90
            exact gj_J4_putVal_S_97 g post p0 v3 v4 v5 v_15 h_88 bc bs ⟨hx, hb, hml, hown, hts, hr, hlk, hnm⟩ hw hI hbc hbs (lv_sub hl [3, 6, 7, 8, 1] rfl)
  · have hw := hw.1 hc_a_16
    refine ga_aload hx hb dJ4_putVal_47 (lv_at hl 8 rfl) ?_
    refine lv_iload hx hb dJ4_putVal_49 (lv_at hl 1 rfl) ?_
    refine lv_aload_n hx hb dJ4_putVal_51 rfl (lv_at hl 2 rfl) ?_
    refine lv_iload_n hx hb dJ4_putVal_52 rfl (lv_at hl 3 rfl) ?_
    refine ga_aload_n hx hb dJ4_putVal_53 rfl (lv_at hl 4 rfl) ?_
    refine ga_aload_n hx hb dJ4_putVal_54 rfl (lv_at hl 5 rfl) ?_
    refine lv_null hx hb dJ4_putVal_55 ?_
    obtain ⟨kc_91, ks_92, hk1, hk2, hw⟩ := hw
    obtain ⟨fs_93, hq, hw⟩ := hw
    refine ga_callq (va_runV (As := [.int v1, va_rf v2, va_rf v3, va_rf none]) (rest := [.int ((v8 - (1 : Int32)) &&& v1), va_rf v6]) ⟨hx, hb, hml, hown, hts⟩ (gm_J4_newNode l g p0 v1 v2 v3 none h kc_91 ks_92 _ hw) (cwV 4 hts (lw_V q1896 q1897 q1898 q106 q1899) rfl rfl rfl ⟨rfl, hdG_J4_newNode⟩ ⟨Nat.le_of_ble_eq_true rfl, Nat.le_of_ble_eq_true rfl⟩) (ga_preV hI hq rfl rfl) rfl rfl hl.1 rfl (ga_room (Nat.le_of_ble_eq_true rfl)) dJ4_putVal_56 ⟨Nat.le_trans (Nat.add_le_add_left hk1 _) hbc, Nat.le_trans (Nat.add_le_add_left hk2 _) hbs⟩) hI hbc hbs hk1 hk2 (fun r_95 h_94 H locs cells slots hw hI hbc hbs => ?_)
    obtain ⟨a_96, ea_96, hw⟩ := hw
    rewrite [ea_96]
    obtain ⟨n_97, f_98, hq, hi, hok, hw⟩ := hw
    refine ga_sto (x := r_95) hx hb hI hq rfl hok hi dJ4_putVal_59 (fun H locs hI => ?_)
    obtain ⟨h_99, eh_99⟩ : ∃ z, z = ga_set h_94 a_96 (ga_Aq 8 n_97 (va_up f_98 ((v8 - (1 : Int32)) &&& v1).toNatClampNeg r_95)) := ⟨_, rfl⟩
    rw [← eh_99] at hI
    have hw := hw h_99 eh_99
    refine lv_goto (tgt := 259) hx hb dJ4_putVal_60 (by decide) ?_
    exact gj_J4_putVal_S_259 g post p0 v5 h_99 (bc - kc_91) (bs - ks_92) ⟨hx, hb, hml, hown, hts, hr, hlk, hnm⟩ hw hI hbc hbs (lv_sub hl [2, 7] rfl)
def gw_J4_putVal_S_19 (K : ga_K) (post : Option Nat → ga_H → Prop) (p0 : Nat) (v1 : Int32) (v2 : Option Nat) (v3 : Option Nat) (v4 : Int32) (v5 : Int32) (h : ga_H) (bc bs : Nat) : Prop :=
  ∃ kc_4 ks_5 : Nat, kc_4 ≤ bc ∧ ks_5 ≤ bs ∧ ∃ fs_6 : List Value, ga_at K h p0 (ga_O 15 fs_6) ∧ gw_J4_resize K p0 h kc_4 ks_5 (fun (r_8 : Option Nat) (h_7 : ga_H) => ∃ a_9 : Nat, r_8 = some a_9 ∧ ∃ (n_10 : Nat) (f_11 : Nat → Option Nat), h_7 a_9 = some (ga_Aq 8 n_10 f_11) ∧ (gw_J4_putVal_S_29 K post p0 v1 v2 v3 v4 v5 r_8 (nI n_10) h_7 (bc - kc_4) (bs - ks_5)))
set_option maxHeartbeats 4000000 in
theorem gj_J4_putVal_S_19 {p : Program} {l : Launch} {e : Env} {s : State} {m : MethodId} {args : Array Value} {below : List Frame} {meth : Method} {c : Code} {mc ms : Nat} {H : Heap} {locs : List Loc} {cells slots : Nat} {ls : Array Slot} (g : ga_G) (post : Option Nat → ga_H → Prop) (p0 : Nat) (v1 : Int32) (v2 : Option Nat) (v3 : Option Nat) (v4 : Int32) (v5 : Int32) (h : ga_H) (bc bs : Nat) (hC : ga_Cx p s m args meth c cJ4_putVal 13 (some (.object "java/lang/Object")) "java/util/HashMap" "putVal") (hw : gw_J4_putVal_S_19 g.2.2 post p0 v1 v2 v3 v4 v5 h bc bs) (hI : ga_I g h s H locs) (hbc : cells + bc ≤ mc) (hbs : slots + bs ≤ ms) (hl : lv_has ls 13 [(0, .ref p0), (1, .int v1), (2, va_rf v2), (3, va_rf v3), (4, .int v4), (5, .int v5)]) : W p l e ({ frames := 10, cells := mc, slots := ms, locals := 188 } : Room) s m args below meth c H locs cells slots (MQ below (va_Qq post (ga_E g) (ga_A g)) args s mc ms (ga_A g)) (F0 m 19 ls []) := by
  obtain ⟨hx, hb, hml, hown, hts, hr, hlk, hnm⟩ := hC
  unfold gw_J4_putVal_S_19 at hw
  refine lv_aload_n hx hb dJ4_putVal_19 rfl (lv_at hl 0 rfl) ?_
  obtain ⟨kc_4, ks_5, hk1, hk2, hw⟩ := hw
  obtain ⟨fs_6, hq, hw⟩ := hw
  refine ga_callq (va_runV (As := []) (rest := []) ⟨hx, hb, hml, hown, hts⟩ (gm_J4_resize l g p0 h kc_4 ks_5 _ hw) (cwV 0 hts (lw_V q1470 q1471 q1472 q106 q1473) rfl rfl rfl ⟨rfl, hdG_J4_resize⟩ ⟨Nat.le_of_ble_eq_true rfl, Nat.le_of_ble_eq_true rfl⟩) (ga_preV hI hq rfl rfl) rfl rfl hl.1 rfl (ga_room (Nat.le_of_ble_eq_true rfl)) dJ4_putVal_20 ⟨Nat.le_trans (Nat.add_le_add_left hk1 _) hbc, Nat.le_trans (Nat.add_le_add_left hk2 _) hbs⟩) hI hbc hbs hk1 hk2 (fun r_8 h_7 H locs cells slots hw hI hbc hbs => ?_)
  refine lv_dup hx hb dJ4_putVal_23 (ga_rcat _) ?_
  refine ga_astore (x := r_8) (lv' := [(6, va_rf r_8), (0, .ref p0), (1, .int v1), (2, va_rf v2), (3, va_rf v3), (4, .int v4), (5, .int v5)]) hx hb dJ4_putVal_24 hl (by decide) rfl (fun ls hl => ?_)
  obtain ⟨a_9, ea_9, hw⟩ := hw
  rewrite [ea_9]
  obtain ⟨n_10, f_11, hq, hw⟩ := hw
  refine ga_len hx hb hI (ga_at.h hq) rfl dJ4_putVal_26 ?_
  refine lv_istore (lv' := [(8, .int (nI n_10)), (6, va_rf r_8), (0, .ref p0), (1, .int v1), (2, va_rf v2), (3, va_rf v3), (4, .int v4), (5, .int v5)]) hx hb dJ4_putVal_27 hl (by decide) rfl (fun ls hl => ?_)
  exact gj_J4_putVal_S_29 g post p0 v1 v2 v3 v4 v5 r_8 (nI n_10) h_7 (bc - kc_4) (bs - ks_5) ⟨hx, hb, hml, hown, hts, hr, hlk, hnm⟩ hw hI hbc hbs (lv_sub hl [2, 3, 4, 5, 6, 7, 1, 0] rfl)
def gw_J4_putVal_S (K : ga_K) (p0 : Nat) (p1 : Int32) (p2 : Option Nat) (p3 : Option Nat) (p4 : Int32) (p5 : Int32) (h : ga_H) (mc ms : Nat) (post : Option Nat → ga_H → Prop) : Prop :=
  ∃ (fs_1 : List Value) (v_2 : Option Nat), h p0 = some (ga_O 15 fs_1) ∧ fs_1[2]? = some (va_rf v_2) ∧ ((v_2 = none → (gw_J4_putVal_S_19 K post p0 p1 p2 p3 p4 p5 h mc ms)) ∧ (∀ a_3 : Nat, v_2 = some a_3 → (∃ a_100 : Nat, v_2 = some a_100 ∧ ∃ (n_101 : Nat) (f_102 : Nat → Option Nat), h a_100 = some (ga_Aq 8 n_101 f_102) ∧ ((¬ nI n_101 = (0 : Int32) → (gw_J4_putVal_S_29 K post p0 p1 p2 p3 p4 p5 v_2 (nI n_101) h mc ms)) ∧ (nI n_101 = (0 : Int32) → (gw_J4_putVal_S_19 K post p0 p1 p2 p3 p4 p5 h mc ms))))))
set_option maxHeartbeats 4000000 in
theorem gm_J4_putVal_S (l : Launch) (g : ga_G) (p0 : Nat) (p1 : Int32) (p2 : Option Nat) (p3 : Option Nat) (p4 : Int32) (p5 : Int32) (h : ga_H) (mc ms : Nat) (post : Option Nat → ga_H → Prop) (hw : gw_J4_putVal_S g.2.2 p0 p1 p2 p3 p4 p5 h mc ms post) : Met l yJ4_putVal (ws_ yJ4_putVal cJ4_putVal 13 (some (.object "java/lang/Object"))) ({ frames := 10, cells := mc, slots := ms, locals := 188 } : Room) (va_Pc [.ref p0, .int p1, va_rf p2, va_rf p3, .int p4, .int p5] (ga_B g h)) (va_Qq post (ga_E g) (ga_A g)) mc ms (ga_A g) := by
  refine ga_met (own := "java/util/HashMap") (nm := "putVal") (by decide) rfl rfl (by cases p2 <;> cases p3 <;> exact Nat.le_of_ble_eq_true rfl) (fun p e s m below meth c ls hC hI hl => ?_)
  have hl : lv_has ls 13 [(0, .ref p0), (1, .int p1), (2, va_rf p2), (3, va_rf p3), (4, .int p4), (5, .int p5)] := (by cases p2 <;> cases p3 <;> exact hl)
  generalize ([.ref p0, .int p1, va_rf p2, va_rf p3, .int p4, .int p5] : List Value).toArray = args at hC ⊢
  obtain ⟨hx, hb, hml, hown, hts, hr, hlk, hnm⟩ := hC
  unfold gw_J4_putVal_S at hw
  obtain ⟨H, eH⟩ : ∃ z, z = s.heap := ⟨_, rfl⟩
  obtain ⟨locs, elo⟩ : ∃ z : List Loc, z = [] := ⟨_, rfl⟩
  rw [← eH, ← elo] at hI ⊢
  obtain ⟨cells, slots, hbc, hbs, e0, e1⟩ : ∃ a b : Nat, a + mc ≤ mc ∧ b + ms ≤ ms ∧ a = 0 ∧ b = 0 := ⟨0, 0, by omega, by omega, rfl, rfl⟩
  show W p l e ({ frames := 10, cells := mc, slots := ms, locals := 188 } : Room) s m args below meth c H locs 0 0 (MQ below (va_Qq post (ga_E g) (ga_A g)) args s mc ms (ga_A g)) (F0 m 0 ls [])
  suffices hgoal : W p l e ({ frames := 10, cells := mc, slots := ms, locals := 188 } : Room) s m args below meth c H locs cells slots (MQ below (va_Qq post (ga_E g) (ga_A g)) args s mc ms (ga_A g)) (F0 m 0 ls []) by rw [e0, e1] at hgoal; exact hgoal
  refine lv_aload_n hx hb dJ4_putVal_0 rfl (lv_at hl 0 rfl) ?_
  obtain ⟨fs_1, v_2, hq, hv, hw⟩ := hw
  refine ga_get (ci := 15) (T := TJ4) (v := va_rf v_2) hx hb hts hown hI in_J4 rfl 2 (by decide) q229 (fun _ z => z) (ga_at.h hq) hv dJ4_putVal_1 ?_
  refine lv_dup hx hb dJ4_putVal_4 (ga_rcat _) ?_
  refine ga_astore (x := v_2) (lv' := [(6, va_rf v_2), (0, .ref p0), (1, .int p1), (2, va_rf p2), (3, va_rf p3), (4, .int p4), (5, .int p5)]) hx hb dJ4_putVal_5 hl (by decide) rfl (fun ls hl => ?_)
  refine ga_ifnull (tgt := 19) hx hb dJ4_putVal_7 (by decide) (fun hc_a_3 => ?_) (fun a_3 hc_a_3 => ?_)
  · have hw := hw.1 hc_a_3
    exact gj_J4_putVal_S_19 g post p0 p1 p2 p3 p4 p5 h mc ms ⟨hx, hb, hml, hown, hts, hr, hlk, hnm⟩ hw hI hbc hbs (lv_sub hl [1, 2, 3, 4, 5, 6] rfl)
  · have hw := hw.2 a_3 hc_a_3
    skip
    refine ga_aload hx hb dJ4_putVal_10 (lv_at hl 0 rfl) ?_
    obtain ⟨a_100, ea_100, hw⟩ := hw
    rewrite [ea_100]
    obtain ⟨n_101, f_102, hq, hw⟩ := hw
    refine ga_len hx hb hI (ga_at.h hq) rfl dJ4_putVal_12 ?_
    refine lv_dup hx hb dJ4_putVal_13 rfl ?_
    refine lv_istore (lv' := [(8, .int (nI n_101)), (6, va_rf v_2), (0, .ref p0), (1, .int p1), (2, va_rf p2), (3, va_rf p3), (4, .int p4), (5, .int p5)]) hx hb dJ4_putVal_14 hl (by decide) rfl (fun ls hl => ?_)
    refine lv_if_ne (tgt := 29) hx hb dJ4_putVal_16 (by decide) (fun hc_103 => ?_) (fun hc_103 => ?_)
    · have hw := hw.1 hc_103
      exact gj_J4_putVal_S_29 g post p0 p1 p2 p3 p4 p5 v_2 (nI n_101) h mc ms ⟨hx, hb, hml, hown, hts, hr, hlk, hnm⟩ hw hI hbc hbs (lv_sub hl [2, 3, 4, 5, 6, 7, 1, 0] rfl)
    · have hw := hw.2 hc_103
      exact gj_J4_putVal_S_19 g post p0 p1 p2 p3 p4 p5 h mc ms ⟨hx, hb, hml, hown, hts, hr, hlk, hnm⟩ hw hI hbc hbs (lv_sub hl [2, 3, 4, 5, 6, 7] rfl)
theorem hdG_J4_putVal_S : yJ4_putVal.cls ≠ "java/lang/invoke/MethodHandle" ∧ yJ4_putVal.cls ≠ "java/lang/invoke/VarHandle" ∧ (parseMethodDescriptor yJ4_putVal.desc).map (fun d => d.parameters.length) = some 5 := by decide +kernel
def gw_J4_put_S (K : ga_K) (p0 : Nat) (p1 : Option Nat) (p2 : Option Nat) (h : ga_H) (mc ms : Nat) (post : Option Nat → ga_H → Prop) : Prop :=
  ∃ kc_1 ks_2 : Nat, kc_1 ≤ mc ∧ ks_2 ≤ ms ∧ gw_J4_hash_S K p1 h kc_1 ks_2 (fun (r_4 : Int32) (h_3 : ga_H) => ∃ kc_5 ks_6 : Nat, kc_5 ≤ (mc - kc_1) ∧ ks_6 ≤ (ms - ks_2) ∧ ∃ fs_7 : List Value, ga_at K h_3 p0 (ga_O 15 fs_7) ∧ gw_J4_putVal_S K p0 r_4 p1 p2 (0 : Int32) (1 : Int32) h_3 kc_5 ks_6 (fun (r_9 : Option Nat) (h_8 : ga_H) => post r_9 h_8))
set_option maxHeartbeats 4000000 in
theorem gm_J4_put_S (l : Launch) (g : ga_G) (p0 : Nat) (p1 : Option Nat) (p2 : Option Nat) (h : ga_H) (mc ms : Nat) (post : Option Nat → ga_H → Prop) (hw : gw_J4_put_S g.2.2 p0 p1 p2 h mc ms post) : Met l yJ4_put (ws_ yJ4_put cJ4_put 3 (some (.object "java/lang/Object"))) ({ frames := 24, cells := mc, slots := ms, locals := 493 } : Room) (va_Pc [.ref p0, va_rf p1, va_rf p2] (ga_B g h)) (va_Qq post (ga_E g) (ga_A g)) mc ms (ga_A g) := by
  refine ga_met (own := "java/util/HashMap") (nm := "put") (by decide) rfl rfl (by cases p1 <;> cases p2 <;> exact Nat.le_of_ble_eq_true rfl) (fun p e s m below meth c ls hC hI hl => ?_)
  have hl : lv_has ls 3 [(0, .ref p0), (1, va_rf p1), (2, va_rf p2)] := (by cases p1 <;> cases p2 <;> exact hl)
  generalize ([.ref p0, va_rf p1, va_rf p2] : List Value).toArray = args at hC ⊢
  obtain ⟨hx, hb, hml, hown, hts, hr, hlk, hnm⟩ := hC
  unfold gw_J4_put_S at hw
  obtain ⟨H, eH⟩ : ∃ z, z = s.heap := ⟨_, rfl⟩
  obtain ⟨locs, elo⟩ : ∃ z : List Loc, z = [] := ⟨_, rfl⟩
  rw [← eH, ← elo] at hI ⊢
  obtain ⟨cells, slots, hbc, hbs, e0, e1⟩ : ∃ a b : Nat, a + mc ≤ mc ∧ b + ms ≤ ms ∧ a = 0 ∧ b = 0 := ⟨0, 0, by omega, by omega, rfl, rfl⟩
  show W p l e ({ frames := 24, cells := mc, slots := ms, locals := 493 } : Room) s m args below meth c H locs 0 0 (MQ below (va_Qq post (ga_E g) (ga_A g)) args s mc ms (ga_A g)) (F0 m 0 ls [])
  suffices hgoal : W p l e ({ frames := 24, cells := mc, slots := ms, locals := 493 } : Room) s m args below meth c H locs cells slots (MQ below (va_Qq post (ga_E g) (ga_A g)) args s mc ms (ga_A g)) (F0 m 0 ls []) by rw [e0, e1] at hgoal; exact hgoal
  refine lv_aload_n hx hb dJ4_put_0 rfl (lv_at hl 0 rfl) ?_
  refine ga_aload_n hx hb dJ4_put_1 rfl (lv_at hl 1 rfl) ?_
  obtain ⟨kc_1, ks_2, hk1, hk2, hw⟩ := hw
  refine ga_calli (va_runS (As := [va_rf p1]) (rest := [.ref p0]) ⟨hx, hb, hml, hown, hts⟩ (gm_J4_hash_S l g p1 h kc_1 ks_2 _ hw) (va_cwS 1 hts (lw_S q1790 q1791 q106 q1792) rfl rfl rfl hdG_J4_hash_S ⟨Nat.le_of_ble_eq_true rfl, Nat.le_of_ble_eq_true rfl⟩) (ga_preS hI rfl) rfl rfl hl.1 rfl (ga_room (Nat.le_of_ble_eq_true rfl)) dJ4_put_2 ⟨Nat.le_trans (Nat.add_le_add_left hk1 _) hbc, Nat.le_trans (Nat.add_le_add_left hk2 _) hbs⟩) hI hbc hbs hk1 hk2 (fun r_4 h_3 H locs cells slots hw hI hbc hbs => ?_)
  refine ga_aload_n hx hb dJ4_put_5 rfl (lv_at hl 1 rfl) ?_
  refine ga_aload_n hx hb dJ4_put_6 rfl (lv_at hl 2 rfl) ?_
  refine lv_iconst (v := 0) hx hb dJ4_put_7 (by decide) ?_
  refine lv_iconst (v := 1) hx hb dJ4_put_8 (by decide) ?_
  obtain ⟨kc_5, ks_6, hk1, hk2, hw⟩ := hw
  obtain ⟨fs_7, hq, hw⟩ := hw
  refine ga_callq (va_runV (As := [.int r_4, va_rf p1, va_rf p2, .int (0 : Int32), .int (1 : Int32)]) (rest := []) ⟨hx, hb, hml, hown, hts⟩ (gm_J4_putVal_S l g p0 r_4 p1 p2 (0 : Int32) (1 : Int32) h_3 kc_5 ks_6 _ hw) (cwV 5 hts (lw_V q1892 q1893 q1894 q106 q1895) rfl rfl rfl ⟨rfl, hdG_J4_putVal_S⟩ ⟨Nat.le_of_ble_eq_true rfl, Nat.le_of_ble_eq_true rfl⟩) (ga_preV hI hq rfl rfl) rfl rfl hl.1 rfl (ga_room (Nat.le_of_ble_eq_true rfl)) dJ4_put_9 ⟨Nat.le_trans (Nat.add_le_add_left hk1 _) hbc, Nat.le_trans (Nat.add_le_add_left hk2 _) hbs⟩) hI hbc hbs hk1 hk2 (fun r_9 h_8 H locs cells slots hw hI hbc hbs => ?_)
  exact ga_qret (v := r_9) hx hb hr (Or.inl ⟨_, rfl⟩) hlk hI hw (Nat.le_trans (Nat.le_add_right _ _) hbc) (Nat.le_trans (Nat.le_add_right _ _) hbs) dJ4_put_12
theorem hdG_J4_put_S : yJ4_put.cls ≠ "java/lang/invoke/MethodHandle" ∧ yJ4_put.cls ≠ "java/lang/invoke/VarHandle" ∧ (parseMethodDescriptor yJ4_put.desc).map (fun d => d.parameters.length) = some 2 := by decide +kernel
def gw_J44_add (K : ga_K) (p0 : Nat) (p1 : Option Nat) (h : ga_H) (mc ms : Nat) (post : Int32 → ga_H → Prop) : Prop :=
  ∃ (fs_1 : List Value) (v_2 : Option Nat), h p0 = some (ga_O 21 fs_1) ∧ fs_1[0]? = some (va_rf v_2) ∧ (∃ a_3 : Nat, v_2 = some a_3 ∧ ∃ kc_4 ks_5 : Nat, kc_4 ≤ mc ∧ ks_5 ≤ ms ∧ ∃ fs_6 : List Value, ga_at K h a_3 (ga_O 15 fs_6) ∧ gw_J4_put_S K a_3 p1 (some (K.2 4)) h kc_4 ks_5 (fun (r_8 : Option Nat) (h_7 : ga_H) => (r_8 = none → (post (1 : Int32) h_7)) ∧ (∀ a_9 : Nat, r_8 = some a_9 → (post (0 : Int32) h_7))))
set_option maxHeartbeats 4000000 in
theorem gm_J44_add (l : Launch) (g : ga_G) (p0 : Nat) (p1 : Option Nat) (h : ga_H) (mc ms : Nat) (post : Int32 → ga_H → Prop) (hw : gw_J44_add g.2.2 p0 p1 h mc ms post) : Met l yJ44_add (ws_ yJ44_add cJ44_add 2 (some .boolean)) ({ frames := 25, cells := mc, slots := ms, locals := 515 } : Room) (va_Pc [.ref p0, va_rf p1] (ga_B g h)) (va_Qi post (ga_E g) (ga_A g)) mc ms (ga_A g) := by
  refine ga_met (own := "java/util/HashSet") (nm := "add") (by decide) rfl rfl (by cases p1 <;> exact Nat.le_of_ble_eq_true rfl) (fun p e s m below meth c ls hC hI hl => ?_)
  have hl : lv_has ls 2 [(0, .ref p0), (1, va_rf p1)] := (by cases p1 <;> exact hl)
  generalize ([.ref p0, va_rf p1] : List Value).toArray = args at hC ⊢
  obtain ⟨hx, hb, hml, hown, hts, hr, hlk, hnm⟩ := hC
  unfold gw_J44_add at hw
  obtain ⟨H, eH⟩ : ∃ z, z = s.heap := ⟨_, rfl⟩
  obtain ⟨locs, elo⟩ : ∃ z : List Loc, z = [] := ⟨_, rfl⟩
  rw [← eH, ← elo] at hI ⊢
  obtain ⟨cells, slots, hbc, hbs, e0, e1⟩ : ∃ a b : Nat, a + mc ≤ mc ∧ b + ms ≤ ms ∧ a = 0 ∧ b = 0 := ⟨0, 0, by omega, by omega, rfl, rfl⟩
  show W p l e ({ frames := 25, cells := mc, slots := ms, locals := 515 } : Room) s m args below meth c H locs 0 0 (MQ below (va_Qi post (ga_E g) (ga_A g)) args s mc ms (ga_A g)) (F0 m 0 ls [])
  suffices hgoal : W p l e ({ frames := 25, cells := mc, slots := ms, locals := 515 } : Room) s m args below meth c H locs cells slots (MQ below (va_Qi post (ga_E g) (ga_A g)) args s mc ms (ga_A g)) (F0 m 0 ls []) by rw [e0, e1] at hgoal; exact hgoal
  refine lv_aload_n hx hb dJ44_add_0 rfl (lv_at hl 0 rfl) ?_
  obtain ⟨fs_1, v_2, hq, hv, hw⟩ := hw
  refine ga_get (ci := 21) (T := TJ44) (v := va_rf v_2) hx hb hts hown hI in_J44 rfl 0 (by decide) q3450 (fun _ z => z) (ga_at.h hq) hv dJ44_add_1 ?_
  refine ga_aload_n hx hb dJ44_add_4 rfl (lv_at hl 1 rfl) ?_
  refine ga_sget (v := .ref (g.2.2.2 4)) hx hb hts hown hI 6 rfl q3435 (fun _ z => z) dJ44_add_5 ?_
  obtain ⟨a_3, ea_3, hw⟩ := hw
  rewrite [ea_3]
  obtain ⟨kc_4, ks_5, hk1, hk2, hw⟩ := hw
  obtain ⟨fs_6, hq, hw⟩ := hw
  refine ga_callq (va_runV (As := [va_rf p1, va_rf (some (g.2.2.2 4))]) (rest := []) ⟨hx, hb, hml, hown, hts⟩ (gm_J4_put_S l g a_3 p1 (some (g.2.2.2 4)) h kc_4 ks_5 _ hw) (cwV 2 hts (lw_V q3437 q2550 q2551 q106 q2552) rfl rfl rfl ⟨rfl, hdG_J4_put_S⟩ ⟨Nat.le_of_ble_eq_true rfl, Nat.le_of_ble_eq_true rfl⟩) (ga_preV hI hq rfl rfl) rfl rfl hl.1 rfl (ga_room (Nat.le_of_ble_eq_true rfl)) dJ44_add_8 ⟨Nat.le_trans (Nat.add_le_add_left hk1 _) hbc, Nat.le_trans (Nat.add_le_add_left hk2 _) hbs⟩) hI hbc hbs hk1 hk2 (fun r_8 h_7 H locs cells slots hw hI hbc hbs => ?_)
  refine ga_ifnonnull (tgt := 18) hx hb dJ44_add_11 (by decide) (fun a_9 hc_a_9 => ?_) (fun hc_a_9 => ?_)
  · have hw := hw.2 a_9 hc_a_9
    skip
    refine lv_iconst (v := 0) hx hb dJ44_add_18 (by decide) ?_
    exact ga_iret hx hb hr rfl hlk hI hw (Nat.le_trans (Nat.le_add_right _ _) hbc) (Nat.le_trans (Nat.le_add_right _ _) hbs) dJ44_add_19
  · have hw := hw.1 hc_a_9
    refine lv_iconst (v := 1) hx hb dJ44_add_14 (by decide) ?_
    refine lv_goto (tgt := 19) hx hb dJ44_add_15 (by decide) ?_
    exact ga_iret hx hb hr rfl hlk hI hw (Nat.le_trans (Nat.le_add_right _ _) hbc) (Nat.le_trans (Nat.le_add_right _ _) hbs) dJ44_add_19
theorem hdG_J44_add : yJ44_add.cls ≠ "java/lang/invoke/MethodHandle" ∧ yJ44_add.cls ≠ "java/lang/invoke/VarHandle" ∧ (parseMethodDescriptor yJ44_add.desc).map (fun d => d.parameters.length) = some 1 := by decide +kernel
def gw_J0_addAll (K : ga_K) (p0 : Nat) (p1 : Option Nat) (h : ga_H) (mc ms : Nat) (post : Int32 → ga_H → Prop) (xp : String → Nat → ga_H → Prop) : Prop :=
  ∃ a_1 : Nat, p1 = some a_1 ∧ ∃ kc_2 ks_3 : Nat, kc_2 ≤ mc ∧ ks_3 ≤ ms ∧ ∃ fs_4 : List Value, ga_at K h a_1 (ga_O 26 fs_4) ∧ gw_J47_iterator K a_1 h kc_2 ks_3 (fun (r_6 : Option Nat) (h_5 : ga_H) => ∃ (In_7 : Int32 → ga_H → Nat → Nat → Prop) (mu_7 : Int32 → ga_H → Nat → Nat → Nat), In_7 (0 : Int32) h_5 (mc - kc_2) (ms - ks_3) ∧ ∀ (x2_7 : Int32) (h_7 : ga_H) (bc_7 : Nat) (bs_7 : Nat), In_7 x2_7 h_7 bc_7 bs_7 → (∃ a_8 : Nat, r_6 = some a_8 ∧ ∃ fs_9 : List Value, ga_at K h_7 a_8 (ga_O 27 fs_9) ∧ gw_J22_hasNext K a_8 h_7 (fun (r_11 : Int32) (h_10 : ga_H) => (r_11 = (0 : Int32) → (zt_nar .boolean x2_7 ∧ post x2_7 h_10)) ∧ (¬ r_11 = (0 : Int32) → (∃ a_13 : Nat, r_6 = some a_13 ∧ ∃ kc_14 ks_15 : Nat, kc_14 ≤ bc_7 ∧ ks_15 ≤ bs_7 ∧ ∃ fs_16 : List Value, ga_at K h_10 a_13 (ga_O 27 fs_16) ∧ gw_J22_next K a_13 h_10 kc_14 ks_15 (fun (r_18 : Option Nat) (h_17 : ga_H) => ∃ kc_22 ks_23 : Nat, kc_22 ≤ (bc_7 - kc_14) ∧ ks_23 ≤ (bs_7 - ks_15) ∧ ∃ fs_24 : List Value, ga_at K h_17 p0 (ga_O 21 fs_24) ∧ gw_J44_add K p0 r_18 h_17 kc_22 ks_23 (fun (r_26 : Int32) (h_25 : ga_H) => (r_26 = (0 : Int32) → (In_7 x2_7 h_25 ((bc_7 - kc_14) - kc_22) ((bs_7 - ks_15) - ks_23) ∧ mu_7 x2_7 h_25 ((bc_7 - kc_14) - kc_22) ((bs_7 - ks_15) - ks_23) < mu_7 x2_7 h_7 bc_7 bs_7)) ∧ (¬ r_26 = (0 : Int32) → (In_7 (1 : Int32) h_25 ((bc_7 - kc_14) - kc_22) ((bs_7 - ks_15) - ks_23) ∧ mu_7 (1 : Int32) h_25 ((bc_7 - kc_14) - kc_22) ((bs_7 - ks_15) - ks_23) < mu_7 x2_7 h_7 bc_7 bs_7)))) (fun (E_19 : String) (q_20 : Nat) (h_21 : ga_H) => False))))))
set_option maxHeartbeats 4000000 in
theorem gm_J0_addAll (l : Launch) (hst : l.stackTraces = false) (g : ga_G) (p0 : Nat) (p1 : Option Nat) (h : ga_H) (mc ms : Nat) (post : Int32 → ga_H → Prop) (xp : String → Nat → ga_H → Prop) (hw : gw_J0_addAll g.2.2 p0 p1 h mc ms post xp) : vx_Met l yJ0_addAll (ws_ yJ0_addAll cJ0_addAll 5 (some .boolean)) ({ frames := 26, cells := mc, slots := ms, locals := 536 } : Room) (va_Pc [.ref p0, va_rf p1] (ga_B g h)) (va_Qi post (ga_E g) (ga_A g)) (ga_X g xp) mc ms (ga_A g) := by
  refine ga_metx (own := "java/util/AbstractCollection") (nm := "addAll") (by decide) rfl rfl (by cases p1 <;> exact Nat.le_of_ble_eq_true rfl) (fun p e s m below meth c ls hC htab hI hl => ?_)
  have hl : lv_has ls 5 [(0, .ref p0), (1, va_rf p1)] := (by cases p1 <;> exact hl)
  generalize ([.ref p0, va_rf p1] : List Value).toArray = args at hC ⊢
  obtain ⟨hx, hb, hml, hown, hts, hr, hlk, hnm⟩ := hC
  unfold gw_J0_addAll at hw
  obtain ⟨H, eH⟩ : ∃ z, z = s.heap := ⟨_, rfl⟩
  obtain ⟨locs, elo⟩ : ∃ z : List Loc, z = [] := ⟨_, rfl⟩
  rw [← eH, ← elo] at hI ⊢
  obtain ⟨cells, slots, hbc, hbs, e0, e1⟩ : ∃ a b : Nat, a + mc ≤ mc ∧ b + ms ≤ ms ∧ a = 0 ∧ b = 0 := ⟨0, 0, by omega, by omega, rfl, rfl⟩
  show W p l e ({ frames := 26, cells := mc, slots := ms, locals := 536 } : Room) s m args below meth c H locs 0 0 (vx_MQ below (va_Qi post (ga_E g) (ga_A g)) (ga_X g xp) args s mc ms (ga_A g)) (F0 m 0 ls [])
  suffices hgoal : W p l e ({ frames := 26, cells := mc, slots := ms, locals := 536 } : Room) s m args below meth c H locs cells slots (vx_MQ below (va_Qi post (ga_E g) (ga_A g)) (ga_X g xp) args s mc ms (ga_A g)) (F0 m 0 ls []) by rw [e0, e1] at hgoal; exact hgoal
  refine lv_iconst (v := 0) hx hb dJ0_addAll_0 (by decide) ?_
  refine lv_istore_n (i := 2) (lv' := [(2, .int (0 : Int32)), (0, .ref p0), (1, va_rf p1)]) hx hb dJ0_addAll_1 rfl hl (by decide) (by simp [ga_rcat, ga_cat_r, ga_cat_i, ga_cat_f, ga_cat_l, ga_cat_d]) (fun ls hl => ?_)
  refine ga_aload_n hx hb dJ0_addAll_2 rfl (lv_at hl 2 rfl) ?_
  obtain ⟨a_1, ea_1, hw⟩ := hw
  rewrite [ea_1]
  obtain ⟨kc_2, ks_3, hk1, hk2, hw⟩ := hw
  obtain ⟨fs_4, hq, hw⟩ := hw
  refine ga_callFq (va_runF (As := []) (rest := []) (hI.2.1.1.1.1 26 _ rfl).2 ⟨hx, hb, hml, hown, hts⟩ (gm_J47_iterator l g a_1 h kc_2 ks_3 _ hw) (va_cwF 0 hts (lw_app (List.forall_mem_cons.mpr ⟨q3417, List.forall_mem_cons.mpr ⟨q3425, List.forall_mem_cons.mpr ⟨q665, List.forall_mem_cons.mpr ⟨q163, fun _ h => absurd h List.not_mem_nil⟩⟩⟩⟩) (lw_meth q666)) rfl rfl rfl (hI.2.1.1.2.2 _ _ _ ⟨by decide +kernel, q3419, q3418, q1176, q1178, q1151⟩) (by decide +kernel) ⟨Nat.le_of_ble_eq_true rfl, Nat.le_of_ble_eq_true rfl⟩) (ga_preV (C := "java/util/ImmutableCollections$ListN") hI hq rfl rfl) rfl rfl hl.1 rfl (ga_room (Nat.le_of_ble_eq_true rfl)) dJ0_addAll_3 ⟨Nat.le_trans (Nat.add_le_add_left hk1 _) hbc, Nat.le_trans (Nat.add_le_add_left hk2 _) hbs⟩) hI hbc hbs hk1 hk2 (fun r_6 h_5 H locs cells slots hw hI hbc hbs => ?_)
  refine ga_astore_n (i := 3) (x := r_6) (lv' := [(3, va_rf r_6), (2, .int (0 : Int32)), (0, .ref p0), (1, va_rf p1)]) hx hb dJ0_addAll_8 rfl hl (by decide) rfl (fun ls hl => ?_)
  obtain ⟨In_7, mu_7, h0_7, hw⟩ := hw
  have hL_7 : ∀ (n : Nat) (x2_7 : Int32) (h_7 : ga_H) (bc_7 : Nat) (bs_7 : Nat) (H : Heap) (locs : List Loc) (cells slots : Nat) (ls : Array Slot), mu_7 x2_7 h_7 bc_7 bs_7 < n → In_7 x2_7 h_7 bc_7 bs_7 → ga_I g h_7 s H locs → cells + bc_7 ≤ mc → slots + bs_7 ≤ ms → lv_has ls 5 [(0, .ref p0), (2, .int x2_7), (3, va_rf r_6)] → W p l e ({ frames := 26, cells := mc, slots := ms, locals := 536 } : Room) s m args below meth c H locs cells slots (vx_MQ below (va_Qi post (ga_E g) (ga_A g)) (ga_X g xp) args s mc ms (ga_A g)) (F0 m 9 ls []) := by
    intro n
    induction n with
    | zero => intro x2_7 h_7 bc_7 bs_7 H locs cells slots ls hn _ _ _ _ _; exact absurd hn (Nat.not_lt_zero _)
    | succ n ih_7 =>
      intro x2_7 h_7 bc_7 bs_7 H locs cells slots ls hn_7 hi_7 hI hbc hbs hl
      have hw := hw x2_7 h_7 bc_7 bs_7 hi_7
      refine ga_aload_n hx hb dJ0_addAll_9 rfl (lv_at hl 2 rfl) ?_
      obtain ⟨a_8, ea_8, hw⟩ := hw
      rewrite [ea_8]
      obtain ⟨fs_9, hq, hw⟩ := hw
      refine ga_callFi (va_runF (As := []) (rest := []) (hI.2.1.1.1.1 27 _ rfl).2 ⟨hx, hb, hml, hown, hts⟩ (gm_J22_hasNext l g a_8 h_7 _ hw) (va_cwF 0 hts (lw_app (List.forall_mem_cons.mpr ⟨q692, List.forall_mem_cons.mpr ⟨q711, List.forall_mem_cons.mpr ⟨q713, List.forall_mem_cons.mpr ⟨q128, fun _ h => absurd h List.not_mem_nil⟩⟩⟩⟩) (lw_meth q715)) rfl rfl rfl (hI.2.1.1.2.2 _ _ _ ⟨by decide +kernel, q694, q693, q714, q712, q710⟩) (by decide +kernel) ⟨Nat.le_of_ble_eq_true rfl, Nat.le_of_ble_eq_true rfl⟩) (ga_preV (C := "java/util/ImmutableCollections$ListItr") hI hq rfl rfl) rfl rfl hl.1 rfl (ga_room (Nat.le_of_ble_eq_true rfl)) dJ0_addAll_10 ⟨Nat.le_trans (Nat.add_le_add_left (Nat.zero_le _) _) hbc, Nat.le_trans (Nat.add_le_add_left (Nat.zero_le _) _) hbs⟩) hI hbc hbs (Nat.zero_le _) (Nat.zero_le _) (fun r_11 h_10 H locs cells slots hw hI hbc hbs => ?_)
      refine lv_if_eq (tgt := 40) hx hb dJ0_addAll_15 (by decide) (fun hc_12 => ?_) (fun hc_12 => ?_)
      · have hw := hw.1 hc_12
        refine lv_iload_n hx hb dJ0_addAll_40 rfl (lv_at hl 1 rfl) ?_
        exact ga_iretx hx hb hr hw.1 hlk hI hw.2 (Nat.le_trans (Nat.le_add_right _ _) hbc) (Nat.le_trans (Nat.le_add_right _ _) hbs) dJ0_addAll_41
      · have hw := hw.2 hc_12
        refine ga_aload_n hx hb dJ0_addAll_18 rfl (lv_at hl 2 rfl) ?_
        obtain ⟨a_13, ea_13, hw⟩ := hw
        rewrite [ea_13]
        obtain ⟨kc_14, ks_15, hk1, hk2, hw⟩ := hw
        obtain ⟨fs_16, hq, hw⟩ := hw
        refine ga_xcallFq (vx_runFW (As := []) (rest := []) (hI.2.1.1.1.1 27 _ rfl).2 ⟨hx, hb, hml, hown, hts⟩ (gm_J22_next l hst g a_13 h_10 kc_14 ks_15 _ _ hw) (va_cwFW 0 hts (lw_app (List.forall_mem_cons.mpr ⟨q718, List.forall_mem_cons.mpr ⟨q827, List.forall_mem_cons.mpr ⟨q829, List.forall_mem_cons.mpr ⟨q128, fun _ h => absurd h List.not_mem_nil⟩⟩⟩⟩) (lw_methW q831)) rfl rfl rfl (hI.2.1.1.2.2 _ _ _ ⟨by decide +kernel, q720, q719, q830, q828, q710⟩) (by decide +kernel) ⟨Nat.le_of_ble_eq_true rfl, Nat.le_of_ble_eq_true rfl⟩) (ga_preV (C := "java/util/ImmutableCollections$ListItr") hI hq rfl rfl) rfl rfl hl.1 rfl (ga_room (Nat.le_of_ble_eq_true rfl)) dJ0_addAll_19 ⟨Nat.le_trans (Nat.add_le_add_left hk1 _) hbc, Nat.le_trans (Nat.add_le_add_left hk2 _) hbs⟩) hI hbc hbs hk1 hk2 (fun E_19 q_20 h_21 ce H locs cells slots hw hI hce hbc hbs => ?_) (fun r_18 h_17 H locs cells slots hw hI hbc hbs => ?_)
        · exact hw.elim
        · skip
          refine ga_astore (x := r_18) (lv' := [(4, va_rf r_18), (0, .ref p0), (2, .int x2_7), (3, va_rf r_6)]) hx hb dJ0_addAll_24 hl (by decide) (by simp [ga_rcat, ga_cat_r, ga_cat_i, ga_cat_f, ga_cat_l, ga_cat_d]) (fun ls hl => ?_)
          refine lv_aload_n hx hb dJ0_addAll_26 rfl (lv_at hl 1 rfl) ?_
          refine ga_aload hx hb dJ0_addAll_27 (lv_at hl 0 rfl) ?_
          obtain ⟨kc_22, ks_23, hk1, hk2, hw⟩ := hw
          obtain ⟨fs_24, hq, hw⟩ := hw
          refine ga_calli (va_runU (As := [va_rf r_18]) (rest := []) ⟨hx, hb, hml, hown, hts⟩ (gm_J44_add l g p0 r_18 h_17 kc_22 ks_23 _ hw) (va_cwO 1 hts (lw_app (List.forall_mem_cons.mpr ⟨q3426, List.forall_mem_cons.mpr ⟨q3428, List.forall_mem_cons.mpr ⟨q3427, List.forall_mem_cons.mpr ⟨q3432, List.forall_mem_cons.mpr ⟨q3433, List.forall_mem_cons.mpr ⟨q160, fun _ h => absurd h List.not_mem_nil⟩⟩⟩⟩⟩⟩) (lw_meth q3434)) rfl rfl rfl q3447 (by decide +kernel) ⟨Nat.le_of_ble_eq_true rfl, Nat.le_of_ble_eq_true rfl⟩) (ga_preV (C := "java/util/HashSet") hI hq rfl rfl) rfl rfl hl.1 rfl (ga_room (Nat.le_of_ble_eq_true rfl)) dJ0_addAll_29 ⟨Nat.le_trans (Nat.add_le_add_left hk1 _) hbc, Nat.le_trans (Nat.add_le_add_left hk2 _) hbs⟩) hI hbc hbs hk1 hk2 (fun r_26 h_25 H locs cells slots hw hI hbc hbs => ?_)
          refine lv_if_eq (tgt := 37) hx hb dJ0_addAll_32 (by decide) (fun hc_27 => ?_) (fun hc_27 => ?_)
          · have hw := hw.1 hc_27
            refine lv_goto (tgt := 9) hx hb dJ0_addAll_37 (by decide) ?_
            exact ih_7 _ _ _ _ H locs cells slots ls (Nat.lt_of_lt_of_le hw.2 (Nat.le_of_lt_succ hn_7)) hw.1 hI hbc hbs (lv_sub hl [1, 2, 3] rfl)
          · have hw := hw.2 hc_27
            refine lv_iconst (v := 1) hx hb dJ0_addAll_35 (by decide) ?_
            refine lv_istore_n (i := 2) (lv' := [(2, .int (1 : Int32)), (4, va_rf r_18), (0, .ref p0), (3, va_rf r_6)]) hx hb dJ0_addAll_36 rfl hl (by decide) rfl (fun ls hl => ?_)
            refine lv_goto (tgt := 9) hx hb dJ0_addAll_37 (by decide) ?_
            exact ih_7 _ _ _ _ H locs cells slots ls (Nat.lt_of_lt_of_le hw.2 (Nat.le_of_lt_succ hn_7)) hw.1 hI hbc hbs (lv_sub hl [2, 0, 3] rfl)
  exact hL_7 _ _ _ _ _ H locs cells slots ls (Nat.lt_succ_self _) h0_7 hI hbc hbs (lv_sub hl [2, 1, 0] rfl)
theorem hdG_J0_addAll : yJ0_addAll.cls ≠ "java/lang/invoke/MethodHandle" ∧ yJ0_addAll.cls ≠ "java/lang/invoke/VarHandle" ∧ (parseMethodDescriptor yJ0_addAll.desc).map (fun d => d.parameters.length) = some 1 := by decide +kernel
def gw_J44_init (K : ga_K) (p0 : Nat) (p1 : Option Nat) (h : ga_H) (mc ms : Nat) (post : ga_H → Prop) (xp : String → Nat → ga_H → Prop) : Prop :=
  gw_J20_init K p0 h (fun (h_1 : ga_H) => ∃ a_2 : Nat, p1 = some a_2 ∧ ∃ fs_3 : List Value, ga_at K h_1 a_2 (ga_O 26 fs_3) ∧ gw_J49_size K a_2 h_1 (fun (r_5 : Int32) (h_4 : ga_H) => ∀ r_6 : Int32, r_6 = (if r_5 < (12 : Int32) then (12 : Int32) else r_5) → (∃ kc_7 ks_8 : Nat, kc_7 ≤ mc ∧ ks_8 ≤ ms ∧ gw_J4_newHashMap K r_6 h_4 kc_7 ks_8 (fun (r_10 : Option Nat) (h_9 : ga_H) => ∃ fs_14 : List Value, h_9 p0 = some (ga_O 21 fs_14) ∧ 0 < fs_14.length ∧ ∀ h_15 : ga_H, h_15 = ga_set h_9 p0 (ga_O 21 (fs_14.set 0 (va_rf r_10))) → (∃ kc_16 ks_17 : Nat, kc_16 ≤ (mc - kc_7) ∧ ks_17 ≤ (ms - ks_8) ∧ ∃ fs_18 : List Value, ga_at K h_15 p0 (ga_O 21 fs_18) ∧ gw_J0_addAll K p0 p1 h_15 kc_16 ks_17 (fun (r_20 : Int32) (h_19 : ga_H) => post h_19) (fun (E_21 : String) (q_22 : Nat) (h_23 : ga_H) => False))) (fun (E_11 : String) (q_12 : Nat) (h_13 : ga_H) => False))))
set_option maxHeartbeats 4000000 in
theorem gm_J44_init (l : Launch) (hst : l.stackTraces = false) (g : ga_G) (p0 : Nat) (p1 : Option Nat) (h : ga_H) (mc ms : Nat) (post : ga_H → Prop) (xp : String → Nat → ga_H → Prop) (hw : gw_J44_init g.2.2 p0 p1 h mc ms post xp) : vx_Met l yJ44_init (ws_ yJ44_init cJ44_init 2 none) ({ frames := 27, cells := mc, slots := ms, locals := 1356 } : Room) (va_Pc [.ref p0, va_rf p1] (ga_B g h)) (va_Qv post (ga_E g) (ga_A g)) (ga_X g xp) mc ms (ga_A g) := by
  refine ga_metx (own := "java/util/HashSet") (nm := "<init>") (by decide) rfl rfl (by cases p1 <;> exact Nat.le_of_ble_eq_true rfl) (fun p e s m below meth c ls hC htab hI hl => ?_)
  have hl : lv_has ls 2 [(0, .ref p0), (1, va_rf p1)] := (by cases p1 <;> exact hl)
  generalize ([.ref p0, va_rf p1] : List Value).toArray = args at hC ⊢
  obtain ⟨hx, hb, hml, hown, hts, hr, hlk, hnm⟩ := hC
  unfold gw_J44_init at hw
  obtain ⟨H, eH⟩ : ∃ z, z = s.heap := ⟨_, rfl⟩
  obtain ⟨locs, elo⟩ : ∃ z : List Loc, z = [] := ⟨_, rfl⟩
  rw [← eH, ← elo] at hI ⊢
  obtain ⟨cells, slots, hbc, hbs, e0, e1⟩ : ∃ a b : Nat, a + mc ≤ mc ∧ b + ms ≤ ms ∧ a = 0 ∧ b = 0 := ⟨0, 0, by omega, by omega, rfl, rfl⟩
  show W p l e ({ frames := 27, cells := mc, slots := ms, locals := 1356 } : Room) s m args below meth c H locs 0 0 (vx_MQ below (va_Qv post (ga_E g) (ga_A g)) (ga_X g xp) args s mc ms (ga_A g)) (F0 m 0 ls [])
  suffices hgoal : W p l e ({ frames := 27, cells := mc, slots := ms, locals := 1356 } : Room) s m args below meth c H locs cells slots (vx_MQ below (va_Qv post (ga_E g) (ga_A g)) (ga_X g xp) args s mc ms (ga_A g)) (F0 m 0 ls []) by rw [e0, e1] at hgoal; exact hgoal
  refine lv_aload_n hx hb dJ44_init_0 rfl (lv_at hl 0 rfl) ?_
  refine ga_callv (va_runI (As := []) (rest := []) ⟨hx, hb, hml, hown, hts⟩ (gm_J20_init l g p0 h _ hw) (cwI 0 hts (lw_meth q642) rfl rfl rfl (hts _ q126) (hts _ q2937) (hts _ q641) rfl hdG_J20_init ⟨Nat.le_of_ble_eq_true rfl, Nat.le_of_ble_eq_true rfl⟩) (ga_preS hI rfl) rfl rfl hl.1 rfl (ga_room (Nat.le_of_ble_eq_true rfl)) dJ44_init_1 ⟨Nat.le_trans (Nat.add_le_add_left (Nat.zero_le _) _) hbc, Nat.le_trans (Nat.add_le_add_left (Nat.zero_le _) _) hbs⟩) hI hbc hbs (Nat.zero_le _) (Nat.zero_le _) (fun h_1 H locs cells slots hw hI hbc hbs => ?_)
  refine lv_aload_n hx hb dJ44_init_4 rfl (lv_at hl 0 rfl) ?_
  refine ga_aload_n hx hb dJ44_init_5 rfl (lv_at hl 1 rfl) ?_
  obtain ⟨a_2, ea_2, hw⟩ := hw
  rewrite [ea_2]
  obtain ⟨fs_3, hq, hw⟩ := hw
  refine ga_callFi (va_runF (As := []) (rest := [.ref p0]) (hI.2.1.1.1.1 26 _ rfl).2 ⟨hx, hb, hml, hown, hts⟩ (gm_J49_size l g a_2 h_1 _ hw) (va_cwF 0 hts (lw_app (List.forall_mem_cons.mpr ⟨q2939, List.forall_mem_cons.mpr ⟨q2953, List.forall_mem_cons.mpr ⟨q557, List.forall_mem_cons.mpr ⟨q165, fun _ h => absurd h List.not_mem_nil⟩⟩⟩⟩) (lw_meth q558)) rfl rfl rfl (hI.2.1.1.2.2 _ _ _ ⟨by decide +kernel, q2941, q2940, q2346, q2345, q1151⟩) (by decide +kernel) ⟨Nat.le_of_ble_eq_true rfl, Nat.le_of_ble_eq_true rfl⟩) (ga_preV (C := "java/util/ImmutableCollections$ListN") hI hq rfl rfl) rfl rfl hl.1 rfl (ga_room (Nat.le_of_ble_eq_true rfl)) dJ44_init_6 ⟨Nat.le_trans (Nat.add_le_add_left (Nat.zero_le _) _) hbc, Nat.le_trans (Nat.add_le_add_left (Nat.zero_le _) _) hbs⟩) hI hbc hbs (Nat.zero_le _) (Nat.zero_le _) (fun r_5 h_4 H locs cells slots hw hI hbc hbs => ?_)
  refine lv_bipush (v := 12) hx hb dJ44_init_11 (by decide) ?_
  refine va_mmax hx hb (hml.trans hl.1.symm) hown (hts _ q2954) (hts _ q899) (hts _ q119) (hts _ q900) (Nat.le_of_ble_eq_true rfl) (Nat.le_trans (Nat.add_le_add_right (ga_sum [.ref p0] (Nat.le_of_ble_eq_true rfl)) _) (Nat.le_of_ble_eq_true rfl)) (Nat.le_trans (Nat.le_add_right _ _) hbc) (Nat.le_trans (Nat.le_add_right _ _) hbs) dJ44_init_13 ?_
  refine lv_topi (fun r_6 er_6 => ?_)
  have hw := hw r_6 er_6
  obtain ⟨kc_7, ks_8, hk1, hk2, hw⟩ := hw
  refine ga_xcallq (vx_runS (As := [.int r_6]) (rest := [.ref p0]) ⟨hx, hb, hml, hown, hts⟩ (gm_J4_newHashMap l hst g r_6 h_4 kc_7 ks_8 _ _ hw) (va_cwS 1 hts (lw_S q2955 q2956 q106 q2957) rfl rfl rfl hdG_J4_newHashMap ⟨Nat.le_of_ble_eq_true rfl, Nat.le_of_ble_eq_true rfl⟩) (ga_preS hI rfl) rfl rfl hl.1 rfl (ga_room (Nat.le_of_ble_eq_true rfl)) dJ44_init_16 ⟨Nat.le_trans (Nat.add_le_add_left hk1 _) hbc, Nat.le_trans (Nat.add_le_add_left hk2 _) hbs⟩) hI hbc hbs hk1 hk2 (fun E_11 q_12 h_13 ce H locs cells slots hw hI hce hbc hbs => ?_) (fun r_10 h_9 H locs cells slots hw hI hbc hbs => ?_)
  · exact hw.elim
  · skip
    obtain ⟨fs_14, hq, hk, hw⟩ := hw
    refine ga_put (ci := 21) (T := TJ44) (v := va_rf r_10) (ty := tyJ44 0) hx hb hts hown hI in_J44 rfl tyJ44 tyJ44_ok nmJ44 0 (by decide) q3450 (fun _ z => z) rfl (tyJ44_ok 0 (by decide)) (ga_nq _ _) (ga_fq _ _) hq hk dJ44_init_19 (fun H locs hI => ?_)
    obtain ⟨h_15, eh_15⟩ : ∃ z, z = ga_set h_9 p0 (ga_O 21 (fs_14.set 0 (va_rf r_10))) := ⟨_, rfl⟩
    rw [← eh_15] at hI
    have hw := hw h_15 eh_15
    refine lv_aload_n hx hb dJ44_init_22 rfl (lv_at hl 0 rfl) ?_
    refine ga_aload_n hx hb dJ44_init_23 rfl (lv_at hl 1 rfl) ?_
    obtain ⟨kc_16, ks_17, hk1, hk2, hw⟩ := hw
    obtain ⟨fs_18, hq, hw⟩ := hw
    refine ga_xcalli (vx_runU (As := [va_rf p1]) (rest := []) ⟨hx, hb, hml, hown, hts⟩ (gm_J0_addAll l hst g p0 p1 h_15 kc_16 ks_17 _ _ hw) (va_cwU 1 hts (lw_app (List.forall_mem_cons.mpr ⟨q3410, List.forall_mem_cons.mpr ⟨q3411, List.forall_mem_cons.mpr ⟨q3413, List.forall_mem_cons.mpr ⟨q3414, List.forall_mem_cons.mpr ⟨q102, fun _ h => absurd h List.not_mem_nil⟩⟩⟩⟩⟩) (lw_meth q3415)) rfl rfl rfl rfl hdG_J0_addAll ⟨Nat.le_of_ble_eq_true rfl, Nat.le_of_ble_eq_true rfl⟩) (ga_preV (C := "java/util/HashSet") hI hq rfl rfl) rfl rfl hl.1 rfl (ga_room (Nat.le_of_ble_eq_true rfl)) dJ44_init_24 ⟨Nat.le_trans (Nat.add_le_add_left hk1 _) hbc, Nat.le_trans (Nat.add_le_add_left hk2 _) hbs⟩) hI hbc hbs hk1 hk2 (fun E_21 q_22 h_23 ce H locs cells slots hw hI hce hbc hbs => ?_) (fun r_20 h_19 H locs cells slots hw hI hbc hbs => ?_)
    · exact hw.elim
    · skip
      refine lv_pop hx hb dJ44_init_27 rfl ?_
      exact ga_vretx hx hb hr hlk hI hw (Nat.le_trans (Nat.le_add_right _ _) hbc) (Nat.le_trans (Nat.le_add_right _ _) hbs) dJ44_init_28
theorem hdG_J44_init : yJ44_init.cls ≠ "java/lang/invoke/MethodHandle" ∧ yJ44_init.cls ≠ "java/lang/invoke/VarHandle" ∧ (parseMethodDescriptor yJ44_init.desc).map (fun d => d.parameters.length) = some 1 := by decide +kernel
def gw_J4_getNode_S_137 (K : ga_K) (post : Option Nat → ga_H → Prop) (hd99 : Option Nat → ga_H → Nat → Nat → Prop) (p0 : Nat) (v1 : Option Nat) (v4 : Option Nat) (v6 : Int32) (h : ga_H) (bc bs : Nat) : Prop :=
  ∃ a_33 : Nat, v4 = some a_33 ∧ ∃ (fs_34 : List Value) (v_35 : Option Nat), h a_33 = some (ga_O 16 fs_34) ∧ fs_34[3]? = some (va_rf v_35) ∧ ((v_35 = none → (post none h)) ∧ (∀ a_36 : Nat, v_35 = some a_36 → (hd99 v_35 h bc bs)))
set_option maxHeartbeats 4000000 in
theorem gj_J4_getNode_S_137 {p : Program} {l : Launch} {e : Env} {s : State} {m : MethodId} {args : Array Value} {below : List Frame} {meth : Method} {c : Code} {mc ms : Nat} {H : Heap} {locs : List Loc} {cells slots : Nat} {ls : Array Slot} (g : ga_G) (post : Option Nat → ga_H → Prop) (hd99 : Option Nat → ga_H → Nat → Nat → Prop) (p0 : Nat) (v1 : Option Nat) (v4 : Option Nat) (v6 : Int32) (h : ga_H) (bc bs : Nat) (hC : ga_Cx p s m args meth c cJ4_getNode 8 (some (.object "java/util/HashMap$Node")) "java/util/HashMap" "getNode") (hw : gw_J4_getNode_S_137 g.2.2 post hd99 p0 v1 v4 v6 h bc bs) (hhd99 : ∀ (y0 : Option Nat) (T : ga_H) (B1 : Nat) (B2 : Nat) (H : Heap) (locs : List Loc) (cells slots : Nat) (ls : Array Slot), hd99 y0 T B1 B2 → ga_I g T s H locs → cells + B1 ≤ mc → slots + B2 ≤ ms → lv_has ls 8 [(1, va_rf v1), (4, va_rf y0), (6, .int v6)] → W p l e ({ frames := 24, cells := mc, slots := ms, locals := 493 } : Room) s m args below meth c H locs cells slots (MQ below (va_Qq post (ga_E g) (ga_A g)) args s mc ms (ga_A g)) (F0 m 99 ls [])) (hI : ga_I g h s H locs) (hbc : cells + bc ≤ mc) (hbs : slots + bs ≤ ms) (hl : lv_has ls 8 [(1, va_rf v1), (4, va_rf v4), (6, .int v6)]) : W p l e ({ frames := 24, cells := mc, slots := ms, locals := 493 } : Room) s m args below meth c H locs cells slots (MQ below (va_Qq post (ga_E g) (ga_A g)) args s mc ms (ga_A g)) (F0 m 137 ls []) := by
  obtain ⟨hx, hb, hml, hown, hts, hr, hlk, hnm⟩ := hC
  unfold gw_J4_getNode_S_137 at hw
  refine ga_aload hx hb dJ4_getNode_137 (lv_at hl 1 rfl) ?_
  obtain ⟨a_33, ea_33, hw⟩ := hw
  rewrite [ea_33]
  obtain ⟨fs_34, v_35, hq, hv, hw⟩ := hw
  refine ga_get (ci := 16) (T := TJ32) (v := va_rf v_35) hx hb hts hown hI in_J32 rfl 3 (by decide) q1513 (fun _ z => z) (ga_at.h hq) hv dJ4_getNode_139 ?_
  refine lv_dup hx hb dJ4_getNode_142 (ga_rcat _) ?_
  refine ga_astore (x := v_35) (lv' := [(4, va_rf v_35), (1, va_rf v1), (6, .int v6)]) hx hb dJ4_getNode_143 hl (by decide) rfl (fun ls hl => ?_)
  refine ga_ifnonnull (tgt := 99) hx hb dJ4_getNode_145 (by decide) (fun a_36 hc_a_36 => ?_) (fun hc_a_36 => ?_)
  · have hw := hw.2 a_36 hc_a_36
    skip
    exact hhd99 _ _ _ _ H locs cells slots ls hw hI hbc hbs (lv_sub hl [1, 0, 2] rfl)
  · have hw := hw.1 hc_a_36
    refine lv_null hx hb dJ4_getNode_148 ?_
    exact ga_qret (v := none) hx hb hr (Or.inl ⟨_, rfl⟩) hlk hI hw (Nat.le_trans (Nat.le_add_right _ _) hbc) (Nat.le_trans (Nat.le_add_right _ _) hbs) dJ4_getNode_149
def gw_J4_getNode_S_71 (K : ga_K) (post : Option Nat → ga_H → Prop) (p0 : Nat) (v1 : Option Nat) (v3 : Option Nat) (v6 : Int32) (h : ga_H) (bc bs : Nat) : Prop :=
  ∃ a_21 : Nat, v3 = some a_21 ∧ ∃ (fs_22 : List Value) (v_23 : Option Nat), h a_21 = some (ga_O 16 fs_22) ∧ fs_22[3]? = some (va_rf v_23) ∧ ((v_23 = none → (post none h)) ∧ (∀ a_24 : Nat, v_23 = some a_24 → (∃ a_26 : Nat, v3 = some a_26 ∧ ∃ fs_25 : List Value, ga_at K h a_26 (ga_O 16 fs_25) ∧ (∃ (In_28 : Option Nat → ga_H → Nat → Nat → Prop) (mu_28 : Option Nat → ga_H → Nat → Nat → Nat), In_28 v_23 h bc bs ∧ ∀ (x4_28 : Option Nat) (h_28 : ga_H) (bc_28 : Nat) (bs_28 : Nat), In_28 x4_28 h_28 bc_28 bs_28 → (∃ a_29 : Nat, x4_28 = some a_29 ∧ ∃ (fs_30 : List Value) (v_31 : Int32), h_28 a_29 = some (ga_O 16 fs_30) ∧ fs_30[0]? = some (.int v_31) ∧ ((¬ v_31 = v6 → (gw_J4_getNode_S_137 K post (fun (y0 : Option Nat) (T : ga_H) (B1 : Nat) (B2 : Nat) => In_28 y0 T B1 B2 ∧ mu_28 y0 T B1 B2 < mu_28 x4_28 h_28 bc_28 bs_28) p0 v1 x4_28 v6 h_28 bc_28 bs_28)) ∧ (v_31 = v6 → (∃ a_37 : Nat, x4_28 = some a_37 ∧ ∃ (fs_38 : List Value) (v_39 : Option Nat), h_28 a_37 = some (ga_O 16 fs_38) ∧ fs_38[1]? = some (va_rf v_39) ∧ ((v_39 = v1 → (post x4_28 h_28)) ∧ (¬ v_39 = v1 → ((v1 = none → (gw_J4_getNode_S_137 K post (fun (y0 : Option Nat) (T : ga_H) (B1 : Nat) (B2 : Nat) => In_28 y0 T B1 B2 ∧ mu_28 y0 T B1 B2 < mu_28 x4_28 h_28 bc_28 bs_28) p0 v1 x4_28 v6 h_28 bc_28 bs_28)) ∧ (∀ a_41 : Nat, v1 = some a_41 → (∃ a_42 : Nat, v1 = some a_42 ∧ ∃ fs_43 : List Value, ga_at K h_28 a_42 (ga_O 23 fs_43) ∧ gw_J7_equals K a_42 v_39 h_28 (fun (r_45 : Int32) (h_44 : ga_H) => (r_45 = (0 : Int32) → (gw_J4_getNode_S_137 K post (fun (y0 : Option Nat) (T : ga_H) (B1 : Nat) (B2 : Nat) => In_28 y0 T B1 B2 ∧ mu_28 y0 T B1 B2 < mu_28 x4_28 h_28 bc_28 bs_28) p0 v1 x4_28 v6 h_44 bc_28 bs_28)) ∧ (¬ r_45 = (0 : Int32) → (post x4_28 h_44))))))))))))))))
set_option maxHeartbeats 4000000 in
theorem gj_J4_getNode_S_71 {p : Program} {l : Launch} {e : Env} {s : State} {m : MethodId} {args : Array Value} {below : List Frame} {meth : Method} {c : Code} {mc ms : Nat} {H : Heap} {locs : List Loc} {cells slots : Nat} {ls : Array Slot} (g : ga_G) (post : Option Nat → ga_H → Prop) (p0 : Nat) (v1 : Option Nat) (v3 : Option Nat) (v6 : Int32) (h : ga_H) (bc bs : Nat) (hC : ga_Cx p s m args meth c cJ4_getNode 8 (some (.object "java/util/HashMap$Node")) "java/util/HashMap" "getNode") (hw : gw_J4_getNode_S_71 g.2.2 post p0 v1 v3 v6 h bc bs) (hI : ga_I g h s H locs) (hbc : cells + bc ≤ mc) (hbs : slots + bs ≤ ms) (hl : lv_has ls 8 [(1, va_rf v1), (3, va_rf v3), (6, .int v6)]) : W p l e ({ frames := 24, cells := mc, slots := ms, locals := 493 } : Room) s m args below meth c H locs cells slots (MQ below (va_Qq post (ga_E g) (ga_A g)) args s mc ms (ga_A g)) (F0 m 71 ls []) := by
  obtain ⟨hx, hb, hml, hown, hts, hr, hlk, hnm⟩ := hC
  unfold gw_J4_getNode_S_71 at hw
  refine ga_aload_n hx hb dJ4_getNode_71 rfl (lv_at hl 1 rfl) ?_
  obtain ⟨a_21, ea_21, hw⟩ := hw
  rewrite [ea_21]
  obtain ⟨fs_22, v_23, hq, hv, hw⟩ := hw
  refine ga_get (ci := 16) (T := TJ32) (v := va_rf v_23) hx hb hts hown hI in_J32 rfl 3 (by decide) q1513 (fun _ z => z) (ga_at.h hq) hv dJ4_getNode_72 ?_
  refine lv_dup hx hb dJ4_getNode_75 (ga_rcat _) ?_
  refine ga_astore (x := v_23) (lv' := [(4, va_rf v_23), (1, va_rf v1), (3, va_rf v3), (6, .int v6)]) hx hb dJ4_getNode_76 hl (by decide) (by simp [ga_rcat, ga_cat_r, ga_cat_i, ga_cat_f, ga_cat_l, ga_cat_d]) (fun ls hl => ?_)
  refine ga_ifnull (tgt := 148) hx hb dJ4_getNode_78 (by decide) (fun hc_a_24 => ?_) (fun a_24 hc_a_24 => ?_)
  · have hw := hw.1 hc_a_24
    refine lv_null hx hb dJ4_getNode_148 ?_
    exact ga_qret (v := none) hx hb hr (Or.inl ⟨_, rfl⟩) hlk hI hw (Nat.le_trans (Nat.le_add_right _ _) hbc) (Nat.le_trans (Nat.le_add_right _ _) hbs) dJ4_getNode_149
  · have hw := hw.2 a_24 hc_a_24
    skip
    refine ga_aload_n hx hb dJ4_getNode_81 rfl (lv_at hl 2 rfl) ?_
    obtain ⟨a_26, ea_26, hw⟩ := hw
    rewrite [ea_26]
    obtain ⟨fs_25, hq, hw⟩ := hw
    refine ga_instN (ci := 16) hx hb hts hown hI q1478 hq rfl (List.mem_of_getElem? (i := 0) rfl) dJ4_getNode_82 ?_
    refine lv_if_eq (tgt := 99) hx hb dJ4_getNode_85 (by decide) (fun _ => ?_) (fun hc_27 => by first | exact absurd hc_27 (by decide) | exact absurd (by decide) hc_27)
    obtain ⟨In_28, mu_28, h0_28, hw⟩ := hw
    have hL_28 : ∀ (n : Nat) (x4_28 : Option Nat) (h_28 : ga_H) (bc_28 : Nat) (bs_28 : Nat) (H : Heap) (locs : List Loc) (cells slots : Nat) (ls : Array Slot), mu_28 x4_28 h_28 bc_28 bs_28 < n → In_28 x4_28 h_28 bc_28 bs_28 → ga_I g h_28 s H locs → cells + bc_28 ≤ mc → slots + bs_28 ≤ ms → lv_has ls 8 [(1, va_rf v1), (4, va_rf x4_28), (6, .int v6)] → W p l e ({ frames := 24, cells := mc, slots := ms, locals := 493 } : Room) s m args below meth c H locs cells slots (MQ below (va_Qq post (ga_E g) (ga_A g)) args s mc ms (ga_A g)) (F0 m 99 ls []) := by
      intro n
      induction n with
      | zero => intro x4_28 h_28 bc_28 bs_28 H locs cells slots ls hn _ _ _ _ _; exact absurd hn (Nat.not_lt_zero _)
      | succ n ih_28 =>
        intro x4_28 h_28 bc_28 bs_28 H locs cells slots ls hn_28 hi_28 hI hbc hbs hl
        have hw := hw x4_28 h_28 bc_28 bs_28 hi_28
        refine ga_aload hx hb dJ4_getNode_99 (lv_at hl 1 rfl) ?_
        obtain ⟨a_29, ea_29, hw⟩ := hw
        rewrite [ea_29]
        obtain ⟨fs_30, v_31, hq, hv, hw⟩ := hw
        refine ga_get (ci := 16) (T := TJ32) (v := .int v_31) hx hb hts hown hI in_J32 rfl 0 (by decide) q1500 (fun _ z => z) (ga_at.h hq) hv dJ4_getNode_101 ?_
        refine lv_iload hx hb dJ4_getNode_104 (lv_at hl 2 rfl) ?_
        refine lv_icmp_ne (tgt := 137) hx hb dJ4_getNode_106 (by decide) (fun hc_32 => ?_) (fun hc_32 => ?_)
        · have hw := hw.1 hc_32
          exact gj_J4_getNode_S_137 g post (fun (y0 : Option Nat) (T : ga_H) (B1 : Nat) (B2 : Nat) => In_28 y0 T B1 B2 ∧ mu_28 y0 T B1 B2 < mu_28 x4_28 h_28 bc_28 bs_28) p0 v1 x4_28 v6 h_28 bc_28 bs_28 ⟨hx, hb, hml, hown, hts, hr, hlk, hnm⟩ hw (fun _y0 _y1 _y2 _y3 H locs cells slots ls hw hI hbc hbs hl => ih_28 _ _ _ _ H locs cells slots ls (Nat.lt_of_lt_of_le hw.2 (Nat.le_of_lt_succ hn_28)) hw.1 hI hbc hbs hl) hI hbc hbs (lv_sub hl [0, 1, 2] rfl)
        · have hw := hw.2 hc_32
          refine ga_aload hx hb dJ4_getNode_109 (lv_at hl 1 rfl) ?_
          obtain ⟨a_37, ea_37, hw⟩ := hw
          rewrite [ea_37]
          obtain ⟨fs_38, v_39, hq, hv, hw⟩ := hw
          refine ga_get (ci := 16) (T := TJ32) (v := va_rf v_39) hx hb hts hown hI in_J32 rfl 1 (by decide) q1505 (fun _ z => z) (ga_at.h hq) hv dJ4_getNode_111 ?_
          refine lv_dup hx hb dJ4_getNode_114 (ga_rcat _) ?_
          refine ga_astore (x := v_39) (lv' := [(7, va_rf v_39), (1, va_rf v1), (4, va_rf x4_28), (6, .int v6)]) hx hb dJ4_getNode_115 hl (by decide) rfl (fun ls hl => ?_)
          refine ga_aload_n hx hb dJ4_getNode_117 rfl (lv_at hl 1 rfl) ?_
          refine lv_acmp_eq (rx := v_39) (ry := v1) (tgt := 134) hx hb dJ4_getNode_118 (by decide) (fun hc_40 => ?_) (fun hc_40 => ?_)
          · have hw := hw.1 hc_40
            refine ga_aload hx hb dJ4_getNode_134 (lv_at hl 2 rfl) ?_
            exact ga_qret (v := x4_28) hx hb hr (Or.inl ⟨_, rfl⟩) hlk hI hw (Nat.le_trans (Nat.le_add_right _ _) hbc) (Nat.le_trans (Nat.le_add_right _ _) hbs) dJ4_getNode_136
          · have hw := hw.2 hc_40
            refine ga_aload_n hx hb dJ4_getNode_121 rfl (lv_at hl 1 rfl) ?_
            refine ga_ifnull (tgt := 137) hx hb dJ4_getNode_122 (by decide) (fun hc_a_41 => ?_) (fun a_41 hc_a_41 => ?_)
            · have hw := hw.1 hc_a_41
              exact gj_J4_getNode_S_137 g post (fun (y0 : Option Nat) (T : ga_H) (B1 : Nat) (B2 : Nat) => In_28 y0 T B1 B2 ∧ mu_28 y0 T B1 B2 < mu_28 x4_28 h_28 bc_28 bs_28) p0 v1 x4_28 v6 h_28 bc_28 bs_28 ⟨hx, hb, hml, hown, hts, hr, hlk, hnm⟩ hw (fun _y0 _y1 _y2 _y3 H locs cells slots ls hw hI hbc hbs hl => ih_28 _ _ _ _ H locs cells slots ls (Nat.lt_of_lt_of_le hw.2 (Nat.le_of_lt_succ hn_28)) hw.1 hI hbc hbs hl) hI hbc hbs (lv_sub hl [1, 2, 3] rfl)
            · have hw := hw.2 a_41 hc_a_41
              skip
              refine ga_aload_n hx hb dJ4_getNode_125 rfl (lv_at hl 1 rfl) ?_
              refine ga_aload hx hb dJ4_getNode_126 (lv_at hl 0 rfl) ?_
              obtain ⟨a_42, ea_42, hw⟩ := hw
              rewrite [ea_42]
              obtain ⟨fs_43, hq, hw⟩ := hw
              refine ga_calli (va_runU (As := [va_rf v_39]) (rest := []) ⟨hx, hb, hml, hown, hts⟩ (gm_J7_equals l g a_42 v_39 h_28 _ hw) (va_cwO 1 hts (lw_app (List.forall_mem_cons.mpr ⟨q1901, List.forall_mem_cons.mpr ⟨q1903, List.forall_mem_cons.mpr ⟨q1902, List.forall_mem_cons.mpr ⟨q1934, List.forall_mem_cons.mpr ⟨q1935, List.forall_mem_cons.mpr ⟨q111, fun _ h => absurd h List.not_mem_nil⟩⟩⟩⟩⟩⟩) (lw_meth q1936)) rfl rfl rfl q1946 (by decide +kernel) ⟨Nat.le_of_ble_eq_true rfl, Nat.le_of_ble_eq_true rfl⟩) (ga_preV (C := "java/lang/String") hI hq rfl rfl) rfl rfl hl.1 rfl (ga_room (Nat.le_of_ble_eq_true rfl)) dJ4_getNode_128 ⟨Nat.le_trans (Nat.add_le_add_left (Nat.zero_le _) _) hbc, Nat.le_trans (Nat.add_le_add_left (Nat.zero_le _) _) hbs⟩) hI hbc hbs (Nat.zero_le _) (Nat.zero_le _) (fun r_45 h_44 H locs cells slots hw hI hbc hbs => ?_)
              refine lv_if_eq (tgt := 137) hx hb dJ4_getNode_131 (by decide) (fun hc_46 => ?_) (fun hc_46 => ?_)
              · have hw := hw.1 hc_46
                exact gj_J4_getNode_S_137 g post (fun (y0 : Option Nat) (T : ga_H) (B1 : Nat) (B2 : Nat) => In_28 y0 T B1 B2 ∧ mu_28 y0 T B1 B2 < mu_28 x4_28 h_28 bc_28 bs_28) p0 v1 x4_28 v6 h_44 bc_28 bs_28 ⟨hx, hb, hml, hown, hts, hr, hlk, hnm⟩ hw (fun _y0 _y1 _y2 _y3 H locs cells slots ls hw hI hbc hbs hl => ih_28 _ _ _ _ H locs cells slots ls (Nat.lt_of_lt_of_le hw.2 (Nat.le_of_lt_succ hn_28)) hw.1 hI hbc hbs hl) hI hbc hbs (lv_sub hl [1, 2, 3] rfl)
              · have hw := hw.2 hc_46
                refine ga_aload hx hb dJ4_getNode_134 (lv_at hl 2 rfl) ?_
                exact ga_qret (v := x4_28) hx hb hr (Or.inl ⟨_, rfl⟩) hlk hI hw (Nat.le_trans (Nat.le_add_right _ _) hbc) (Nat.le_trans (Nat.le_add_right _ _) hbs) dJ4_getNode_136
    exact hL_28 _ _ _ _ _ H locs cells slots ls (Nat.lt_succ_self _) h0_28 hI hbc hbs (lv_sub hl [1, 0, 3] rfl)
def gw_J4_getNode_S (K : ga_K) (p0 : Nat) (p1 : Option Nat) (h : ga_H) (mc ms : Nat) (post : Option Nat → ga_H → Prop) : Prop :=
  ∃ (fs_1 : List Value) (v_2 : Option Nat), h p0 = some (ga_O 15 fs_1) ∧ fs_1[2]? = some (va_rf v_2) ∧ ((v_2 = none → (post none h)) ∧ (∀ a_3 : Nat, v_2 = some a_3 → (∃ a_4 : Nat, v_2 = some a_4 ∧ ∃ (n_5 : Nat) (f_6 : Nat → Option Nat), h a_4 = some (ga_Aq 8 n_5 f_6) ∧ ((nI n_5 ≤ (0 : Int32) → (post none h)) ∧ (¬ nI n_5 ≤ (0 : Int32) → (∃ kc_8 ks_9 : Nat, kc_8 ≤ mc ∧ ks_9 ≤ ms ∧ gw_J4_hash_S K p1 h kc_8 ks_9 (fun (r_11 : Int32) (h_10 : ga_H) => ∃ a_12 : Nat, v_2 = some a_12 ∧ ∃ (n_13 : Nat) (f_14 : Nat → Option Nat), h_10 a_12 = some (ga_Aq 8 n_13 f_14) ∧ vp_in (((nI n_5) - (1 : Int32)) &&& r_11) n_13 ∧ ∀ v_15 : Option Nat, v_15 = f_14 (((nI n_5) - (1 : Int32)) &&& r_11).toNatClampNeg → ((v_15 = none → (post none h_10)) ∧ (∀ a_16 : Nat, v_15 = some a_16 → (∃ a_17 : Nat, v_15 = some a_17 ∧ ∃ (fs_18 : List Value) (v_19 : Int32), h_10 a_17 = some (ga_O 16 fs_18) ∧ fs_18[0]? = some (.int v_19) ∧ ((¬ v_19 = r_11 → (gw_J4_getNode_S_71 K post p0 p1 v_15 r_11 h_10 (mc - kc_8) (ms - ks_9))) ∧ (v_19 = r_11 → (∃ a_47 : Nat, v_15 = some a_47 ∧ ∃ (fs_48 : List Value) (v_49 : Option Nat), h_10 a_47 = some (ga_O 16 fs_48) ∧ fs_48[1]? = some (va_rf v_49) ∧ ((v_49 = p1 → (post v_15 h_10)) ∧ (¬ v_49 = p1 → ((p1 = none → (gw_J4_getNode_S_71 K post p0 p1 v_15 r_11 h_10 (mc - kc_8) (ms - ks_9))) ∧ (∀ a_51 : Nat, p1 = some a_51 → (∃ a_52 : Nat, p1 = some a_52 ∧ ∃ fs_53 : List Value, ga_at K h_10 a_52 (ga_O 23 fs_53) ∧ gw_J7_equals K a_52 v_49 h_10 (fun (r_55 : Int32) (h_54 : ga_H) => (r_55 = (0 : Int32) → (gw_J4_getNode_S_71 K post p0 p1 v_15 r_11 h_54 (mc - kc_8) (ms - ks_9))) ∧ (¬ r_55 = (0 : Int32) → (post v_15 h_54)))))))))))))))))))))
set_option maxHeartbeats 4000000 in
theorem gm_J4_getNode_S (l : Launch) (g : ga_G) (p0 : Nat) (p1 : Option Nat) (h : ga_H) (mc ms : Nat) (post : Option Nat → ga_H → Prop) (hw : gw_J4_getNode_S g.2.2 p0 p1 h mc ms post) : Met l yJ4_getNode (ws_ yJ4_getNode cJ4_getNode 8 (some (.object "java/util/HashMap$Node"))) ({ frames := 24, cells := mc, slots := ms, locals := 493 } : Room) (va_Pc [.ref p0, va_rf p1] (ga_B g h)) (va_Qq post (ga_E g) (ga_A g)) mc ms (ga_A g) := by
  refine ga_met (own := "java/util/HashMap") (nm := "getNode") (by decide) rfl rfl (by cases p1 <;> exact Nat.le_of_ble_eq_true rfl) (fun p e s m below meth c ls hC hI hl => ?_)
  have hl : lv_has ls 8 [(0, .ref p0), (1, va_rf p1)] := (by cases p1 <;> exact hl)
  generalize ([.ref p0, va_rf p1] : List Value).toArray = args at hC ⊢
  obtain ⟨hx, hb, hml, hown, hts, hr, hlk, hnm⟩ := hC
  unfold gw_J4_getNode_S at hw
  obtain ⟨H, eH⟩ : ∃ z, z = s.heap := ⟨_, rfl⟩
  obtain ⟨locs, elo⟩ : ∃ z : List Loc, z = [] := ⟨_, rfl⟩
  rw [← eH, ← elo] at hI ⊢
  obtain ⟨cells, slots, hbc, hbs, e0, e1⟩ : ∃ a b : Nat, a + mc ≤ mc ∧ b + ms ≤ ms ∧ a = 0 ∧ b = 0 := ⟨0, 0, by omega, by omega, rfl, rfl⟩
  show W p l e ({ frames := 24, cells := mc, slots := ms, locals := 493 } : Room) s m args below meth c H locs 0 0 (MQ below (va_Qq post (ga_E g) (ga_A g)) args s mc ms (ga_A g)) (F0 m 0 ls [])
  suffices hgoal : W p l e ({ frames := 24, cells := mc, slots := ms, locals := 493 } : Room) s m args below meth c H locs cells slots (MQ below (va_Qq post (ga_E g) (ga_A g)) args s mc ms (ga_A g)) (F0 m 0 ls []) by rw [e0, e1] at hgoal; exact hgoal
  refine lv_aload_n hx hb dJ4_getNode_0 rfl (lv_at hl 0 rfl) ?_
  obtain ⟨fs_1, v_2, hq, hv, hw⟩ := hw
  refine ga_get (ci := 15) (T := TJ4) (v := va_rf v_2) hx hb hts hown hI in_J4 rfl 2 (by decide) q229 (fun _ z => z) (ga_at.h hq) hv dJ4_getNode_1 ?_
  refine lv_dup hx hb dJ4_getNode_4 (ga_rcat _) ?_
  refine ga_astore_n (i := 2) (x := v_2) (lv' := [(2, va_rf v_2), (0, .ref p0), (1, va_rf p1)]) hx hb dJ4_getNode_5 rfl hl (by decide) (by simp [ga_rcat, ga_cat_r, ga_cat_i, ga_cat_f, ga_cat_l, ga_cat_d]) (fun ls hl => ?_)
  refine ga_ifnull (tgt := 148) hx hb dJ4_getNode_6 (by decide) (fun hc_a_3 => ?_) (fun a_3 hc_a_3 => ?_)
  · have hw := hw.1 hc_a_3
    refine lv_null hx hb dJ4_getNode_148 ?_
    exact ga_qret (v := none) hx hb hr (Or.inl ⟨_, rfl⟩) hlk hI hw (Nat.le_trans (Nat.le_add_right _ _) hbc) (Nat.le_trans (Nat.le_add_right _ _) hbs) dJ4_getNode_149
  · have hw := hw.2 a_3 hc_a_3
    skip
    refine ga_aload_n hx hb dJ4_getNode_9 rfl (lv_at hl 0 rfl) ?_
    obtain ⟨a_4, ea_4, hw⟩ := hw
    rewrite [ea_4]
    obtain ⟨n_5, f_6, hq, hw⟩ := hw
    refine ga_len hx hb hI (ga_at.h hq) rfl dJ4_getNode_10 ?_
    refine lv_dup hx hb dJ4_getNode_11 rfl ?_
    refine lv_istore (lv' := [(5, .int (nI n_5)), (2, va_rf v_2), (0, .ref p0), (1, va_rf p1)]) hx hb dJ4_getNode_12 hl (by decide) rfl (fun ls hl => ?_)
    refine lv_if_le (tgt := 148) hx hb dJ4_getNode_14 (by decide) (fun hc_7 => ?_) (fun hc_7 => ?_)
    · have hw := hw.1 hc_7
      refine lv_null hx hb dJ4_getNode_148 ?_
      exact ga_qret (v := none) hx hb hr (Or.inl ⟨_, rfl⟩) hlk hI hw (Nat.le_trans (Nat.le_add_right _ _) hbc) (Nat.le_trans (Nat.le_add_right _ _) hbs) dJ4_getNode_149
    · have hw := hw.2 hc_7
      refine ga_aload_n hx hb dJ4_getNode_17 rfl (lv_at hl 1 rfl) ?_
      refine lv_iload hx hb dJ4_getNode_18 (lv_at hl 0 rfl) ?_
      refine lv_iconst (v := 1) hx hb dJ4_getNode_20 (by decide) ?_
      refine lv_isub hx hb dJ4_getNode_21 ?_
      refine ga_aload_n hx hb dJ4_getNode_22 rfl (lv_at hl 3 rfl) ?_
      obtain ⟨kc_8, ks_9, hk1, hk2, hw⟩ := hw
      refine ga_calli (va_runS (As := [va_rf p1]) (rest := [.int ((nI n_5) - (1 : Int32)), va_rf v_2]) ⟨hx, hb, hml, hown, hts⟩ (gm_J4_hash_S l g p1 h kc_8 ks_9 _ hw) (va_cwS 1 hts (lw_S q1790 q1791 q106 q1792) rfl rfl rfl hdG_J4_hash_S ⟨Nat.le_of_ble_eq_true rfl, Nat.le_of_ble_eq_true rfl⟩) (ga_preS hI rfl) rfl rfl hl.1 rfl (ga_room (Nat.le_of_ble_eq_true rfl)) dJ4_getNode_23 ⟨Nat.le_trans (Nat.add_le_add_left hk1 _) hbc, Nat.le_trans (Nat.add_le_add_left hk2 _) hbs⟩) hI hbc hbs hk1 hk2 (fun r_11 h_10 H locs cells slots hw hI hbc hbs => ?_)
      refine lv_dup hx hb dJ4_getNode_26 rfl ?_
      refine lv_istore (lv' := [(6, .int r_11), (5, .int (nI n_5)), (2, va_rf v_2), (0, .ref p0), (1, va_rf p1)]) hx hb dJ4_getNode_27 hl (by decide) rfl (fun ls hl => ?_)
      refine lv_iand hx hb dJ4_getNode_29 ?_
      obtain ⟨a_12, ea_12, hw⟩ := hw
      rewrite [ea_12]
      obtain ⟨n_13, f_14, hq, hi, hw⟩ := hw
      refine ga_ldq hx hb hI (ga_at.h hq) rfl hi dJ4_getNode_30 ?_
      obtain ⟨v_15, ev_15⟩ : ∃ z, z = f_14 (((nI n_5) - (1 : Int32)) &&& r_11).toNatClampNeg := ⟨_, rfl⟩
      rw [← ev_15]
      have hw := hw v_15 ev_15
      refine lv_dup hx hb dJ4_getNode_31 (ga_rcat _) ?_
      refine ga_astore_n (i := 3) (x := v_15) (lv' := [(3, va_rf v_15), (6, .int r_11), (5, .int (nI n_5)), (2, va_rf v_2), (0, .ref p0), (1, va_rf p1)]) hx hb dJ4_getNode_32 rfl hl (by decide) (by simp [ga_rcat, ga_cat_r, ga_cat_i, ga_cat_f, ga_cat_l, ga_cat_d]) (fun ls hl => ?_)
      refine ga_ifnull (tgt := 148) hx hb dJ4_getNode_33 (by decide) (fun hc_a_16 => ?_) (fun a_16 hc_a_16 => ?_)
      · have hw := hw.1 hc_a_16
        refine lv_null hx hb dJ4_getNode_148 ?_
        exact ga_qret (v := none) hx hb hr (Or.inl ⟨_, rfl⟩) hlk hI hw (Nat.le_trans (Nat.le_add_right _ _) hbc) (Nat.le_trans (Nat.le_add_right _ _) hbs) dJ4_getNode_149
      · have hw := hw.2 a_16 hc_a_16
        skip
        refine ga_aload_n hx hb dJ4_getNode_36 rfl (lv_at hl 0 rfl) ?_
        obtain ⟨a_17, ea_17, hw⟩ := hw
        rewrite [ea_17]
        obtain ⟨fs_18, v_19, hq, hv, hw⟩ := hw
        refine ga_get (ci := 16) (T := TJ32) (v := .int v_19) hx hb hts hown hI in_J32 rfl 0 (by decide) q1500 (fun _ z => z) (ga_at.h hq) hv dJ4_getNode_37 ?_
        refine lv_iload hx hb dJ4_getNode_40 (lv_at hl 1 rfl) ?_
        refine lv_icmp_ne (tgt := 71) hx hb dJ4_getNode_42 (by decide) (fun hc_20 => ?_) (fun hc_20 => ?_)
        · have hw := hw.1 hc_20
          exact gj_J4_getNode_S_71 g post p0 p1 v_15 r_11 h_10 (mc - kc_8) (ms - ks_9) ⟨hx, hb, hml, hown, hts, hr, hlk, hnm⟩ hw hI hbc hbs (lv_sub hl [5, 0, 1] rfl)
        · have hw := hw.2 hc_20
          refine ga_aload_n hx hb dJ4_getNode_45 rfl (lv_at hl 0 rfl) ?_
          obtain ⟨a_47, ea_47, hw⟩ := hw
          rewrite [ea_47]
          obtain ⟨fs_48, v_49, hq, hv, hw⟩ := hw
          refine ga_get (ci := 16) (T := TJ32) (v := va_rf v_49) hx hb hts hown hI in_J32 rfl 1 (by decide) q1505 (fun _ z => z) (ga_at.h hq) hv dJ4_getNode_46 ?_
          refine lv_dup hx hb dJ4_getNode_49 (ga_rcat _) ?_
          refine ga_astore (x := v_49) (lv' := [(7, va_rf v_49), (3, va_rf v_15), (6, .int r_11), (5, .int (nI n_5)), (2, va_rf v_2), (0, .ref p0), (1, va_rf p1)]) hx hb dJ4_getNode_50 hl (by decide) rfl (fun ls hl => ?_)
          refine ga_aload_n hx hb dJ4_getNode_52 rfl (lv_at hl 6 rfl) ?_
          refine lv_acmp_eq (rx := v_49) (ry := p1) (tgt := 69) hx hb dJ4_getNode_53 (by decide) (fun hc_50 => ?_) (fun hc_50 => ?_)
          · have hw := hw.1 hc_50
            refine ga_aload_n hx hb dJ4_getNode_69 rfl (lv_at hl 1 rfl) ?_
            exact ga_qret (v := v_15) hx hb hr (Or.inl ⟨_, rfl⟩) hlk hI hw (Nat.le_trans (Nat.le_add_right _ _) hbc) (Nat.le_trans (Nat.le_add_right _ _) hbs) dJ4_getNode_70
          · have hw := hw.2 hc_50
            refine ga_aload_n hx hb dJ4_getNode_56 rfl (lv_at hl 6 rfl) ?_
            refine ga_ifnull (tgt := 71) hx hb dJ4_getNode_57 (by decide) (fun hc_a_51 => ?_) (fun a_51 hc_a_51 => ?_)
            · have hw := hw.1 hc_a_51
              exact gj_J4_getNode_S_71 g post p0 p1 v_15 r_11 h_10 (mc - kc_8) (ms - ks_9) ⟨hx, hb, hml, hown, hts, hr, hlk, hnm⟩ hw hI hbc hbs (lv_sub hl [6, 1, 2] rfl)
            · have hw := hw.2 a_51 hc_a_51
              skip
              refine ga_aload_n hx hb dJ4_getNode_60 rfl (lv_at hl 6 rfl) ?_
              refine ga_aload hx hb dJ4_getNode_61 (lv_at hl 0 rfl) ?_
              obtain ⟨a_52, ea_52, hw⟩ := hw
              rewrite [ea_52]
              obtain ⟨fs_53, hq, hw⟩ := hw
              refine ga_calli (va_runU (As := [va_rf v_49]) (rest := []) ⟨hx, hb, hml, hown, hts⟩ (gm_J7_equals l g a_52 v_49 h_10 _ hw) (va_cwO 1 hts (lw_app (List.forall_mem_cons.mpr ⟨q1901, List.forall_mem_cons.mpr ⟨q1903, List.forall_mem_cons.mpr ⟨q1902, List.forall_mem_cons.mpr ⟨q1934, List.forall_mem_cons.mpr ⟨q1935, List.forall_mem_cons.mpr ⟨q111, fun _ h => absurd h List.not_mem_nil⟩⟩⟩⟩⟩⟩) (lw_meth q1936)) rfl rfl rfl q1946 (by decide +kernel) ⟨Nat.le_of_ble_eq_true rfl, Nat.le_of_ble_eq_true rfl⟩) (ga_preV (C := "java/lang/String") hI hq rfl rfl) rfl rfl hl.1 rfl (ga_room (Nat.le_of_ble_eq_true rfl)) dJ4_getNode_63 ⟨Nat.le_trans (Nat.add_le_add_left (Nat.zero_le _) _) hbc, Nat.le_trans (Nat.add_le_add_left (Nat.zero_le _) _) hbs⟩) hI hbc hbs (Nat.zero_le _) (Nat.zero_le _) (fun r_55 h_54 H locs cells slots hw hI hbc hbs => ?_)
              refine lv_if_eq (tgt := 71) hx hb dJ4_getNode_66 (by decide) (fun hc_56 => ?_) (fun hc_56 => ?_)
              · have hw := hw.1 hc_56
                exact gj_J4_getNode_S_71 g post p0 p1 v_15 r_11 h_54 (mc - kc_8) (ms - ks_9) ⟨hx, hb, hml, hown, hts, hr, hlk, hnm⟩ hw hI hbc hbs (lv_sub hl [6, 1, 2] rfl)
              · have hw := hw.2 hc_56
                refine ga_aload_n hx hb dJ4_getNode_69 rfl (lv_at hl 1 rfl) ?_
                exact ga_qret (v := v_15) hx hb hr (Or.inl ⟨_, rfl⟩) hlk hI hw (Nat.le_trans (Nat.le_add_right _ _) hbc) (Nat.le_trans (Nat.le_add_right _ _) hbs) dJ4_getNode_70
theorem hdG_J4_getNode_S : yJ4_getNode.cls ≠ "java/lang/invoke/MethodHandle" ∧ yJ4_getNode.cls ≠ "java/lang/invoke/VarHandle" ∧ (parseMethodDescriptor yJ4_getNode.desc).map (fun d => d.parameters.length) = some 1 := by decide +kernel
def gw_J4_containsKey_S (K : ga_K) (p0 : Nat) (p1 : Option Nat) (h : ga_H) (mc ms : Nat) (post : Int32 → ga_H → Prop) : Prop :=
  ∃ kc_1 ks_2 : Nat, kc_1 ≤ mc ∧ ks_2 ≤ ms ∧ ∃ fs_3 : List Value, ga_at K h p0 (ga_O 15 fs_3) ∧ gw_J4_getNode_S K p0 p1 h kc_1 ks_2 (fun (r_5 : Option Nat) (h_4 : ga_H) => (r_5 = none → (post (0 : Int32) h_4)) ∧ (∀ a_6 : Nat, r_5 = some a_6 → (post (1 : Int32) h_4)))
set_option maxHeartbeats 4000000 in
theorem gm_J4_containsKey_S (l : Launch) (g : ga_G) (p0 : Nat) (p1 : Option Nat) (h : ga_H) (mc ms : Nat) (post : Int32 → ga_H → Prop) (hw : gw_J4_containsKey_S g.2.2 p0 p1 h mc ms post) : Met l yJ4_containsKey (ws_ yJ4_containsKey cJ4_containsKey 2 (some .boolean)) ({ frames := 25, cells := mc, slots := ms, locals := 520 } : Room) (va_Pc [.ref p0, va_rf p1] (ga_B g h)) (va_Qi post (ga_E g) (ga_A g)) mc ms (ga_A g) := by
  refine ga_met (own := "java/util/HashMap") (nm := "containsKey") (by decide) rfl rfl (by cases p1 <;> exact Nat.le_of_ble_eq_true rfl) (fun p e s m below meth c ls hC hI hl => ?_)
  have hl : lv_has ls 2 [(0, .ref p0), (1, va_rf p1)] := (by cases p1 <;> exact hl)
  generalize ([.ref p0, va_rf p1] : List Value).toArray = args at hC ⊢
  obtain ⟨hx, hb, hml, hown, hts, hr, hlk, hnm⟩ := hC
  unfold gw_J4_containsKey_S at hw
  obtain ⟨H, eH⟩ : ∃ z, z = s.heap := ⟨_, rfl⟩
  obtain ⟨locs, elo⟩ : ∃ z : List Loc, z = [] := ⟨_, rfl⟩
  rw [← eH, ← elo] at hI ⊢
  obtain ⟨cells, slots, hbc, hbs, e0, e1⟩ : ∃ a b : Nat, a + mc ≤ mc ∧ b + ms ≤ ms ∧ a = 0 ∧ b = 0 := ⟨0, 0, by omega, by omega, rfl, rfl⟩
  show W p l e ({ frames := 25, cells := mc, slots := ms, locals := 520 } : Room) s m args below meth c H locs 0 0 (MQ below (va_Qi post (ga_E g) (ga_A g)) args s mc ms (ga_A g)) (F0 m 0 ls [])
  suffices hgoal : W p l e ({ frames := 25, cells := mc, slots := ms, locals := 520 } : Room) s m args below meth c H locs cells slots (MQ below (va_Qi post (ga_E g) (ga_A g)) args s mc ms (ga_A g)) (F0 m 0 ls []) by rw [e0, e1] at hgoal; exact hgoal
  refine lv_aload_n hx hb dJ4_containsKey_0 rfl (lv_at hl 0 rfl) ?_
  refine ga_aload_n hx hb dJ4_containsKey_1 rfl (lv_at hl 1 rfl) ?_
  obtain ⟨kc_1, ks_2, hk1, hk2, hw⟩ := hw
  obtain ⟨fs_3, hq, hw⟩ := hw
  refine ga_callq (va_runV (As := [va_rf p1]) (rest := []) ⟨hx, hb, hml, hown, hts⟩ (gm_J4_getNode_S l g p0 p1 h kc_1 ks_2 _ hw) (cwV 1 hts (lw_V q2516 q2517 q2518 q106 q2519) rfl rfl rfl ⟨rfl, hdG_J4_getNode_S⟩ ⟨Nat.le_of_ble_eq_true rfl, Nat.le_of_ble_eq_true rfl⟩) (ga_preV hI hq rfl rfl) rfl rfl hl.1 rfl (ga_room (Nat.le_of_ble_eq_true rfl)) dJ4_containsKey_2 ⟨Nat.le_trans (Nat.add_le_add_left hk1 _) hbc, Nat.le_trans (Nat.add_le_add_left hk2 _) hbs⟩) hI hbc hbs hk1 hk2 (fun r_5 h_4 H locs cells slots hw hI hbc hbs => ?_)
  refine ga_ifnull (tgt := 12) hx hb dJ4_containsKey_5 (by decide) (fun hc_a_6 => ?_) (fun a_6 hc_a_6 => ?_)
  · have hw := hw.1 hc_a_6
    refine lv_iconst (v := 0) hx hb dJ4_containsKey_12 (by decide) ?_
    exact ga_iret hx hb hr rfl hlk hI hw (Nat.le_trans (Nat.le_add_right _ _) hbc) (Nat.le_trans (Nat.le_add_right _ _) hbs) dJ4_containsKey_13
  · have hw := hw.2 a_6 hc_a_6
    skip
    refine lv_iconst (v := 1) hx hb dJ4_containsKey_8 (by decide) ?_
    refine lv_goto (tgt := 13) hx hb dJ4_containsKey_9 (by decide) ?_
    exact ga_iret hx hb hr rfl hlk hI hw (Nat.le_trans (Nat.le_add_right _ _) hbc) (Nat.le_trans (Nat.le_add_right _ _) hbs) dJ4_containsKey_13
theorem hdG_J4_containsKey_S : yJ4_containsKey.cls ≠ "java/lang/invoke/MethodHandle" ∧ yJ4_containsKey.cls ≠ "java/lang/invoke/VarHandle" ∧ (parseMethodDescriptor yJ4_containsKey.desc).map (fun d => d.parameters.length) = some 1 := by decide +kernel
def gw_J44_contains (K : ga_K) (p0 : Nat) (p1 : Option Nat) (h : ga_H) (mc ms : Nat) (post : Int32 → ga_H → Prop) : Prop :=
  ∃ (fs_1 : List Value) (v_2 : Option Nat), h p0 = some (ga_O 21 fs_1) ∧ fs_1[0]? = some (va_rf v_2) ∧ (∃ a_3 : Nat, v_2 = some a_3 ∧ ∃ kc_4 ks_5 : Nat, kc_4 ≤ mc ∧ ks_5 ≤ ms ∧ ∃ fs_6 : List Value, ga_at K h a_3 (ga_O 15 fs_6) ∧ gw_J4_containsKey_S K a_3 p1 h kc_4 ks_5 (fun (r_8 : Int32) (h_7 : ga_H) => zt_nar .boolean r_8 ∧ post r_8 h_7))
set_option maxHeartbeats 4000000 in
theorem gm_J44_contains (l : Launch) (g : ga_G) (p0 : Nat) (p1 : Option Nat) (h : ga_H) (mc ms : Nat) (post : Int32 → ga_H → Prop) (hw : gw_J44_contains g.2.2 p0 p1 h mc ms post) : Met l yJ44_contains (ws_ yJ44_contains cJ44_contains 2 (some .boolean)) ({ frames := 26, cells := mc, slots := ms, locals := 541 } : Room) (va_Pc [.ref p0, va_rf p1] (ga_B g h)) (va_Qi post (ga_E g) (ga_A g)) mc ms (ga_A g) := by
  refine ga_met (own := "java/util/HashSet") (nm := "contains") (by decide) rfl rfl (by cases p1 <;> exact Nat.le_of_ble_eq_true rfl) (fun p e s m below meth c ls hC hI hl => ?_)
  have hl : lv_has ls 2 [(0, .ref p0), (1, va_rf p1)] := (by cases p1 <;> exact hl)
  generalize ([.ref p0, va_rf p1] : List Value).toArray = args at hC ⊢
  obtain ⟨hx, hb, hml, hown, hts, hr, hlk, hnm⟩ := hC
  unfold gw_J44_contains at hw
  obtain ⟨H, eH⟩ : ∃ z, z = s.heap := ⟨_, rfl⟩
  obtain ⟨locs, elo⟩ : ∃ z : List Loc, z = [] := ⟨_, rfl⟩
  rw [← eH, ← elo] at hI ⊢
  obtain ⟨cells, slots, hbc, hbs, e0, e1⟩ : ∃ a b : Nat, a + mc ≤ mc ∧ b + ms ≤ ms ∧ a = 0 ∧ b = 0 := ⟨0, 0, by omega, by omega, rfl, rfl⟩
  show W p l e ({ frames := 26, cells := mc, slots := ms, locals := 541 } : Room) s m args below meth c H locs 0 0 (MQ below (va_Qi post (ga_E g) (ga_A g)) args s mc ms (ga_A g)) (F0 m 0 ls [])
  suffices hgoal : W p l e ({ frames := 26, cells := mc, slots := ms, locals := 541 } : Room) s m args below meth c H locs cells slots (MQ below (va_Qi post (ga_E g) (ga_A g)) args s mc ms (ga_A g)) (F0 m 0 ls []) by rw [e0, e1] at hgoal; exact hgoal
  refine lv_aload_n hx hb dJ44_contains_0 rfl (lv_at hl 0 rfl) ?_
  obtain ⟨fs_1, v_2, hq, hv, hw⟩ := hw
  refine ga_get (ci := 21) (T := TJ44) (v := va_rf v_2) hx hb hts hown hI in_J44 rfl 0 (by decide) q3450 (fun _ z => z) (ga_at.h hq) hv dJ44_contains_1 ?_
  refine ga_aload_n hx hb dJ44_contains_4 rfl (lv_at hl 1 rfl) ?_
  obtain ⟨a_3, ea_3, hw⟩ := hw
  rewrite [ea_3]
  obtain ⟨kc_4, ks_5, hk1, hk2, hw⟩ := hw
  obtain ⟨fs_6, hq, hw⟩ := hw
  refine ga_calli (va_runV (As := [va_rf p1]) (rest := []) ⟨hx, hb, hml, hown, hts⟩ (gm_J4_containsKey_S l g a_3 p1 h kc_4 ks_5 _ hw) (cwV 1 hts (lw_V q3493 q2513 q2514 q106 q2515) rfl rfl rfl ⟨rfl, hdG_J4_containsKey_S⟩ ⟨Nat.le_of_ble_eq_true rfl, Nat.le_of_ble_eq_true rfl⟩) (ga_preV hI hq rfl rfl) rfl rfl hl.1 rfl (ga_room (Nat.le_of_ble_eq_true rfl)) dJ44_contains_5 ⟨Nat.le_trans (Nat.add_le_add_left hk1 _) hbc, Nat.le_trans (Nat.add_le_add_left hk2 _) hbs⟩) hI hbc hbs hk1 hk2 (fun r_8 h_7 H locs cells slots hw hI hbc hbs => ?_)
  exact ga_iret hx hb hr hw.1 hlk hI hw.2 (Nat.le_trans (Nat.le_add_right _ _) hbc) (Nat.le_trans (Nat.le_add_right _ _) hbs) dJ44_contains_8
theorem hdG_J44_contains : yJ44_contains.cls ≠ "java/lang/invoke/MethodHandle" ∧ yJ44_contains.cls ≠ "java/lang/invoke/VarHandle" ∧ (parseMethodDescriptor yJ44_contains.desc).map (fun d => d.parameters.length) = some 1 := by decide +kernel
def gw_X12_peek (K : ga_K) (p0 : Nat) (h : ga_H) (post : Int32 → ga_H → Prop) : Prop :=
  ∃ (fs_1 : List Value) (v_2 : Int32), h p0 = some (ga_O 10 fs_1) ∧ fs_1[3]? = some (.int v_2) ∧ (∃ (fs_3 : List Value) (v_4 : Int32), h p0 = some (ga_O 10 fs_3) ∧ fs_3[1]? = some (.int v_4) ∧ ((v_4 ≤ v_2 → (post (0 : Int32) h)) ∧ (¬ v_4 ≤ v_2 → (∃ (fs_6 : List Value) (v_7 : Option Nat), h p0 = some (ga_O 10 fs_6) ∧ fs_6[0]? = some (va_rf v_7) ∧ (∃ (fs_8 : List Value) (v_9 : Int32), h p0 = some (ga_O 10 fs_8) ∧ fs_8[3]? = some (.int v_9) ∧ (∃ a_10 : Nat, v_7 = some a_10 ∧ ∃ (n_11 : Nat) (f_12 : Nat → Int32), h a_10 = some (ga_Ac n_11 f_12) ∧ vp_in v_9 n_11 ∧ (zt_nar .char (f_12 v_9.toNatClampNeg) ∧ post (f_12 v_9.toNatClampNeg) h)))))))
set_option maxHeartbeats 4000000 in
theorem gm_X12_peek (l : Launch) (g : ga_G) (p0 : Nat) (h : ga_H) (post : Int32 → ga_H → Prop) (hw : gw_X12_peek g.2.2 p0 h post) : Met l yX12_peek (ws_ yX12_peek cX12_peek 1 (some .char)) ({ frames := 8, cells := 0, slots := 0, locals := 140 } : Room) (va_Pc [.ref p0] (ga_B g h)) (va_Qi post (ga_E g) (ga_A g)) 0 0 (ga_A g) := by
  refine ga_met (own := "PaperStore$Parser") (nm := "peek") (by decide) rfl rfl (by exact Nat.le_of_ble_eq_true rfl) (fun p e s m below meth c ls hC hI hl => ?_)
  have hl : lv_has ls 1 [(0, .ref p0)] := hl
  generalize ([.ref p0] : List Value).toArray = args at hC ⊢
  obtain ⟨hx, hb, hml, hown, hts, hr, hlk, hnm⟩ := hC
  unfold gw_X12_peek at hw
  obtain ⟨H, eH⟩ : ∃ z, z = s.heap := ⟨_, rfl⟩
  obtain ⟨locs, elo⟩ : ∃ z : List Loc, z = [] := ⟨_, rfl⟩
  rw [← eH, ← elo] at hI ⊢
  obtain ⟨cells, slots, hbc, hbs, e0, e1⟩ : ∃ a b : Nat, a ≤ 0 ∧ b ≤ 0 ∧ a = 0 ∧ b = 0 := ⟨0, 0, by omega, by omega, rfl, rfl⟩
  show W p l e ({ frames := 8, cells := 0, slots := 0, locals := 140 } : Room) s m args below meth c H locs 0 0 (MQ below (va_Qi post (ga_E g) (ga_A g)) args s 0 0 (ga_A g)) (F0 m 0 ls [])
  suffices hgoal : W p l e ({ frames := 8, cells := 0, slots := 0, locals := 140 } : Room) s m args below meth c H locs cells slots (MQ below (va_Qi post (ga_E g) (ga_A g)) args s 0 0 (ga_A g)) (F0 m 0 ls []) by rw [e0, e1] at hgoal; exact hgoal
  refine lv_aload_n hx hb dX12_peek_0 rfl (lv_at hl 0 rfl) ?_
  obtain ⟨fs_1, v_2, hq, hv, hw⟩ := hw
  refine ga_get (ci := 10) (T := TX12) (v := .int v_2) hx hb hts hown hI in_X12 rfl 3 (by decide) q2855 (fun _ z => z) (ga_at.h hq) hv dX12_peek_1 ?_
  refine lv_aload_n hx hb dX12_peek_4 rfl (lv_at hl 0 rfl) ?_
  obtain ⟨fs_3, v_4, hq, hv, hw⟩ := hw
  refine ga_get (ci := 10) (T := TX12) (v := .int v_4) hx hb hts hown hI in_X12 rfl 1 (by decide) q2852 (fun _ z => z) (ga_at.h hq) hv dX12_peek_5 ?_
  refine lv_icmp_ge (tgt := 23) hx hb dX12_peek_8 (by decide) (fun hc_5 => ?_) (fun hc_5 => ?_)
  · have hw := hw.1 hc_5
    refine lv_iconst (v := 0) hx hb dX12_peek_23 (by decide) ?_
    exact ga_iret hx hb hr rfl hlk hI hw hbc hbs dX12_peek_24
  · have hw := hw.2 hc_5
    refine lv_aload_n hx hb dX12_peek_11 rfl (lv_at hl 0 rfl) ?_
    obtain ⟨fs_6, v_7, hq, hv, hw⟩ := hw
    refine ga_get (ci := 10) (T := TX12) (v := va_rf v_7) hx hb hts hown hI in_X12 rfl 0 (by decide) q2851 (fun _ z => z) (ga_at.h hq) hv dX12_peek_12 ?_
    refine lv_aload_n hx hb dX12_peek_15 rfl (lv_at hl 0 rfl) ?_
    obtain ⟨fs_8, v_9, hq, hv, hw⟩ := hw
    refine ga_get (ci := 10) (T := TX12) (v := .int v_9) hx hb hts hown hI in_X12 rfl 3 (by decide) q2855 (fun _ z => z) (ga_at.h hq) hv dX12_peek_16 ?_
    obtain ⟨a_10, ea_10, hw⟩ := hw
    rewrite [ea_10]
    obtain ⟨n_11, f_12, hq, hi, hw⟩ := hw
    refine ga_ldc hx hb hI (ga_at.h hq) hi dX12_peek_19 ?_
    refine lv_goto (tgt := 24) hx hb dX12_peek_20 (by decide) ?_
    exact ga_iret hx hb hr hw.1 hlk hI hw.2 hbc hbs dX12_peek_24
theorem hdG_X12_peek : yX12_peek.cls ≠ "java/lang/invoke/MethodHandle" ∧ yX12_peek.cls ≠ "java/lang/invoke/VarHandle" ∧ (parseMethodDescriptor yX12_peek.desc).map (fun d => d.parameters.length) = some 0 := by decide +kernel
def gw_J28_canEncode (p0 : Int32) (post : Int32 → Prop) : Prop :=
  ((255 : Int32) < p0 → (post (0 : Int32))) ∧ (¬ (255 : Int32) < p0 → (post (1 : Int32)))
set_option maxHeartbeats 4000000 in
theorem gm_J28_canEncode (l : Launch) (p0 : Int32) (post : Int32 → Prop) (hw : gw_J28_canEncode p0 post) : Met l yJ28_canEncode (ws_ yJ28_canEncode cJ28_canEncode 1 (some .boolean)) ({ frames := 8, cells := 0, slots := 0, locals := 140 } : Room) (va_Pc [.int p0] (fun _ => True)) (vp_Si post) 0 0 (fun _ => False) := by
  refine ga_metS (own := "java/lang/StringLatin1") (nm := "canEncode") (by decide) rfl rfl (by exact Nat.le_of_ble_eq_true rfl) (fun p e s m below meth c ls hC hl => ?_)
  have hl : lv_has ls 1 [(0, .int p0)] := hl
  generalize ([.int p0] : List Value).toArray = args at hC ⊢
  obtain ⟨hx, hb, hml, hown, hts, hr, hlk, hnm⟩ := hC
  unfold gw_J28_canEncode at hw
  refine lv_iload_n hx hb dJ28_canEncode_0 rfl (lv_at hl 0 rfl) ?_
  refine lv_sipush (v := 255) hx hb dJ28_canEncode_1 (by decide) ?_
  refine lv_icmp_gt (tgt := 11) hx hb dJ28_canEncode_4 (by decide) (fun hc_1 => ?_) (fun hc_1 => ?_)
  · have hw := hw.1 hc_1
    refine lv_iconst (v := 0) hx hb dJ28_canEncode_11 (by decide) ?_
    exact ga_sret hx hb hr hlk rfl hw dJ28_canEncode_12
  · have hw := hw.2 hc_1
    refine lv_iconst (v := 1) hx hb dJ28_canEncode_7 (by decide) ?_
    refine lv_goto (tgt := 12) hx hb dJ28_canEncode_8 (by decide) ?_
    exact ga_sret hx hb hr hlk rfl hw dJ28_canEncode_12
theorem hdG_J28_canEncode : yJ28_canEncode.cls ≠ "java/lang/invoke/MethodHandle" ∧ yJ28_canEncode.cls ≠ "java/lang/invoke/VarHandle" ∧ (parseMethodDescriptor yJ28_canEncode.desc).map (fun d => d.parameters.length) = some 1 := by decide +kernel
def gw_J5_append_5_56 (K : ga_K) (post : Option Nat → ga_H → Prop) (p0 : Nat) (v1 : Int32) (h : ga_H) (bc bs : Nat) : Prop :=
  False
set_option maxHeartbeats 4000000 in
theorem gj_J5_append_5_56 {p : Program} {l : Launch} {e : Env} {s : State} {m : MethodId} {args : Array Value} {below : List Frame} {meth : Method} {c : Code} {mc ms : Nat} {H : Heap} {locs : List Loc} {cells slots : Nat} {ls : Array Slot} (g : ga_G) (post : Option Nat → ga_H → Prop) (p0 : Nat) (v1 : Int32) (h : ga_H) (bc bs : Nat) (hC : ga_Cx p s m args meth c cJ5_append_5 2 (some (.object "java/lang/AbstractStringBuilder")) "java/lang/AbstractStringBuilder" "append") (hw : gw_J5_append_5_56 g.2.2 post p0 v1 h bc bs) (hI : ga_I g h s H locs) (hbc : cells + bc ≤ mc) (hbs : slots + bs ≤ ms) (hl : lv_has ls 2 [(0, .ref p0), (1, .int v1)]) : W p l e ({ frames := 11, cells := mc, slots := ms, locals := 210 } : Room) s m args below meth c H locs cells slots (MQ below (va_Qq post (ga_E g) (ga_A g)) args s mc ms (ga_A g)) (F0 m 56 ls []) := by
  obtain ⟨hx, hb, hml, hown, hts, hr, hlk, hnm⟩ := hC
  unfold gw_J5_append_5_56 at hw
  exact hw.elim
def gw_J5_append_5_45 (K : ga_K) (post : Option Nat → ga_H → Prop) (p0 : Nat) (v1 : Int32) (h : ga_H) (bc bs : Nat) : Prop :=
  ∃ fs_11 : List Value, ga_at K h p0 (ga_O 22 fs_11) ∧ gw_J5_isLatin1 K p0 h (fun (r_13 : Int32) (h_12 : ga_H) => (r_13 = (0 : Int32) → (gw_J5_append_5_56 K post p0 v1 h_12 bc bs)) ∧ (¬ r_13 = (0 : Int32) → False))
set_option maxHeartbeats 4000000 in
theorem gj_J5_append_5_45 {p : Program} {l : Launch} {e : Env} {s : State} {m : MethodId} {args : Array Value} {below : List Frame} {meth : Method} {c : Code} {mc ms : Nat} {H : Heap} {locs : List Loc} {cells slots : Nat} {ls : Array Slot} (g : ga_G) (post : Option Nat → ga_H → Prop) (p0 : Nat) (v1 : Int32) (h : ga_H) (bc bs : Nat) (hC : ga_Cx p s m args meth c cJ5_append_5 2 (some (.object "java/lang/AbstractStringBuilder")) "java/lang/AbstractStringBuilder" "append") (hw : gw_J5_append_5_45 g.2.2 post p0 v1 h bc bs) (hI : ga_I g h s H locs) (hbc : cells + bc ≤ mc) (hbs : slots + bs ≤ ms) (hl : lv_has ls 2 [(0, .ref p0), (1, .int v1)]) : W p l e ({ frames := 11, cells := mc, slots := ms, locals := 210 } : Room) s m args below meth c H locs cells slots (MQ below (va_Qq post (ga_E g) (ga_A g)) args s mc ms (ga_A g)) (F0 m 45 ls []) := by
  obtain ⟨hx, hb, hml, hown, hts, hr, hlk, hnm⟩ := hC
  unfold gw_J5_append_5_45 at hw
  refine lv_aload_n hx hb dJ5_append_5_45 rfl (lv_at hl 0 rfl) ?_
  obtain ⟨fs_11, hq, hw⟩ := hw
  refine ga_calli (va_runU (As := []) (rest := []) ⟨hx, hb, hml, hown, hts⟩ (gm_J5_isLatin1 l g p0 h _ hw) (va_cwU 0 hts (lw_app (List.forall_mem_cons.mpr ⟨q916, List.forall_mem_cons.mpr ⟨q918, List.forall_mem_cons.mpr ⟨q919, List.forall_mem_cons.mpr ⟨q917, List.forall_mem_cons.mpr ⟨q109, fun _ h => absurd h List.not_mem_nil⟩⟩⟩⟩⟩) (lw_meth q920)) rfl rfl rfl rfl hdG_J5_isLatin1 ⟨Nat.le_of_ble_eq_true rfl, Nat.le_of_ble_eq_true rfl⟩) (ga_preV (C := "java/lang/StringBuilder") hI hq rfl rfl) rfl rfl hl.1 rfl (ga_room (Nat.le_of_ble_eq_true rfl)) dJ5_append_5_46 ⟨Nat.le_trans (Nat.add_le_add_left (Nat.zero_le _) _) hbc, Nat.le_trans (Nat.add_le_add_left (Nat.zero_le _) _) hbs⟩) hI hbc hbs (Nat.zero_le _) (Nat.zero_le _) (fun r_13 h_12 H locs cells slots hw hI hbc hbs => ?_)
  refine lv_if_eq (tgt := 56) hx hb dJ5_append_5_49 (by decide) (fun hc_14 => ?_) (fun hc_14 => ?_)
  · have hw := hw.1 hc_14
    exact gj_J5_append_5_56 g post p0 v1 h_12 bc bs ⟨hx, hb, hml, hown, hts, hr, hlk, hnm⟩ hw hI hbc hbs (lv_sub hl [0, 1] rfl)
  · have hw := hw.2 hc_14
    exact hw.elim
def gw_J5_append_5 (K : ga_K) (p0 : Nat) (p1 : Int32) (h : ga_H) (mc ms : Nat) (post : Option Nat → ga_H → Prop) : Prop :=
  ∃ (fs_1 : List Value) (v_2 : Int32), h p0 = some (ga_O 22 fs_1) ∧ fs_1[3]? = some (.int v_2) ∧ (∃ kc_3 ks_4 : Nat, kc_3 ≤ mc ∧ ks_4 ≤ ms ∧ ∃ fs_5 : List Value, ga_at K h p0 (ga_O 22 fs_5) ∧ gw_J5_ensureCapacityInternal K p0 (v_2 + (1 : Int32)) h kc_3 ks_4 (fun (h_6 : ga_H) => ∃ fs_7 : List Value, ga_at K h_6 p0 (ga_O 22 fs_7) ∧ gw_J5_isLatin1 K p0 h_6 (fun (r_9 : Int32) (h_8 : ga_H) => (r_9 = (0 : Int32) → (gw_J5_append_5_45 K post p0 p1 h_8 (mc - kc_3) (ms - ks_4))) ∧ (¬ r_9 = (0 : Int32) → (gw_J28_canEncode p1 (fun (r_21 : Int32) => (r_21 = (0 : Int32) → (gw_J5_append_5_45 K post p0 p1 h_8 (mc - kc_3) (ms - ks_4))) ∧ (¬ r_21 = (0 : Int32) → (∃ (fs_23 : List Value) (v_24 : Option Nat), h_8 p0 = some (ga_O 22 fs_23) ∧ fs_23[0]? = some (va_rf v_24) ∧ (∃ (fs_25 : List Value) (v_26 : Int32), h_8 p0 = some (ga_O 22 fs_25) ∧ fs_25[3]? = some (.int v_26) ∧ (∃ fs_27 : List Value, h_8 p0 = some (ga_O 22 fs_27) ∧ 3 < fs_27.length ∧ ∀ h_28 : ga_H, h_28 = ga_set h_8 p0 (ga_O 22 (fs_27.set 3 (.int (v_26 + (1 : Int32))))) → (∃ a_29 : Nat, v_24 = some a_29 ∧ ∃ (n_30 : Nat) (f_31 : Nat → Int32), h_28 a_29 = some (ga_Ab n_30 f_31) ∧ vp_in v_26 n_30 ∧ ∀ h_32 : ga_H, h_32 = ga_set h_28 a_29 (ga_Ab n_30 (upd f_31 v_26.toNatClampNeg (vp_nar .byte p1.toInt8.toInt32))) → (post (some p0) h_32))))))))))))
set_option maxHeartbeats 4000000 in
theorem gm_J5_append_5 (l : Launch) (g : ga_G) (p0 : Nat) (p1 : Int32) (h : ga_H) (mc ms : Nat) (post : Option Nat → ga_H → Prop) (hw : gw_J5_append_5 g.2.2 p0 p1 h mc ms post) : Met l yJ5_append_5 (ws_ yJ5_append_5 cJ5_append_5 2 (some (.object "java/lang/AbstractStringBuilder"))) ({ frames := 11, cells := mc, slots := ms, locals := 210 } : Room) (va_Pc [.ref p0, .int p1] (ga_B g h)) (va_Qq post (ga_E g) (ga_A g)) mc ms (ga_A g) := by
  refine ga_met (own := "java/lang/AbstractStringBuilder") (nm := "append") (by decide) rfl rfl (by exact Nat.le_of_ble_eq_true rfl) (fun p e s m below meth c ls hC hI hl => ?_)
  have hl : lv_has ls 2 [(0, .ref p0), (1, .int p1)] := hl
  generalize ([.ref p0, .int p1] : List Value).toArray = args at hC ⊢
  obtain ⟨hx, hb, hml, hown, hts, hr, hlk, hnm⟩ := hC
  unfold gw_J5_append_5 at hw
  obtain ⟨H, eH⟩ : ∃ z, z = s.heap := ⟨_, rfl⟩
  obtain ⟨locs, elo⟩ : ∃ z : List Loc, z = [] := ⟨_, rfl⟩
  rw [← eH, ← elo] at hI ⊢
  obtain ⟨cells, slots, hbc, hbs, e0, e1⟩ : ∃ a b : Nat, a + mc ≤ mc ∧ b + ms ≤ ms ∧ a = 0 ∧ b = 0 := ⟨0, 0, by omega, by omega, rfl, rfl⟩
  show W p l e ({ frames := 11, cells := mc, slots := ms, locals := 210 } : Room) s m args below meth c H locs 0 0 (MQ below (va_Qq post (ga_E g) (ga_A g)) args s mc ms (ga_A g)) (F0 m 0 ls [])
  suffices hgoal : W p l e ({ frames := 11, cells := mc, slots := ms, locals := 210 } : Room) s m args below meth c H locs cells slots (MQ below (va_Qq post (ga_E g) (ga_A g)) args s mc ms (ga_A g)) (F0 m 0 ls []) by rw [e0, e1] at hgoal; exact hgoal
  refine lv_aload_n hx hb dJ5_append_5_0 rfl (lv_at hl 0 rfl) ?_
  refine lv_aload_n hx hb dJ5_append_5_1 rfl (lv_at hl 0 rfl) ?_
  obtain ⟨fs_1, v_2, hq, hv, hw⟩ := hw
  refine ga_get (ci := 22) (T := TJ6) (v := .int v_2) hx hb hts hown hI in_J6 rfl 3 (by decide) q375 (fun _ z => z) (ga_at.h hq) hv dJ5_append_5_2 ?_
  refine lv_iconst (v := 1) hx hb dJ5_append_5_5 (by decide) ?_
  refine lv_iadd hx hb dJ5_append_5_6 ?_
  obtain ⟨kc_3, ks_4, hk1, hk2, hw⟩ := hw
  obtain ⟨fs_5, hq, hw⟩ := hw
  refine ga_callv (va_runU (As := [.int (v_2 + (1 : Int32))]) (rest := []) ⟨hx, hb, hml, hown, hts⟩ (gm_J5_ensureCapacityInternal l g p0 (v_2 + (1 : Int32)) h kc_3 ks_4 _ hw) (ga_cwP (C := "java/lang/StringBuilder") 1 hts hI.2.1.1.2.1 q887 q4111 q919 rfl q888 q889 q109 (lw_meth q890) rfl rfl rfl hdG_J5_ensureCapacityInternal ⟨Nat.le_of_ble_eq_true rfl, Nat.le_of_ble_eq_true rfl⟩) (ga_preV (C := "java/lang/StringBuilder") hI hq rfl rfl) rfl rfl hl.1 rfl (ga_room (Nat.le_of_ble_eq_true rfl)) dJ5_append_5_7 ⟨Nat.le_trans (Nat.add_le_add_left hk1 _) hbc, Nat.le_trans (Nat.add_le_add_left hk2 _) hbs⟩) hI hbc hbs hk1 hk2 (fun h_6 H locs cells slots hw hI hbc hbs => ?_)
  refine lv_aload_n hx hb dJ5_append_5_10 rfl (lv_at hl 0 rfl) ?_
  obtain ⟨fs_7, hq, hw⟩ := hw
  refine ga_calli (va_runU (As := []) (rest := []) ⟨hx, hb, hml, hown, hts⟩ (gm_J5_isLatin1 l g p0 h_6 _ hw) (va_cwU 0 hts (lw_app (List.forall_mem_cons.mpr ⟨q916, List.forall_mem_cons.mpr ⟨q918, List.forall_mem_cons.mpr ⟨q919, List.forall_mem_cons.mpr ⟨q917, List.forall_mem_cons.mpr ⟨q109, fun _ h => absurd h List.not_mem_nil⟩⟩⟩⟩⟩) (lw_meth q920)) rfl rfl rfl rfl hdG_J5_isLatin1 ⟨Nat.le_of_ble_eq_true rfl, Nat.le_of_ble_eq_true rfl⟩) (ga_preV (C := "java/lang/StringBuilder") hI hq rfl rfl) rfl rfl hl.1 rfl (ga_room (Nat.le_of_ble_eq_true rfl)) dJ5_append_5_11 ⟨Nat.le_trans (Nat.add_le_add_left (Nat.zero_le _) _) hbc, Nat.le_trans (Nat.add_le_add_left (Nat.zero_le _) _) hbs⟩) hI hbc hbs (Nat.zero_le _) (Nat.zero_le _) (fun r_9 h_8 H locs cells slots hw hI hbc hbs => ?_)
  refine lv_if_eq (tgt := 45) hx hb dJ5_append_5_14 (by decide) (fun hc_10 => ?_) (fun hc_10 => ?_)
  · have hw := hw.1 hc_10
    exact gj_J5_append_5_45 g post p0 p1 h_8 (mc - kc_3) (ms - ks_4) ⟨hx, hb, hml, hown, hts, hr, hlk, hnm⟩ hw hI hbc hbs (lv_sub hl [0, 1] rfl)
  · have hw := hw.2 hc_10
    refine lv_iload_n hx hb dJ5_append_5_17 rfl (lv_at hl 1 rfl) ?_
    refine ga_callS (As := [.int p1]) (rest := []) ⟨hx, hb, hml, hown, hts⟩ (gm_J28_canEncode l p1 _ hw) (va_cwS 1 hts (lw_S q3111 q3112 q134 q3113) rfl rfl rfl hdG_J28_canEncode ⟨Nat.le_of_ble_eq_true rfl, Nat.le_of_ble_eq_true rfl⟩) rfl hl.1 rfl (ga_room (Nat.le_of_ble_eq_true rfl)) dJ5_append_5_18 hbc hbs (fun r_21 hw => ?_)
    refine lv_if_eq (tgt := 45) hx hb dJ5_append_5_21 (by decide) (fun hc_22 => ?_) (fun hc_22 => ?_)
    · have hw := hw.1 hc_22
      exact gj_J5_append_5_45 g post p0 p1 h_8 (mc - kc_3) (ms - ks_4) ⟨hx, hb, hml, hown, hts, hr, hlk, hnm⟩ hw hI hbc hbs (lv_sub hl [0, 1] rfl)
    · have hw := hw.2 hc_22
      refine lv_aload_n hx hb dJ5_append_5_24 rfl (lv_at hl 0 rfl) ?_
      obtain ⟨fs_23, v_24, hq, hv, hw⟩ := hw
      refine ga_get (ci := 22) (T := TJ6) (v := va_rf v_24) hx hb hts hown hI in_J6 rfl 0 (by decide) q371 (fun _ z => z) (ga_at.h hq) hv dJ5_append_5_25 ?_
      refine lv_aload_n hx hb dJ5_append_5_28 rfl (lv_at hl 0 rfl) ?_
      refine lv_dup hx hb dJ5_append_5_29 rfl ?_
      obtain ⟨fs_25, v_26, hq, hv, hw⟩ := hw
      refine ga_get (ci := 22) (T := TJ6) (v := .int v_26) hx hb hts hown hI in_J6 rfl 3 (by decide) q375 (fun _ z => z) (ga_at.h hq) hv dJ5_append_5_30 ?_
      refine lv_dup_x1 hx hb dJ5_append_5_33 rfl rfl ?_
      refine lv_iconst (v := 1) hx hb dJ5_append_5_34 (by decide) ?_
      refine lv_iadd hx hb dJ5_append_5_35 ?_
      obtain ⟨fs_27, hq, hk, hw⟩ := hw
      refine ga_put (ci := 22) (T := TJ6) (v := .int (v_26 + (1 : Int32))) (ty := tyJ6 3) hx hb hts hown hI in_J6 rfl tyJ6 tyJ6_ok nmJ6 3 (by decide) q375 (fun _ z => z) rfl (tyJ6_ok 3 (by decide)) rfl rfl hq hk dJ5_append_5_36 (fun H locs hI => ?_)
      obtain ⟨h_28, eh_28⟩ : ∃ z, z = ga_set h_8 p0 (ga_O 22 (fs_27.set 3 (.int (v_26 + (1 : Int32))))) := ⟨_, rfl⟩
      rw [← eh_28] at hI
      have hw := hw h_28 eh_28
      refine lv_iload_n hx hb dJ5_append_5_39 rfl (lv_at hl 1 rfl) ?_
      refine lv_i2b (v := p1.toInt8.toInt32) hx hb dJ5_append_5_40 rfl ?_
      obtain ⟨a_29, ea_29, hw⟩ := hw
      rewrite [ea_29]
      obtain ⟨n_30, f_31, hq, hi, hw⟩ := hw
      refine ga_stb hx hb hI hq hi dJ5_append_5_41 (fun H locs hI => ?_)
      obtain ⟨h_32, eh_32⟩ : ∃ z, z = ga_set h_28 a_29 (ga_Ab n_30 (upd f_31 v_26.toNatClampNeg (vp_nar .byte p1.toInt8.toInt32))) := ⟨_, rfl⟩
      rw [← eh_32] at hI
      have hw := hw h_32 eh_32
      refine lv_goto (tgt := 75) hx hb dJ5_append_5_42 (by decide) ?_
      refine lv_aload_n hx hb dJ5_append_5_75 rfl (lv_at hl 0 rfl) ?_
      exact ga_qret (v := (some p0)) hx hb hr (Or.inl ⟨_, rfl⟩) hlk hI hw (Nat.le_trans (Nat.le_add_right _ _) hbc) (Nat.le_trans (Nat.le_add_right _ _) hbs) dJ5_append_5_76
theorem hdG_J5_append_5 : yJ5_append_5.cls ≠ "java/lang/invoke/MethodHandle" ∧ yJ5_append_5.cls ≠ "java/lang/invoke/VarHandle" ∧ (parseMethodDescriptor yJ5_append_5.desc).map (fun d => d.parameters.length) = some 1 := by decide +kernel
def gw_J6_append_6 (K : ga_K) (p0 : Nat) (p1 : Int32) (h : ga_H) (mc ms : Nat) (post : Option Nat → ga_H → Prop) : Prop :=
  ∃ kc_1 ks_2 : Nat, kc_1 ≤ mc ∧ ks_2 ≤ ms ∧ ∃ fs_3 : List Value, ga_at K h p0 (ga_O 22 fs_3) ∧ gw_J5_append_5 K p0 p1 h kc_1 ks_2 (fun (r_5 : Option Nat) (h_4 : ga_H) => post (some p0) h_4)
set_option maxHeartbeats 4000000 in
theorem gm_J6_append_6 (l : Launch) (g : ga_G) (p0 : Nat) (p1 : Int32) (h : ga_H) (mc ms : Nat) (post : Option Nat → ga_H → Prop) (hw : gw_J6_append_6 g.2.2 p0 p1 h mc ms post) : Met l yJ6_append_6 (ws_ yJ6_append_6 cJ6_append_6 2 (some (.object "java/lang/StringBuilder"))) ({ frames := 12, cells := mc, slots := ms, locals := 231 } : Room) (va_Pc [.ref p0, .int p1] (ga_B g h)) (va_Qq post (ga_E g) (ga_A g)) mc ms (ga_A g) := by
  refine ga_met (own := "java/lang/StringBuilder") (nm := "append") (by decide) rfl rfl (by exact Nat.le_of_ble_eq_true rfl) (fun p e s m below meth c ls hC hI hl => ?_)
  have hl : lv_has ls 2 [(0, .ref p0), (1, .int p1)] := hl
  generalize ([.ref p0, .int p1] : List Value).toArray = args at hC ⊢
  obtain ⟨hx, hb, hml, hown, hts, hr, hlk, hnm⟩ := hC
  unfold gw_J6_append_6 at hw
  obtain ⟨H, eH⟩ : ∃ z, z = s.heap := ⟨_, rfl⟩
  obtain ⟨locs, elo⟩ : ∃ z : List Loc, z = [] := ⟨_, rfl⟩
  rw [← eH, ← elo] at hI ⊢
  obtain ⟨cells, slots, hbc, hbs, e0, e1⟩ : ∃ a b : Nat, a + mc ≤ mc ∧ b + ms ≤ ms ∧ a = 0 ∧ b = 0 := ⟨0, 0, by omega, by omega, rfl, rfl⟩
  show W p l e ({ frames := 12, cells := mc, slots := ms, locals := 231 } : Room) s m args below meth c H locs 0 0 (MQ below (va_Qq post (ga_E g) (ga_A g)) args s mc ms (ga_A g)) (F0 m 0 ls [])
  suffices hgoal : W p l e ({ frames := 12, cells := mc, slots := ms, locals := 231 } : Room) s m args below meth c H locs cells slots (MQ below (va_Qq post (ga_E g) (ga_A g)) args s mc ms (ga_A g)) (F0 m 0 ls []) by rw [e0, e1] at hgoal; exact hgoal
  refine lv_aload_n hx hb dJ6_append_6_0 rfl (lv_at hl 0 rfl) ?_
  refine lv_iload_n hx hb dJ6_append_6_1 rfl (lv_at hl 1 rfl) ?_
  obtain ⟨kc_1, ks_2, hk1, hk2, hw⟩ := hw
  obtain ⟨fs_3, hq, hw⟩ := hw
  refine ga_callq (va_runSU (C := "java/lang/StringBuilder") (As := [.int p1]) (rest := []) (hI.2.1.1.1.1 22 _ rfl).2 ⟨hx, hb, hml, hown, hts⟩ (gm_J5_append_5 l g p0 p1 h kc_1 ks_2 _ hw) (va_cwSU 1 hts (lw_app (List.forall_mem_cons.mpr ⟨q3141, List.forall_mem_cons.mpr ⟨q4129, List.forall_mem_cons.mpr ⟨q384, List.forall_mem_cons.mpr ⟨q3142, List.forall_mem_cons.mpr ⟨q109, fun _ h => absurd h List.not_mem_nil⟩⟩⟩⟩⟩) (lw_meth q3143)) rfl rfl rfl (by decide +kernel) ⟨Nat.le_of_ble_eq_true rfl, Nat.le_of_ble_eq_true rfl⟩) (ga_preV (C := "java/lang/StringBuilder") hI hq rfl rfl) rfl rfl hl.1 rfl (ga_room (Nat.le_of_ble_eq_true rfl)) dJ6_append_6_2 ⟨Nat.le_trans (Nat.add_le_add_left hk1 _) hbc, Nat.le_trans (Nat.add_le_add_left hk2 _) hbs⟩) hI hbc hbs hk1 hk2 (fun r_5 h_4 H locs cells slots hw hI hbc hbs => ?_)
  refine lv_pop hx hb dJ6_append_6_5 (ga_rcat _) ?_
  refine lv_aload_n hx hb dJ6_append_6_6 rfl (lv_at hl 0 rfl) ?_
  exact ga_qret (v := (some p0)) hx hb hr (Or.inl ⟨_, rfl⟩) hlk hI hw (Nat.le_trans (Nat.le_add_right _ _) hbc) (Nat.le_trans (Nat.le_add_right _ _) hbs) dJ6_append_6_7
theorem hdG_J6_append_6 : yJ6_append_6.cls ≠ "java/lang/invoke/MethodHandle" ∧ yJ6_append_6.cls ≠ "java/lang/invoke/VarHandle" ∧ (parseMethodDescriptor yJ6_append_6.desc).map (fun d => d.parameters.length) = some 1 := by decide +kernel
def gw_J21_init (K : ga_K) (p0 : Nat) (p1 : Option Nat) (h : ga_H) (post : ga_H → Prop) : Prop :=
  ∃ fs_1 : List Value, h p0 = some (ga_O 19 fs_1) ∧ 0 < fs_1.length ∧ ∀ h_2 : ga_H, h_2 = ga_set h p0 (ga_O 19 (fs_1.set 0 (va_rf p1))) → (gw_J20_init K p0 h_2 (fun (h_3 : ga_H) => post h_3))
set_option maxHeartbeats 4000000 in
theorem gm_J21_init (l : Launch) (g : ga_G) (p0 : Nat) (p1 : Option Nat) (h : ga_H) (post : ga_H → Prop) (hw : gw_J21_init g.2.2 p0 p1 h post) : Met l yJ21_init (ws_ yJ21_init cJ21_init 2 none) ({ frames := 10, cells := 0, slots := 0, locals := 180 } : Room) (va_Pc [.ref p0, va_rf p1] (ga_B g h)) (va_Qv post (ga_E g) (ga_A g)) 0 0 (ga_A g) := by
  refine ga_met (own := "java/util/HashMap$KeySet") (nm := "<init>") (by decide) rfl rfl (by cases p1 <;> exact Nat.le_of_ble_eq_true rfl) (fun p e s m below meth c ls hC hI hl => ?_)
  have hl : lv_has ls 2 [(0, .ref p0), (1, va_rf p1)] := (by cases p1 <;> exact hl)
  generalize ([.ref p0, va_rf p1] : List Value).toArray = args at hC ⊢
  obtain ⟨hx, hb, hml, hown, hts, hr, hlk, hnm⟩ := hC
  unfold gw_J21_init at hw
  obtain ⟨H, eH⟩ : ∃ z, z = s.heap := ⟨_, rfl⟩
  obtain ⟨locs, elo⟩ : ∃ z : List Loc, z = [] := ⟨_, rfl⟩
  rw [← eH, ← elo] at hI ⊢
  obtain ⟨cells, slots, hbc, hbs, e0, e1⟩ : ∃ a b : Nat, a ≤ 0 ∧ b ≤ 0 ∧ a = 0 ∧ b = 0 := ⟨0, 0, by omega, by omega, rfl, rfl⟩
  show W p l e ({ frames := 10, cells := 0, slots := 0, locals := 180 } : Room) s m args below meth c H locs 0 0 (MQ below (va_Qv post (ga_E g) (ga_A g)) args s 0 0 (ga_A g)) (F0 m 0 ls [])
  suffices hgoal : W p l e ({ frames := 10, cells := 0, slots := 0, locals := 180 } : Room) s m args below meth c H locs cells slots (MQ below (va_Qv post (ga_E g) (ga_A g)) args s 0 0 (ga_A g)) (F0 m 0 ls []) by rw [e0, e1] at hgoal; exact hgoal
  refine lv_aload_n hx hb dJ21_init_0 rfl (lv_at hl 0 rfl) ?_
  refine ga_aload_n hx hb dJ21_init_1 rfl (lv_at hl 1 rfl) ?_
  obtain ⟨fs_1, hq, hk, hw⟩ := hw
  refine ga_putF (ci := 19) (T := TJ21) (v := va_rf p1) (ty := tyJ21 0) hx hb hts hown hI in_J21 rfl tyJ21 tyJ21_ok nmJ21 0 (by decide) q644 (fun _ z => z) rfl hnm rfl (tyJ21_ok 0 (by decide)) (ga_nq _ _) (ga_fq _ _) hq hk dJ21_init_2 (fun H locs hI => ?_)
  obtain ⟨h_2, eh_2⟩ : ∃ z, z = ga_set h p0 (ga_O 19 (fs_1.set 0 (va_rf p1))) := ⟨_, rfl⟩
  rw [← eh_2] at hI
  have hw := hw h_2 eh_2
  refine lv_aload_n hx hb dJ21_init_5 rfl (lv_at hl 0 rfl) ?_
  refine ga_callv (va_runI (As := []) (rest := []) ⟨hx, hb, hml, hown, hts⟩ (gm_J20_init l g p0 h_2 _ hw) (cwI 0 hts (lw_meth q642) rfl rfl rfl (hts _ q126) (hts _ q640) (hts _ q641) rfl hdG_J20_init ⟨Nat.le_of_ble_eq_true rfl, Nat.le_of_ble_eq_true rfl⟩) (ga_preS hI rfl) rfl rfl hl.1 rfl (ga_room (Nat.le_of_ble_eq_true rfl)) dJ21_init_6 ⟨hbc, hbs⟩) hI (bc := 0) (bs := 0) hbc hbs (Nat.zero_le _) (Nat.zero_le _) (fun h_3 H locs cells slots hw hI hbc hbs => ?_)
  exact ga_vret hx hb hr hlk hI hw hbc hbs dJ21_init_9
theorem hdG_J21_init : yJ21_init.cls ≠ "java/lang/invoke/MethodHandle" ∧ yJ21_init.cls ≠ "java/lang/invoke/VarHandle" ∧ (parseMethodDescriptor yJ21_init.desc).map (fun d => d.parameters.length) = some 1 := by decide +kernel
def gw_J4_keySet (K : ga_K) (p0 : Nat) (h : ga_H) (mc ms : Nat) (post : Option Nat → ga_H → Prop) : Prop :=
  ∃ (fs_1 : List Value) (v_2 : Option Nat), h p0 = some (ga_O 15 fs_1) ∧ fs_1[0]? = some (va_rf v_2) ∧ ((v_2 = none → (1 ≤ mc ∧ 1 ≤ ms ∧ ∀ q_4 : Nat, h q_4 = none → ∀ h_5 : ga_H, h_5 = ga_set h q_4 (ga_O 19 [va_rf none]) → (gw_J21_init K q_4 (some p0) h_5 (fun (h_6 : ga_H) => ∃ fs_7 : List Value, h_6 p0 = some (ga_O 15 fs_7) ∧ 0 < fs_7.length ∧ ∀ h_8 : ga_H, h_8 = ga_set h_6 p0 (ga_O 15 (fs_7.set 0 (va_rf (some q_4)))) → (post (some q_4) h_8))))) ∧ (∀ a_3 : Nat, v_2 = some a_3 → (post v_2 h)))
set_option maxHeartbeats 4000000 in
theorem gm_J4_keySet (l : Launch) (g : ga_G) (p0 : Nat) (h : ga_H) (mc ms : Nat) (post : Option Nat → ga_H → Prop) (hw : gw_J4_keySet g.2.2 p0 h mc ms post) : Met l yJ4_keySet (ws_ yJ4_keySet cJ4_keySet 2 (some (.object "java/util/Set"))) ({ frames := 11, cells := mc, slots := ms, locals := 201 } : Room) (va_Pc [.ref p0] (ga_B g h)) (va_Qq post (ga_E g) (ga_A g)) mc ms (ga_A g) := by
  refine ga_met (own := "java/util/HashMap") (nm := "keySet") (by decide) rfl rfl (by exact Nat.le_of_ble_eq_true rfl) (fun p e s m below meth c ls hC hI hl => ?_)
  have hl : lv_has ls 2 [(0, .ref p0)] := hl
  generalize ([.ref p0] : List Value).toArray = args at hC ⊢
  obtain ⟨hx, hb, hml, hown, hts, hr, hlk, hnm⟩ := hC
  unfold gw_J4_keySet at hw
  obtain ⟨H, eH⟩ : ∃ z, z = s.heap := ⟨_, rfl⟩
  obtain ⟨locs, elo⟩ : ∃ z : List Loc, z = [] := ⟨_, rfl⟩
  rw [← eH, ← elo] at hI ⊢
  obtain ⟨cells, slots, hbc, hbs, e0, e1⟩ : ∃ a b : Nat, a + mc ≤ mc ∧ b + ms ≤ ms ∧ a = 0 ∧ b = 0 := ⟨0, 0, by omega, by omega, rfl, rfl⟩
  show W p l e ({ frames := 11, cells := mc, slots := ms, locals := 201 } : Room) s m args below meth c H locs 0 0 (MQ below (va_Qq post (ga_E g) (ga_A g)) args s mc ms (ga_A g)) (F0 m 0 ls [])
  suffices hgoal : W p l e ({ frames := 11, cells := mc, slots := ms, locals := 201 } : Room) s m args below meth c H locs cells slots (MQ below (va_Qq post (ga_E g) (ga_A g)) args s mc ms (ga_A g)) (F0 m 0 ls []) by rw [e0, e1] at hgoal; exact hgoal
  refine lv_aload_n hx hb dJ4_keySet_0 rfl (lv_at hl 0 rfl) ?_
  obtain ⟨fs_1, v_2, hq, hv, hw⟩ := hw
  refine ga_get (ci := 15) (T := TJ4) (v := va_rf v_2) hx hb hts hown hI in_J4 rfl 0 (by decide) q239 (u_same (hts _ q240)) (ga_at.h hq) hv dJ4_keySet_1 ?_
  refine ga_astore_n (i := 1) (x := v_2) (lv' := [(1, va_rf v_2), (0, .ref p0)]) hx hb dJ4_keySet_4 rfl hl (by decide) rfl (fun ls hl => ?_)
  refine ga_aload_n hx hb dJ4_keySet_5 rfl (lv_at hl 0 rfl) ?_
  refine ga_ifnonnull (tgt := 23) hx hb dJ4_keySet_6 (by decide) (fun a_3 hc_a_3 => ?_) (fun hc_a_3 => ?_)
  · have hw := hw.2 a_3 hc_a_3
    skip
    refine ga_aload_n hx hb dJ4_keySet_23 rfl (lv_at hl 0 rfl) ?_
    exact ga_qret (v := v_2) hx hb hr (Or.inl ⟨_, rfl⟩) hlk hI hw (Nat.le_trans (Nat.le_add_right _ _) hbc) (Nat.le_trans (Nat.le_add_right _ _) hbs) dJ4_keySet_24
  · have hw := hw.1 hc_a_3
    refine ga_new (ci := 19) (T := TJ21) hx hb hts hown hI in_J21 rfl tyJ21 tyJ21_ok q635 q636 q127 [va_rf none] ga_df_J21 hbc hbs hw.1 hw.2.1 dJ4_keySet_9 (fun q_4 H cells slots hn_q_4 hI hbc hbs => ?_)
    obtain ⟨h_5, eh_5⟩ : ∃ z, z = ga_set h q_4 (ga_O 19 [va_rf none]) := ⟨_, rfl⟩
    rw [← eh_5] at hI
    have hw := hw.2.2 q_4 hn_q_4 h_5 eh_5
    refine lv_dup hx hb dJ4_keySet_12 rfl ?_
    refine lv_aload_n hx hb dJ4_keySet_13 rfl (lv_at hl 1 rfl) ?_
    refine ga_callv (va_runI (As := [va_rf (some p0)]) (rest := [.ref q_4]) ⟨hx, hb, hml, hown, hts⟩ (gm_J21_init l g q_4 (some p0) h_5 _ hw) (cwI 1 hts (lw_meth q639) rfl rfl rfl (hts _ q127) (hts _ q637) (hts _ q638) rfl hdG_J21_init ⟨Nat.le_of_ble_eq_true rfl, Nat.le_of_ble_eq_true rfl⟩) (ga_preS hI rfl) rfl rfl hl.1 rfl (ga_room (Nat.le_of_ble_eq_true rfl)) dJ4_keySet_14 ⟨Nat.le_trans (Nat.add_le_add_left (Nat.zero_le _) _) hbc, Nat.le_trans (Nat.add_le_add_left (Nat.zero_le _) _) hbs⟩) hI hbc hbs (Nat.zero_le _) (Nat.zero_le _) (fun h_6 H locs cells slots hw hI hbc hbs => ?_)
    refine lv_astore_n (i := 1) (lv' := [(1, .ref q_4), (0, .ref p0)]) hx hb dJ4_keySet_17 rfl hl (by decide) rfl (fun ls hl => ?_)
    refine lv_aload_n hx hb dJ4_keySet_18 rfl (lv_at hl 1 rfl) ?_
    refine lv_aload_n hx hb dJ4_keySet_19 rfl (lv_at hl 0 rfl) ?_
    obtain ⟨fs_7, hq, hk, hw⟩ := hw
    refine ga_put (ci := 15) (T := TJ4) (v := va_rf (some q_4)) (ty := tyJ4 0) hx hb hts hown hI in_J4 rfl tyJ4 tyJ4_ok nmJ4 0 (by decide) q239 (u_same (hts _ q240)) rfl (tyJ4_ok 0 (by decide)) (ga_nq _ _) (ga_fq _ _) hq hk dJ4_keySet_20 (fun H locs hI => ?_)
    obtain ⟨h_8, eh_8⟩ : ∃ z, z = ga_set h_6 p0 (ga_O 15 (fs_7.set 0 (va_rf (some q_4)))) := ⟨_, rfl⟩
    rw [← eh_8] at hI
    have hw := hw h_8 eh_8
    refine lv_aload_n hx hb dJ4_keySet_23 rfl (lv_at hl 0 rfl) ?_
    exact ga_qret (v := (some q_4)) hx hb hr (Or.inl ⟨_, rfl⟩) hlk hI hw (Nat.le_trans (Nat.le_add_right _ _) hbc) (Nat.le_trans (Nat.le_add_right _ _) hbs) dJ4_keySet_24
theorem hdG_J4_keySet : yJ4_keySet.cls ≠ "java/lang/invoke/MethodHandle" ∧ yJ4_keySet.cls ≠ "java/lang/invoke/VarHandle" ∧ (parseMethodDescriptor yJ4_keySet.desc).map (fun d => d.parameters.length) = some 0 := by decide +kernel
