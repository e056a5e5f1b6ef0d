set_option maxRecDepth 100000
def gw_X6_init (K : ga_K) (p0 : Nat) (p1 : Int32) (p2 : Option Nat) (p3 : Int32) (h : ga_H) (post : ga_H → Prop) : Prop :=
  ∃ fs_1 : List Value, h p0 = some (ga_O 4 fs_1) ∧ 2 < fs_1.length ∧ ∀ h_2 : ga_H, h_2 = ga_set h p0 (ga_O 4 (fs_1.set 2 (.int (20 : Int32)))) → (∃ fs_3 : List Value, h_2 p0 = some (ga_O 4 fs_3) ∧ 0 < fs_3.length ∧ ∀ h_4 : ga_H, h_4 = ga_set h_2 p0 (ga_O 4 (fs_3.set 0 (.int p1))) → (∃ fs_5 : List Value, h_4 p0 = some (ga_O 4 fs_5) ∧ 1 < fs_5.length ∧ ∀ h_6 : ga_H, h_6 = ga_set h_4 p0 (ga_O 4 (fs_5.set 1 (va_rf p2))) → (∃ fs_7 : List Value, h_6 p0 = some (ga_O 4 fs_7) ∧ 3 < fs_7.length ∧ ∀ h_8 : ga_H, h_8 = ga_set h_6 p0 (ga_O 4 (fs_7.set 3 (.int p3))) → (post h_8))))
set_option maxHeartbeats 4000000 in
theorem gm_X6_init (l : Launch) (g : ga_G) (p0 : Nat) (p1 : Int32) (p2 : Option Nat) (p3 : Int32) (h : ga_H) (post : ga_H → Prop) (hw : gw_X6_init g.2.2 p0 p1 p2 p3 h post) : Met l yX6_init (ws_ yX6_init cX6_init 4 none) ({ frames := 8, cells := 0, slots := 0, locals := 140 } : Room) (va_Pc [.ref p0, .int p1, va_rf p2, .int p3] (ga_B g h)) (va_Qv post (ga_E g) (ga_A g)) 0 0 (ga_A g) := by
  refine ga_met (own := "PaperStore$Ream") (nm := "<init>") (by decide) rfl rfl (by cases p2 <;> exact Nat.le_of_ble_eq_true rfl) (fun p e s m below meth c ls hC hI hl => ?_)
  have hl : lv_has ls 4 [(0, .ref p0), (1, .int p1), (2, va_rf p2), (3, .int p3)] := (by cases p2 <;> exact hl)
  generalize ([.ref p0, .int p1, va_rf p2, .int p3] : List Value).toArray = args at hC ⊢
  obtain ⟨hx, hb, hml, hown, hts, hr, hlk, hnm⟩ := hC
  unfold gw_X6_init at hw
  obtain ⟨H, eH⟩ : ∃ z, z = s.heap := ⟨_, rfl⟩
  obtain ⟨locs, elo⟩ : ∃ z : List Loc, z = [] := ⟨_, rfl⟩
  rw [← eH, ← elo] at hI ⊢
  obtain ⟨cells, slots, hbc, hbs, e0, e1⟩ : ∃ a b : Nat, a ≤ 0 ∧ b ≤ 0 ∧ a = 0 ∧ b = 0 := ⟨0, 0, by omega, by omega, rfl, rfl⟩
  show W p l e ({ frames := 8, cells := 0, slots := 0, locals := 140 } : Room) s m args below meth c H locs 0 0 (MQ below (va_Qv post (ga_E g) (ga_A g)) args s 0 0 (ga_A g)) (F0 m 0 ls [])
  suffices hgoal : W p l e ({ frames := 8, cells := 0, slots := 0, locals := 140 } : Room) s m args below meth c H locs cells slots (MQ below (va_Qv post (ga_E g) (ga_A g)) args s 0 0 (ga_A g)) (F0 m 0 ls []) by rw [e0, e1] at hgoal; exact hgoal
  refine lv_aload_n hx hb dX6_init_0 rfl (lv_at hl 0 rfl) ?_
  refine W.objInit hx hb hown (hts _ q1292) (hts _ q179) (hts _ q180) rfl (by rw [hml]; exact hl.1) rfl dX6_init_1 (Nat.le_of_ble_eq_true rfl) (by have := ga_sum [] (Nat.le_of_ble_eq_true rfl); exact Nat.le_trans (Nat.add_le_add_right (Nat.add_le_add_left this 0) 12) (Nat.le_of_ble_eq_true rfl)) ?_
  refine W.eq (g2 := F0 m 4 ls []) rfl ?_
  refine lv_aload_n hx hb dX6_init_4 rfl (lv_at hl 0 rfl) ?_
  refine lv_bipush (v := 20) hx hb dX6_init_5 (by decide) ?_
  obtain ⟨fs_1, hq, hk, hw⟩ := hw
  refine ga_put (ci := 4) (T := TX6) (v := .int (20 : Int32)) (ty := tyX6 2) hx hb hts hown hI in_X6 rfl tyX6 tyX6_ok nmX6 2 (by decide) q1299 (fun _ z => z) rfl (tyX6_ok 2 (by decide)) rfl rfl hq hk dX6_init_7 (fun H locs hI => ?_)
  obtain ⟨h_2, eh_2⟩ : ∃ z, z = ga_set h p0 (ga_O 4 (fs_1.set 2 (.int (20 : Int32)))) := ⟨_, rfl⟩
  rw [← eh_2] at hI
  have hw := hw h_2 eh_2
  refine lv_aload_n hx hb dX6_init_10 rfl (lv_at hl 0 rfl) ?_
  refine lv_iload_n hx hb dX6_init_11 rfl (lv_at hl 1 rfl) ?_
  obtain ⟨fs_3, hq, hk, hw⟩ := hw
  refine ga_putF (ci := 4) (T := TX6) (v := .int p1) (ty := tyX6 0) hx hb hts hown hI in_X6 rfl tyX6 tyX6_ok nmX6 0 (by decide) q1293 (fun _ z => z) rfl hnm rfl (tyX6_ok 0 (by decide)) rfl rfl hq hk dX6_init_12 (fun H locs hI => ?_)
  obtain ⟨h_4, eh_4⟩ : ∃ z, z = ga_set h_2 p0 (ga_O 4 (fs_3.set 0 (.int p1))) := ⟨_, rfl⟩
  rw [← eh_4] at hI
  have hw := hw h_4 eh_4
  refine lv_aload_n hx hb dX6_init_15 rfl (lv_at hl 0 rfl) ?_
  refine ga_aload_n hx hb dX6_init_16 rfl (lv_at hl 2 rfl) ?_
  obtain ⟨fs_5, hq, hk, hw⟩ := hw
  refine ga_putF (ci := 4) (T := TX6) (v := va_rf p2) (ty := tyX6 1) hx hb hts hown hI in_X6 rfl tyX6 tyX6_ok nmX6 1 (by decide) q1296 (fun _ z => z) rfl hnm rfl (tyX6_ok 1 (by decide)) (ga_nq _ _) (ga_fq _ _) hq hk dX6_init_17 (fun H locs hI => ?_)
  obtain ⟨h_6, eh_6⟩ : ∃ z, z = ga_set h_4 p0 (ga_O 4 (fs_5.set 1 (va_rf p2))) := ⟨_, rfl⟩
  rw [← eh_6] at hI
  have hw := hw h_6 eh_6
  refine lv_aload_n hx hb dX6_init_20 rfl (lv_at hl 0 rfl) ?_
  refine lv_iload_n hx hb dX6_init_21 rfl (lv_at hl 3 rfl) ?_
  obtain ⟨fs_7, hq, hk, hw⟩ := hw
  refine ga_put (ci := 4) (T := TX6) (v := .int p3) (ty := tyX6 3) hx hb hts hown hI in_X6 rfl tyX6 tyX6_ok nmX6 3 (by decide) q1304 (fun _ z => z) rfl (tyX6_ok 3 (by decide)) rfl rfl hq hk dX6_init_22 (fun H locs hI => ?_)
  obtain ⟨h_8, eh_8⟩ : ∃ z, z = ga_set h_6 p0 (ga_O 4 (fs_7.set 3 (.int p3))) := ⟨_, rfl⟩
  rw [← eh_8] at hI
  have hw := hw h_8 eh_8
  exact ga_vret hx hb hr hlk hI hw hbc hbs dX6_init_25
theorem hdG_X6_init : yX6_init.cls ≠ "java/lang/invoke/MethodHandle" ∧ yX6_init.cls ≠ "java/lang/invoke/VarHandle" ∧ (parseMethodDescriptor yX6_init.desc).map (fun d => d.parameters.length) = some 3 := by decide +kernel
def gw_X6_copy (K : ga_K) (p0 : Nat) (h : ga_H) (mc ms : Nat) (post : Option Nat → ga_H → Prop) : Prop :=
  1 ≤ mc ∧ 5 ≤ ms ∧ ∀ q_1 : Nat, h q_1 = none → ∀ h_2 : ga_H, h_2 = ga_set h q_1 (ga_O 4 [.int 0, va_rf none, .int 0, .int 0, .int 0]) → (∃ (fs_3 : List Value) (v_4 : Int32), h_2 p0 = some (ga_O 4 fs_3) ∧ fs_3[0]? = some (.int v_4) ∧ (∃ (fs_5 : List Value) (v_6 : Option Nat), h_2 p0 = some (ga_O 4 fs_5) ∧ fs_5[1]? = some (va_rf v_6) ∧ (∃ (fs_7 : List Value) (v_8 : Int32), h_2 p0 = some (ga_O 4 fs_7) ∧ fs_7[3]? = some (.int v_8) ∧ (gw_X6_init K q_1 v_4 v_6 v_8 h_2 (fun (h_9 : ga_H) => ∃ (fs_10 : List Value) (v_11 : Int32), h_9 p0 = some (ga_O 4 fs_10) ∧ fs_10[2]? = some (.int v_11) ∧ (∃ fs_12 : List Value, h_9 q_1 = some (ga_O 4 fs_12) ∧ 2 < fs_12.length ∧ ∀ h_13 : ga_H, h_13 = ga_set h_9 q_1 (ga_O 4 (fs_12.set 2 (.int v_11))) → (∃ (fs_14 : List Value) (v_15 : Int32), h_13 p0 = some (ga_O 4 fs_14) ∧ fs_14[4]? = some (.int v_15) ∧ (∃ fs_16 : List Value, h_13 q_1 = some (ga_O 4 fs_16) ∧ 4 < fs_16.length ∧ ∀ h_17 : ga_H, h_17 = ga_set h_13 q_1 (ga_O 4 (fs_16.set 4 (.int v_15))) → (post (some q_1) h_17)))))))))
set_option maxHeartbeats 4000000 in
theorem gm_X6_copy (l : Launch) (g : ga_G) (p0 : Nat) (h : ga_H) (mc ms : Nat) (post : Option Nat → ga_H → Prop) (hw : gw_X6_copy g.2.2 p0 h mc ms post) : Met l yX6_copy (ws_ yX6_copy cX6_copy 2 (some (.object "PaperStore$Ream"))) ({ frames := 9, cells := mc, slots := ms, locals := 163 } : Room) (va_Pc [.ref p0] (ga_B g h)) (va_Qq post (ga_E g) (ga_A g)) mc ms (ga_A g) := by
  refine ga_met (own := "PaperStore$Ream") (nm := "copy") (by decide) rfl rfl (by exact Nat.le_of_ble_eq_true rfl) (fun p e s m below meth c ls hC hI hl => ?_)
  have hl : lv_has ls 2 [(0, .ref p0)] := hl
  generalize ([.ref p0] : List Value).toArray = args at hC ⊢
  obtain ⟨hx, hb, hml, hown, hts, hr, hlk, hnm⟩ := hC
  unfold gw_X6_copy at hw
  obtain ⟨H, eH⟩ : ∃ z, z = s.heap := ⟨_, rfl⟩
  obtain ⟨locs, elo⟩ : ∃ z : List Loc, z = [] := ⟨_, rfl⟩
  rw [← eH, ← elo] at hI ⊢
  obtain ⟨cells, slots, hbc, hbs, e0, e1⟩ : ∃ a b : Nat, a + mc ≤ mc ∧ b + ms ≤ ms ∧ a = 0 ∧ b = 0 := ⟨0, 0, by omega, by omega, rfl, rfl⟩
  show W p l e ({ frames := 9, cells := mc, slots := ms, locals := 163 } : Room) s m args below meth c H locs 0 0 (MQ below (va_Qq post (ga_E g) (ga_A g)) args s mc ms (ga_A g)) (F0 m 0 ls [])
  suffices hgoal : W p l e ({ frames := 9, cells := mc, slots := ms, locals := 163 } : Room) s m args below meth c H locs cells slots (MQ below (va_Qq post (ga_E g) (ga_A g)) args s mc ms (ga_A g)) (F0 m 0 ls []) by rw [e0, e1] at hgoal; exact hgoal
  refine ga_new (ci := 4) (T := TX6) hx hb hts hown hI in_X6 rfl tyX6 tyX6_ok q1287 q1288 q137 [.int 0, va_rf none, .int 0, .int 0, .int 0] ga_df_X6 hbc hbs hw.1 hw.2.1 dX6_copy_0 (fun q_1 H cells slots hn_q_1 hI hbc hbs => ?_)
  obtain ⟨h_2, eh_2⟩ : ∃ z, z = ga_set h q_1 (ga_O 4 [.int 0, va_rf none, .int 0, .int 0, .int 0]) := ⟨_, rfl⟩
  rw [← eh_2] at hI
  have hw := hw.2.2 q_1 hn_q_1 h_2 eh_2
  refine lv_dup hx hb dX6_copy_3 rfl ?_
  refine lv_aload_n hx hb dX6_copy_4 rfl (lv_at hl 0 rfl) ?_
  obtain ⟨fs_3, v_4, hq, hv, hw⟩ := hw
  refine ga_get (ci := 4) (T := TX6) (v := .int v_4) hx hb hts hown hI in_X6 rfl 0 (by decide) q1293 (fun _ z => z) (ga_at.h hq) hv dX6_copy_5 ?_
  refine lv_aload_n hx hb dX6_copy_8 rfl (lv_at hl 0 rfl) ?_
  obtain ⟨fs_5, v_6, hq, hv, hw⟩ := hw
  refine ga_get (ci := 4) (T := TX6) (v := va_rf v_6) hx hb hts hown hI in_X6 rfl 1 (by decide) q1296 (fun _ z => z) (ga_at.h hq) hv dX6_copy_9 ?_
  refine lv_aload_n hx hb dX6_copy_12 rfl (lv_at hl 0 rfl) ?_
  obtain ⟨fs_7, v_8, hq, hv, hw⟩ := hw
  refine ga_get (ci := 4) (T := TX6) (v := .int v_8) hx hb hts hown hI in_X6 rfl 3 (by decide) q1304 (fun _ z => z) (ga_at.h hq) hv dX6_copy_13 ?_
  refine ga_callv (va_runI (As := [.int v_4, va_rf v_6, .int v_8]) (rest := [.ref q_1]) ⟨hx, hb, hml, hown, hts⟩ (gm_X6_init l g q_1 v_4 v_6 v_8 h_2 _ hw) (cwI 3 hts (lw_meth q1291) rfl rfl rfl (hts _ q137) (hts _ q1289) (hts _ q1290) rfl hdG_X6_init ⟨Nat.le_of_ble_eq_true rfl, Nat.le_of_ble_eq_true rfl⟩) (ga_preS hI rfl) rfl rfl hl.1 rfl (ga_room (Nat.le_of_ble_eq_true rfl)) dX6_copy_16 ⟨Nat.le_trans (Nat.add_le_add_left (Nat.zero_le _) _) hbc, Nat.le_trans (Nat.add_le_add_left (Nat.zero_le _) _) hbs⟩) hI hbc hbs (Nat.zero_le _) (Nat.zero_le _) (fun h_9 H locs cells slots hw hI hbc hbs => ?_)
  refine lv_astore_n (i := 1) (lv' := [(1, .ref q_1), (0, .ref p0)]) hx hb dX6_copy_19 rfl hl (by decide) rfl (fun ls hl => ?_)
  refine lv_aload_n hx hb dX6_copy_20 rfl (lv_at hl 0 rfl) ?_
  refine lv_aload_n hx hb dX6_copy_21 rfl (lv_at hl 1 rfl) ?_
  obtain ⟨fs_10, v_11, hq, hv, hw⟩ := hw
  refine ga_get (ci := 4) (T := TX6) (v := .int v_11) hx hb hts hown hI in_X6 rfl 2 (by decide) q1299 (fun _ z => z) (ga_at.h hq) hv dX6_copy_22 ?_
  obtain ⟨fs_12, hq, hk, hw⟩ := hw
  refine ga_put (ci := 4) (T := TX6) (v := .int v_11) (ty := tyX6 2) hx hb hts hown hI in_X6 rfl tyX6 tyX6_ok nmX6 2 (by decide) q1299 (fun _ z => z) rfl (tyX6_ok 2 (by decide)) rfl rfl hq hk dX6_copy_25 (fun H locs hI => ?_)
  obtain ⟨h_13, eh_13⟩ : ∃ z, z = ga_set h_9 q_1 (ga_O 4 (fs_12.set 2 (.int v_11))) := ⟨_, rfl⟩
  rw [← eh_13] at hI
  have hw := hw h_13 eh_13
  refine lv_aload_n hx hb dX6_copy_28 rfl (lv_at hl 0 rfl) ?_
  refine lv_aload_n hx hb dX6_copy_29 rfl (lv_at hl 1 rfl) ?_
  obtain ⟨fs_14, v_15, hq, hv, hw⟩ := hw
  refine ga_get (ci := 4) (T := TX6) (v := .int v_15) hx hb hts hown hI in_X6 rfl 4 (by decide) q1306 (fun _ z => z) (ga_at.h hq) hv dX6_copy_30 ?_
  obtain ⟨fs_16, hq, hk, hw⟩ := hw
  refine ga_put (ci := 4) (T := TX6) (v := .int v_15) (ty := tyX6 4) hx hb hts hown hI in_X6 rfl tyX6 tyX6_ok nmX6 4 (by decide) q1306 (fun _ z => z) rfl (tyX6_ok 4 (by decide)) rfl rfl hq hk dX6_copy_33 (fun H locs hI => ?_)
  obtain ⟨h_17, eh_17⟩ : ∃ z, z = ga_set h_13 q_1 (ga_O 4 (fs_16.set 4 (.int v_15))) := ⟨_, rfl⟩
  rw [← eh_17] at hI
  have hw := hw h_17 eh_17
  refine lv_aload_n hx hb dX6_copy_36 rfl (lv_at hl 0 rfl) ?_
  exact ga_qret (v := (some q_1)) hx hb hr (Or.inl ⟨_, rfl⟩) hlk hI hw (Nat.le_trans (Nat.le_add_right _ _) hbc) (Nat.le_trans (Nat.le_add_right _ _) hbs) dX6_copy_37
theorem hdG_X6_copy : yX6_copy.cls ≠ "java/lang/invoke/MethodHandle" ∧ yX6_copy.cls ≠ "java/lang/invoke/VarHandle" ∧ (parseMethodDescriptor yX6_copy.desc).map (fun d => d.parameters.length) = some 0 := by decide +kernel
def gw_X6_isGone (K : ga_K) (p0 : Nat) (h : ga_H) (post : Int32 → ga_H → Prop) : Prop :=
  ∃ (fs_1 : List Value) (v_2 : Int32), h p0 = some (ga_O 4 fs_1) ∧ fs_1[2]? = some (.int v_2) ∧ ((¬ v_2 = (0 : Int32) → (post (0 : Int32) h)) ∧ (v_2 = (0 : Int32) → (post (1 : Int32) h)))
set_option maxHeartbeats 4000000 in
theorem gm_X6_isGone (l : Launch) (g : ga_G) (p0 : Nat) (h : ga_H) (post : Int32 → ga_H → Prop) (hw : gw_X6_isGone g.2.2 p0 h post) : Met l yX6_isGone (ws_ yX6_isGone cX6_isGone 1 (some .boolean)) ({ frames := 8, cells := 0, slots := 0, locals := 140 } : Room) (va_Pc [.ref p0] (ga_B g h)) (va_Qi post (ga_E g) (ga_A g)) 0 0 (ga_A g) := by
  refine ga_met (own := "PaperStore$Ream") (nm := "isGone") (by decide) rfl rfl (by exact Nat.le_of_ble_eq_true rfl) (fun p e s m below meth c ls hC hI hl => ?_)
  have hl : lv_has ls 1 [(0, .ref p0)] := hl
  generalize ([.ref p0] : List Value).toArray = args at hC ⊢
  obtain ⟨hx, hb, hml, hown, hts, hr, hlk, hnm⟩ := hC
  unfold gw_X6_isGone at hw
  obtain ⟨H, eH⟩ : ∃ z, z = s.heap := ⟨_, rfl⟩
  obtain ⟨locs, elo⟩ : ∃ z : List Loc, z = [] := ⟨_, rfl⟩
  rw [← eH, ← elo] at hI ⊢
  obtain ⟨cells, slots, hbc, hbs, e0, e1⟩ : ∃ a b : Nat, a ≤ 0 ∧ b ≤ 0 ∧ a = 0 ∧ b = 0 := ⟨0, 0, by omega, by omega, rfl, rfl⟩
  show W p l e ({ frames := 8, cells := 0, slots := 0, locals := 140 } : Room) s m args below meth c H locs 0 0 (MQ below (va_Qi post (ga_E g) (ga_A g)) args s 0 0 (ga_A g)) (F0 m 0 ls [])
  suffices hgoal : W p l e ({ frames := 8, cells := 0, slots := 0, locals := 140 } : Room) s m args below meth c H locs cells slots (MQ below (va_Qi post (ga_E g) (ga_A g)) args s 0 0 (ga_A g)) (F0 m 0 ls []) by rw [e0, e1] at hgoal; exact hgoal
  refine lv_aload_n hx hb dX6_isGone_0 rfl (lv_at hl 0 rfl) ?_
  obtain ⟨fs_1, v_2, hq, hv, hw⟩ := hw
  refine ga_get (ci := 4) (T := TX6) (v := .int v_2) hx hb hts hown hI in_X6 rfl 2 (by decide) q1299 (fun _ z => z) (ga_at.h hq) hv dX6_isGone_1 ?_
  refine lv_if_ne (tgt := 11) hx hb dX6_isGone_4 (by decide) (fun hc_3 => ?_) (fun hc_3 => ?_)
  · have hw := hw.1 hc_3
    refine lv_iconst (v := 0) hx hb dX6_isGone_11 (by decide) ?_
    exact ga_iret hx hb hr rfl hlk hI hw hbc hbs dX6_isGone_12
  · have hw := hw.2 hc_3
    refine lv_iconst (v := 1) hx hb dX6_isGone_7 (by decide) ?_
    refine lv_goto (tgt := 12) hx hb dX6_isGone_8 (by decide) ?_
    exact ga_iret hx hb hr rfl hlk hI hw hbc hbs dX6_isGone_12
theorem hdG_X6_isGone : yX6_isGone.cls ≠ "java/lang/invoke/MethodHandle" ∧ yX6_isGone.cls ≠ "java/lang/invoke/VarHandle" ∧ (parseMethodDescriptor yX6_isGone.desc).map (fun d => d.parameters.length) = some 0 := by decide +kernel
def gw_X6_isWavy (K : ga_K) (p0 : Nat) (h : ga_H) (post : Int32 → ga_H → Prop) : Prop :=
  ∃ (fs_1 : List Value) (v_2 : Int32), h p0 = some (ga_O 4 fs_1) ∧ fs_1[3]? = some (.int v_2) ∧ ((v_2 < (7 : Int32) → (post (0 : Int32) h)) ∧ (¬ v_2 < (7 : Int32) → (post (1 : Int32) h)))
set_option maxHeartbeats 4000000 in
theorem gm_X6_isWavy (l : Launch) (g : ga_G) (p0 : Nat) (h : ga_H) (post : Int32 → ga_H → Prop) (hw : gw_X6_isWavy g.2.2 p0 h post) : Met l yX6_isWavy (ws_ yX6_isWavy cX6_isWavy 1 (some .boolean)) ({ frames := 8, cells := 0, slots := 0, locals := 140 } : Room) (va_Pc [.ref p0] (ga_B g h)) (va_Qi post (ga_E g) (ga_A g)) 0 0 (ga_A g) := by
  refine ga_met (own := "PaperStore$Ream") (nm := "isWavy") (by decide) rfl rfl (by exact Nat.le_of_ble_eq_true rfl) (fun p e s m below meth c ls hC hI hl => ?_)
  have hl : lv_has ls 1 [(0, .ref p0)] := hl
  generalize ([.ref p0] : List Value).toArray = args at hC ⊢
  obtain ⟨hx, hb, hml, hown, hts, hr, hlk, hnm⟩ := hC
  unfold gw_X6_isWavy at hw
  obtain ⟨H, eH⟩ : ∃ z, z = s.heap := ⟨_, rfl⟩
  obtain ⟨locs, elo⟩ : ∃ z : List Loc, z = [] := ⟨_, rfl⟩
  rw [← eH, ← elo] at hI ⊢
  obtain ⟨cells, slots, hbc, hbs, e0, e1⟩ : ∃ a b : Nat, a ≤ 0 ∧ b ≤ 0 ∧ a = 0 ∧ b = 0 := ⟨0, 0, by omega, by omega, rfl, rfl⟩
  show W p l e ({ frames := 8, cells := 0, slots := 0, locals := 140 } : Room) s m args below meth c H locs 0 0 (MQ below (va_Qi post (ga_E g) (ga_A g)) args s 0 0 (ga_A g)) (F0 m 0 ls [])
  suffices hgoal : W p l e ({ frames := 8, cells := 0, slots := 0, locals := 140 } : Room) s m args below meth c H locs cells slots (MQ below (va_Qi post (ga_E g) (ga_A g)) args s 0 0 (ga_A g)) (F0 m 0 ls []) by rw [e0, e1] at hgoal; exact hgoal
  refine lv_aload_n hx hb dX6_isWavy_0 rfl (lv_at hl 0 rfl) ?_
  obtain ⟨fs_1, v_2, hq, hv, hw⟩ := hw
  refine ga_get (ci := 4) (T := TX6) (v := .int v_2) hx hb hts hown hI in_X6 rfl 3 (by decide) q1304 (fun _ z => z) (ga_at.h hq) hv dX6_isWavy_1 ?_
  refine lv_bipush (v := 7) hx hb dX6_isWavy_4 (by decide) ?_
  refine lv_icmp_lt (tgt := 13) hx hb dX6_isWavy_6 (by decide) (fun hc_3 => ?_) (fun hc_3 => ?_)
  · have hw := hw.1 hc_3
    refine lv_iconst (v := 0) hx hb dX6_isWavy_13 (by decide) ?_
    exact ga_iret hx hb hr rfl hlk hI hw hbc hbs dX6_isWavy_14
  · have hw := hw.2 hc_3
    refine lv_iconst (v := 1) hx hb dX6_isWavy_9 (by decide) ?_
    refine lv_goto (tgt := 14) hx hb dX6_isWavy_10 (by decide) ?_
    exact ga_iret hx hb hr rfl hlk hI hw hbc hbs dX6_isWavy_14
theorem hdG_X6_isWavy : yX6_isWavy.cls ≠ "java/lang/invoke/MethodHandle" ∧ yX6_isWavy.cls ≠ "java/lang/invoke/VarHandle" ∧ (parseMethodDescriptor yX6_isWavy.desc).map (fun d => d.parameters.length) = some 0 := by decide +kernel
def gw_X11_init (K : ga_K) (p0 : Nat) (p1 : Int32) (p2 : Int32) (h : ga_H) (post : ga_H → Prop) : Prop :=
  ∃ fs_1 : List Value, h p0 = some (ga_O 9 fs_1) ∧ 0 < fs_1.length ∧ ∀ h_2 : ga_H, h_2 = ga_set h p0 (ga_O 9 (fs_1.set 0 (.int p1))) → (∃ fs_3 : List Value, h_2 p0 = some (ga_O 9 fs_3) ∧ 1 < fs_3.length ∧ ∀ h_4 : ga_H, h_4 = ga_set h_2 p0 (ga_O 9 (fs_3.set 1 (.int p2))) → (post h_4))
set_option maxHeartbeats 4000000 in
theorem gm_X11_init (l : Launch) (g : ga_G) (p0 : Nat) (p1 : Int32) (p2 : Int32) (h : ga_H) (post : ga_H → Prop) (hw : gw_X11_init g.2.2 p0 p1 p2 h post) : Met l yX11_init (ws_ yX11_init cX11_init 3 none) ({ frames := 8, cells := 0, slots := 0, locals := 140 } : Room) (va_Pc [.ref p0, .int p1, .int p2] (ga_B g h)) (va_Qv post (ga_E g) (ga_A g)) 0 0 (ga_A g) := by
  refine ga_met (own := "PaperStore$Paper") (nm := "<init>") (by decide) rfl rfl (by exact Nat.le_of_ble_eq_true rfl) (fun p e s m below meth c ls hC hI hl => ?_)
  have hl : lv_has ls 3 [(0, .ref p0), (1, .int p1), (2, .int p2)] := hl
  generalize ([.ref p0, .int p1, .int p2] : List Value).toArray = args at hC ⊢
  obtain ⟨hx, hb, hml, hown, hts, hr, hlk, hnm⟩ := hC
  unfold gw_X11_init at hw
  obtain ⟨H, eH⟩ : ∃ z, z = s.heap := ⟨_, rfl⟩
  obtain ⟨locs, elo⟩ : ∃ z : List Loc, z = [] := ⟨_, rfl⟩
  rw [← eH, ← elo] at hI ⊢
  obtain ⟨cells, slots, hbc, hbs, e0, e1⟩ : ∃ a b : Nat, a ≤ 0 ∧ b ≤ 0 ∧ a = 0 ∧ b = 0 := ⟨0, 0, by omega, by omega, rfl, rfl⟩
  show W p l e ({ frames := 8, cells := 0, slots := 0, locals := 140 } : Room) s m args below meth c H locs 0 0 (MQ below (va_Qv post (ga_E g) (ga_A g)) args s 0 0 (ga_A g)) (F0 m 0 ls [])
  suffices hgoal : W p l e ({ frames := 8, cells := 0, slots := 0, locals := 140 } : Room) s m args below meth c H locs cells slots (MQ below (va_Qv post (ga_E g) (ga_A g)) args s 0 0 (ga_A g)) (F0 m 0 ls []) by rw [e0, e1] at hgoal; exact hgoal
  refine lv_aload_n hx hb dX11_init_0 rfl (lv_at hl 0 rfl) ?_
  refine W.objInit hx hb hown (hts _ q2169) (hts _ q179) (hts _ q180) rfl (by rw [hml]; exact hl.1) rfl dX11_init_1 (Nat.le_of_ble_eq_true rfl) (by have := ga_sum [] (Nat.le_of_ble_eq_true rfl); exact Nat.le_trans (Nat.add_le_add_right (Nat.add_le_add_left this 0) 12) (Nat.le_of_ble_eq_true rfl)) ?_
  refine W.eq (g2 := F0 m 4 ls []) rfl ?_
  refine lv_aload_n hx hb dX11_init_4 rfl (lv_at hl 0 rfl) ?_
  refine lv_iload_n hx hb dX11_init_5 rfl (lv_at hl 1 rfl) ?_
  obtain ⟨fs_1, hq, hk, hw⟩ := hw
  refine ga_putF (ci := 9) (T := TX11) (v := .int p1) (ty := tyX11 0) hx hb hts hown hI in_X11 rfl tyX11 tyX11_ok nmX11 0 (by decide) q2170 (fun _ z => z) rfl hnm rfl (tyX11_ok 0 (by decide)) rfl rfl hq hk dX11_init_6 (fun H locs hI => ?_)
  obtain ⟨h_2, eh_2⟩ : ∃ z, z = ga_set h p0 (ga_O 9 (fs_1.set 0 (.int p1))) := ⟨_, rfl⟩
  rw [← eh_2] at hI
  have hw := hw h_2 eh_2
  refine lv_aload_n hx hb dX11_init_9 rfl (lv_at hl 0 rfl) ?_
  refine lv_iload_n hx hb dX11_init_10 rfl (lv_at hl 2 rfl) ?_
  obtain ⟨fs_3, hq, hk, hw⟩ := hw
  refine ga_putF (ci := 9) (T := TX11) (v := .int p2) (ty := tyX11 1) hx hb hts hown hI in_X11 rfl tyX11 tyX11_ok nmX11 1 (by decide) q2173 (fun _ z => z) rfl hnm rfl (tyX11_ok 1 (by decide)) rfl rfl hq hk dX11_init_11 (fun H locs hI => ?_)
  obtain ⟨h_4, eh_4⟩ : ∃ z, z = ga_set h_2 p0 (ga_O 9 (fs_3.set 1 (.int p2))) := ⟨_, rfl⟩
  rw [← eh_4] at hI
  have hw := hw h_4 eh_4
  exact ga_vret hx hb hr hlk hI hw hbc hbs dX11_init_14
theorem hdG_X11_init : yX11_init.cls ≠ "java/lang/invoke/MethodHandle" ∧ yX11_init.cls ≠ "java/lang/invoke/VarHandle" ∧ (parseMethodDescriptor yX11_init.desc).map (fun d => d.parameters.length) = some 2 := by decide +kernel
def gw_X11_number (K : ga_K) (p0 : Nat) (h : ga_H) (post : Int32 → ga_H → Prop) : Prop :=
  ∃ (fs_1 : List Value) (v_2 : Int32), h p0 = some (ga_O 9 fs_1) ∧ fs_1[0]? = some (.int v_2) ∧ (∃ (fs_3 : List Value) (v_4 : Int32), h p0 = some (ga_O 9 fs_3) ∧ fs_3[1]? = some (.int v_4) ∧ (post (((3 : Int32) * v_2) + v_4) h))
set_option maxHeartbeats 4000000 in
theorem gm_X11_number (l : Launch) (g : ga_G) (p0 : Nat) (h : ga_H) (post : Int32 → ga_H → Prop) (hw : gw_X11_number g.2.2 p0 h post) : Met l yX11_number (ws_ yX11_number cX11_number 1 (some .int)) ({ frames := 8, cells := 0, slots := 0, locals := 140 } : Room) (va_Pc [.ref p0] (ga_B g h)) (va_Qi post (ga_E g) (ga_A g)) 0 0 (ga_A g) := by
  refine ga_met (own := "PaperStore$Paper") (nm := "number") (by decide) rfl rfl (by exact Nat.le_of_ble_eq_true rfl) (fun p e s m below meth c ls hC hI hl => ?_)
  have hl : lv_has ls 1 [(0, .ref p0)] := hl
  generalize ([.ref p0] : List Value).toArray = args at hC ⊢
  obtain ⟨hx, hb, hml, hown, hts, hr, hlk, hnm⟩ := hC
  unfold gw_X11_number at hw
  obtain ⟨H, eH⟩ : ∃ z, z = s.heap := ⟨_, rfl⟩
  obtain ⟨locs, elo⟩ : ∃ z : List Loc, z = [] := ⟨_, rfl⟩
  rw [← eH, ← elo] at hI ⊢
  obtain ⟨cells, slots, hbc, hbs, e0, e1⟩ : ∃ a b : Nat, a ≤ 0 ∧ b ≤ 0 ∧ a = 0 ∧ b = 0 := ⟨0, 0, by omega, by omega, rfl, rfl⟩
  show W p l e ({ frames := 8, cells := 0, slots := 0, locals := 140 } : Room) s m args below meth c H locs 0 0 (MQ below (va_Qi post (ga_E g) (ga_A g)) args s 0 0 (ga_A g)) (F0 m 0 ls [])
  suffices hgoal : W p l e ({ frames := 8, cells := 0, slots := 0, locals := 140 } : Room) s m args below meth c H locs cells slots (MQ below (va_Qi post (ga_E g) (ga_A g)) args s 0 0 (ga_A g)) (F0 m 0 ls []) by rw [e0, e1] at hgoal; exact hgoal
  refine lv_iconst (v := 3) hx hb dX11_number_0 (by decide) ?_
  refine lv_aload_n hx hb dX11_number_1 rfl (lv_at hl 0 rfl) ?_
  obtain ⟨fs_1, v_2, hq, hv, hw⟩ := hw
  refine ga_get (ci := 9) (T := TX11) (v := .int v_2) hx hb hts hown hI in_X11 rfl 0 (by decide) q2170 (fun _ z => z) (ga_at.h hq) hv dX11_number_2 ?_
  refine lv_imul hx hb dX11_number_5 ?_
  refine lv_aload_n hx hb dX11_number_6 rfl (lv_at hl 0 rfl) ?_
  obtain ⟨fs_3, v_4, hq, hv, hw⟩ := hw
  refine ga_get (ci := 9) (T := TX11) (v := .int v_4) hx hb hts hown hI in_X11 rfl 1 (by decide) q2173 (fun _ z => z) (ga_at.h hq) hv dX11_number_7 ?_
  refine lv_iadd hx hb dX11_number_10 ?_
  exact ga_iret hx hb hr rfl hlk hI hw hbc hbs dX11_number_11
theorem hdG_X11_number : yX11_number.cls ≠ "java/lang/invoke/MethodHandle" ∧ yX11_number.cls ≠ "java/lang/invoke/VarHandle" ∧ (parseMethodDescriptor yX11_number.desc).map (fun d => d.parameters.length) = some 0 := by decide +kernel
def gw_X11_equals (K : ga_K) (p0 : Nat) (p1 : Option Nat) (h : ga_H) (post : Int32 → ga_H → Prop) : Prop :=
  ∃ a_2 : Nat, p1 = some a_2 ∧ ∃ fs_1 : List Value, ga_at K h a_2 (ga_O 9 fs_1) ∧ (ga_ok K h "PaperStore$Paper" p1 ∧ (∃ a_4 : Nat, p1 = some a_4 ∧ ∃ (fs_5 : List Value) (v_6 : Int32), h a_4 = some (ga_O 9 fs_5) ∧ fs_5[0]? = some (.int v_6) ∧ (∃ (fs_7 : List Value) (v_8 : Int32), h p0 = some (ga_O 9 fs_7) ∧ fs_7[0]? = some (.int v_8) ∧ ((¬ v_6 = v_8 → (post (0 : Int32) h)) ∧ (v_6 = v_8 → (∃ a_10 : Nat, p1 = some a_10 ∧ ∃ (fs_11 : List Value) (v_12 : Int32), h a_10 = some (ga_O 9 fs_11) ∧ fs_11[1]? = some (.int v_12) ∧ (∃ (fs_13 : List Value) (v_14 : Int32), h p0 = some (ga_O 9 fs_13) ∧ fs_13[1]? = some (.int v_14) ∧ ((¬ v_12 = v_14 → (post (0 : Int32) h)) ∧ (v_12 = v_14 → (post (1 : Int32) h))))))))))
set_option maxHeartbeats 4000000 in
theorem gm_X11_equals (l : Launch) (g : ga_G) (p0 : Nat) (p1 : Option Nat) (h : ga_H) (post : Int32 → ga_H → Prop) (hw : gw_X11_equals g.2.2 p0 p1 h post) : Met l yX11_equals (ws_ yX11_equals cX11_equals 3 (some .boolean)) ({ frames := 8, cells := 0, slots := 0, locals := 140 } : Room) (va_Pc [.ref p0, va_rf p1] (ga_B g h)) (va_Qi post (ga_E g) (ga_A g)) 0 0 (ga_A g) := by
  refine ga_met (own := "PaperStore$Paper") (nm := "equals") (by decide) rfl rfl (by cases p1 <;> exact Nat.le_of_ble_eq_true rfl) (fun p e s m below meth c ls hC hI hl => ?_)
  have hl : lv_has ls 3 [(0, .ref p0), (1, va_rf p1)] := (by cases p1 <;> exact hl)
  generalize ([.ref p0, va_rf p1] : List Value).toArray = args at hC ⊢
  obtain ⟨hx, hb, hml, hown, hts, hr, hlk, hnm⟩ := hC
  unfold gw_X11_equals at hw
  obtain ⟨H, eH⟩ : ∃ z, z = s.heap := ⟨_, rfl⟩
  obtain ⟨locs, elo⟩ : ∃ z : List Loc, z = [] := ⟨_, rfl⟩
  rw [← eH, ← elo] at hI ⊢
  obtain ⟨cells, slots, hbc, hbs, e0, e1⟩ : ∃ a b : Nat, a ≤ 0 ∧ b ≤ 0 ∧ a = 0 ∧ b = 0 := ⟨0, 0, by omega, by omega, rfl, rfl⟩
  show W p l e ({ frames := 8, cells := 0, slots := 0, locals := 140 } : Room) s m args below meth c H locs 0 0 (MQ below (va_Qi post (ga_E g) (ga_A g)) args s 0 0 (ga_A g)) (F0 m 0 ls [])
  suffices hgoal : W p l e ({ frames := 8, cells := 0, slots := 0, locals := 140 } : Room) s m args below meth c H locs cells slots (MQ below (va_Qi post (ga_E g) (ga_A g)) args s 0 0 (ga_A g)) (F0 m 0 ls []) by rw [e0, e1] at hgoal; exact hgoal
  refine ga_aload_n hx hb dX11_equals_0 rfl (lv_at hl 1 rfl) ?_
  obtain ⟨a_2, ea_2, hw⟩ := hw
  rewrite [ea_2]
  obtain ⟨fs_1, hq, hw⟩ := hw
  refine ga_instO (ci := 9) hx hb hts hown hI q1914 hq rfl dX11_equals_1 ?_
  refine lv_if_eq (tgt := 38) hx hb dX11_equals_4 (by decide) (fun hc_3 => by first | exact absurd hc_3 (by decide) | exact absurd (by decide) hc_3) (fun _ => ?_)
  refine ga_aload_n hx hb dX11_equals_7 rfl (lv_at hl 1 rfl) ?_
  refine ga_cast (x := p1) hx hb hts hown hI q1914 hw.1 dX11_equals_8 ?_
  have hw := hw.2
  refine ga_astore_n (i := 2) (x := p1) (lv' := [(2, va_rf p1), (0, .ref p0), (1, va_rf p1)]) hx hb dX11_equals_11 rfl hl (by decide) (by simp [ga_rcat, ga_cat_r, ga_cat_i, ga_cat_f, ga_cat_l, ga_cat_d]) (fun ls hl => ?_)
  refine ga_aload_n hx hb dX11_equals_12 rfl (lv_at hl 0 rfl) ?_
  obtain ⟨a_4, ea_4, hw⟩ := hw
  rewrite [ea_4]
  obtain ⟨fs_5, v_6, hq, hv, hw⟩ := hw
  refine ga_get (ci := 9) (T := TX11) (v := .int v_6) hx hb hts hown hI in_X11 rfl 0 (by decide) q2170 (fun _ z => z) (ga_at.h hq) hv dX11_equals_13 ?_
  refine lv_aload_n hx hb dX11_equals_16 rfl (lv_at hl 1 rfl) ?_
  obtain ⟨fs_7, v_8, hq, hv, hw⟩ := hw
  refine ga_get (ci := 9) (T := TX11) (v := .int v_8) hx hb hts hown hI in_X11 rfl 0 (by decide) q2170 (fun _ z => z) (ga_at.h hq) hv dX11_equals_17 ?_
  refine lv_icmp_ne (tgt := 38) hx hb dX11_equals_20 (by decide) (fun hc_9 => ?_) (fun hc_9 => ?_)
  · have hw := hw.1 hc_9
    refine lv_iconst (v := 0) hx hb dX11_equals_38 (by decide) ?_
    exact ga_iret hx hb hr rfl hlk hI hw hbc hbs dX11_equals_39
  · have hw := hw.2 hc_9
    refine ga_aload_n hx hb dX11_equals_23 rfl (lv_at hl 0 rfl) ?_
    obtain ⟨a_10, ea_10, hw⟩ := hw
    rewrite [ea_10]
    obtain ⟨fs_11, v_12, hq, hv, hw⟩ := hw
    refine ga_get (ci := 9) (T := TX11) (v := .int v_12) hx hb hts hown hI in_X11 rfl 1 (by decide) q2173 (fun _ z => z) (ga_at.h hq) hv dX11_equals_24 ?_
    refine lv_aload_n hx hb dX11_equals_27 rfl (lv_at hl 1 rfl) ?_
    obtain ⟨fs_13, v_14, hq, hv, hw⟩ := hw
    refine ga_get (ci := 9) (T := TX11) (v := .int v_14) hx hb hts hown hI in_X11 rfl 1 (by decide) q2173 (fun _ z => z) (ga_at.h hq) hv dX11_equals_28 ?_
    refine lv_icmp_ne (tgt := 38) hx hb dX11_equals_31 (by decide) (fun hc_15 => ?_) (fun hc_15 => ?_)
    · have hw := hw.1 hc_15
      refine lv_iconst (v := 0) hx hb dX11_equals_38 (by decide) ?_
      exact ga_iret hx hb hr rfl hlk hI hw hbc hbs dX11_equals_39
    · have hw := hw.2 hc_15
      refine lv_iconst (v := 1) hx hb dX11_equals_34 (by decide) ?_
      refine lv_goto (tgt := 39) hx hb dX11_equals_35 (by decide) ?_
      exact ga_iret hx hb hr rfl hlk hI hw hbc hbs dX11_equals_39
theorem hdG_X11_equals : yX11_equals.cls ≠ "java/lang/invoke/MethodHandle" ∧ yX11_equals.cls ≠ "java/lang/invoke/VarHandle" ∧ (parseMethodDescriptor yX11_equals.desc).map (fun d => d.parameters.length) = some 1 := by decide +kernel
def gw_X11_hashCode (K : ga_K) (p0 : Nat) (h : ga_H) (post : Int32 → ga_H → Prop) : Prop :=
  ∃ (fs_1 : List Value) (v_2 : Int32), h p0 = some (ga_O 9 fs_1) ∧ fs_1[1]? = some (.int v_2) ∧ (∃ (fs_3 : List Value) (v_4 : Int32), h p0 = some (ga_O 9 fs_3) ∧ fs_3[0]? = some (.int v_4) ∧ (post (((31 : Int32) * v_2) + v_4) h))
set_option maxHeartbeats 4000000 in
theorem gm_X11_hashCode (l : Launch) (g : ga_G) (p0 : Nat) (h : ga_H) (post : Int32 → ga_H → Prop) (hw : gw_X11_hashCode g.2.2 p0 h post) : Met l yX11_hashCode (ws_ yX11_hashCode cX11_hashCode 1 (some .int)) ({ frames := 8, cells := 0, slots := 0, locals := 140 } : Room) (va_Pc [.ref p0] (ga_B g h)) (va_Qi post (ga_E g) (ga_A g)) 0 0 (ga_A g) := by
  refine ga_met (own := "PaperStore$Paper") (nm := "hashCode") (by decide) rfl rfl (by exact Nat.le_of_ble_eq_true rfl) (fun p e s m below meth c ls hC hI hl => ?_)
  have hl : lv_has ls 1 [(0, .ref p0)] := hl
  generalize ([.ref p0] : List Value).toArray = args at hC ⊢
  obtain ⟨hx, hb, hml, hown, hts, hr, hlk, hnm⟩ := hC
  unfold gw_X11_hashCode at hw
  obtain ⟨H, eH⟩ : ∃ z, z = s.heap := ⟨_, rfl⟩
  obtain ⟨locs, elo⟩ : ∃ z : List Loc, z = [] := ⟨_, rfl⟩
  rw [← eH, ← elo] at hI ⊢
  obtain ⟨cells, slots, hbc, hbs, e0, e1⟩ : ∃ a b : Nat, a ≤ 0 ∧ b ≤ 0 ∧ a = 0 ∧ b = 0 := ⟨0, 0, by omega, by omega, rfl, rfl⟩
  show W p l e ({ frames := 8, cells := 0, slots := 0, locals := 140 } : Room) s m args below meth c H locs 0 0 (MQ below (va_Qi post (ga_E g) (ga_A g)) args s 0 0 (ga_A g)) (F0 m 0 ls [])
  suffices hgoal : W p l e ({ frames := 8, cells := 0, slots := 0, locals := 140 } : Room) s m args below meth c H locs cells slots (MQ below (va_Qi post (ga_E g) (ga_A g)) args s 0 0 (ga_A g)) (F0 m 0 ls []) by rw [e0, e1] at hgoal; exact hgoal
  refine lv_bipush (v := 31) hx hb dX11_hashCode_0 (by decide) ?_
  refine lv_aload_n hx hb dX11_hashCode_2 rfl (lv_at hl 0 rfl) ?_
  obtain ⟨fs_1, v_2, hq, hv, hw⟩ := hw
  refine ga_get (ci := 9) (T := TX11) (v := .int v_2) hx hb hts hown hI in_X11 rfl 1 (by decide) q2173 (fun _ z => z) (ga_at.h hq) hv dX11_hashCode_3 ?_
  refine lv_imul hx hb dX11_hashCode_6 ?_
  refine lv_aload_n hx hb dX11_hashCode_7 rfl (lv_at hl 0 rfl) ?_
  obtain ⟨fs_3, v_4, hq, hv, hw⟩ := hw
  refine ga_get (ci := 9) (T := TX11) (v := .int v_4) hx hb hts hown hI in_X11 rfl 0 (by decide) q2170 (fun _ z => z) (ga_at.h hq) hv dX11_hashCode_8 ?_
  refine lv_iadd hx hb dX11_hashCode_11 ?_
  exact ga_iret hx hb hr rfl hlk hI hw hbc hbs dX11_hashCode_12
theorem hdG_X11_hashCode : yX11_hashCode.cls ≠ "java/lang/invoke/MethodHandle" ∧ yX11_hashCode.cls ≠ "java/lang/invoke/VarHandle" ∧ (parseMethodDescriptor yX11_hashCode.desc).map (fun d => d.parameters.length) = some 0 := by decide +kernel
def gw_X6_isGood (K : ga_K) (p0 : Nat) (p1 : Option Nat) (h : ga_H) (post : Int32 → ga_H → Prop) : Prop :=
  ∃ (fs_1 : List Value) (v_2 : Option Nat), h p0 = some (ga_O 4 fs_1) ∧ fs_1[1]? = some (va_rf v_2) ∧ (∃ a_3 : Nat, v_2 = some a_3 ∧ ∃ fs_4 : List Value, ga_at K h a_3 (ga_O 9 fs_4) ∧ gw_X11_equals K a_3 p1 h (fun (r_6 : Int32) (h_5 : ga_H) => (r_6 = (0 : Int32) → (post (0 : Int32) h_5)) ∧ (¬ r_6 = (0 : Int32) → (∃ fs_8 : List Value, ga_at K h_5 p0 (ga_O 4 fs_8) ∧ gw_X6_isWavy K p0 h_5 (fun (r_10 : Int32) (h_9 : ga_H) => (¬ r_10 = (0 : Int32) → (post (0 : Int32) h_9)) ∧ (r_10 = (0 : Int32) → (post (1 : Int32) h_9)))))))
set_option maxHeartbeats 4000000 in
theorem gm_X6_isGood (l : Launch) (g : ga_G) (p0 : Nat) (p1 : Option Nat) (h : ga_H) (post : Int32 → ga_H → Prop) (hw : gw_X6_isGood g.2.2 p0 p1 h post) : Met l yX6_isGood (ws_ yX6_isGood cX6_isGood 2 (some .boolean)) ({ frames := 9, cells := 0, slots := 0, locals := 162 } : Room) (va_Pc [.ref p0, va_rf p1] (ga_B g h)) (va_Qi post (ga_E g) (ga_A g)) 0 0 (ga_A g) := by
  refine ga_met (own := "PaperStore$Ream") (nm := "isGood") (by decide) rfl rfl (by cases p1 <;> exact Nat.le_of_ble_eq_true rfl) (fun p e s m below meth c ls hC hI hl => ?_)
  have hl : lv_has ls 2 [(0, .ref p0), (1, va_rf p1)] := (by cases p1 <;> exact hl)
  generalize ([.ref p0, va_rf p1] : List Value).toArray = args at hC ⊢
  obtain ⟨hx, hb, hml, hown, hts, hr, hlk, hnm⟩ := hC
  unfold gw_X6_isGood at hw
  obtain ⟨H, eH⟩ : ∃ z, z = s.heap := ⟨_, rfl⟩
  obtain ⟨locs, elo⟩ : ∃ z : List Loc, z = [] := ⟨_, rfl⟩
  rw [← eH, ← elo] at hI ⊢
  obtain ⟨cells, slots, hbc, hbs, e0, e1⟩ : ∃ a b : Nat, a ≤ 0 ∧ b ≤ 0 ∧ a = 0 ∧ b = 0 := ⟨0, 0, by omega, by omega, rfl, rfl⟩
  show W p l e ({ frames := 9, cells := 0, slots := 0, locals := 162 } : Room) s m args below meth c H locs 0 0 (MQ below (va_Qi post (ga_E g) (ga_A g)) args s 0 0 (ga_A g)) (F0 m 0 ls [])
  suffices hgoal : W p l e ({ frames := 9, cells := 0, slots := 0, locals := 162 } : Room) s m args below meth c H locs cells slots (MQ below (va_Qi post (ga_E g) (ga_A g)) args s 0 0 (ga_A g)) (F0 m 0 ls []) by rw [e0, e1] at hgoal; exact hgoal
  refine lv_aload_n hx hb dX6_isGood_0 rfl (lv_at hl 0 rfl) ?_
  obtain ⟨fs_1, v_2, hq, hv, hw⟩ := hw
  refine ga_get (ci := 4) (T := TX6) (v := va_rf v_2) hx hb hts hown hI in_X6 rfl 1 (by decide) q1296 (fun _ z => z) (ga_at.h hq) hv dX6_isGood_1 ?_
  refine ga_aload_n hx hb dX6_isGood_4 rfl (lv_at hl 1 rfl) ?_
  obtain ⟨a_3, ea_3, hw⟩ := hw
  rewrite [ea_3]
  obtain ⟨fs_4, hq, hw⟩ := hw
  refine ga_calli (va_runV (As := [va_rf p1]) (rest := []) ⟨hx, hb, hml, hown, hts⟩ (gm_X11_equals l g a_3 p1 h _ hw) (cwV 1 hts (lw_V q2492 q1912 q4121 q153 q1913) rfl rfl rfl ⟨rfl, hdG_X11_equals⟩ ⟨Nat.le_of_ble_eq_true rfl, Nat.le_of_ble_eq_true rfl⟩) (ga_preV hI hq rfl rfl) rfl rfl hl.1 rfl (ga_room (Nat.le_of_ble_eq_true rfl)) dX6_isGood_5 ⟨hbc, hbs⟩) hI (bc := 0) (bs := 0) hbc hbs (Nat.zero_le _) (Nat.zero_le _) (fun r_6 h_5 H locs cells slots hw hI hbc hbs => ?_)
  refine lv_if_eq (tgt := 22) hx hb dX6_isGood_8 (by decide) (fun hc_7 => ?_) (fun hc_7 => ?_)
  · have hw := hw.1 hc_7
    refine lv_iconst (v := 0) hx hb dX6_isGood_22 (by decide) ?_
    exact ga_iret hx hb hr rfl hlk hI hw hbc hbs dX6_isGood_23
  · have hw := hw.2 hc_7
    refine lv_aload_n hx hb dX6_isGood_11 rfl (lv_at hl 0 rfl) ?_
    obtain ⟨fs_8, hq, hw⟩ := hw
    refine ga_calli (va_runV (As := []) (rest := []) ⟨hx, hb, hml, hown, hts⟩ (gm_X6_isWavy l g p0 h_5 _ hw) (cwV 0 hts (lw_V q2493 q2288 q2289 q137 q2290) rfl rfl rfl ⟨rfl, hdG_X6_isWavy⟩ ⟨Nat.le_of_ble_eq_true rfl, Nat.le_of_ble_eq_true rfl⟩) (ga_preV hI hq rfl rfl) rfl rfl hl.1 rfl (ga_room (Nat.le_of_ble_eq_true rfl)) dX6_isGood_12 ⟨hbc, hbs⟩) hI (bc := 0) (bs := 0) hbc hbs (Nat.zero_le _) (Nat.zero_le _) (fun r_10 h_9 H locs cells slots hw hI hbc hbs => ?_)
    refine lv_if_ne (tgt := 22) hx hb dX6_isGood_15 (by decide) (fun hc_11 => ?_) (fun hc_11 => ?_)
    · have hw := hw.1 hc_11
      refine lv_iconst (v := 0) hx hb dX6_isGood_22 (by decide) ?_
      exact ga_iret hx hb hr rfl hlk hI hw hbc hbs dX6_isGood_23
    · have hw := hw.2 hc_11
      refine lv_iconst (v := 1) hx hb dX6_isGood_18 (by decide) ?_
      refine lv_goto (tgt := 23) hx hb dX6_isGood_19 (by decide) ?_
      exact ga_iret hx hb hr rfl hlk hI hw hbc hbs dX6_isGood_23
theorem hdG_X6_isGood : yX6_isGood.cls ≠ "java/lang/invoke/MethodHandle" ∧ yX6_isGood.cls ≠ "java/lang/invoke/VarHandle" ∧ (parseMethodDescriptor yX6_isGood.desc).map (fun d => d.parameters.length) = some 1 := by decide +kernel
def gw_J30_compare (p0 : Int32) (p1 : Int32) (post : Int32 → Prop) : Prop :=
  (p1 ≤ p0 → ((¬ p0 = p1 → (post (1 : Int32))) ∧ (p0 = p1 → (post (0 : Int32))))) ∧ (¬ p1 ≤ p0 → (post (-1 : Int32)))
set_option maxHeartbeats 4000000 in
theorem gm_J30_compare (l : Launch) (p0 : Int32) (p1 : Int32) (post : Int32 → Prop) (hw : gw_J30_compare p0 p1 post) : Met l yJ30_compare (ws_ yJ30_compare cJ30_compare 2 (some .int)) ({ frames := 8, cells := 0, slots := 0, locals := 140 } : Room) (va_Pc [.int p0, .int p1] (fun _ => True)) (vp_Si post) 0 0 (fun _ => False) := by
  refine ga_metS (own := "java/lang/Integer") (nm := "compare") (by decide) rfl rfl (by exact Nat.le_of_ble_eq_true rfl) (fun p e s m below meth c ls hC hl => ?_)
  have hl : lv_has ls 2 [(0, .int p0), (1, .int p1)] := hl
  generalize ([.int p0, .int p1] : List Value).toArray = args at hC ⊢
  obtain ⟨hx, hb, hml, hown, hts, hr, hlk, hnm⟩ := hC
  unfold gw_J30_compare at hw
  refine lv_iload_n hx hb dJ30_compare_0 rfl (lv_at hl 0 rfl) ?_
  refine lv_iload_n hx hb dJ30_compare_1 rfl (lv_at hl 1 rfl) ?_
  refine lv_icmp_ge (tgt := 9) hx hb dJ30_compare_2 (by decide) (fun hc_1 => ?_) (fun hc_1 => ?_)
  · have hw := hw.1 hc_1
    refine lv_iload_n hx hb dJ30_compare_9 rfl (lv_at hl 0 rfl) ?_
    refine lv_iload_n hx hb dJ30_compare_10 rfl (lv_at hl 1 rfl) ?_
    refine lv_icmp_ne (tgt := 18) hx hb dJ30_compare_11 (by decide) (fun hc_2 => ?_) (fun hc_2 => ?_)
    · have hw := hw.1 hc_2
      refine lv_iconst (v := 1) hx hb dJ30_compare_18 (by decide) ?_
      exact ga_sret hx hb hr hlk rfl hw dJ30_compare_19
    · have hw := hw.2 hc_2
      refine lv_iconst (v := 0) hx hb dJ30_compare_14 (by decide) ?_
      refine lv_goto (tgt := 19) hx hb dJ30_compare_15 (by decide) ?_
      exact ga_sret hx hb hr hlk rfl hw dJ30_compare_19
  · have hw := hw.2 hc_1
    refine lv_iconst (v := -1) hx hb dJ30_compare_5 (by decide) ?_
    refine lv_goto (tgt := 19) hx hb dJ30_compare_6 (by decide) ?_
    exact ga_sret hx hb hr hlk rfl hw dJ30_compare_19
theorem hdG_J30_compare : yJ30_compare.cls ≠ "java/lang/invoke/MethodHandle" ∧ yJ30_compare.cls ≠ "java/lang/invoke/VarHandle" ∧ (parseMethodDescriptor yJ30_compare.desc).map (fun d => d.parameters.length) = some 2 := by decide +kernel
def gw_X6_comesNear (K : ga_K) (p0 : Nat) (p1 : Int32) (h : ga_H) (post : ga_H → Prop) : Prop :=
  ∃ (fs_1 : List Value) (v_2 : Int32), h p0 = some (ga_O 4 fs_1) ∧ fs_1[3]? = some (.int v_2) ∧ (∃ (fs_3 : List Value) (v_4 : Int32), h p0 = some (ga_O 4 fs_3) ∧ fs_3[3]? = some (.int v_4) ∧ (gw_J30_compare p1 v_4 (fun (r_5 : Int32) => ∃ fs_6 : List Value, h p0 = some (ga_O 4 fs_6) ∧ 3 < fs_6.length ∧ ∀ h_7 : ga_H, h_7 = ga_set h p0 (ga_O 4 (fs_6.set 3 (.int (v_2 + r_5)))) → (post h_7))))
set_option maxHeartbeats 4000000 in
theorem gm_X6_comesNear (l : Launch) (g : ga_G) (p0 : Nat) (p1 : Int32) (h : ga_H) (post : ga_H → Prop) (hw : gw_X6_comesNear g.2.2 p0 p1 h post) : Met l yX6_comesNear (ws_ yX6_comesNear cX6_comesNear 2 none) ({ frames := 9, cells := 0, slots := 0, locals := 161 } : Room) (va_Pc [.ref p0, .int p1] (ga_B g h)) (va_Qv post (ga_E g) (ga_A g)) 0 0 (ga_A g) := by
  refine ga_met (own := "PaperStore$Ream") (nm := "comesNear") (by decide) rfl rfl (by exact Nat.le_of_ble_eq_true rfl) (fun p e s m below meth c ls hC hI hl => ?_)
  have hl : lv_has ls 2 [(0, .ref p0), (1, .int p1)] := hl
  generalize ([.ref p0, .int p1] : List Value).toArray = args at hC ⊢
  obtain ⟨hx, hb, hml, hown, hts, hr, hlk, hnm⟩ := hC
  unfold gw_X6_comesNear at hw
  obtain ⟨H, eH⟩ : ∃ z, z = s.heap := ⟨_, rfl⟩
  obtain ⟨locs, elo⟩ : ∃ z : List Loc, z = [] := ⟨_, rfl⟩
  rw [← eH, ← elo] at hI ⊢
  obtain ⟨cells, slots, hbc, hbs, e0, e1⟩ : ∃ a b : Nat, a ≤ 0 ∧ b ≤ 0 ∧ a = 0 ∧ b = 0 := ⟨0, 0, by omega, by omega, rfl, rfl⟩
  show W p l e ({ frames := 9, cells := 0, slots := 0, locals := 161 } : Room) s m args below meth c H locs 0 0 (MQ below (va_Qv post (ga_E g) (ga_A g)) args s 0 0 (ga_A g)) (F0 m 0 ls [])
  suffices hgoal : W p l e ({ frames := 9, cells := 0, slots := 0, locals := 161 } : Room) s m args below meth c H locs cells slots (MQ below (va_Qv post (ga_E g) (ga_A g)) args s 0 0 (ga_A g)) (F0 m 0 ls []) by rw [e0, e1] at hgoal; exact hgoal
  refine lv_aload_n hx hb dX6_comesNear_0 rfl (lv_at hl 0 rfl) ?_
  refine lv_dup hx hb dX6_comesNear_1 rfl ?_
  obtain ⟨fs_1, v_2, hq, hv, hw⟩ := hw
  refine ga_get (ci := 4) (T := TX6) (v := .int v_2) hx hb hts hown hI in_X6 rfl 3 (by decide) q1304 (fun _ z => z) (ga_at.h hq) hv dX6_comesNear_2 ?_
  refine lv_iload_n hx hb dX6_comesNear_5 rfl (lv_at hl 1 rfl) ?_
  refine lv_aload_n hx hb dX6_comesNear_6 rfl (lv_at hl 0 rfl) ?_
  obtain ⟨fs_3, v_4, hq, hv, hw⟩ := hw
  refine ga_get (ci := 4) (T := TX6) (v := .int v_4) hx hb hts hown hI in_X6 rfl 3 (by decide) q1304 (fun _ z => z) (ga_at.h hq) hv dX6_comesNear_7 ?_
  refine ga_callS (As := [.int p1, .int v_4]) (rest := [.int v_2, .ref p0]) ⟨hx, hb, hml, hown, hts⟩ (gm_J30_compare l p1 v_4 _ hw) (va_cwS 2 hts (lw_S q2659 q1553 q136 q1554) rfl rfl rfl hdG_J30_compare ⟨Nat.le_of_ble_eq_true rfl, Nat.le_of_ble_eq_true rfl⟩) rfl hl.1 rfl (ga_room (Nat.le_of_ble_eq_true rfl)) dX6_comesNear_10 (bc := 0) (bs := 0) hbc hbs (fun r_5 hw => ?_)
  refine lv_iadd hx hb dX6_comesNear_13 ?_
  obtain ⟨fs_6, hq, hk, hw⟩ := hw
  refine ga_put (ci := 4) (T := TX6) (v := .int (v_2 + r_5)) (ty := tyX6 3) hx hb hts hown hI in_X6 rfl tyX6 tyX6_ok nmX6 3 (by decide) q1304 (fun _ z => z) rfl (tyX6_ok 3 (by decide)) rfl rfl hq hk dX6_comesNear_14 (fun H locs hI => ?_)
  obtain ⟨h_7, eh_7⟩ : ∃ z, z = ga_set h p0 (ga_O 4 (fs_6.set 3 (.int (v_2 + r_5)))) := ⟨_, rfl⟩
  rw [← eh_7] at hI
  have hw := hw h_7 eh_7
  exact ga_vret hx hb hr hlk hI hw hbc hbs dX6_comesNear_17
theorem hdG_X6_comesNear : yX6_comesNear.cls ≠ "java/lang/invoke/MethodHandle" ∧ yX6_comesNear.cls ≠ "java/lang/invoke/VarHandle" ∧ (parseMethodDescriptor yX6_comesNear.desc).map (fun d => d.parameters.length) = some 1 := by decide +kernel
def gw_X7_init (K : ga_K) (p0 : Nat) (p1 : Int32) (p2 : Int32) (h : ga_H) (post : ga_H → Prop) : Prop :=
  ∃ fs_1 : List Value, h p0 = some (ga_O 5 fs_1) ∧ 0 < fs_1.length ∧ ∀ h_2 : ga_H, h_2 = ga_set h p0 (ga_O 5 (fs_1.set 0 (.int p1))) → (∃ fs_3 : List Value, h_2 p0 = some (ga_O 5 fs_3) ∧ 1 < fs_3.length ∧ ∀ h_4 : ga_H, h_4 = ga_set h_2 p0 (ga_O 5 (fs_3.set 1 (.int p2))) → (post h_4))
set_option maxHeartbeats 4000000 in
theorem gm_X7_init (l : Launch) (g : ga_G) (p0 : Nat) (p1 : Int32) (p2 : Int32) (h : ga_H) (post : ga_H → Prop) (hw : gw_X7_init g.2.2 p0 p1 p2 h post) : Met l yX7_init (ws_ yX7_init cX7_init 3 none) ({ frames := 8, cells := 0, slots := 0, locals := 140 } : Room) (va_Pc [.ref p0, .int p1, .int p2] (ga_B g h)) (va_Qv post (ga_E g) (ga_A g)) 0 0 (ga_A g) := by
  refine ga_met (own := "PaperStore$Ladder") (nm := "<init>") (by decide) rfl rfl (by exact Nat.le_of_ble_eq_true rfl) (fun p e s m below meth c ls hC hI hl => ?_)
  have hl : lv_has ls 3 [(0, .ref p0), (1, .int p1), (2, .int p2)] := hl
  generalize ([.ref p0, .int p1, .int p2] : List Value).toArray = args at hC ⊢
  obtain ⟨hx, hb, hml, hown, hts, hr, hlk, hnm⟩ := hC
  unfold gw_X7_init at hw
  obtain ⟨H, eH⟩ : ∃ z, z = s.heap := ⟨_, rfl⟩
  obtain ⟨locs, elo⟩ : ∃ z : List Loc, z = [] := ⟨_, rfl⟩
  rw [← eH, ← elo] at hI ⊢
  obtain ⟨cells, slots, hbc, hbs, e0, e1⟩ : ∃ a b : Nat, a ≤ 0 ∧ b ≤ 0 ∧ a = 0 ∧ b = 0 := ⟨0, 0, by omega, by omega, rfl, rfl⟩
  show W p l e ({ frames := 8, cells := 0, slots := 0, locals := 140 } : Room) s m args below meth c H locs 0 0 (MQ below (va_Qv post (ga_E g) (ga_A g)) args s 0 0 (ga_A g)) (F0 m 0 ls [])
  suffices hgoal : W p l e ({ frames := 8, cells := 0, slots := 0, locals := 140 } : Room) s m args below meth c H locs cells slots (MQ below (va_Qv post (ga_E g) (ga_A g)) args s 0 0 (ga_A g)) (F0 m 0 ls []) by rw [e0, e1] at hgoal; exact hgoal
  refine lv_aload_n hx hb dX7_init_0 rfl (lv_at hl 0 rfl) ?_
  refine W.objInit hx hb hown (hts _ q1344) (hts _ q179) (hts _ q180) rfl (by rw [hml]; exact hl.1) rfl dX7_init_1 (Nat.le_of_ble_eq_true rfl) (by have := ga_sum [] (Nat.le_of_ble_eq_true rfl); exact Nat.le_trans (Nat.add_le_add_right (Nat.add_le_add_left this 0) 12) (Nat.le_of_ble_eq_true rfl)) ?_
  refine W.eq (g2 := F0 m 4 ls []) rfl ?_
  refine lv_aload_n hx hb dX7_init_4 rfl (lv_at hl 0 rfl) ?_
  refine lv_iload_n hx hb dX7_init_5 rfl (lv_at hl 1 rfl) ?_
  obtain ⟨fs_1, hq, hk, hw⟩ := hw
  refine ga_putF (ci := 5) (T := TX7) (v := .int p1) (ty := tyX7 0) hx hb hts hown hI in_X7 rfl tyX7 tyX7_ok nmX7 0 (by decide) q1345 (fun _ z => z) rfl hnm rfl (tyX7_ok 0 (by decide)) rfl rfl hq hk dX7_init_6 (fun H locs hI => ?_)
  obtain ⟨h_2, eh_2⟩ : ∃ z, z = ga_set h p0 (ga_O 5 (fs_1.set 0 (.int p1))) := ⟨_, rfl⟩
  rw [← eh_2] at hI
  have hw := hw h_2 eh_2
  refine lv_aload_n hx hb dX7_init_9 rfl (lv_at hl 0 rfl) ?_
  refine lv_iload_n hx hb dX7_init_10 rfl (lv_at hl 2 rfl) ?_
  obtain ⟨fs_3, hq, hk, hw⟩ := hw
  refine ga_put (ci := 5) (T := TX7) (v := .int p2) (ty := tyX7 1) hx hb hts hown hI in_X7 rfl tyX7 tyX7_ok nmX7 1 (by decide) q1348 (fun _ z => z) rfl (tyX7_ok 1 (by decide)) rfl rfl hq hk dX7_init_11 (fun H locs hI => ?_)
  obtain ⟨h_4, eh_4⟩ : ∃ z, z = ga_set h_2 p0 (ga_O 5 (fs_3.set 1 (.int p2))) := ⟨_, rfl⟩
  rw [← eh_4] at hI
  have hw := hw h_4 eh_4
  exact ga_vret hx hb hr hlk hI hw hbc hbs dX7_init_14
theorem hdG_X7_init : yX7_init.cls ≠ "java/lang/invoke/MethodHandle" ∧ yX7_init.cls ≠ "java/lang/invoke/VarHandle" ∧ (parseMethodDescriptor yX7_init.desc).map (fun d => d.parameters.length) = some 2 := by decide +kernel
def gw_X8_init (K : ga_K) (p0 : Nat) (p1 : Option Nat) (p2 : Int32) (h : ga_H) (post : ga_H → Prop) : Prop :=
  ∃ fs_1 : List Value, h p0 = some (ga_O 6 fs_1) ∧ 4 < fs_1.length ∧ ∀ h_2 : ga_H, h_2 = ga_set h p0 (ga_O 6 (fs_1.set 4 (.int (-1 : Int32)))) → (∃ fs_3 : List Value, h_2 p0 = some (ga_O 6 fs_3) ∧ 0 < fs_3.length ∧ ∀ h_4 : ga_H, h_4 = ga_set h_2 p0 (ga_O 6 (fs_3.set 0 (va_rf p1))) → (∃ fs_5 : List Value, h_4 p0 = some (ga_O 6 fs_5) ∧ 1 < fs_5.length ∧ ∀ h_6 : ga_H, h_6 = ga_set h_4 p0 (ga_O 6 (fs_5.set 1 (.int p2))) → (post h_6)))
set_option maxHeartbeats 4000000 in
theorem gm_X8_init (l : Launch) (g : ga_G) (p0 : Nat) (p1 : Option Nat) (p2 : Int32) (h : ga_H) (post : ga_H → Prop) (hw : gw_X8_init g.2.2 p0 p1 p2 h post) : Met l yX8_init (ws_ yX8_init cX8_init 3 none) ({ frames := 8, cells := 0, slots := 0, locals := 140 } : Room) (va_Pc [.ref p0, va_rf p1, .int p2] (ga_B g h)) (va_Qv post (ga_E g) (ga_A g)) 0 0 (ga_A g) := by
  refine ga_met (own := "PaperStore$Order") (nm := "<init>") (by decide) rfl rfl (by cases p1 <;> exact Nat.le_of_ble_eq_true rfl) (fun p e s m below meth c ls hC hI hl => ?_)
  have hl : lv_has ls 3 [(0, .ref p0), (1, va_rf p1), (2, .int p2)] := (by cases p1 <;> exact hl)
  generalize ([.ref p0, va_rf p1, .int p2] : List Value).toArray = args at hC ⊢
  obtain ⟨hx, hb, hml, hown, hts, hr, hlk, hnm⟩ := hC
  unfold gw_X8_init at hw
  obtain ⟨H, eH⟩ : ∃ z, z = s.heap := ⟨_, rfl⟩
  obtain ⟨locs, elo⟩ : ∃ z : List Loc, z = [] := ⟨_, rfl⟩
  rw [← eH, ← elo] at hI ⊢
  obtain ⟨cells, slots, hbc, hbs, e0, e1⟩ : ∃ a b : Nat, a ≤ 0 ∧ b ≤ 0 ∧ a = 0 ∧ b = 0 := ⟨0, 0, by omega, by omega, rfl, rfl⟩
  show W p l e ({ frames := 8, cells := 0, slots := 0, locals := 140 } : Room) s m args below meth c H locs 0 0 (MQ below (va_Qv post (ga_E g) (ga_A g)) args s 0 0 (ga_A g)) (F0 m 0 ls [])
  suffices hgoal : W p l e ({ frames := 8, cells := 0, slots := 0, locals := 140 } : Room) s m args below meth c H locs cells slots (MQ below (va_Qv post (ga_E g) (ga_A g)) args s 0 0 (ga_A g)) (F0 m 0 ls []) by rw [e0, e1] at hgoal; exact hgoal
  refine lv_aload_n hx hb dX8_init_0 rfl (lv_at hl 0 rfl) ?_
  refine W.objInit hx hb hown (hts _ q1367) (hts _ q179) (hts _ q180) rfl (by rw [hml]; exact hl.1) rfl dX8_init_1 (Nat.le_of_ble_eq_true rfl) (by have := ga_sum [] (Nat.le_of_ble_eq_true rfl); exact Nat.le_trans (Nat.add_le_add_right (Nat.add_le_add_left this 0) 12) (Nat.le_of_ble_eq_true rfl)) ?_
  refine W.eq (g2 := F0 m 4 ls []) rfl ?_
  refine lv_aload_n hx hb dX8_init_4 rfl (lv_at hl 0 rfl) ?_
  refine lv_iconst (v := -1) hx hb dX8_init_5 (by decide) ?_
  obtain ⟨fs_1, hq, hk, hw⟩ := hw
  refine ga_put (ci := 6) (T := TX8) (v := .int (-1 : Int32)) (ty := tyX8 4) hx hb hts hown hI in_X8 rfl tyX8 tyX8_ok nmX8 4 (by decide) q1380 (fun _ z => z) rfl (tyX8_ok 4 (by decide)) rfl rfl hq hk dX8_init_6 (fun H locs hI => ?_)
  obtain ⟨h_2, eh_2⟩ : ∃ z, z = ga_set h p0 (ga_O 6 (fs_1.set 4 (.int (-1 : Int32)))) := ⟨_, rfl⟩
  rw [← eh_2] at hI
  have hw := hw h_2 eh_2
  refine lv_aload_n hx hb dX8_init_9 rfl (lv_at hl 0 rfl) ?_
  refine ga_aload_n hx hb dX8_init_10 rfl (lv_at hl 1 rfl) ?_
  obtain ⟨fs_3, hq, hk, hw⟩ := hw
  refine ga_putF (ci := 6) (T := TX8) (v := va_rf p1) (ty := tyX8 0) hx hb hts hown hI in_X8 rfl tyX8 tyX8_ok nmX8 0 (by decide) q1368 (fun _ z => z) rfl hnm rfl (tyX8_ok 0 (by decide)) (ga_nq _ _) (ga_fq _ _) hq hk dX8_init_11 (fun H locs hI => ?_)
  obtain ⟨h_4, eh_4⟩ : ∃ z, z = ga_set h_2 p0 (ga_O 6 (fs_3.set 0 (va_rf p1))) := ⟨_, rfl⟩
  rw [← eh_4] at hI
  have hw := hw h_4 eh_4
  refine lv_aload_n hx hb dX8_init_14 rfl (lv_at hl 0 rfl) ?_
  refine lv_iload_n hx hb dX8_init_15 rfl (lv_at hl 2 rfl) ?_
  obtain ⟨fs_5, hq, hk, hw⟩ := hw
  refine ga_putF (ci := 6) (T := TX8) (v := .int p2) (ty := tyX8 1) hx hb hts hown hI in_X8 rfl tyX8 tyX8_ok nmX8 1 (by decide) q1371 (fun _ z => z) rfl hnm rfl (tyX8_ok 1 (by decide)) rfl rfl hq hk dX8_init_16 (fun H locs hI => ?_)
  obtain ⟨h_6, eh_6⟩ : ∃ z, z = ga_set h_4 p0 (ga_O 6 (fs_5.set 1 (.int p2))) := ⟨_, rfl⟩
  rw [← eh_6] at hI
  have hw := hw h_6 eh_6
  exact ga_vret hx hb hr hlk hI hw hbc hbs dX8_init_19
theorem hdG_X8_init : yX8_init.cls ≠ "java/lang/invoke/MethodHandle" ∧ yX8_init.cls ≠ "java/lang/invoke/VarHandle" ∧ (parseMethodDescriptor yX8_init.desc).map (fun d => d.parameters.length) = some 2 := by decide +kernel
def gw_X8_copy (K : ga_K) (p0 : Nat) (h : ga_H) (mc ms : Nat) (post : Option Nat → ga_H → Prop) : Prop :=
  1 ≤ mc ∧ 5 ≤ ms ∧ ∀ q_1 : Nat, h q_1 = none → ∀ h_2 : ga_H, h_2 = ga_set h q_1 (ga_O 6 [va_rf none, .int 0, .int 0, .int 0, .int 0]) → (∃ (fs_3 : List Value) (v_4 : Option Nat), h_2 p0 = some (ga_O 6 fs_3) ∧ fs_3[0]? = some (va_rf v_4) ∧ (∃ (fs_5 : List Value) (v_6 : Int32), h_2 p0 = some (ga_O 6 fs_5) ∧ fs_5[1]? = some (.int v_6) ∧ (gw_X8_init K q_1 v_4 v_6 h_2 (fun (h_7 : ga_H) => ∃ (fs_8 : List Value) (v_9 : Int32), h_7 p0 = some (ga_O 6 fs_8) ∧ fs_8[2]? = some (.int v_9) ∧ (∃ fs_10 : List Value, h_7 q_1 = some (ga_O 6 fs_10) ∧ 2 < fs_10.length ∧ ∀ h_11 : ga_H, h_11 = ga_set h_7 q_1 (ga_O 6 (fs_10.set 2 (.int v_9))) → (∃ (fs_12 : List Value) (v_13 : Int32), h_11 p0 = some (ga_O 6 fs_12) ∧ fs_12[3]? = some (.int v_13) ∧ (∃ fs_14 : List Value, h_11 q_1 = some (ga_O 6 fs_14) ∧ 3 < fs_14.length ∧ ∀ h_15 : ga_H, h_15 = ga_set h_11 q_1 (ga_O 6 (fs_14.set 3 (.int v_13))) → (∃ (fs_16 : List Value) (v_17 : Int32), h_15 p0 = some (ga_O 6 fs_16) ∧ fs_16[4]? = some (.int v_17) ∧ (∃ fs_18 : List Value, h_15 q_1 = some (ga_O 6 fs_18) ∧ 4 < fs_18.length ∧ ∀ h_19 : ga_H, h_19 = ga_set h_15 q_1 (ga_O 6 (fs_18.set 4 (.int v_17))) → (post (some q_1) h_19))))))))))
set_option maxHeartbeats 4000000 in
theorem gm_X8_copy (l : Launch) (g : ga_G) (p0 : Nat) (h : ga_H) (mc ms : Nat) (post : Option Nat → ga_H → Prop) (hw : gw_X8_copy g.2.2 p0 h mc ms post) : Met l yX8_copy (ws_ yX8_copy cX8_copy 2 (some (.object "PaperStore$Order"))) ({ frames := 9, cells := mc, slots := ms, locals := 162 } : Room) (va_Pc [.ref p0] (ga_B g h)) (va_Qq post (ga_E g) (ga_A g)) mc ms (ga_A g) := by
  refine ga_met (own := "PaperStore$Order") (nm := "copy") (by decide) rfl rfl (by exact Nat.le_of_ble_eq_true rfl) (fun p e s m below meth c ls hC hI hl => ?_)
  have hl : lv_has ls 2 [(0, .ref p0)] := hl
  generalize ([.ref p0] : List Value).toArray = args at hC ⊢
  obtain ⟨hx, hb, hml, hown, hts, hr, hlk, hnm⟩ := hC
  unfold gw_X8_copy at hw
  obtain ⟨H, eH⟩ : ∃ z, z = s.heap := ⟨_, rfl⟩
  obtain ⟨locs, elo⟩ : ∃ z : List Loc, z = [] := ⟨_, rfl⟩
  rw [← eH, ← elo] at hI ⊢
  obtain ⟨cells, slots, hbc, hbs, e0, e1⟩ : ∃ a b : Nat, a + mc ≤ mc ∧ b + ms ≤ ms ∧ a = 0 ∧ b = 0 := ⟨0, 0, by omega, by omega, rfl, rfl⟩
  show W p l e ({ frames := 9, cells := mc, slots := ms, locals := 162 } : Room) s m args below meth c H locs 0 0 (MQ below (va_Qq post (ga_E g) (ga_A g)) args s mc ms (ga_A g)) (F0 m 0 ls [])
  suffices hgoal : W p l e ({ frames := 9, cells := mc, slots := ms, locals := 162 } : Room) s m args below meth c H locs cells slots (MQ below (va_Qq post (ga_E g) (ga_A g)) args s mc ms (ga_A g)) (F0 m 0 ls []) by rw [e0, e1] at hgoal; exact hgoal
  refine ga_new (ci := 6) (T := TX8) hx hb hts hown hI in_X8 rfl tyX8 tyX8_ok q1362 q1363 q139 [va_rf none, .int 0, .int 0, .int 0, .int 0] ga_df_X8 hbc hbs hw.1 hw.2.1 dX8_copy_0 (fun q_1 H cells slots hn_q_1 hI hbc hbs => ?_)
  obtain ⟨h_2, eh_2⟩ : ∃ z, z = ga_set h q_1 (ga_O 6 [va_rf none, .int 0, .int 0, .int 0, .int 0]) := ⟨_, rfl⟩
  rw [← eh_2] at hI
  have hw := hw.2.2 q_1 hn_q_1 h_2 eh_2
  refine lv_dup hx hb dX8_copy_3 rfl ?_
  refine lv_aload_n hx hb dX8_copy_4 rfl (lv_at hl 0 rfl) ?_
  obtain ⟨fs_3, v_4, hq, hv, hw⟩ := hw
  refine ga_get (ci := 6) (T := TX8) (v := va_rf v_4) hx hb hts hown hI in_X8 rfl 0 (by decide) q1368 (fun _ z => z) (ga_at.h hq) hv dX8_copy_5 ?_
  refine lv_aload_n hx hb dX8_copy_8 rfl (lv_at hl 0 rfl) ?_
  obtain ⟨fs_5, v_6, hq, hv, hw⟩ := hw
  refine ga_get (ci := 6) (T := TX8) (v := .int v_6) hx hb hts hown hI in_X8 rfl 1 (by decide) q1371 (fun _ z => z) (ga_at.h hq) hv dX8_copy_9 ?_
  refine ga_callv (va_runI (As := [va_rf v_4, .int v_6]) (rest := [.ref q_1]) ⟨hx, hb, hml, hown, hts⟩ (gm_X8_init l g q_1 v_4 v_6 h_2 _ hw) (cwI 2 hts (lw_meth q1366) rfl rfl rfl (hts _ q139) (hts _ q1364) (hts _ q1365) rfl hdG_X8_init ⟨Nat.le_of_ble_eq_true rfl, Nat.le_of_ble_eq_true rfl⟩) (ga_preS hI rfl) rfl rfl hl.1 rfl (ga_room (Nat.le_of_ble_eq_true rfl)) dX8_copy_12 ⟨Nat.le_trans (Nat.add_le_add_left (Nat.zero_le _) _) hbc, Nat.le_trans (Nat.add_le_add_left (Nat.zero_le _) _) hbs⟩) hI hbc hbs (Nat.zero_le _) (Nat.zero_le _) (fun h_7 H locs cells slots hw hI hbc hbs => ?_)
  refine lv_astore_n (i := 1) (lv' := [(1, .ref q_1), (0, .ref p0)]) hx hb dX8_copy_15 rfl hl (by decide) rfl (fun ls hl => ?_)
  refine lv_aload_n hx hb dX8_copy_16 rfl (lv_at hl 0 rfl) ?_
  refine lv_aload_n hx hb dX8_copy_17 rfl (lv_at hl 1 rfl) ?_
  obtain ⟨fs_8, v_9, hq, hv, hw⟩ := hw
  refine ga_get (ci := 6) (T := TX8) (v := .int v_9) hx hb hts hown hI in_X8 rfl 2 (by decide) q1374 (fun _ z => z) (ga_at.h hq) hv dX8_copy_18 ?_
  obtain ⟨fs_10, hq, hk, hw⟩ := hw
  refine ga_put (ci := 6) (T := TX8) (v := .int v_9) (ty := tyX8 2) hx hb hts hown hI in_X8 rfl tyX8 tyX8_ok nmX8 2 (by decide) q1374 (fun _ z => z) rfl (tyX8_ok 2 (by decide)) rfl rfl hq hk dX8_copy_21 (fun H locs hI => ?_)
  obtain ⟨h_11, eh_11⟩ : ∃ z, z = ga_set h_7 q_1 (ga_O 6 (fs_10.set 2 (.int v_9))) := ⟨_, rfl⟩
  rw [← eh_11] at hI
  have hw := hw h_11 eh_11
  refine lv_aload_n hx hb dX8_copy_24 rfl (lv_at hl 0 rfl) ?_
  refine lv_aload_n hx hb dX8_copy_25 rfl (lv_at hl 1 rfl) ?_
  obtain ⟨fs_12, v_13, hq, hv, hw⟩ := hw
  refine ga_get (ci := 6) (T := TX8) (v := .int v_13) hx hb hts hown hI in_X8 rfl 3 (by decide) q1377 (fun _ z => z) (ga_at.h hq) hv dX8_copy_26 ?_
  obtain ⟨fs_14, hq, hk, hw⟩ := hw
  refine ga_put (ci := 6) (T := TX8) (v := .int v_13) (ty := tyX8 3) hx hb hts hown hI in_X8 rfl tyX8 tyX8_ok nmX8 3 (by decide) q1377 (fun _ z => z) rfl (tyX8_ok 3 (by decide)) rfl rfl hq hk dX8_copy_29 (fun H locs hI => ?_)
  obtain ⟨h_15, eh_15⟩ : ∃ z, z = ga_set h_11 q_1 (ga_O 6 (fs_14.set 3 (.int v_13))) := ⟨_, rfl⟩
  rw [← eh_15] at hI
  have hw := hw h_15 eh_15
  refine lv_aload_n hx hb dX8_copy_32 rfl (lv_at hl 0 rfl) ?_
  refine lv_aload_n hx hb dX8_copy_33 rfl (lv_at hl 1 rfl) ?_
  obtain ⟨fs_16, v_17, hq, hv, hw⟩ := hw
  refine ga_get (ci := 6) (T := TX8) (v := .int v_17) hx hb hts hown hI in_X8 rfl 4 (by decide) q1380 (fun _ z => z) (ga_at.h hq) hv dX8_copy_34 ?_
  obtain ⟨fs_18, hq, hk, hw⟩ := hw
  refine ga_put (ci := 6) (T := TX8) (v := .int v_17) (ty := tyX8 4) hx hb hts hown hI in_X8 rfl tyX8 tyX8_ok nmX8 4 (by decide) q1380 (fun _ z => z) rfl (tyX8_ok 4 (by decide)) rfl rfl hq hk dX8_copy_37 (fun H locs hI => ?_)
  obtain ⟨h_19, eh_19⟩ : ∃ z, z = ga_set h_15 q_1 (ga_O 6 (fs_18.set 4 (.int v_17))) := ⟨_, rfl⟩
  rw [← eh_19] at hI
  have hw := hw h_19 eh_19
  refine lv_aload_n hx hb dX8_copy_40 rfl (lv_at hl 0 rfl) ?_
  exact ga_qret (v := (some q_1)) hx hb hr (Or.inl ⟨_, rfl⟩) hlk hI hw (Nat.le_trans (Nat.le_add_right _ _) hbc) (Nat.le_trans (Nat.le_add_right _ _) hbs) dX8_copy_41
theorem hdG_X8_copy : yX8_copy.cls ≠ "java/lang/invoke/MethodHandle" ∧ yX8_copy.cls ≠ "java/lang/invoke/VarHandle" ∧ (parseMethodDescriptor yX8_copy.desc).map (fun d => d.parameters.length) = some 0 := by decide +kernel
def gw_X8_waits (K : ga_K) (p0 : Nat) (h : ga_H) (post : Int32 → ga_H → Prop) : Prop :=
  ∃ (fs_1 : List Value) (v_2 : Int32), h p0 = some (ga_O 6 fs_1) ∧ fs_1[2]? = some (.int v_2) ∧ ((¬ v_2 = (0 : Int32) → (post (0 : Int32) h)) ∧ (v_2 = (0 : Int32) → (post (1 : Int32) h)))
set_option maxHeartbeats 4000000 in
theorem gm_X8_waits (l : Launch) (g : ga_G) (p0 : Nat) (h : ga_H) (post : Int32 → ga_H → Prop) (hw : gw_X8_waits g.2.2 p0 h post) : Met l yX8_waits (ws_ yX8_waits cX8_waits 1 (some .boolean)) ({ frames := 8, cells := 0, slots := 0, locals := 140 } : Room) (va_Pc [.ref p0] (ga_B g h)) (va_Qi post (ga_E g) (ga_A g)) 0 0 (ga_A g) := by
  refine ga_met (own := "PaperStore$Order") (nm := "waits") (by decide) rfl rfl (by exact Nat.le_of_ble_eq_true rfl) (fun p e s m below meth c ls hC hI hl => ?_)
  have hl : lv_has ls 1 [(0, .ref p0)] := hl
  generalize ([.ref p0] : List Value).toArray = args at hC ⊢
  obtain ⟨hx, hb, hml, hown, hts, hr, hlk, hnm⟩ := hC
  unfold gw_X8_waits at hw
  obtain ⟨H, eH⟩ : ∃ z, z = s.heap := ⟨_, rfl⟩
  obtain ⟨locs, elo⟩ : ∃ z : List Loc, z = [] := ⟨_, rfl⟩
  rw [← eH, ← elo] at hI ⊢
  obtain ⟨cells, slots, hbc, hbs, e0, e1⟩ : ∃ a b : Nat, a ≤ 0 ∧ b ≤ 0 ∧ a = 0 ∧ b = 0 := ⟨0, 0, by omega, by omega, rfl, rfl⟩
  show W p l e ({ frames := 8, cells := 0, slots := 0, locals := 140 } : Room) s m args below meth c H locs 0 0 (MQ below (va_Qi post (ga_E g) (ga_A g)) args s 0 0 (ga_A g)) (F0 m 0 ls [])
  suffices hgoal : W p l e ({ frames := 8, cells := 0, slots := 0, locals := 140 } : Room) s m args below meth c H locs cells slots (MQ below (va_Qi post (ga_E g) (ga_A g)) args s 0 0 (ga_A g)) (F0 m 0 ls []) by rw [e0, e1] at hgoal; exact hgoal
  refine lv_aload_n hx hb dX8_waits_0 rfl (lv_at hl 0 rfl) ?_
  obtain ⟨fs_1, v_2, hq, hv, hw⟩ := hw
  refine ga_get (ci := 6) (T := TX8) (v := .int v_2) hx hb hts hown hI in_X8 rfl 2 (by decide) q1374 (fun _ z => z) (ga_at.h hq) hv dX8_waits_1 ?_
  refine lv_if_ne (tgt := 11) hx hb dX8_waits_4 (by decide) (fun hc_3 => ?_) (fun hc_3 => ?_)
  · have hw := hw.1 hc_3
    refine lv_iconst (v := 0) hx hb dX8_waits_11 (by decide) ?_
    exact ga_iret hx hb hr rfl hlk hI hw hbc hbs dX8_waits_12
  · have hw := hw.2 hc_3
    refine lv_iconst (v := 1) hx hb dX8_waits_7 (by decide) ?_
    refine lv_goto (tgt := 12) hx hb dX8_waits_8 (by decide) ?_
    exact ga_iret hx hb hr rfl hlk hI hw hbc hbs dX8_waits_12
theorem hdG_X8_waits : yX8_waits.cls ≠ "java/lang/invoke/MethodHandle" ∧ yX8_waits.cls ≠ "java/lang/invoke/VarHandle" ∧ (parseMethodDescriptor yX8_waits.desc).map (fun d => d.parameters.length) = some 0 := by decide +kernel
def gw_X8_lacks (K : ga_K) (p0 : Nat) (h : ga_H) (post : Int32 → ga_H → Prop) : Prop :=
  ∃ (fs_1 : List Value) (v_2 : Int32), h p0 = some (ga_O 6 fs_1) ∧ fs_1[1]? = some (.int v_2) ∧ (∃ (fs_3 : List Value) (v_4 : Int32), h p0 = some (ga_O 6 fs_3) ∧ fs_3[3]? = some (.int v_4) ∧ (post (v_2 - v_4) h))
set_option maxHeartbeats 4000000 in
theorem gm_X8_lacks (l : Launch) (g : ga_G) (p0 : Nat) (h : ga_H) (post : Int32 → ga_H → Prop) (hw : gw_X8_lacks g.2.2 p0 h post) : Met l yX8_lacks (ws_ yX8_lacks cX8_lacks 1 (some .int)) ({ frames := 8, cells := 0, slots := 0, locals := 140 } : Room) (va_Pc [.ref p0] (ga_B g h)) (va_Qi post (ga_E g) (ga_A g)) 0 0 (ga_A g) := by
  refine ga_met (own := "PaperStore$Order") (nm := "lacks") (by decide) rfl rfl (by exact Nat.le_of_ble_eq_true rfl) (fun p e s m below meth c ls hC hI hl => ?_)
  have hl : lv_has ls 1 [(0, .ref p0)] := hl
  generalize ([.ref p0] : List Value).toArray = args at hC ⊢
  obtain ⟨hx, hb, hml, hown, hts, hr, hlk, hnm⟩ := hC
  unfold gw_X8_lacks at hw
  obtain ⟨H, eH⟩ : ∃ z, z = s.heap := ⟨_, rfl⟩
  obtain ⟨locs, elo⟩ : ∃ z : List Loc, z = [] := ⟨_, rfl⟩
  rw [← eH, ← elo] at hI ⊢
  obtain ⟨cells, slots, hbc, hbs, e0, e1⟩ : ∃ a b : Nat, a ≤ 0 ∧ b ≤ 0 ∧ a = 0 ∧ b = 0 := ⟨0, 0, by omega, by omega, rfl, rfl⟩
  show W p l e ({ frames := 8, cells := 0, slots := 0, locals := 140 } : Room) s m args below meth c H locs 0 0 (MQ below (va_Qi post (ga_E g) (ga_A g)) args s 0 0 (ga_A g)) (F0 m 0 ls [])
  suffices hgoal : W p l e ({ frames := 8, cells := 0, slots := 0, locals := 140 } : Room) s m args below meth c H locs cells slots (MQ below (va_Qi post (ga_E g) (ga_A g)) args s 0 0 (ga_A g)) (F0 m 0 ls []) by rw [e0, e1] at hgoal; exact hgoal
  refine lv_aload_n hx hb dX8_lacks_0 rfl (lv_at hl 0 rfl) ?_
  obtain ⟨fs_1, v_2, hq, hv, hw⟩ := hw
  refine ga_get (ci := 6) (T := TX8) (v := .int v_2) hx hb hts hown hI in_X8 rfl 1 (by decide) q1371 (fun _ z => z) (ga_at.h hq) hv dX8_lacks_1 ?_
  refine lv_aload_n hx hb dX8_lacks_4 rfl (lv_at hl 0 rfl) ?_
  obtain ⟨fs_3, v_4, hq, hv, hw⟩ := hw
  refine ga_get (ci := 6) (T := TX8) (v := .int v_4) hx hb hts hown hI in_X8 rfl 3 (by decide) q1377 (fun _ z => z) (ga_at.h hq) hv dX8_lacks_5 ?_
  refine lv_isub hx hb dX8_lacks_8 ?_
  exact ga_iret hx hb hr rfl hlk hI hw hbc hbs dX8_lacks_9
theorem hdG_X8_lacks : yX8_lacks.cls ≠ "java/lang/invoke/MethodHandle" ∧ yX8_lacks.cls ≠ "java/lang/invoke/VarHandle" ∧ (parseMethodDescriptor yX8_lacks.desc).map (fun d => d.parameters.length) = some 0 := by decide +kernel
def gw_X8_ends (K : ga_K) (p0 : Nat) (p1 : Int32) (h : ga_H) (post : ga_H → Prop) : Prop :=
  ∃ fs_1 : List Value, h p0 = some (ga_O 6 fs_1) ∧ 2 < fs_1.length ∧ ∀ h_2 : ga_H, h_2 = ga_set h p0 (ga_O 6 (fs_1.set 2 (.int p1))) → (∃ fs_3 : List Value, h_2 p0 = some (ga_O 6 fs_3) ∧ 3 < fs_3.length ∧ ∀ h_4 : ga_H, h_4 = ga_set h_2 p0 (ga_O 6 (fs_3.set 3 (.int (0 : Int32)))) → (∃ fs_5 : List Value, h_4 p0 = some (ga_O 6 fs_5) ∧ 4 < fs_5.length ∧ ∀ h_6 : ga_H, h_6 = ga_set h_4 p0 (ga_O 6 (fs_5.set 4 (.int (-1 : Int32)))) → (post h_6)))
set_option maxHeartbeats 4000000 in
theorem gm_X8_ends (l : Launch) (g : ga_G) (p0 : Nat) (p1 : Int32) (h : ga_H) (post : ga_H → Prop) (hw : gw_X8_ends g.2.2 p0 p1 h post) : Met l yX8_ends (ws_ yX8_ends cX8_ends 2 none) ({ frames := 8, cells := 0, slots := 0, locals := 140 } : Room) (va_Pc [.ref p0, .int p1] (ga_B g h)) (va_Qv post (ga_E g) (ga_A g)) 0 0 (ga_A g) := by
  refine ga_met (own := "PaperStore$Order") (nm := "ends") (by decide) rfl rfl (by exact Nat.le_of_ble_eq_true rfl) (fun p e s m below meth c ls hC hI hl => ?_)
  have hl : lv_has ls 2 [(0, .ref p0), (1, .int p1)] := hl
  generalize ([.ref p0, .int p1] : List Value).toArray = args at hC ⊢
  obtain ⟨hx, hb, hml, hown, hts, hr, hlk, hnm⟩ := hC
  unfold gw_X8_ends at hw
  obtain ⟨H, eH⟩ : ∃ z, z = s.heap := ⟨_, rfl⟩
  obtain ⟨locs, elo⟩ : ∃ z : List Loc, z = [] := ⟨_, rfl⟩
  rw [← eH, ← elo] at hI ⊢
  obtain ⟨cells, slots, hbc, hbs, e0, e1⟩ : ∃ a b : Nat, a ≤ 0 ∧ b ≤ 0 ∧ a = 0 ∧ b = 0 := ⟨0, 0, by omega, by omega, rfl, rfl⟩
  show W p l e ({ frames := 8, cells := 0, slots := 0, locals := 140 } : Room) s m args below meth c H locs 0 0 (MQ below (va_Qv post (ga_E g) (ga_A g)) args s 0 0 (ga_A g)) (F0 m 0 ls [])
  suffices hgoal : W p l e ({ frames := 8, cells := 0, slots := 0, locals := 140 } : Room) s m args below meth c H locs cells slots (MQ below (va_Qv post (ga_E g) (ga_A g)) args s 0 0 (ga_A g)) (F0 m 0 ls []) by rw [e0, e1] at hgoal; exact hgoal
  refine lv_aload_n hx hb dX8_ends_0 rfl (lv_at hl 0 rfl) ?_
  refine lv_iload_n hx hb dX8_ends_1 rfl (lv_at hl 1 rfl) ?_
  obtain ⟨fs_1, hq, hk, hw⟩ := hw
  refine ga_put (ci := 6) (T := TX8) (v := .int p1) (ty := tyX8 2) hx hb hts hown hI in_X8 rfl tyX8 tyX8_ok nmX8 2 (by decide) q1374 (fun _ z => z) rfl (tyX8_ok 2 (by decide)) rfl rfl hq hk dX8_ends_2 (fun H locs hI => ?_)
  obtain ⟨h_2, eh_2⟩ : ∃ z, z = ga_set h p0 (ga_O 6 (fs_1.set 2 (.int p1))) := ⟨_, rfl⟩
  rw [← eh_2] at hI
  have hw := hw h_2 eh_2
  refine lv_aload_n hx hb dX8_ends_5 rfl (lv_at hl 0 rfl) ?_
  refine lv_iconst (v := 0) hx hb dX8_ends_6 (by decide) ?_
  obtain ⟨fs_3, hq, hk, hw⟩ := hw
  refine ga_put (ci := 6) (T := TX8) (v := .int (0 : Int32)) (ty := tyX8 3) hx hb hts hown hI in_X8 rfl tyX8 tyX8_ok nmX8 3 (by decide) q1377 (fun _ z => z) rfl (tyX8_ok 3 (by decide)) rfl rfl hq hk dX8_ends_7 (fun H locs hI => ?_)
  obtain ⟨h_4, eh_4⟩ : ∃ z, z = ga_set h_2 p0 (ga_O 6 (fs_3.set 3 (.int (0 : Int32)))) := ⟨_, rfl⟩
  rw [← eh_4] at hI
  have hw := hw h_4 eh_4
  refine lv_aload_n hx hb dX8_ends_10 rfl (lv_at hl 0 rfl) ?_
  refine lv_iconst (v := -1) hx hb dX8_ends_11 (by decide) ?_
  obtain ⟨fs_5, hq, hk, hw⟩ := hw
  refine ga_put (ci := 6) (T := TX8) (v := .int (-1 : Int32)) (ty := tyX8 4) hx hb hts hown hI in_X8 rfl tyX8 tyX8_ok nmX8 4 (by decide) q1380 (fun _ z => z) rfl (tyX8_ok 4 (by decide)) rfl rfl hq hk dX8_ends_12 (fun H locs hI => ?_)
  obtain ⟨h_6, eh_6⟩ : ∃ z, z = ga_set h_4 p0 (ga_O 6 (fs_5.set 4 (.int (-1 : Int32)))) := ⟨_, rfl⟩
  rw [← eh_6] at hI
  have hw := hw h_6 eh_6
  exact ga_vret hx hb hr hlk hI hw hbc hbs dX8_ends_15
theorem hdG_X8_ends : yX8_ends.cls ≠ "java/lang/invoke/MethodHandle" ∧ yX8_ends.cls ≠ "java/lang/invoke/VarHandle" ∧ (parseMethodDescriptor yX8_ends.desc).map (fun d => d.parameters.length) = some 1 := by decide +kernel
def gw_X9_init (K : ga_K) (p0 : Nat) (p1 : Int32) (h : ga_H) (post : ga_H → Prop) : Prop :=
  ∃ fs_1 : List Value, h p0 = some (ga_O 7 fs_1) ∧ 2 < fs_1.length ∧ ∀ h_2 : ga_H, h_2 = ga_set h p0 (ga_O 7 (fs_1.set 2 (.int (-1 : Int32)))) → (∃ fs_3 : List Value, h_2 p0 = some (ga_O 7 fs_3) ∧ 0 < fs_3.length ∧ ∀ h_4 : ga_H, h_4 = ga_set h_2 p0 (ga_O 7 (fs_3.set 0 (.int p1))) → (post h_4))
set_option maxHeartbeats 4000000 in
theorem gm_X9_init (l : Launch) (g : ga_G) (p0 : Nat) (p1 : Int32) (h : ga_H) (post : ga_H → Prop) (hw : gw_X9_init g.2.2 p0 p1 h post) : Met l yX9_init (ws_ yX9_init cX9_init 2 none) ({ frames := 8, cells := 0, slots := 0, locals := 140 } : Room) (va_Pc [.ref p0, .int p1] (ga_B g h)) (va_Qv post (ga_E g) (ga_A g)) 0 0 (ga_A g) := by
  refine ga_met (own := "PaperStore$Cart") (nm := "<init>") (by decide) rfl rfl (by exact Nat.le_of_ble_eq_true rfl) (fun p e s m below meth c ls hC hI hl => ?_)
  have hl : lv_has ls 2 [(0, .ref p0), (1, .int p1)] := hl
  generalize ([.ref p0, .int p1] : List Value).toArray = args at hC ⊢
  obtain ⟨hx, hb, hml, hown, hts, hr, hlk, hnm⟩ := hC
  unfold gw_X9_init at hw
  obtain ⟨H, eH⟩ : ∃ z, z = s.heap := ⟨_, rfl⟩
  obtain ⟨locs, elo⟩ : ∃ z : List Loc, z = [] := ⟨_, rfl⟩
  rw [← eH, ← elo] at hI ⊢
  obtain ⟨cells, slots, hbc, hbs, e0, e1⟩ : ∃ a b : Nat, a ≤ 0 ∧ b ≤ 0 ∧ a = 0 ∧ b = 0 := ⟨0, 0, by omega, by omega, rfl, rfl⟩
  show W p l e ({ frames := 8, cells := 0, slots := 0, locals := 140 } : Room) s m args below meth c H locs 0 0 (MQ below (va_Qv post (ga_E g) (ga_A g)) args s 0 0 (ga_A g)) (F0 m 0 ls [])
  suffices hgoal : W p l e ({ frames := 8, cells := 0, slots := 0, locals := 140 } : Room) s m args below meth c H locs cells slots (MQ below (va_Qv post (ga_E g) (ga_A g)) args s 0 0 (ga_A g)) (F0 m 0 ls []) by rw [e0, e1] at hgoal; exact hgoal
  refine lv_aload_n hx hb dX9_init_0 rfl (lv_at hl 0 rfl) ?_
  refine W.objInit hx hb hown (hts _ q1403) (hts _ q179) (hts _ q180) rfl (by rw [hml]; exact hl.1) rfl dX9_init_1 (Nat.le_of_ble_eq_true rfl) (by have := ga_sum [] (Nat.le_of_ble_eq_true rfl); exact Nat.le_trans (Nat.add_le_add_right (Nat.add_le_add_left this 0) 12) (Nat.le_of_ble_eq_true rfl)) ?_
  refine W.eq (g2 := F0 m 4 ls []) rfl ?_
  refine lv_aload_n hx hb dX9_init_4 rfl (lv_at hl 0 rfl) ?_
  refine lv_iconst (v := -1) hx hb dX9_init_5 (by decide) ?_
  obtain ⟨fs_1, hq, hk, hw⟩ := hw
  refine ga_put (ci := 7) (T := TX9) (v := .int (-1 : Int32)) (ty := tyX9 2) hx hb hts hown hI in_X9 rfl tyX9 tyX9_ok nmX9 2 (by decide) q1410 (fun _ z => z) rfl (tyX9_ok 2 (by decide)) rfl rfl hq hk dX9_init_6 (fun H locs hI => ?_)
  obtain ⟨h_2, eh_2⟩ : ∃ z, z = ga_set h p0 (ga_O 7 (fs_1.set 2 (.int (-1 : Int32)))) := ⟨_, rfl⟩
  rw [← eh_2] at hI
  have hw := hw h_2 eh_2
  refine lv_aload_n hx hb dX9_init_9 rfl (lv_at hl 0 rfl) ?_
  refine lv_iload_n hx hb dX9_init_10 rfl (lv_at hl 1 rfl) ?_
  obtain ⟨fs_3, hq, hk, hw⟩ := hw
  refine ga_putF (ci := 7) (T := TX9) (v := .int p1) (ty := tyX9 0) hx hb hts hown hI in_X9 rfl tyX9 tyX9_ok nmX9 0 (by decide) q1404 (fun _ z => z) rfl hnm rfl (tyX9_ok 0 (by decide)) rfl rfl hq hk dX9_init_11 (fun H locs hI => ?_)
  obtain ⟨h_4, eh_4⟩ : ∃ z, z = ga_set h_2 p0 (ga_O 7 (fs_3.set 0 (.int p1))) := ⟨_, rfl⟩
  rw [← eh_4] at hI
  have hw := hw h_4 eh_4
  exact ga_vret hx hb hr hlk hI hw hbc hbs dX9_init_14
theorem hdG_X9_init : yX9_init.cls ≠ "java/lang/invoke/MethodHandle" ∧ yX9_init.cls ≠ "java/lang/invoke/VarHandle" ∧ (parseMethodDescriptor yX9_init.desc).map (fun d => d.parameters.length) = some 1 := by decide +kernel
def gw_X9_copy (K : ga_K) (p0 : Nat) (h : ga_H) (mc ms : Nat) (post : Option Nat → ga_H → Prop) : Prop :=
  1 ≤ mc ∧ 3 ≤ ms ∧ ∀ q_1 : Nat, h q_1 = none → ∀ h_2 : ga_H, h_2 = ga_set h q_1 (ga_O 7 [.int 0, .int 0, .int 0]) → (∃ (fs_3 : List Value) (v_4 : Int32), h_2 p0 = some (ga_O 7 fs_3) ∧ fs_3[0]? = some (.int v_4) ∧ (gw_X9_init K q_1 v_4 h_2 (fun (h_5 : ga_H) => ∃ (fs_6 : List Value) (v_7 : Int32), h_5 p0 = some (ga_O 7 fs_6) ∧ fs_6[1]? = some (.int v_7) ∧ (∃ fs_8 : List Value, h_5 q_1 = some (ga_O 7 fs_8) ∧ 1 < fs_8.length ∧ ∀ h_9 : ga_H, h_9 = ga_set h_5 q_1 (ga_O 7 (fs_8.set 1 (.int v_7))) → (∃ (fs_10 : List Value) (v_11 : Int32), h_9 p0 = some (ga_O 7 fs_10) ∧ fs_10[2]? = some (.int v_11) ∧ (∃ fs_12 : List Value, h_9 q_1 = some (ga_O 7 fs_12) ∧ 2 < fs_12.length ∧ ∀ h_13 : ga_H, h_13 = ga_set h_9 q_1 (ga_O 7 (fs_12.set 2 (.int v_11))) → (post (some q_1) h_13)))))))
set_option maxHeartbeats 4000000 in
theorem gm_X9_copy (l : Launch) (g : ga_G) (p0 : Nat) (h : ga_H) (mc ms : Nat) (post : Option Nat → ga_H → Prop) (hw : gw_X9_copy g.2.2 p0 h mc ms post) : Met l yX9_copy (ws_ yX9_copy cX9_copy 2 (some (.object "PaperStore$Cart"))) ({ frames := 9, cells := mc, slots := ms, locals := 161 } : Room) (va_Pc [.ref p0] (ga_B g h)) (va_Qq post (ga_E g) (ga_A g)) mc ms (ga_A g) := by
  refine ga_met (own := "PaperStore$Cart") (nm := "copy") (by decide) rfl rfl (by exact Nat.le_of_ble_eq_true rfl) (fun p e s m below meth c ls hC hI hl => ?_)
  have hl : lv_has ls 2 [(0, .ref p0)] := hl
  generalize ([.ref p0] : List Value).toArray = args at hC ⊢
  obtain ⟨hx, hb, hml, hown, hts, hr, hlk, hnm⟩ := hC
  unfold gw_X9_copy at hw
  obtain ⟨H, eH⟩ : ∃ z, z = s.heap := ⟨_, rfl⟩
  obtain ⟨locs, elo⟩ : ∃ z : List Loc, z = [] := ⟨_, rfl⟩
  rw [← eH, ← elo] at hI ⊢
  obtain ⟨cells, slots, hbc, hbs, e0, e1⟩ : ∃ a b : Nat, a + mc ≤ mc ∧ b + ms ≤ ms ∧ a = 0 ∧ b = 0 := ⟨0, 0, by omega, by omega, rfl, rfl⟩
  show W p l e ({ frames := 9, cells := mc, slots := ms, locals := 161 } : Room) s m args below meth c H locs 0 0 (MQ below (va_Qq post (ga_E g) (ga_A g)) args s mc ms (ga_A g)) (F0 m 0 ls [])
  suffices hgoal : W p l e ({ frames := 9, cells := mc, slots := ms, locals := 161 } : Room) s m args below meth c H locs cells slots (MQ below (va_Qq post (ga_E g) (ga_A g)) args s mc ms (ga_A g)) (F0 m 0 ls []) by rw [e0, e1] at hgoal; exact hgoal
  refine ga_new (ci := 7) (T := TX9) hx hb hts hown hI in_X9 rfl tyX9 tyX9_ok q1398 q1399 q140 [.int 0, .int 0, .int 0] ga_df_X9 hbc hbs hw.1 hw.2.1 dX9_copy_0 (fun q_1 H cells slots hn_q_1 hI hbc hbs => ?_)
  obtain ⟨h_2, eh_2⟩ : ∃ z, z = ga_set h q_1 (ga_O 7 [.int 0, .int 0, .int 0]) := ⟨_, rfl⟩
  rw [← eh_2] at hI
  have hw := hw.2.2 q_1 hn_q_1 h_2 eh_2
  refine lv_dup hx hb dX9_copy_3 rfl ?_
  refine lv_aload_n hx hb dX9_copy_4 rfl (lv_at hl 0 rfl) ?_
  obtain ⟨fs_3, v_4, hq, hv, hw⟩ := hw
  refine ga_get (ci := 7) (T := TX9) (v := .int v_4) hx hb hts hown hI in_X9 rfl 0 (by decide) q1404 (fun _ z => z) (ga_at.h hq) hv dX9_copy_5 ?_
  refine ga_callv (va_runI (As := [.int v_4]) (rest := [.ref q_1]) ⟨hx, hb, hml, hown, hts⟩ (gm_X9_init l g q_1 v_4 h_2 _ hw) (cwI 1 hts (lw_meth q1402) rfl rfl rfl (hts _ q140) (hts _ q1400) (hts _ q1401) rfl hdG_X9_init ⟨Nat.le_of_ble_eq_true rfl, Nat.le_of_ble_eq_true rfl⟩) (ga_preS hI rfl) rfl rfl hl.1 rfl (ga_room (Nat.le_of_ble_eq_true rfl)) dX9_copy_8 ⟨Nat.le_trans (Nat.add_le_add_left (Nat.zero_le _) _) hbc, Nat.le_trans (Nat.add_le_add_left (Nat.zero_le _) _) hbs⟩) hI hbc hbs (Nat.zero_le _) (Nat.zero_le _) (fun h_5 H locs cells slots hw hI hbc hbs => ?_)
  refine lv_astore_n (i := 1) (lv' := [(1, .ref q_1), (0, .ref p0)]) hx hb dX9_copy_11 rfl hl (by decide) rfl (fun ls hl => ?_)
  refine lv_aload_n hx hb dX9_copy_12 rfl (lv_at hl 0 rfl) ?_
  refine lv_aload_n hx hb dX9_copy_13 rfl (lv_at hl 1 rfl) ?_
  obtain ⟨fs_6, v_7, hq, hv, hw⟩ := hw
  refine ga_get (ci := 7) (T := TX9) (v := .int v_7) hx hb hts hown hI in_X9 rfl 1 (by decide) q1407 (fun _ z => z) (ga_at.h hq) hv dX9_copy_14 ?_
  obtain ⟨fs_8, hq, hk, hw⟩ := hw
  refine ga_put (ci := 7) (T := TX9) (v := .int v_7) (ty := tyX9 1) hx hb hts hown hI in_X9 rfl tyX9 tyX9_ok nmX9 1 (by decide) q1407 (fun _ z => z) rfl (tyX9_ok 1 (by decide)) rfl rfl hq hk dX9_copy_17 (fun H locs hI => ?_)
  obtain ⟨h_9, eh_9⟩ : ∃ z, z = ga_set h_5 q_1 (ga_O 7 (fs_8.set 1 (.int v_7))) := ⟨_, rfl⟩
  rw [← eh_9] at hI
  have hw := hw h_9 eh_9
  refine lv_aload_n hx hb dX9_copy_20 rfl (lv_at hl 0 rfl) ?_
  refine lv_aload_n hx hb dX9_copy_21 rfl (lv_at hl 1 rfl) ?_
  obtain ⟨fs_10, v_11, hq, hv, hw⟩ := hw
  refine ga_get (ci := 7) (T := TX9) (v := .int v_11) hx hb hts hown hI in_X9 rfl 2 (by decide) q1410 (fun _ z => z) (ga_at.h hq) hv dX9_copy_22 ?_
  obtain ⟨fs_12, hq, hk, hw⟩ := hw
  refine ga_put (ci := 7) (T := TX9) (v := .int v_11) (ty := tyX9 2) hx hb hts hown hI in_X9 rfl tyX9 tyX9_ok nmX9 2 (by decide) q1410 (fun _ z => z) rfl (tyX9_ok 2 (by decide)) rfl rfl hq hk dX9_copy_25 (fun H locs hI => ?_)
  obtain ⟨h_13, eh_13⟩ : ∃ z, z = ga_set h_9 q_1 (ga_O 7 (fs_12.set 2 (.int v_11))) := ⟨_, rfl⟩
  rw [← eh_13] at hI
  have hw := hw h_13 eh_13
  refine lv_aload_n hx hb dX9_copy_28 rfl (lv_at hl 0 rfl) ?_
  exact ga_qret (v := (some q_1)) hx hb hr (Or.inl ⟨_, rfl⟩) hlk hI hw (Nat.le_trans (Nat.le_add_right _ _) hbc) (Nat.le_trans (Nat.le_add_right _ _) hbs) dX9_copy_29
theorem hdG_X9_copy : yX9_copy.cls ≠ "java/lang/invoke/MethodHandle" ∧ yX9_copy.cls ≠ "java/lang/invoke/VarHandle" ∧ (parseMethodDescriptor yX9_copy.desc).map (fun d => d.parameters.length) = some 0 := by decide +kernel
def gw_X9_empties (K : ga_K) (p0 : Nat) (h : ga_H) (post : ga_H → Prop) : Prop :=
  ∃ fs_1 : List Value, h p0 = some (ga_O 7 fs_1) ∧ 1 < fs_1.length ∧ ∀ h_2 : ga_H, h_2 = ga_set h p0 (ga_O 7 (fs_1.set 1 (.int (0 : Int32)))) → (∃ fs_3 : List Value, h_2 p0 = some (ga_O 7 fs_3) ∧ 2 < fs_3.length ∧ ∀ h_4 : ga_H, h_4 = ga_set h_2 p0 (ga_O 7 (fs_3.set 2 (.int (-1 : Int32)))) → (post h_4))
set_option maxHeartbeats 4000000 in
theorem gm_X9_empties (l : Launch) (g : ga_G) (p0 : Nat) (h : ga_H) (post : ga_H → Prop) (hw : gw_X9_empties g.2.2 p0 h post) : Met l yX9_empties (ws_ yX9_empties cX9_empties 1 none) ({ frames := 8, cells := 0, slots := 0, locals := 140 } : Room) (va_Pc [.ref p0] (ga_B g h)) (va_Qv post (ga_E g) (ga_A g)) 0 0 (ga_A g) := by
  refine ga_met (own := "PaperStore$Cart") (nm := "empties") (by decide) rfl rfl (by exact Nat.le_of_ble_eq_true rfl) (fun p e s m below meth c ls hC hI hl => ?_)
  have hl : lv_has ls 1 [(0, .ref p0)] := hl
  generalize ([.ref p0] : List Value).toArray = args at hC ⊢
  obtain ⟨hx, hb, hml, hown, hts, hr, hlk, hnm⟩ := hC
  unfold gw_X9_empties at hw
  obtain ⟨H, eH⟩ : ∃ z, z = s.heap := ⟨_, rfl⟩
  obtain ⟨locs, elo⟩ : ∃ z : List Loc, z = [] := ⟨_, rfl⟩
  rw [← eH, ← elo] at hI ⊢
  obtain ⟨cells, slots, hbc, hbs, e0, e1⟩ : ∃ a b : Nat, a ≤ 0 ∧ b ≤ 0 ∧ a = 0 ∧ b = 0 := ⟨0, 0, by omega, by omega, rfl, rfl⟩
  show W p l e ({ frames := 8, cells := 0, slots := 0, locals := 140 } : Room) s m args below meth c H locs 0 0 (MQ below (va_Qv post (ga_E g) (ga_A g)) args s 0 0 (ga_A g)) (F0 m 0 ls [])
  suffices hgoal : W p l e ({ frames := 8, cells := 0, slots := 0, locals := 140 } : Room) s m args below meth c H locs cells slots (MQ below (va_Qv post (ga_E g) (ga_A g)) args s 0 0 (ga_A g)) (F0 m 0 ls []) by rw [e0, e1] at hgoal; exact hgoal
  refine lv_aload_n hx hb dX9_empties_0 rfl (lv_at hl 0 rfl) ?_
  refine lv_iconst (v := 0) hx hb dX9_empties_1 (by decide) ?_
  obtain ⟨fs_1, hq, hk, hw⟩ := hw
  refine ga_put (ci := 7) (T := TX9) (v := .int (0 : Int32)) (ty := tyX9 1) hx hb hts hown hI in_X9 rfl tyX9 tyX9_ok nmX9 1 (by decide) q1407 (fun _ z => z) rfl (tyX9_ok 1 (by decide)) rfl rfl hq hk dX9_empties_2 (fun H locs hI => ?_)
  obtain ⟨h_2, eh_2⟩ : ∃ z, z = ga_set h p0 (ga_O 7 (fs_1.set 1 (.int (0 : Int32)))) := ⟨_, rfl⟩
  rw [← eh_2] at hI
  have hw := hw h_2 eh_2
  refine lv_aload_n hx hb dX9_empties_5 rfl (lv_at hl 0 rfl) ?_
  refine lv_iconst (v := -1) hx hb dX9_empties_6 (by decide) ?_
  obtain ⟨fs_3, hq, hk, hw⟩ := hw
  refine ga_put (ci := 7) (T := TX9) (v := .int (-1 : Int32)) (ty := tyX9 2) hx hb hts hown hI in_X9 rfl tyX9 tyX9_ok nmX9 2 (by decide) q1410 (fun _ z => z) rfl (tyX9_ok 2 (by decide)) rfl rfl hq hk dX9_empties_7 (fun H locs hI => ?_)
  obtain ⟨h_4, eh_4⟩ : ∃ z, z = ga_set h_2 p0 (ga_O 7 (fs_3.set 2 (.int (-1 : Int32)))) := ⟨_, rfl⟩
  rw [← eh_4] at hI
  have hw := hw h_4 eh_4
  exact ga_vret hx hb hr hlk hI hw hbc hbs dX9_empties_10
theorem hdG_X9_empties : yX9_empties.cls ≠ "java/lang/invoke/MethodHandle" ∧ yX9_empties.cls ≠ "java/lang/invoke/VarHandle" ∧ (parseMethodDescriptor yX9_empties.desc).map (fun d => d.parameters.length) = some 0 := by decide +kernel
