set_option maxRecDepth 100000
def gw_J37_init (K : ga_K) (p0 : Nat) (p1 : Option Nat) (h : ga_H) (post : ga_H → Prop) : Prop :=
  ∃ fs_1 : List Value, h p0 = some (ga_O 17 fs_1) ∧ 0 < fs_1.length ∧ ∀ h_2 : ga_H, h_2 = ga_set h p0 (ga_O 17 (fs_1.set 0 (va_rf p1))) → (gw_J20_init K p0 h_2 (fun (h_3 : ga_H) => post h_3))
set_option maxHeartbeats 4000000 in
theorem gm_J37_init (l : Launch) (g : ga_G) (p0 : Nat) (p1 : Option Nat) (h : ga_H) (post : ga_H → Prop) (hw : gw_J37_init g.2.2 p0 p1 h post) : Met l yJ37_init (ws_ yJ37_init cJ37_init 2 none) ({ frames := 10, cells := 0, slots := 0, locals := 180 } : Room) (va_Pc [.ref p0, va_rf p1] (ga_B g h)) (va_Qv post (ga_E g) (ga_A g)) 0 0 (ga_A g) := by
  refine ga_met (own := "java/util/HashMap$EntrySet") (nm := "<init>") (by decide) rfl rfl (by cases p1 <;> exact Nat.le_of_ble_eq_true rfl) (fun p e s m below meth c ls hC hI hl => ?_)
  have hl : lv_has ls 2 [(0, .ref p0), (1, va_rf p1)] := (by cases p1 <;> exact hl)
  generalize ([.ref p0, va_rf p1] : List Value).toArray = args at hC ⊢
  obtain ⟨hx, hb, hml, hown, hts, hr, hlk, hnm⟩ := hC
  unfold gw_J37_init at hw
  obtain ⟨H, eH⟩ : ∃ z, z = s.heap := ⟨_, rfl⟩
  obtain ⟨locs, elo⟩ : ∃ z : List Loc, z = [] := ⟨_, rfl⟩
  rw [← eH, ← elo] at hI ⊢
  obtain ⟨cells, slots, hbc, hbs, e0, e1⟩ : ∃ a b : Nat, a ≤ 0 ∧ b ≤ 0 ∧ a = 0 ∧ b = 0 := ⟨0, 0, by omega, by omega, rfl, rfl⟩
  show W p l e ({ frames := 10, cells := 0, slots := 0, locals := 180 } : Room) s m args below meth c H locs 0 0 (MQ below (va_Qv post (ga_E g) (ga_A g)) args s 0 0 (ga_A g)) (F0 m 0 ls [])
  suffices hgoal : W p l e ({ frames := 10, cells := 0, slots := 0, locals := 180 } : Room) s m args below meth c H locs cells slots (MQ below (va_Qv post (ga_E g) (ga_A g)) args s 0 0 (ga_A g)) (F0 m 0 ls []) by rw [e0, e1] at hgoal; exact hgoal
  refine lv_aload_n hx hb dJ37_init_0 rfl (lv_at hl 0 rfl) ?_
  refine ga_aload_n hx hb dJ37_init_1 rfl (lv_at hl 1 rfl) ?_
  obtain ⟨fs_1, hq, hk, hw⟩ := hw
  refine ga_putF (ci := 17) (T := TJ37) (v := va_rf p1) (ty := tyJ37 0) hx hb hts hown hI in_J37 rfl tyJ37 tyJ37_ok nmJ37 0 (by decide) q1755 (fun _ z => z) rfl hnm rfl (tyJ37_ok 0 (by decide)) (ga_nq _ _) (ga_fq _ _) hq hk dJ37_init_2 (fun H locs hI => ?_)
  obtain ⟨h_2, eh_2⟩ : ∃ z, z = ga_set h p0 (ga_O 17 (fs_1.set 0 (va_rf p1))) := ⟨_, rfl⟩
  rw [← eh_2] at hI
  have hw := hw h_2 eh_2
  refine lv_aload_n hx hb dJ37_init_5 rfl (lv_at hl 0 rfl) ?_
  refine ga_callv (va_runI (As := []) (rest := []) ⟨hx, hb, hml, hown, hts⟩ (gm_J20_init l g p0 h_2 _ hw) (cwI 0 hts (lw_meth q642) rfl rfl rfl (hts _ q126) (hts _ q1754) (hts _ q641) rfl hdG_J20_init ⟨Nat.le_of_ble_eq_true rfl, Nat.le_of_ble_eq_true rfl⟩) (ga_preS hI rfl) rfl rfl hl.1 rfl (ga_room (Nat.le_of_ble_eq_true rfl)) dJ37_init_6 ⟨hbc, hbs⟩) hI (bc := 0) (bs := 0) hbc hbs (Nat.zero_le _) (Nat.zero_le _) (fun h_3 H locs cells slots hw hI hbc hbs => ?_)
  exact ga_vret hx hb hr hlk hI hw hbc hbs dJ37_init_9
theorem hdG_J37_init : yJ37_init.cls ≠ "java/lang/invoke/MethodHandle" ∧ yJ37_init.cls ≠ "java/lang/invoke/VarHandle" ∧ (parseMethodDescriptor yJ37_init.desc).map (fun d => d.parameters.length) = some 1 := by decide +kernel
def gw_J4_entrySet (K : ga_K) (p0 : Nat) (h : ga_H) (mc ms : Nat) (post : Option Nat → ga_H → Prop) : Prop :=
  ∃ (fs_1 : List Value) (v_2 : Option Nat), h p0 = some (ga_O 15 fs_1) ∧ fs_1[3]? = some (va_rf v_2) ∧ ((v_2 = none → (1 ≤ mc ∧ 1 ≤ ms ∧ ∀ q_4 : Nat, h q_4 = none → ∀ h_5 : ga_H, h_5 = ga_set h q_4 (ga_O 17 [va_rf none]) → (gw_J37_init K q_4 (some p0) h_5 (fun (h_6 : ga_H) => ∃ fs_7 : List Value, h_6 p0 = some (ga_O 15 fs_7) ∧ 3 < fs_7.length ∧ ∀ h_8 : ga_H, h_8 = ga_set h_6 p0 (ga_O 15 (fs_7.set 3 (va_rf (some q_4)))) → (post (some q_4) h_8))))) ∧ (∀ a_3 : Nat, v_2 = some a_3 → (post v_2 h)))
set_option maxHeartbeats 4000000 in
theorem gm_J4_entrySet (l : Launch) (g : ga_G) (p0 : Nat) (h : ga_H) (mc ms : Nat) (post : Option Nat → ga_H → Prop) (hw : gw_J4_entrySet g.2.2 p0 h mc ms post) : Met l yJ4_entrySet (ws_ yJ4_entrySet cJ4_entrySet 2 (some (.object "java/util/Set"))) ({ frames := 11, cells := mc, slots := ms, locals := 201 } : Room) (va_Pc [.ref p0] (ga_B g h)) (va_Qq post (ga_E g) (ga_A g)) mc ms (ga_A g) := by
  refine ga_met (own := "java/util/HashMap") (nm := "entrySet") (by decide) rfl rfl (by exact Nat.le_of_ble_eq_true rfl) (fun p e s m below meth c ls hC hI hl => ?_)
  have hl : lv_has ls 2 [(0, .ref p0)] := hl
  generalize ([.ref p0] : List Value).toArray = args at hC ⊢
  obtain ⟨hx, hb, hml, hown, hts, hr, hlk, hnm⟩ := hC
  unfold gw_J4_entrySet at hw
  obtain ⟨H, eH⟩ : ∃ z, z = s.heap := ⟨_, rfl⟩
  obtain ⟨locs, elo⟩ : ∃ z : List Loc, z = [] := ⟨_, rfl⟩
  rw [← eH, ← elo] at hI ⊢
  obtain ⟨cells, slots, hbc, hbs, e0, e1⟩ : ∃ a b : Nat, a + mc ≤ mc ∧ b + ms ≤ ms ∧ a = 0 ∧ b = 0 := ⟨0, 0, by omega, by omega, rfl, rfl⟩
  show W p l e ({ frames := 11, cells := mc, slots := ms, locals := 201 } : Room) s m args below meth c H locs 0 0 (MQ below (va_Qq post (ga_E g) (ga_A g)) args s mc ms (ga_A g)) (F0 m 0 ls [])
  suffices hgoal : W p l e ({ frames := 11, cells := mc, slots := ms, locals := 201 } : Room) s m args below meth c H locs cells slots (MQ below (va_Qq post (ga_E g) (ga_A g)) args s mc ms (ga_A g)) (F0 m 0 ls []) by rw [e0, e1] at hgoal; exact hgoal
  refine lv_aload_n hx hb dJ4_entrySet_0 rfl (lv_at hl 0 rfl) ?_
  obtain ⟨fs_1, v_2, hq, hv, hw⟩ := hw
  refine ga_get (ci := 15) (T := TJ4) (v := va_rf v_2) hx hb hts hown hI in_J4 rfl 3 (by decide) q230 (fun _ z => z) (ga_at.h hq) hv dJ4_entrySet_1 ?_
  refine lv_dup hx hb dJ4_entrySet_4 (ga_rcat _) ?_
  refine ga_astore_n (i := 1) (x := v_2) (lv' := [(1, va_rf v_2), (0, .ref p0)]) hx hb dJ4_entrySet_5 rfl hl (by decide) rfl (fun ls hl => ?_)
  refine ga_ifnonnull (tgt := 25) hx hb dJ4_entrySet_6 (by decide) (fun a_3 hc_a_3 => ?_) (fun hc_a_3 => ?_)
  · have hw := hw.2 a_3 hc_a_3
    skip
    refine ga_aload_n hx hb dJ4_entrySet_25 rfl (lv_at hl 0 rfl) ?_
    exact ga_qret (v := v_2) hx hb hr (Or.inl ⟨_, rfl⟩) hlk hI hw (Nat.le_trans (Nat.le_add_right _ _) hbc) (Nat.le_trans (Nat.le_add_right _ _) hbs) dJ4_entrySet_26
  · have hw := hw.1 hc_a_3
    refine lv_aload_n hx hb dJ4_entrySet_9 rfl (lv_at hl 1 rfl) ?_
    refine ga_new (ci := 17) (T := TJ37) hx hb hts hown hI in_J37 rfl tyJ37 tyJ37_ok q1749 q1750 q149 [va_rf none] ga_df_J37 hbc hbs hw.1 hw.2.1 dJ4_entrySet_10 (fun q_4 H cells slots hn_q_4 hI hbc hbs => ?_)
    obtain ⟨h_5, eh_5⟩ : ∃ z, z = ga_set h q_4 (ga_O 17 [va_rf none]) := ⟨_, rfl⟩
    rw [← eh_5] at hI
    have hw := hw.2.2 q_4 hn_q_4 h_5 eh_5
    refine lv_dup hx hb dJ4_entrySet_13 rfl ?_
    refine lv_aload_n hx hb dJ4_entrySet_14 rfl (lv_at hl 1 rfl) ?_
    refine ga_callv (va_runI (As := [va_rf (some p0)]) (rest := [.ref q_4, .ref p0]) ⟨hx, hb, hml, hown, hts⟩ (gm_J37_init l g q_4 (some p0) h_5 _ hw) (cwI 1 hts (lw_meth q1753) rfl rfl rfl (hts _ q149) (hts _ q1751) (hts _ q1752) rfl hdG_J37_init ⟨Nat.le_of_ble_eq_true rfl, Nat.le_of_ble_eq_true rfl⟩) (ga_preS hI rfl) rfl rfl hl.1 rfl (ga_room (Nat.le_of_ble_eq_true rfl)) dJ4_entrySet_15 ⟨Nat.le_trans (Nat.add_le_add_left (Nat.zero_le _) _) hbc, Nat.le_trans (Nat.add_le_add_left (Nat.zero_le _) _) hbs⟩) hI hbc hbs (Nat.zero_le _) (Nat.zero_le _) (fun h_6 H locs cells slots hw hI hbc hbs => ?_)
    refine lv_dup_x1 hx hb dJ4_entrySet_18 rfl rfl ?_
    obtain ⟨fs_7, hq, hk, hw⟩ := hw
    refine ga_put (ci := 15) (T := TJ4) (v := va_rf (some q_4)) (ty := tyJ4 3) hx hb hts hown hI in_J4 rfl tyJ4 tyJ4_ok nmJ4 3 (by decide) q230 (fun _ z => z) rfl (tyJ4_ok 3 (by decide)) (ga_nq _ _) (ga_fq _ _) hq hk dJ4_entrySet_19 (fun H locs hI => ?_)
    obtain ⟨h_8, eh_8⟩ : ∃ z, z = ga_set h_6 p0 (ga_O 15 (fs_7.set 3 (va_rf (some q_4)))) := ⟨_, rfl⟩
    rw [← eh_8] at hI
    have hw := hw h_8 eh_8
    refine lv_goto (tgt := 26) hx hb dJ4_entrySet_22 (by decide) ?_
    exact ga_qret (v := (some q_4)) hx hb hr (Or.inl ⟨_, rfl⟩) hlk hI hw (Nat.le_trans (Nat.le_add_right _ _) hbc) (Nat.le_trans (Nat.le_add_right _ _) hbs) dJ4_entrySet_26
theorem hdG_J4_entrySet : yJ4_entrySet.cls ≠ "java/lang/invoke/MethodHandle" ∧ yJ4_entrySet.cls ≠ "java/lang/invoke/VarHandle" ∧ (parseMethodDescriptor yJ4_entrySet.desc).map (fun d => d.parameters.length) = some 0 := by decide +kernel
def gw_J17_init_E (K : ga_K) (p0 : Nat) (p1 : Option Nat) (h : ga_H) (post : ga_H → Prop) : Prop :=
  ∃ fs_1 : List Value, h p0 = some (ga_O 18 fs_1) ∧ 4 < fs_1.length ∧ ∀ h_2 : ga_H, h_2 = ga_set h p0 (ga_O 18 (fs_1.set 4 (va_rf p1))) → (∃ a_3 : Nat, p1 = some a_3 ∧ ∃ (fs_4 : List Value) (v_5 : Int32), h_2 a_3 = some (ga_O 15 fs_4) ∧ fs_4[5]? = some (.int v_5) ∧ (∃ fs_6 : List Value, h_2 p0 = some (ga_O 18 fs_6) ∧ 2 < fs_6.length ∧ ∀ h_7 : ga_H, h_7 = ga_set h_2 p0 (ga_O 18 (fs_6.set 2 (.int v_5))) → (∃ a_8 : Nat, p1 = some a_8 ∧ ∃ (fs_9 : List Value) (v_10 : Option Nat), h_7 a_8 = some (ga_O 15 fs_9) ∧ fs_9[2]? = some (va_rf v_10) ∧ (∃ fs_11 : List Value, h_7 p0 = some (ga_O 18 fs_11) ∧ 0 < fs_11.length ∧ ∀ h_12 : ga_H, h_12 = ga_set h_7 p0 (ga_O 18 (fs_11.set 0 (va_rf none))) → (∃ fs_13 : List Value, h_12 p0 = some (ga_O 18 fs_13) ∧ 1 < fs_13.length ∧ ∀ h_14 : ga_H, h_14 = ga_set h_12 p0 (ga_O 18 (fs_13.set 1 (va_rf none))) → (∃ fs_15 : List Value, h_14 p0 = some (ga_O 18 fs_15) ∧ 3 < fs_15.length ∧ ∀ h_16 : ga_H, h_16 = ga_set h_14 p0 (ga_O 18 (fs_15.set 3 (.int (0 : Int32)))) → ((v_10 = none → (post h_16)) ∧ (∀ a_17 : Nat, v_10 = some a_17 → (∃ a_18 : Nat, p1 = some a_18 ∧ ∃ (fs_19 : List Value) (v_20 : Int32), h_16 a_18 = some (ga_O 15 fs_19) ∧ fs_19[4]? = some (.int v_20) ∧ ((v_20 ≤ (0 : Int32) → (post h_16)) ∧ (¬ v_20 ≤ (0 : Int32) → (∃ (In_22 : ga_H → Prop) (mu_22 : ga_H → Nat), In_22 h_16 ∧ ∀ (h_22 : ga_H), In_22 h_22 → (∃ (fs_23 : List Value) (v_24 : Int32), h_22 p0 = some (ga_O 18 fs_23) ∧ fs_23[3]? = some (.int v_24) ∧ (∃ a_25 : Nat, v_10 = some a_25 ∧ ∃ (n_26 : Nat) (f_27 : Nat → Option Nat), h_22 a_25 = some (ga_Aq 8 n_26 f_27) ∧ ((nI n_26 ≤ v_24 → (post h_22)) ∧ (¬ nI n_26 ≤ v_24 → (∃ (fs_29 : List Value) (v_30 : Int32), h_22 p0 = some (ga_O 18 fs_29) ∧ fs_29[3]? = some (.int v_30) ∧ (∃ fs_31 : List Value, h_22 p0 = some (ga_O 18 fs_31) ∧ 3 < fs_31.length ∧ ∀ h_32 : ga_H, h_32 = ga_set h_22 p0 (ga_O 18 (fs_31.set 3 (.int (v_30 + (1 : Int32))))) → (∃ a_33 : Nat, v_10 = some a_33 ∧ ∃ (n_34 : Nat) (f_35 : Nat → Option Nat), h_32 a_33 = some (ga_Aq 8 n_34 f_35) ∧ vp_in v_30 n_34 ∧ ∀ v_36 : Option Nat, v_36 = f_35 v_30.toNatClampNeg → (∃ fs_37 : List Value, h_32 p0 = some (ga_O 18 fs_37) ∧ 0 < fs_37.length ∧ ∀ h_38 : ga_H, h_38 = ga_set h_32 p0 (ga_O 18 (fs_37.set 0 (va_rf v_36))) → ((v_36 = none → (In_22 h_38 ∧ mu_22 h_38 < mu_22 h_22)) ∧ (∀ a_39 : Nat, v_36 = some a_39 → (post h_38)))))))))))))))))))))))
set_option maxHeartbeats 4000000 in
theorem gm_J17_init_E (l : Launch) (g : ga_G) (p0 : Nat) (p1 : Option Nat) (h : ga_H) (post : ga_H → Prop) (hw : gw_J17_init_E g.2.2 p0 p1 h post) : Met l yJ17_init (ws_ yJ17_init cJ17_init 3 none) ({ frames := 8, cells := 0, slots := 0, locals := 140 } : Room) (va_Pc [.ref p0, va_rf p1] (ga_B g h)) (va_Qv post (ga_E g) (ga_A g)) 0 0 (ga_A g) := by
  refine ga_met (own := "java/util/HashMap$HashIterator") (nm := "<init>") (by decide) rfl rfl (by cases p1 <;> exact Nat.le_of_ble_eq_true rfl) (fun p e s m below meth c ls hC hI hl => ?_)
  have hl : lv_has ls 3 [(0, .ref p0), (1, va_rf p1)] := (by cases p1 <;> exact hl)
  generalize ([.ref p0, va_rf p1] : List Value).toArray = args at hC ⊢
  obtain ⟨hx, hb, hml, hown, hts, hr, hlk, hnm⟩ := hC
  unfold gw_J17_init_E at hw
  obtain ⟨H, eH⟩ : ∃ z, z = s.heap := ⟨_, rfl⟩
  obtain ⟨locs, elo⟩ : ∃ z : List Loc, z = [] := ⟨_, rfl⟩
  rw [← eH, ← elo] at hI ⊢
  obtain ⟨cells, slots, hbc, hbs, e0, e1⟩ : ∃ a b : Nat, a ≤ 0 ∧ b ≤ 0 ∧ a = 0 ∧ b = 0 := ⟨0, 0, by omega, by omega, rfl, rfl⟩
  show W p l e ({ frames := 8, cells := 0, slots := 0, locals := 140 } : Room) s m args below meth c H locs 0 0 (MQ below (va_Qv post (ga_E g) (ga_A g)) args s 0 0 (ga_A g)) (F0 m 0 ls [])
  suffices hgoal : W p l e ({ frames := 8, cells := 0, slots := 0, locals := 140 } : Room) s m args below meth c H locs cells slots (MQ below (va_Qv post (ga_E g) (ga_A g)) args s 0 0 (ga_A g)) (F0 m 0 ls []) by rw [e0, e1] at hgoal; exact hgoal
  refine lv_aload_n hx hb dJ17_init_0 rfl (lv_at hl 0 rfl) ?_
  refine ga_aload_n hx hb dJ17_init_1 rfl (lv_at hl 1 rfl) ?_
  obtain ⟨fs_1, hq, hk, hw⟩ := hw
  refine ga_putF (ci := 18) (T := TJ18) (v := va_rf p1) (ty := tyJ18 4) hx hb hts hown hI in_J18 rfl tyJ18 tyJ18_ok nmJ18 4 (by decide) q601 (fun _ z => z) rfl hnm rfl (tyJ18_ok 4 (by decide)) (ga_nq _ _) (ga_fq _ _) hq hk dJ17_init_2 (fun H locs hI => ?_)
  obtain ⟨h_2, eh_2⟩ : ∃ z, z = ga_set h p0 (ga_O 18 (fs_1.set 4 (va_rf p1))) := ⟨_, rfl⟩
  rw [← eh_2] at hI
  have hw := hw h_2 eh_2
  refine lv_aload_n hx hb dJ17_init_5 rfl (lv_at hl 0 rfl) ?_
  refine W.objInit hx hb hown (hts _ q596) (hts _ q179) (hts _ q180) rfl (by rw [hml]; exact hl.1) rfl dJ17_init_6 (Nat.le_of_ble_eq_true rfl) (by have := ga_sum [] (Nat.le_of_ble_eq_true rfl); exact Nat.le_trans (Nat.add_le_add_right (Nat.add_le_add_left this 0) 12) (Nat.le_of_ble_eq_true rfl)) ?_
  refine W.eq (g2 := F0 m 9 ls []) rfl ?_
  refine lv_aload_n hx hb dJ17_init_9 rfl (lv_at hl 0 rfl) ?_
  refine ga_aload_n hx hb dJ17_init_10 rfl (lv_at hl 1 rfl) ?_
  obtain ⟨a_3, ea_3, hw⟩ := hw
  rewrite [ea_3]
  obtain ⟨fs_4, v_5, hq, hv, hw⟩ := hw
  refine ga_get (ci := 15) (T := TJ4) (v := .int v_5) hx hb hts hown hI in_J4 rfl 5 (by decide) q235 (fun _ z => z) (ga_at.h hq) hv dJ17_init_11 ?_
  obtain ⟨fs_6, hq, hk, hw⟩ := hw
  refine ga_put (ci := 18) (T := TJ18) (v := .int v_5) (ty := tyJ18 2) hx hb hts hown hI in_J18 rfl tyJ18 tyJ18_ok nmJ18 2 (by decide) q599 (fun _ z => z) rfl (tyJ18_ok 2 (by decide)) rfl rfl hq hk dJ17_init_14 (fun H locs hI => ?_)
  obtain ⟨h_7, eh_7⟩ : ∃ z, z = ga_set h_2 p0 (ga_O 18 (fs_6.set 2 (.int v_5))) := ⟨_, rfl⟩
  rw [← eh_7] at hI
  have hw := hw h_7 eh_7
  refine ga_aload_n hx hb dJ17_init_17 rfl (lv_at hl 1 rfl) ?_
  obtain ⟨a_8, ea_8, hw⟩ := hw
  rewrite [ea_8]
  obtain ⟨fs_9, v_10, hq, hv, hw⟩ := hw
  refine ga_get (ci := 15) (T := TJ4) (v := va_rf v_10) hx hb hts hown hI in_J4 rfl 2 (by decide) q228 (fun _ z => z) (ga_at.h hq) hv dJ17_init_18 ?_
  refine ga_astore_n (i := 2) (x := v_10) (lv' := [(2, va_rf v_10), (0, .ref p0), (1, va_rf p1)]) hx hb dJ17_init_21 rfl hl (by decide) (by simp [ga_rcat, ga_cat_r, ga_cat_i, ga_cat_f, ga_cat_l, ga_cat_d]) (fun ls hl => ?_)
  refine lv_aload_n hx hb dJ17_init_22 rfl (lv_at hl 1 rfl) ?_
  refine lv_aload_n hx hb dJ17_init_23 rfl (lv_at hl 1 rfl) ?_
  refine lv_null hx hb dJ17_init_24 ?_
  refine lv_dup_x1 hx hb dJ17_init_25 rfl rfl ?_
  obtain ⟨fs_11, hq, hk, hw⟩ := hw
  refine ga_put (ci := 18) (T := TJ18) (v := va_rf none) (ty := tyJ18 0) hx hb hts hown hI in_J18 rfl tyJ18 tyJ18_ok nmJ18 0 (by decide) q597 (fun _ z => z) rfl (tyJ18_ok 0 (by decide)) (ga_nq _ _) (ga_fq _ _) hq hk dJ17_init_26 (fun H locs hI => ?_)
  obtain ⟨h_12, eh_12⟩ : ∃ z, z = ga_set h_7 p0 (ga_O 18 (fs_11.set 0 (va_rf none))) := ⟨_, rfl⟩
  rw [← eh_12] at hI
  have hw := hw h_12 eh_12
  obtain ⟨fs_13, hq, hk, hw⟩ := hw
  refine ga_put (ci := 18) (T := TJ18) (v := va_rf none) (ty := tyJ18 1) hx hb hts hown hI in_J18 rfl tyJ18 tyJ18_ok nmJ18 1 (by decide) q598 (fun _ z => z) rfl (tyJ18_ok 1 (by decide)) (ga_nq _ _) (ga_fq _ _) hq hk dJ17_init_29 (fun H locs hI => ?_)
  obtain ⟨h_14, eh_14⟩ : ∃ z, z = ga_set h_12 p0 (ga_O 18 (fs_13.set 1 (va_rf none))) := ⟨_, rfl⟩
  rw [← eh_14] at hI
  have hw := hw h_14 eh_14
  refine lv_aload_n hx hb dJ17_init_32 rfl (lv_at hl 1 rfl) ?_
  refine lv_iconst (v := 0) hx hb dJ17_init_33 (by decide) ?_
  obtain ⟨fs_15, hq, hk, hw⟩ := hw
  refine ga_put (ci := 18) (T := TJ18) (v := .int (0 : Int32)) (ty := tyJ18 3) hx hb hts hown hI in_J18 rfl tyJ18 tyJ18_ok nmJ18 3 (by decide) q600 (fun _ z => z) rfl (tyJ18_ok 3 (by decide)) rfl rfl hq hk dJ17_init_34 (fun H locs hI => ?_)
  obtain ⟨h_16, eh_16⟩ : ∃ z, z = ga_set h_14 p0 (ga_O 18 (fs_15.set 3 (.int (0 : Int32)))) := ⟨_, rfl⟩
  rw [← eh_16] at hI
  have hw := hw h_16 eh_16
  refine ga_aload_n hx hb dJ17_init_37 rfl (lv_at hl 0 rfl) ?_
  refine ga_ifnull (tgt := 78) hx hb dJ17_init_38 (by decide) (fun hc_a_17 => ?_) (fun a_17 hc_a_17 => ?_)
  · have hw := hw.1 hc_a_17
    exact ga_vret hx hb hr hlk hI hw hbc hbs dJ17_init_78
  · have hw := hw.2 a_17 hc_a_17
    skip
    refine ga_aload_n hx hb dJ17_init_41 rfl (lv_at hl 2 rfl) ?_
    obtain ⟨a_18, ea_18, hw⟩ := hw
    rewrite [ea_18]
    obtain ⟨fs_19, v_20, hq, hv, hw⟩ := hw
    refine ga_get (ci := 15) (T := TJ4) (v := .int v_20) hx hb hts hown hI in_J4 rfl 4 (by decide) q231 (fun _ z => z) (ga_at.h hq) hv dJ17_init_42 ?_
    refine lv_if_le (tgt := 78) hx hb dJ17_init_45 (by decide) (fun hc_21 => ?_) (fun hc_21 => ?_)
    · have hw := hw.1 hc_21
      exact ga_vret hx hb hr hlk hI hw hbc hbs dJ17_init_78
    · have hw := hw.2 hc_21
      obtain ⟨In_22, mu_22, h0_22, hw⟩ := hw
      have hL_22 : ∀ (n : Nat) (h_22 : ga_H) (H : Heap) (locs : List Loc) (cells slots : Nat) (ls : Array Slot), mu_22 h_22 < n → In_22 h_22 → ga_I g h_22 s H locs → cells ≤ 0 → slots ≤ 0 → lv_has ls 3 [(0, .ref p0), (2, va_rf v_10)] → W p l e ({ frames := 8, cells := 0, slots := 0, locals := 140 } : Room) s m args below meth c H locs cells slots (MQ below (va_Qv post (ga_E g) (ga_A g)) args s 0 0 (ga_A g)) (F0 m 48 ls []) := by
        intro n
        induction n with
        | zero => intro h_22 H locs cells slots ls hn _ _ _ _ _; exact absurd hn (Nat.not_lt_zero _)
        | succ n ih_22 =>
          intro h_22 H locs cells slots ls hn_22 hi_22 hI hbc hbs hl
          have hw := hw h_22 hi_22
          refine lv_aload_n hx hb dJ17_init_48 rfl (lv_at hl 0 rfl) ?_
          obtain ⟨fs_23, v_24, hq, hv, hw⟩ := hw
          refine ga_get (ci := 18) (T := TJ18) (v := .int v_24) hx hb hts hown hI in_J18 rfl 3 (by decide) q600 (fun _ z => z) (ga_at.h hq) hv dJ17_init_49 ?_
          refine ga_aload_n hx hb dJ17_init_52 rfl (lv_at hl 1 rfl) ?_
          obtain ⟨a_25, ea_25, hw⟩ := hw
          rewrite [ea_25]
          obtain ⟨n_26, f_27, hq, hw⟩ := hw
          refine ga_len hx hb hI (ga_at.h hq) rfl dJ17_init_53 ?_
          refine lv_icmp_ge (tgt := 78) hx hb dJ17_init_54 (by decide) (fun hc_28 => ?_) (fun hc_28 => ?_)
          · have hw := hw.1 hc_28
            exact ga_vret hx hb hr hlk hI hw hbc hbs dJ17_init_78
          · have hw := hw.2 hc_28
            refine lv_aload_n hx hb dJ17_init_57 rfl (lv_at hl 0 rfl) ?_
            refine ga_aload_n hx hb dJ17_init_58 rfl (lv_at hl 1 rfl) ?_
            refine lv_aload_n hx hb dJ17_init_59 rfl (lv_at hl 0 rfl) ?_
            refine lv_dup hx hb dJ17_init_60 rfl ?_
            obtain ⟨fs_29, v_30, hq, hv, hw⟩ := hw
            refine ga_get (ci := 18) (T := TJ18) (v := .int v_30) hx hb hts hown hI in_J18 rfl 3 (by decide) q600 (fun _ z => z) (ga_at.h hq) hv dJ17_init_61 ?_
            refine lv_dup_x1 hx hb dJ17_init_64 rfl rfl ?_
            refine lv_iconst (v := 1) hx hb dJ17_init_65 (by decide) ?_
            refine lv_iadd hx hb dJ17_init_66 ?_
            obtain ⟨fs_31, hq, hk, hw⟩ := hw
            refine ga_put (ci := 18) (T := TJ18) (v := .int (v_30 + (1 : Int32))) (ty := tyJ18 3) hx hb hts hown hI in_J18 rfl tyJ18 tyJ18_ok nmJ18 3 (by decide) q600 (fun _ z => z) rfl (tyJ18_ok 3 (by decide)) rfl rfl hq hk dJ17_init_67 (fun H locs hI => ?_)
            obtain ⟨h_32, eh_32⟩ : ∃ z, z = ga_set h_22 p0 (ga_O 18 (fs_31.set 3 (.int (v_30 + (1 : Int32))))) := ⟨_, rfl⟩
            rw [← eh_32] at hI
            have hw := hw h_32 eh_32
            obtain ⟨a_33, ea_33, hw⟩ := hw
            rewrite [ea_33]
            obtain ⟨n_34, f_35, hq, hi, hw⟩ := hw
            refine ga_ldq hx hb hI (ga_at.h hq) rfl hi dJ17_init_70 ?_
            obtain ⟨v_36, ev_36⟩ : ∃ z, z = f_35 v_30.toNatClampNeg := ⟨_, rfl⟩
            rw [← ev_36]
            have hw := hw v_36 ev_36
            refine lv_dup_x1 hx hb dJ17_init_71 (ga_rcat _) rfl ?_
            obtain ⟨fs_37, hq, hk, hw⟩ := hw
            refine ga_put (ci := 18) (T := TJ18) (v := va_rf v_36) (ty := tyJ18 0) hx hb hts hown hI in_J18 rfl tyJ18 tyJ18_ok nmJ18 0 (by decide) q597 (fun _ z => z) rfl (tyJ18_ok 0 (by decide)) (ga_nq _ _) (ga_fq _ _) hq hk dJ17_init_72 (fun H locs hI => ?_)
            obtain ⟨h_38, eh_38⟩ : ∃ z, z = ga_set h_32 p0 (ga_O 18 (fs_37.set 0 (va_rf v_36))) := ⟨_, rfl⟩
            rw [← eh_38] at hI
            have hw := hw h_38 eh_38
            refine ga_ifnull (tgt := 48) hx hb dJ17_init_75 (by decide) (fun hc_a_39 => ?_) (fun a_39 hc_a_39 => ?_)
            · have hw := hw.1 hc_a_39
              exact ih_22 _ H locs cells slots ls (Nat.lt_of_lt_of_le hw.2 (Nat.le_of_lt_succ hn_22)) hw.1 hI hbc hbs (lv_sub hl [0, 1] rfl)
            · have hw := hw.2 a_39 hc_a_39
              skip
              exact ga_vret hx hb hr hlk hI hw hbc hbs dJ17_init_78
      exact hL_22 _ _ H locs cells slots ls (Nat.lt_succ_self _) h0_22 hI hbc hbs (lv_sub hl [1, 0] rfl)
theorem hdG_J17_init_E : yJ17_init.cls ≠ "java/lang/invoke/MethodHandle" ∧ yJ17_init.cls ≠ "java/lang/invoke/VarHandle" ∧ (parseMethodDescriptor yJ17_init.desc).map (fun d => d.parameters.length) = some 1 := by decide +kernel
def gw_J18_init (K : ga_K) (p0 : Nat) (p1 : Option Nat) (h : ga_H) (post : ga_H → Prop) : Prop :=
  gw_J17_init_E K p0 p1 h (fun (h_1 : ga_H) => post h_1)
set_option maxHeartbeats 4000000 in
theorem gm_J18_init (l : Launch) (g : ga_G) (p0 : Nat) (p1 : Option Nat) (h : ga_H) (post : ga_H → Prop) (hw : gw_J18_init g.2.2 p0 p1 h post) : Met l yJ18_init (ws_ yJ18_init cJ18_init 2 none) ({ frames := 9, cells := 0, slots := 0, locals := 162 } : Room) (va_Pc [.ref p0, va_rf p1] (ga_B g h)) (va_Qv post (ga_E g) (ga_A g)) 0 0 (ga_A g) := by
  refine ga_met (own := "java/util/HashMap$EntryIterator") (nm := "<init>") (by decide) rfl rfl (by cases p1 <;> exact Nat.le_of_ble_eq_true rfl) (fun p e s m below meth c ls hC hI hl => ?_)
  have hl : lv_has ls 2 [(0, .ref p0), (1, va_rf p1)] := (by cases p1 <;> exact hl)
  generalize ([.ref p0, va_rf p1] : List Value).toArray = args at hC ⊢
  obtain ⟨hx, hb, hml, hown, hts, hr, hlk, hnm⟩ := hC
  unfold gw_J18_init at hw
  obtain ⟨H, eH⟩ : ∃ z, z = s.heap := ⟨_, rfl⟩
  obtain ⟨locs, elo⟩ : ∃ z : List Loc, z = [] := ⟨_, rfl⟩
  rw [← eH, ← elo] at hI ⊢
  obtain ⟨cells, slots, hbc, hbs, e0, e1⟩ : ∃ a b : Nat, a ≤ 0 ∧ b ≤ 0 ∧ a = 0 ∧ b = 0 := ⟨0, 0, by omega, by omega, rfl, rfl⟩
  show W p l e ({ frames := 9, cells := 0, slots := 0, locals := 162 } : Room) s m args below meth c H locs 0 0 (MQ below (va_Qv post (ga_E g) (ga_A g)) args s 0 0 (ga_A g)) (F0 m 0 ls [])
  suffices hgoal : W p l e ({ frames := 9, cells := 0, slots := 0, locals := 162 } : Room) s m args below meth c H locs cells slots (MQ below (va_Qv post (ga_E g) (ga_A g)) args s 0 0 (ga_A g)) (F0 m 0 ls []) by rw [e0, e1] at hgoal; exact hgoal
  refine lv_aload_n hx hb dJ18_init_0 rfl (lv_at hl 0 rfl) ?_
  refine ga_aload_n hx hb dJ18_init_1 rfl (lv_at hl 1 rfl) ?_
  refine ga_callv (va_runI (As := [va_rf p1]) (rest := []) ⟨hx, hb, hml, hown, hts⟩ (gm_J17_init_E l g p0 p1 h _ hw) (cwI 1 hts (lw_meth q595) rfl rfl rfl (hts _ q123) (hts _ q593) (hts _ q594) rfl hdG_J17_init_E ⟨Nat.le_of_ble_eq_true rfl, Nat.le_of_ble_eq_true rfl⟩) (ga_preS hI rfl) rfl rfl hl.1 rfl (ga_room (Nat.le_of_ble_eq_true rfl)) dJ18_init_2 ⟨hbc, hbs⟩) hI (bc := 0) (bs := 0) hbc hbs (Nat.zero_le _) (Nat.zero_le _) (fun h_1 H locs cells slots hw hI hbc hbs => ?_)
  exact ga_vret hx hb hr hlk hI hw hbc hbs dJ18_init_5
theorem hdG_J18_init : yJ18_init.cls ≠ "java/lang/invoke/MethodHandle" ∧ yJ18_init.cls ≠ "java/lang/invoke/VarHandle" ∧ (parseMethodDescriptor yJ18_init.desc).map (fun d => d.parameters.length) = some 1 := by decide +kernel
def gw_J37_iterator (K : ga_K) (p0 : Nat) (h : ga_H) (mc ms : Nat) (post : Option Nat → ga_H → Prop) : Prop :=
  1 ≤ mc ∧ 5 ≤ ms ∧ ∀ q_1 : Nat, h q_1 = none → ∀ h_2 : ga_H, h_2 = ga_set h q_1 (ga_O 18 [va_rf none, va_rf none, .int 0, .int 0, va_rf none]) → (∃ (fs_3 : List Value) (v_4 : Option Nat), h_2 p0 = some (ga_O 17 fs_3) ∧ fs_3[0]? = some (va_rf v_4) ∧ (gw_J18_init K q_1 v_4 h_2 (fun (h_5 : ga_H) => post (some q_1) h_5)))
set_option maxHeartbeats 4000000 in
theorem gm_J37_iterator (l : Launch) (g : ga_G) (p0 : Nat) (h : ga_H) (mc ms : Nat) (post : Option Nat → ga_H → Prop) (hw : gw_J37_iterator g.2.2 p0 h mc ms post) : Met l yJ37_iterator (ws_ yJ37_iterator cJ37_iterator 1 (some (.object "java/util/Iterator"))) ({ frames := 10, cells := mc, slots := ms, locals := 183 } : Room) (va_Pc [.ref p0] (ga_B g h)) (va_Qq post (ga_E g) (ga_A g)) mc ms (ga_A g) := by
  refine ga_met (own := "java/util/HashMap$EntrySet") (nm := "iterator") (by decide) rfl rfl (by exact Nat.le_of_ble_eq_true rfl) (fun p e s m below meth c ls hC hI hl => ?_)
  have hl : lv_has ls 1 [(0, .ref p0)] := hl
  generalize ([.ref p0] : List Value).toArray = args at hC ⊢
  obtain ⟨hx, hb, hml, hown, hts, hr, hlk, hnm⟩ := hC
  unfold gw_J37_iterator at hw
  obtain ⟨H, eH⟩ : ∃ z, z = s.heap := ⟨_, rfl⟩
  obtain ⟨locs, elo⟩ : ∃ z : List Loc, z = [] := ⟨_, rfl⟩
  rw [← eH, ← elo] at hI ⊢
  obtain ⟨cells, slots, hbc, hbs, e0, e1⟩ : ∃ a b : Nat, a + mc ≤ mc ∧ b + ms ≤ ms ∧ a = 0 ∧ b = 0 := ⟨0, 0, by omega, by omega, rfl, rfl⟩
  show W p l e ({ frames := 10, cells := mc, slots := ms, locals := 183 } : Room) s m args below meth c H locs 0 0 (MQ below (va_Qq post (ga_E g) (ga_A g)) args s mc ms (ga_A g)) (F0 m 0 ls [])
  suffices hgoal : W p l e ({ frames := 10, cells := mc, slots := ms, locals := 183 } : Room) s m args below meth c H locs cells slots (MQ below (va_Qq post (ga_E g) (ga_A g)) args s mc ms (ga_A g)) (F0 m 0 ls []) by rw [e0, e1] at hgoal; exact hgoal
  refine ga_new (ci := 18) (T := TJ18) hx hb hts hown hI in_J18 rfl tyJ18 tyJ18_ok q588 q589 q124 [va_rf none, va_rf none, .int 0, .int 0, va_rf none] ga_df_J18 hbc hbs hw.1 hw.2.1 dJ37_iterator_0 (fun q_1 H cells slots hn_q_1 hI hbc hbs => ?_)
  obtain ⟨h_2, eh_2⟩ : ∃ z, z = ga_set h q_1 (ga_O 18 [va_rf none, va_rf none, .int 0, .int 0, va_rf none]) := ⟨_, rfl⟩
  rw [← eh_2] at hI
  have hw := hw.2.2 q_1 hn_q_1 h_2 eh_2
  refine lv_dup hx hb dJ37_iterator_3 rfl ?_
  refine lv_aload_n hx hb dJ37_iterator_4 rfl (lv_at hl 0 rfl) ?_
  obtain ⟨fs_3, v_4, hq, hv, hw⟩ := hw
  refine ga_get (ci := 17) (T := TJ37) (v := va_rf v_4) hx hb hts hown hI in_J37 rfl 0 (by decide) q1755 (fun _ z => z) (ga_at.h hq) hv dJ37_iterator_5 ?_
  refine ga_callv (va_runI (As := [va_rf v_4]) (rest := [.ref q_1]) ⟨hx, hb, hml, hown, hts⟩ (gm_J18_init l g q_1 v_4 h_2 _ hw) (cwI 1 hts (lw_meth q592) rfl rfl rfl (hts _ q124) (hts _ q590) (hts _ q591) rfl hdG_J18_init ⟨Nat.le_of_ble_eq_true rfl, Nat.le_of_ble_eq_true rfl⟩) (ga_preS hI rfl) rfl rfl hl.1 rfl (ga_room (Nat.le_of_ble_eq_true rfl)) dJ37_iterator_8 ⟨Nat.le_trans (Nat.add_le_add_left (Nat.zero_le _) _) hbc, Nat.le_trans (Nat.add_le_add_left (Nat.zero_le _) _) hbs⟩) hI hbc hbs (Nat.zero_le _) (Nat.zero_le _) (fun h_5 H locs cells slots hw hI hbc hbs => ?_)
  exact ga_qret (v := (some q_1)) hx hb hr (Or.inl ⟨_, rfl⟩) hlk hI hw (Nat.le_trans (Nat.le_add_right _ _) hbc) (Nat.le_trans (Nat.le_add_right _ _) hbs) dJ37_iterator_11
theorem hdG_J37_iterator : yJ37_iterator.cls ≠ "java/lang/invoke/MethodHandle" ∧ yJ37_iterator.cls ≠ "java/lang/invoke/VarHandle" ∧ (parseMethodDescriptor yJ37_iterator.desc).map (fun d => d.parameters.length) = some 0 := by decide +kernel
def gw_J17_hasNext_E (K : ga_K) (p0 : Nat) (h : ga_H) (post : Int32 → ga_H → Prop) : Prop :=
  ∃ (fs_1 : List Value) (v_2 : Option Nat), h p0 = some (ga_O 18 fs_1) ∧ fs_1[0]? = some (va_rf v_2) ∧ ((v_2 = none → (post (0 : Int32) h)) ∧ (∀ a_3 : Nat, v_2 = some a_3 → (post (1 : Int32) h)))
set_option maxHeartbeats 4000000 in
theorem gm_J17_hasNext_E (l : Launch) (g : ga_G) (p0 : Nat) (h : ga_H) (post : Int32 → ga_H → Prop) (hw : gw_J17_hasNext_E g.2.2 p0 h post) : Met l yJ17_hasNext (ws_ yJ17_hasNext cJ17_hasNext 1 (some .boolean)) ({ frames := 8, cells := 0, slots := 0, locals := 140 } : Room) (va_Pc [.ref p0] (ga_B g h)) (va_Qi post (ga_E g) (ga_A g)) 0 0 (ga_A g) := by
  refine ga_met (own := "java/util/HashMap$HashIterator") (nm := "hasNext") (by decide) rfl rfl (by exact Nat.le_of_ble_eq_true rfl) (fun p e s m below meth c ls hC hI hl => ?_)
  have hl : lv_has ls 1 [(0, .ref p0)] := hl
  generalize ([.ref p0] : List Value).toArray = args at hC ⊢
  obtain ⟨hx, hb, hml, hown, hts, hr, hlk, hnm⟩ := hC
  unfold gw_J17_hasNext_E at hw
  obtain ⟨H, eH⟩ : ∃ z, z = s.heap := ⟨_, rfl⟩
  obtain ⟨locs, elo⟩ : ∃ z : List Loc, z = [] := ⟨_, rfl⟩
  rw [← eH, ← elo] at hI ⊢
  obtain ⟨cells, slots, hbc, hbs, e0, e1⟩ : ∃ a b : Nat, a ≤ 0 ∧ b ≤ 0 ∧ a = 0 ∧ b = 0 := ⟨0, 0, by omega, by omega, rfl, rfl⟩
  show W p l e ({ frames := 8, cells := 0, slots := 0, locals := 140 } : Room) s m args below meth c H locs 0 0 (MQ below (va_Qi post (ga_E g) (ga_A g)) args s 0 0 (ga_A g)) (F0 m 0 ls [])
  suffices hgoal : W p l e ({ frames := 8, cells := 0, slots := 0, locals := 140 } : Room) s m args below meth c H locs cells slots (MQ below (va_Qi post (ga_E g) (ga_A g)) args s 0 0 (ga_A g)) (F0 m 0 ls []) by rw [e0, e1] at hgoal; exact hgoal
  refine lv_aload_n hx hb dJ17_hasNext_0 rfl (lv_at hl 0 rfl) ?_
  obtain ⟨fs_1, v_2, hq, hv, hw⟩ := hw
  refine ga_get (ci := 18) (T := TJ18) (v := va_rf v_2) hx hb hts hown hI in_J18 rfl 0 (by decide) q597 (fun _ z => z) (ga_at.h hq) hv dJ17_hasNext_1 ?_
  refine ga_ifnull (tgt := 11) hx hb dJ17_hasNext_4 (by decide) (fun hc_a_3 => ?_) (fun a_3 hc_a_3 => ?_)
  · have hw := hw.1 hc_a_3
    refine lv_iconst (v := 0) hx hb dJ17_hasNext_11 (by decide) ?_
    exact ga_iret hx hb hr rfl hlk hI hw hbc hbs dJ17_hasNext_12
  · have hw := hw.2 a_3 hc_a_3
    skip
    refine lv_iconst (v := 1) hx hb dJ17_hasNext_7 (by decide) ?_
    refine lv_goto (tgt := 12) hx hb dJ17_hasNext_8 (by decide) ?_
    exact ga_iret hx hb hr rfl hlk hI hw hbc hbs dJ17_hasNext_12
theorem hdG_J17_hasNext_E : yJ17_hasNext.cls ≠ "java/lang/invoke/MethodHandle" ∧ yJ17_hasNext.cls ≠ "java/lang/invoke/VarHandle" ∧ (parseMethodDescriptor yJ17_hasNext.desc).map (fun d => d.parameters.length) = some 0 := by decide +kernel
def gw_J17_nextNode_E (K : ga_K) (p0 : Nat) (h : ga_H) (mc ms : Nat) (post : Option Nat → ga_H → Prop) : Prop :=
  ∃ (fs_1 : List Value) (v_2 : Option Nat), h p0 = some (ga_O 18 fs_1) ∧ fs_1[0]? = some (va_rf v_2) ∧ (∃ (fs_3 : List Value) (v_4 : Option Nat), h p0 = some (ga_O 18 fs_3) ∧ fs_3[4]? = some (va_rf v_4) ∧ (∃ a_5 : Nat, v_4 = some a_5 ∧ ∃ (fs_6 : List Value) (v_7 : Int32), h a_5 = some (ga_O 15 fs_6) ∧ fs_6[5]? = some (.int v_7) ∧ (∃ (fs_8 : List Value) (v_9 : Int32), h p0 = some (ga_O 18 fs_8) ∧ fs_8[2]? = some (.int v_9) ∧ ((v_7 = v_9 → ((v_2 = none → False) ∧ (∀ a_11 : Nat, v_2 = some a_11 → (∃ fs_12 : List Value, h p0 = some (ga_O 18 fs_12) ∧ 1 < fs_12.length ∧ ∀ h_13 : ga_H, h_13 = ga_set h p0 (ga_O 18 (fs_12.set 1 (va_rf v_2))) → (∃ a_14 : Nat, v_2 = some a_14 ∧ ∃ (fs_15 : List Value) (v_16 : Option Nat), h_13 a_14 = some (ga_O 16 fs_15) ∧ fs_15[3]? = some (va_rf v_16) ∧ (∃ fs_17 : List Value, h_13 p0 = some (ga_O 18 fs_17) ∧ 0 < fs_17.length ∧ ∀ h_18 : ga_H, h_18 = ga_set h_13 p0 (ga_O 18 (fs_17.set 0 (va_rf v_16))) → ((v_16 = none → (∃ (fs_20 : List Value) (v_21 : Option Nat), h_18 p0 = some (ga_O 18 fs_20) ∧ fs_20[4]? = some (va_rf v_21) ∧ (∃ a_22 : Nat, v_21 = some a_22 ∧ ∃ (fs_23 : List Value) (v_24 : Option Nat), h_18 a_22 = some (ga_O 15 fs_23) ∧ fs_23[2]? = some (va_rf v_24) ∧ ((v_24 = none → (post v_2 h_18)) ∧ (∀ a_25 : Nat, v_24 = some a_25 → (∃ (In_26 : ga_H → Prop) (mu_26 : ga_H → Nat), In_26 h_18 ∧ ∀ (h_26 : ga_H), In_26 h_26 → (∃ (fs_27 : List Value) (v_28 : Int32), h_26 p0 = some (ga_O 18 fs_27) ∧ fs_27[3]? = some (.int v_28) ∧ (∃ a_29 : Nat, v_24 = some a_29 ∧ ∃ (n_30 : Nat) (f_31 : Nat → Option Nat), h_26 a_29 = some (ga_Aq 8 n_30 f_31) ∧ ((nI n_30 ≤ v_28 → (post v_2 h_26)) ∧ (¬ nI n_30 ≤ v_28 → (∃ (fs_33 : List Value) (v_34 : Int32), h_26 p0 = some (ga_O 18 fs_33) ∧ fs_33[3]? = some (.int v_34) ∧ (∃ fs_35 : List Value, h_26 p0 = some (ga_O 18 fs_35) ∧ 3 < fs_35.length ∧ ∀ h_36 : ga_H, h_36 = ga_set h_26 p0 (ga_O 18 (fs_35.set 3 (.int (v_34 + (1 : Int32))))) → (∃ a_37 : Nat, v_24 = some a_37 ∧ ∃ (n_38 : Nat) (f_39 : Nat → Option Nat), h_36 a_37 = some (ga_Aq 8 n_38 f_39) ∧ vp_in v_34 n_38 ∧ ∀ v_40 : Option Nat, v_40 = f_39 v_34.toNatClampNeg → (∃ fs_41 : List Value, h_36 p0 = some (ga_O 18 fs_41) ∧ 0 < fs_41.length ∧ ∀ h_42 : ga_H, h_42 = ga_set h_36 p0 (ga_O 18 (fs_41.set 0 (va_rf v_40))) → ((v_40 = none → (In_26 h_42 ∧ mu_26 h_42 < mu_26 h_26)) ∧ (∀ a_43 : Nat, v_40 = some a_43 → (post v_2 h_42))))))))))))))))) ∧ (∀ a_19 : Nat, v_16 = some a_19 → (post v_2 h_18))))))))) ∧ (¬ v_7 = v_9 → False)))))
set_option maxHeartbeats 4000000 in
theorem gm_J17_nextNode_E (l : Launch) (g : ga_G) (p0 : Nat) (h : ga_H) (mc ms : Nat) (post : Option Nat → ga_H → Prop) (hw : gw_J17_nextNode_E g.2.2 p0 h mc ms post) : Met l yJ17_nextNode (ws_ yJ17_nextNode cJ17_nextNode 3 (some (.object "java/util/HashMap$Node"))) ({ frames := 8, cells := mc, slots := ms, locals := 140 } : Room) (va_Pc [.ref p0] (ga_B g h)) (va_Qq post (ga_E g) (ga_A g)) mc ms (ga_A g) := by
  refine ga_met (own := "java/util/HashMap$HashIterator") (nm := "nextNode") (by decide) rfl rfl (by exact Nat.le_of_ble_eq_true rfl) (fun p e s m below meth c ls hC hI hl => ?_)
  have hl : lv_has ls 3 [(0, .ref p0)] := hl
  generalize ([.ref p0] : List Value).toArray = args at hC ⊢
  obtain ⟨hx, hb, hml, hown, hts, hr, hlk, hnm⟩ := hC
  unfold gw_J17_nextNode_E at hw
  obtain ⟨H, eH⟩ : ∃ z, z = s.heap := ⟨_, rfl⟩
  obtain ⟨locs, elo⟩ : ∃ z : List Loc, z = [] := ⟨_, rfl⟩
  rw [← eH, ← elo] at hI ⊢
  obtain ⟨cells, slots, hbc, hbs, e0, e1⟩ : ∃ a b : Nat, a + mc ≤ mc ∧ b + ms ≤ ms ∧ a = 0 ∧ b = 0 := ⟨0, 0, by omega, by omega, rfl, rfl⟩
  show W p l e ({ frames := 8, cells := mc, slots := ms, locals := 140 } : Room) s m args below meth c H locs 0 0 (MQ below (va_Qq post (ga_E g) (ga_A g)) args s mc ms (ga_A g)) (F0 m 0 ls [])
  suffices hgoal : W p l e ({ frames := 8, cells := mc, slots := ms, locals := 140 } : Room) s m args below meth c H locs cells slots (MQ below (va_Qq post (ga_E g) (ga_A g)) args s mc ms (ga_A g)) (F0 m 0 ls []) by rw [e0, e1] at hgoal; exact hgoal
  refine lv_aload_n hx hb dJ17_nextNode_0 rfl (lv_at hl 0 rfl) ?_
  obtain ⟨fs_1, v_2, hq, hv, hw⟩ := hw
  refine ga_get (ci := 18) (T := TJ18) (v := va_rf v_2) hx hb hts hown hI in_J18 rfl 0 (by decide) q597 (fun _ z => z) (ga_at.h hq) hv dJ17_nextNode_1 ?_
  refine ga_astore_n (i := 2) (x := v_2) (lv' := [(2, va_rf v_2), (0, .ref p0)]) hx hb dJ17_nextNode_4 rfl hl (by decide) rfl (fun ls hl => ?_)
  refine lv_aload_n hx hb dJ17_nextNode_5 rfl (lv_at hl 1 rfl) ?_
  obtain ⟨fs_3, v_4, hq, hv, hw⟩ := hw
  refine ga_get (ci := 18) (T := TJ18) (v := va_rf v_4) hx hb hts hown hI in_J18 rfl 4 (by decide) q601 (fun _ z => z) (ga_at.h hq) hv dJ17_nextNode_6 ?_
  obtain ⟨a_5, ea_5, hw⟩ := hw
  rewrite [ea_5]
  obtain ⟨fs_6, v_7, hq, hv, hw⟩ := hw
  refine ga_get (ci := 15) (T := TJ4) (v := .int v_7) hx hb hts hown hI in_J4 rfl 5 (by decide) q235 (fun _ z => z) (ga_at.h hq) hv dJ17_nextNode_9 ?_
  refine lv_aload_n hx hb dJ17_nextNode_12 rfl (lv_at hl 1 rfl) ?_
  obtain ⟨fs_8, v_9, hq, hv, hw⟩ := hw
  refine ga_get (ci := 18) (T := TJ18) (v := .int v_9) hx hb hts hown hI in_J18 rfl 2 (by decide) q599 (fun _ z => z) (ga_at.h hq) hv dJ17_nextNode_13 ?_
  refine lv_icmp_eq (tgt := 27) hx hb dJ17_nextNode_16 (by decide) (fun hc_10 => ?_) (fun hc_10 => ?_)
  · have hw := hw.1 hc_10
    refine ga_aload_n hx hb dJ17_nextNode_27 rfl (lv_at hl 0 rfl) ?_
    refine ga_ifnonnull (tgt := 39) hx hb dJ17_nextNode_28 (by decide) (fun a_11 hc_a_11 => ?_) (fun hc_a_11 => ?_)
    · have hw := hw.2 a_11 hc_a_11
      skip
      refine lv_aload_n hx hb dJ17_nextNode_39 rfl (lv_at hl 1 rfl) ?_
      refine lv_aload_n hx hb dJ17_nextNode_40 rfl (lv_at hl 1 rfl) ?_
      refine ga_aload_n hx hb dJ17_nextNode_41 rfl (lv_at hl 0 rfl) ?_
      refine lv_dup_x1 hx hb dJ17_nextNode_42 (ga_rcat _) rfl ?_
      obtain ⟨fs_12, hq, hk, hw⟩ := hw
      refine ga_put (ci := 18) (T := TJ18) (v := va_rf v_2) (ty := tyJ18 1) hx hb hts hown hI in_J18 rfl tyJ18 tyJ18_ok nmJ18 1 (by decide) q598 (fun _ z => z) rfl (tyJ18_ok 1 (by decide)) (ga_nq _ _) (ga_fq _ _) hq hk dJ17_nextNode_43 (fun H locs hI => ?_)
      obtain ⟨h_13, eh_13⟩ : ∃ z, z = ga_set h p0 (ga_O 18 (fs_12.set 1 (va_rf v_2))) := ⟨_, rfl⟩
      rw [← eh_13] at hI
      have hw := hw h_13 eh_13
      obtain ⟨a_14, ea_14, hw⟩ := hw
      rewrite [ea_14]
      obtain ⟨fs_15, v_16, hq, hv, hw⟩ := hw
      refine ga_get (ci := 16) (T := TJ32) (v := va_rf v_16) hx hb hts hown hI in_J32 rfl 3 (by decide) q1509 (fun _ z => z) (ga_at.h hq) hv dJ17_nextNode_46 ?_
      refine lv_dup_x1 hx hb dJ17_nextNode_49 (ga_rcat _) rfl ?_
      obtain ⟨fs_17, hq, hk, hw⟩ := hw
      refine ga_put (ci := 18) (T := TJ18) (v := va_rf v_16) (ty := tyJ18 0) hx hb hts hown hI in_J18 rfl tyJ18 tyJ18_ok nmJ18 0 (by decide) q597 (fun _ z => z) rfl (tyJ18_ok 0 (by decide)) (ga_nq _ _) (ga_fq _ _) hq hk dJ17_nextNode_50 (fun H locs hI => ?_)
      obtain ⟨h_18, eh_18⟩ : ∃ z, z = ga_set h_13 p0 (ga_O 18 (fs_17.set 0 (va_rf v_16))) := ⟨_, rfl⟩
      rw [← eh_18] at hI
      have hw := hw h_18 eh_18
      refine ga_ifnonnull (tgt := 98) hx hb dJ17_nextNode_53 (by decide) (fun a_19 hc_a_19 => ?_) (fun hc_a_19 => ?_)
      · have hw := hw.2 a_19 hc_a_19
        skip
        refine ga_aload_n hx hb dJ17_nextNode_98 rfl (lv_at hl 0 rfl) ?_
        exact ga_qret (v := v_2) hx hb hr (Or.inl ⟨_, rfl⟩) hlk hI hw (Nat.le_trans (Nat.le_add_right _ _) hbc) (Nat.le_trans (Nat.le_add_right _ _) hbs) dJ17_nextNode_99
      · have hw := hw.1 hc_a_19
        refine lv_aload_n hx hb dJ17_nextNode_56 rfl (lv_at hl 1 rfl) ?_
        obtain ⟨fs_20, v_21, hq, hv, hw⟩ := hw
        refine ga_get (ci := 18) (T := TJ18) (v := va_rf v_21) hx hb hts hown hI in_J18 rfl 4 (by decide) q601 (fun _ z => z) (ga_at.h hq) hv dJ17_nextNode_57 ?_
        obtain ⟨a_22, ea_22, hw⟩ := hw
        rewrite [ea_22]
        obtain ⟨fs_23, v_24, hq, hv, hw⟩ := hw
        refine ga_get (ci := 15) (T := TJ4) (v := va_rf v_24) hx hb hts hown hI in_J4 rfl 2 (by decide) q228 (fun _ z => z) (ga_at.h hq) hv dJ17_nextNode_60 ?_
        refine lv_dup hx hb dJ17_nextNode_63 (ga_rcat _) ?_
        refine ga_astore_n (i := 1) (x := v_24) (lv' := [(1, va_rf v_24), (2, va_rf v_2), (0, .ref p0)]) hx hb dJ17_nextNode_64 rfl hl (by decide) rfl (fun ls hl => ?_)
        refine ga_ifnull (tgt := 98) hx hb dJ17_nextNode_65 (by decide) (fun hc_a_25 => ?_) (fun a_25 hc_a_25 => ?_)
        · have hw := hw.1 hc_a_25
          refine ga_aload_n hx hb dJ17_nextNode_98 rfl (lv_at hl 1 rfl) ?_
          exact ga_qret (v := v_2) hx hb hr (Or.inl ⟨_, rfl⟩) hlk hI hw (Nat.le_trans (Nat.le_add_right _ _) hbc) (Nat.le_trans (Nat.le_add_right _ _) hbs) dJ17_nextNode_99
        · have hw := hw.2 a_25 hc_a_25
          skip
          obtain ⟨In_26, mu_26, h0_26, hw⟩ := hw
          have hL_26 : ∀ (n : Nat) (h_26 : ga_H) (H : Heap) (locs : List Loc) (cells slots : Nat) (ls : Array Slot), mu_26 h_26 < n → In_26 h_26 → ga_I g h_26 s H locs → cells + mc ≤ mc → slots + ms ≤ ms → lv_has ls 3 [(0, .ref p0), (1, va_rf v_24), (2, va_rf v_2)] → W p l e ({ frames := 8, cells := mc, slots := ms, locals := 140 } : Room) s m args below meth c H locs cells slots (MQ below (va_Qq post (ga_E g) (ga_A g)) args s mc ms (ga_A g)) (F0 m 68 ls []) := by
            intro n
            induction n with
            | zero => intro h_26 H locs cells slots ls hn _ _ _ _ _; exact absurd hn (Nat.not_lt_zero _)
            | succ n ih_26 =>
              intro h_26 H locs cells slots ls hn_26 hi_26 hI hbc hbs hl
              have hw := hw h_26 hi_26
              refine lv_aload_n hx hb dJ17_nextNode_68 rfl (lv_at hl 0 rfl) ?_
              obtain ⟨fs_27, v_28, hq, hv, hw⟩ := hw
              refine ga_get (ci := 18) (T := TJ18) (v := .int v_28) hx hb hts hown hI in_J18 rfl 3 (by decide) q600 (fun _ z => z) (ga_at.h hq) hv dJ17_nextNode_69 ?_
              refine ga_aload_n hx hb dJ17_nextNode_72 rfl (lv_at hl 1 rfl) ?_
              obtain ⟨a_29, ea_29, hw⟩ := hw
              rewrite [ea_29]
              obtain ⟨n_30, f_31, hq, hw⟩ := hw
              refine ga_len hx hb hI (ga_at.h hq) rfl dJ17_nextNode_73 ?_
              refine lv_icmp_ge (tgt := 98) hx hb dJ17_nextNode_74 (by decide) (fun hc_32 => ?_) (fun hc_32 => ?_)
              · have hw := hw.1 hc_32
                refine ga_aload_n hx hb dJ17_nextNode_98 rfl (lv_at hl 2 rfl) ?_
                exact ga_qret (v := v_2) hx hb hr (Or.inl ⟨_, rfl⟩) hlk hI hw (Nat.le_trans (Nat.le_add_right _ _) hbc) (Nat.le_trans (Nat.le_add_right _ _) hbs) dJ17_nextNode_99
              · have hw := hw.2 hc_32
                refine lv_aload_n hx hb dJ17_nextNode_77 rfl (lv_at hl 0 rfl) ?_
                refine ga_aload_n hx hb dJ17_nextNode_78 rfl (lv_at hl 1 rfl) ?_
                refine lv_aload_n hx hb dJ17_nextNode_79 rfl (lv_at hl 0 rfl) ?_
                refine lv_dup hx hb dJ17_nextNode_80 rfl ?_
                obtain ⟨fs_33, v_34, hq, hv, hw⟩ := hw
                refine ga_get (ci := 18) (T := TJ18) (v := .int v_34) hx hb hts hown hI in_J18 rfl 3 (by decide) q600 (fun _ z => z) (ga_at.h hq) hv dJ17_nextNode_81 ?_
                refine lv_dup_x1 hx hb dJ17_nextNode_84 rfl rfl ?_
                refine lv_iconst (v := 1) hx hb dJ17_nextNode_85 (by decide) ?_
                refine lv_iadd hx hb dJ17_nextNode_86 ?_
                obtain ⟨fs_35, hq, hk, hw⟩ := hw
                refine ga_put (ci := 18) (T := TJ18) (v := .int (v_34 + (1 : Int32))) (ty := tyJ18 3) hx hb hts hown hI in_J18 rfl tyJ18 tyJ18_ok nmJ18 3 (by decide) q600 (fun _ z => z) rfl (tyJ18_ok 3 (by decide)) rfl rfl hq hk dJ17_nextNode_87 (fun H locs hI => ?_)
                obtain ⟨h_36, eh_36⟩ : ∃ z, z = ga_set h_26 p0 (ga_O 18 (fs_35.set 3 (.int (v_34 + (1 : Int32))))) := ⟨_, rfl⟩
                rw [← eh_36] at hI
                have hw := hw h_36 eh_36
                obtain ⟨a_37, ea_37, hw⟩ := hw
                rewrite [ea_37]
                obtain ⟨n_38, f_39, hq, hi, hw⟩ := hw
                refine ga_ldq hx hb hI (ga_at.h hq) rfl hi dJ17_nextNode_90 ?_
                obtain ⟨v_40, ev_40⟩ : ∃ z, z = f_39 v_34.toNatClampNeg := ⟨_, rfl⟩
                rw [← ev_40]
                have hw := hw v_40 ev_40
                refine lv_dup_x1 hx hb dJ17_nextNode_91 (ga_rcat _) rfl ?_
                obtain ⟨fs_41, hq, hk, hw⟩ := hw
                refine ga_put (ci := 18) (T := TJ18) (v := va_rf v_40) (ty := tyJ18 0) hx hb hts hown hI in_J18 rfl tyJ18 tyJ18_ok nmJ18 0 (by decide) q597 (fun _ z => z) rfl (tyJ18_ok 0 (by decide)) (ga_nq _ _) (ga_fq _ _) hq hk dJ17_nextNode_92 (fun H locs hI => ?_)
                obtain ⟨h_42, eh_42⟩ : ∃ z, z = ga_set h_36 p0 (ga_O 18 (fs_41.set 0 (va_rf v_40))) := ⟨_, rfl⟩
                rw [← eh_42] at hI
                have hw := hw h_42 eh_42
                refine ga_ifnull (tgt := 68) hx hb dJ17_nextNode_95 (by decide) (fun hc_a_43 => ?_) (fun a_43 hc_a_43 => ?_)
                · have hw := hw.1 hc_a_43
                  exact ih_26 _ H locs cells slots ls (Nat.lt_of_lt_of_le hw.2 (Nat.le_of_lt_succ hn_26)) hw.1 hI hbc hbs (lv_sub hl [0, 1, 2] rfl)
                · have hw := hw.2 a_43 hc_a_43
                  skip
                  refine ga_aload_n hx hb dJ17_nextNode_98 rfl (lv_at hl 2 rfl) ?_
                  exact ga_qret (v := v_2) hx hb hr (Or.inl ⟨_, rfl⟩) hlk hI hw (Nat.le_trans (Nat.le_add_right _ _) hbc) (Nat.le_trans (Nat.le_add_right _ _) hbs) dJ17_nextNode_99
          exact hL_26 _ _ H locs cells slots ls (Nat.lt_succ_self _) h0_26 hI hbc hbs (lv_sub hl [2, 0, 1] rfl)
    · have hw := hw.1 hc_a_11
      exact hw.elim
  · have hw := hw.2 hc_10
    exact hw.elim
theorem hdG_J17_nextNode_E : yJ17_nextNode.cls ≠ "java/lang/invoke/MethodHandle" ∧ yJ17_nextNode.cls ≠ "java/lang/invoke/VarHandle" ∧ (parseMethodDescriptor yJ17_nextNode.desc).map (fun d => d.parameters.length) = some 0 := by decide +kernel
def gw_J18_next_2 (K : ga_K) (p0 : Nat) (h : ga_H) (mc ms : Nat) (post : Option Nat → ga_H → Prop) : Prop :=
  ∃ kc_1 ks_2 : Nat, kc_1 ≤ mc ∧ ks_2 ≤ ms ∧ ∃ fs_3 : List Value, ga_at K h p0 (ga_O 18 fs_3) ∧ gw_J17_nextNode_E K p0 h kc_1 ks_2 (fun (r_5 : Option Nat) (h_4 : ga_H) => post r_5 h_4)
set_option maxHeartbeats 4000000 in
theorem gm_J18_next_2 (l : Launch) (g : ga_G) (p0 : Nat) (h : ga_H) (mc ms : Nat) (post : Option Nat → ga_H → Prop) (hw : gw_J18_next_2 g.2.2 p0 h mc ms post) : Met l yJ18_next_2 (ws_ yJ18_next_2 cJ18_next_2 1 (some (.object "java/util/Map$Entry"))) ({ frames := 9, cells := mc, slots := ms, locals := 162 } : Room) (va_Pc [.ref p0] (ga_B g h)) (va_Qq post (ga_E g) (ga_A g)) mc ms (ga_A g) := by
  refine ga_met (own := "java/util/HashMap$EntryIterator") (nm := "next") (by decide) rfl rfl (by exact Nat.le_of_ble_eq_true rfl) (fun p e s m below meth c ls hC hI hl => ?_)
  have hl : lv_has ls 1 [(0, .ref p0)] := hl
  generalize ([.ref p0] : List Value).toArray = args at hC ⊢
  obtain ⟨hx, hb, hml, hown, hts, hr, hlk, hnm⟩ := hC
  unfold gw_J18_next_2 at hw
  obtain ⟨H, eH⟩ : ∃ z, z = s.heap := ⟨_, rfl⟩
  obtain ⟨locs, elo⟩ : ∃ z : List Loc, z = [] := ⟨_, rfl⟩
  rw [← eH, ← elo] at hI ⊢
  obtain ⟨cells, slots, hbc, hbs, e0, e1⟩ : ∃ a b : Nat, a + mc ≤ mc ∧ b + ms ≤ ms ∧ a = 0 ∧ b = 0 := ⟨0, 0, by omega, by omega, rfl, rfl⟩
  show W p l e ({ frames := 9, cells := mc, slots := ms, locals := 162 } : Room) s m args below meth c H locs 0 0 (MQ below (va_Qq post (ga_E g) (ga_A g)) args s mc ms (ga_A g)) (F0 m 0 ls [])
  suffices hgoal : W p l e ({ frames := 9, cells := mc, slots := ms, locals := 162 } : Room) s m args below meth c H locs cells slots (MQ below (va_Qq post (ga_E g) (ga_A g)) args s mc ms (ga_A g)) (F0 m 0 ls []) by rw [e0, e1] at hgoal; exact hgoal
  refine lv_aload_n hx hb dJ18_next_2_0 rfl (lv_at hl 0 rfl) ?_
  obtain ⟨kc_1, ks_2, hk1, hk2, hw⟩ := hw
  obtain ⟨fs_3, hq, hw⟩ := hw
  refine ga_callq (va_runU (As := []) (rest := []) ⟨hx, hb, hml, hown, hts⟩ (gm_J17_nextNode_E l g p0 h kc_1 ks_2 _ hw) (va_cwU 0 hts (lw_app (List.forall_mem_cons.mpr ⟨q811, List.forall_mem_cons.mpr ⟨q812, List.forall_mem_cons.mpr ⟨q814, List.forall_mem_cons.mpr ⟨q815, List.forall_mem_cons.mpr ⟨q123, fun _ h => absurd h List.not_mem_nil⟩⟩⟩⟩⟩) (lw_meth q816)) rfl rfl rfl rfl hdG_J17_nextNode_E ⟨Nat.le_of_ble_eq_true rfl, Nat.le_of_ble_eq_true rfl⟩) (ga_preV (C := "java/util/HashMap$EntryIterator") hI hq rfl rfl) rfl rfl hl.1 rfl (ga_room (Nat.le_of_ble_eq_true rfl)) dJ18_next_2_1 ⟨Nat.le_trans (Nat.add_le_add_left hk1 _) hbc, Nat.le_trans (Nat.add_le_add_left hk2 _) hbs⟩) hI hbc hbs hk1 hk2 (fun r_5 h_4 H locs cells slots hw hI hbc hbs => ?_)
  exact ga_qret (v := r_5) hx hb hr (Or.inl ⟨_, rfl⟩) hlk hI hw (Nat.le_trans (Nat.le_add_right _ _) hbc) (Nat.le_trans (Nat.le_add_right _ _) hbs) dJ18_next_2_4
theorem hdG_J18_next_2 : yJ18_next_2.cls ≠ "java/lang/invoke/MethodHandle" ∧ yJ18_next_2.cls ≠ "java/lang/invoke/VarHandle" ∧ (parseMethodDescriptor yJ18_next_2.desc).map (fun d => d.parameters.length) = some 0 := by decide +kernel
def gw_J18_next (K : ga_K) (p0 : Nat) (h : ga_H) (mc ms : Nat) (post : Option Nat → ga_H → Prop) : Prop :=
  ∃ kc_1 ks_2 : Nat, kc_1 ≤ mc ∧ ks_2 ≤ ms ∧ ∃ fs_3 : List Value, ga_at K h p0 (ga_O 18 fs_3) ∧ gw_J18_next_2 K p0 h kc_1 ks_2 (fun (r_5 : Option Nat) (h_4 : ga_H) => post r_5 h_4)
set_option maxHeartbeats 4000000 in
theorem gm_J18_next (l : Launch) (g : ga_G) (p0 : Nat) (h : ga_H) (mc ms : Nat) (post : Option Nat → ga_H → Prop) (hw : gw_J18_next g.2.2 p0 h mc ms post) : Met l yJ18_next (ws_ yJ18_next cJ18_next 1 (some (.object "java/lang/Object"))) ({ frames := 10, cells := mc, slots := ms, locals := 182 } : Room) (va_Pc [.ref p0] (ga_B g h)) (va_Qq post (ga_E g) (ga_A g)) mc ms (ga_A g) := by
  refine ga_met (own := "java/util/HashMap$EntryIterator") (nm := "next") (by decide) rfl rfl (by exact Nat.le_of_ble_eq_true rfl) (fun p e s m below meth c ls hC hI hl => ?_)
  have hl : lv_has ls 1 [(0, .ref p0)] := hl
  generalize ([.ref p0] : List Value).toArray = args at hC ⊢
  obtain ⟨hx, hb, hml, hown, hts, hr, hlk, hnm⟩ := hC
  unfold gw_J18_next at hw
  obtain ⟨H, eH⟩ : ∃ z, z = s.heap := ⟨_, rfl⟩
  obtain ⟨locs, elo⟩ : ∃ z : List Loc, z = [] := ⟨_, rfl⟩
  rw [← eH, ← elo] at hI ⊢
  obtain ⟨cells, slots, hbc, hbs, e0, e1⟩ : ∃ a b : Nat, a + mc ≤ mc ∧ b + ms ≤ ms ∧ a = 0 ∧ b = 0 := ⟨0, 0, by omega, by omega, rfl, rfl⟩
  show W p l e ({ frames := 10, cells := mc, slots := ms, locals := 182 } : Room) s m args below meth c H locs 0 0 (MQ below (va_Qq post (ga_E g) (ga_A g)) args s mc ms (ga_A g)) (F0 m 0 ls [])
  suffices hgoal : W p l e ({ frames := 10, cells := mc, slots := ms, locals := 182 } : Room) s m args below meth c H locs cells slots (MQ below (va_Qq post (ga_E g) (ga_A g)) args s mc ms (ga_A g)) (F0 m 0 ls []) by rw [e0, e1] at hgoal; exact hgoal
  refine lv_aload_n hx hb dJ18_next_0 rfl (lv_at hl 0 rfl) ?_
  obtain ⟨kc_1, ks_2, hk1, hk2, hw⟩ := hw
  obtain ⟨fs_3, hq, hw⟩ := hw
  refine ga_callq (va_runV (As := []) (rest := []) ⟨hx, hb, hml, hown, hts⟩ (gm_J18_next_2 l g p0 h kc_1 ks_2 _ hw) (cwV 0 hts (lw_V q807 q808 q809 q124 q810) rfl rfl rfl ⟨rfl, hdG_J18_next_2⟩ ⟨Nat.le_of_ble_eq_true rfl, Nat.le_of_ble_eq_true rfl⟩) (ga_preV hI hq rfl rfl) rfl rfl hl.1 rfl (ga_room (Nat.le_of_ble_eq_true rfl)) dJ18_next_1 ⟨Nat.le_trans (Nat.add_le_add_left hk1 _) hbc, Nat.le_trans (Nat.add_le_add_left hk2 _) hbs⟩) hI hbc hbs hk1 hk2 (fun r_5 h_4 H locs cells slots hw hI hbc hbs => ?_)
  exact ga_qret (v := r_5) hx hb hr (Or.inl ⟨_, rfl⟩) hlk hI hw (Nat.le_trans (Nat.le_add_right _ _) hbc) (Nat.le_trans (Nat.le_add_right _ _) hbs) dJ18_next_4
theorem hdG_J18_next : yJ18_next.cls ≠ "java/lang/invoke/MethodHandle" ∧ yJ18_next.cls ≠ "java/lang/invoke/VarHandle" ∧ (parseMethodDescriptor yJ18_next.desc).map (fun d => d.parameters.length) = some 0 := by decide +kernel
def gw_J32_getKey (K : ga_K) (p0 : Nat) (h : ga_H) (post : Option Nat → ga_H → Prop) : Prop :=
  ∃ (fs_1 : List Value) (v_2 : Option Nat), h p0 = some (ga_O 16 fs_1) ∧ fs_1[1]? = some (va_rf v_2) ∧ (post v_2 h)
set_option maxHeartbeats 4000000 in
theorem gm_J32_getKey (l : Launch) (g : ga_G) (p0 : Nat) (h : ga_H) (post : Option Nat → ga_H → Prop) (hw : gw_J32_getKey g.2.2 p0 h post) : Met l yJ32_getKey (ws_ yJ32_getKey cJ32_getKey 1 (some (.object "java/lang/Object"))) ({ frames := 8, cells := 0, slots := 0, locals := 140 } : Room) (va_Pc [.ref p0] (ga_B g h)) (va_Qq post (ga_E g) (ga_A g)) 0 0 (ga_A g) := by
  refine ga_met (own := "java/util/HashMap$Node") (nm := "getKey") (by decide) rfl rfl (by exact Nat.le_of_ble_eq_true rfl) (fun p e s m below meth c ls hC hI hl => ?_)
  have hl : lv_has ls 1 [(0, .ref p0)] := hl
  generalize ([.ref p0] : List Value).toArray = args at hC ⊢
  obtain ⟨hx, hb, hml, hown, hts, hr, hlk, hnm⟩ := hC
  unfold gw_J32_getKey at hw
  obtain ⟨H, eH⟩ : ∃ z, z = s.heap := ⟨_, rfl⟩
  obtain ⟨locs, elo⟩ : ∃ z : List Loc, z = [] := ⟨_, rfl⟩
  rw [← eH, ← elo] at hI ⊢
  obtain ⟨cells, slots, hbc, hbs, e0, e1⟩ : ∃ a b : Nat, a ≤ 0 ∧ b ≤ 0 ∧ a = 0 ∧ b = 0 := ⟨0, 0, by omega, by omega, rfl, rfl⟩
  show W p l e ({ frames := 8, cells := 0, slots := 0, locals := 140 } : Room) s m args below meth c H locs 0 0 (MQ below (va_Qq post (ga_E g) (ga_A g)) args s 0 0 (ga_A g)) (F0 m 0 ls [])
  suffices hgoal : W p l e ({ frames := 8, cells := 0, slots := 0, locals := 140 } : Room) s m args below meth c H locs cells slots (MQ below (va_Qq post (ga_E g) (ga_A g)) args s 0 0 (ga_A g)) (F0 m 0 ls []) by rw [e0, e1] at hgoal; exact hgoal
  refine lv_aload_n hx hb dJ32_getKey_0 rfl (lv_at hl 0 rfl) ?_
  obtain ⟨fs_1, v_2, hq, hv, hw⟩ := hw
  refine ga_get (ci := 16) (T := TJ32) (v := va_rf v_2) hx hb hts hown hI in_J32 rfl 1 (by decide) q1501 (fun _ z => z) (ga_at.h hq) hv dJ32_getKey_1 ?_
  exact ga_qret (v := v_2) hx hb hr (Or.inl ⟨_, rfl⟩) hlk hI hw hbc hbs dJ32_getKey_4
theorem hdG_J32_getKey : yJ32_getKey.cls ≠ "java/lang/invoke/MethodHandle" ∧ yJ32_getKey.cls ≠ "java/lang/invoke/VarHandle" ∧ (parseMethodDescriptor yJ32_getKey.desc).map (fun d => d.parameters.length) = some 0 := by decide +kernel
def gw_J32_getValue (K : ga_K) (p0 : Nat) (h : ga_H) (post : Option Nat → ga_H → Prop) : Prop :=
  ∃ (fs_1 : List Value) (v_2 : Option Nat), h p0 = some (ga_O 16 fs_1) ∧ fs_1[2]? = some (va_rf v_2) ∧ (post v_2 h)
set_option maxHeartbeats 4000000 in
theorem gm_J32_getValue (l : Launch) (g : ga_G) (p0 : Nat) (h : ga_H) (post : Option Nat → ga_H → Prop) (hw : gw_J32_getValue g.2.2 p0 h post) : Met l yJ32_getValue (ws_ yJ32_getValue cJ32_getValue 1 (some (.object "java/lang/Object"))) ({ frames := 8, cells := 0, slots := 0, locals := 140 } : Room) (va_Pc [.ref p0] (ga_B g h)) (va_Qq post (ga_E g) (ga_A g)) 0 0 (ga_A g) := by
  refine ga_met (own := "java/util/HashMap$Node") (nm := "getValue") (by decide) rfl rfl (by exact Nat.le_of_ble_eq_true rfl) (fun p e s m below meth c ls hC hI hl => ?_)
  have hl : lv_has ls 1 [(0, .ref p0)] := hl
  generalize ([.ref p0] : List Value).toArray = args at hC ⊢
  obtain ⟨hx, hb, hml, hown, hts, hr, hlk, hnm⟩ := hC
  unfold gw_J32_getValue at hw
  obtain ⟨H, eH⟩ : ∃ z, z = s.heap := ⟨_, rfl⟩
  obtain ⟨locs, elo⟩ : ∃ z : List Loc, z = [] := ⟨_, rfl⟩
  rw [← eH, ← elo] at hI ⊢
  obtain ⟨cells, slots, hbc, hbs, e0, e1⟩ : ∃ a b : Nat, a ≤ 0 ∧ b ≤ 0 ∧ a = 0 ∧ b = 0 := ⟨0, 0, by omega, by omega, rfl, rfl⟩
  show W p l e ({ frames := 8, cells := 0, slots := 0, locals := 140 } : Room) s m args below meth c H locs 0 0 (MQ below (va_Qq post (ga_E g) (ga_A g)) args s 0 0 (ga_A g)) (F0 m 0 ls [])
  suffices hgoal : W p l e ({ frames := 8, cells := 0, slots := 0, locals := 140 } : Room) s m args below meth c H locs cells slots (MQ below (va_Qq post (ga_E g) (ga_A g)) args s 0 0 (ga_A g)) (F0 m 0 ls []) by rw [e0, e1] at hgoal; exact hgoal
  refine lv_aload_n hx hb dJ32_getValue_0 rfl (lv_at hl 0 rfl) ?_
  obtain ⟨fs_1, v_2, hq, hv, hw⟩ := hw
  refine ga_get (ci := 16) (T := TJ32) (v := va_rf v_2) hx hb hts hown hI in_J32 rfl 2 (by decide) q1506 (fun _ z => z) (ga_at.h hq) hv dJ32_getValue_1 ?_
  exact ga_qret (v := v_2) hx hb hr (Or.inl ⟨_, rfl⟩) hlk hI hw hbc hbs dJ32_getValue_4
theorem hdG_J32_getValue : yJ32_getValue.cls ≠ "java/lang/invoke/MethodHandle" ∧ yJ32_getValue.cls ≠ "java/lang/invoke/VarHandle" ∧ (parseMethodDescriptor yJ32_getValue.desc).map (fun d => d.parameters.length) = some 0 := by decide +kernel
def gw_J4_hash_P (K : ga_K) (p0 : Option Nat) (h : ga_H) (post : Int32 → ga_H → Prop) : Prop :=
  (p0 = none → (post (0 : Int32) h)) ∧ (∀ a_1 : Nat, p0 = some a_1 → (∃ a_2 : Nat, p0 = some a_2 ∧ ∃ fs_3 : List Value, ga_at K h a_2 (ga_O 9 fs_3) ∧ gw_X11_hashCode K a_2 h (fun (r_5 : Int32) (h_4 : ga_H) => post (r_5 ^^^ ((r_5.toUInt32 >>> ((16 : Int32).toUInt32 &&& Int32.toUInt32 31)).toInt32)) h_4)))
set_option maxHeartbeats 4000000 in
theorem gm_J4_hash_P (l : Launch) (g : ga_G) (p0 : Option Nat) (h : ga_H) (post : Int32 → ga_H → Prop) (hw : gw_J4_hash_P g.2.2 p0 h post) : Met l yJ4_hash (ws_ yJ4_hash cJ4_hash 2 (some .int)) ({ frames := 9, cells := 0, slots := 0, locals := 160 } : Room) (va_Pc [va_rf p0] (ga_B g h)) (va_Qi post (ga_E g) (ga_A g)) 0 0 (ga_A g) := by
  refine ga_met (own := "java/util/HashMap") (nm := "hash") (by decide) rfl rfl (by cases p0 <;> exact Nat.le_of_ble_eq_true rfl) (fun p e s m below meth c ls hC hI hl => ?_)
  have hl : lv_has ls 2 [(0, va_rf p0)] := (by cases p0 <;> exact hl)
  generalize ([va_rf p0] : List Value).toArray = args at hC ⊢
  obtain ⟨hx, hb, hml, hown, hts, hr, hlk, hnm⟩ := hC
  unfold gw_J4_hash_P at hw
  obtain ⟨H, eH⟩ : ∃ z, z = s.heap := ⟨_, rfl⟩
  obtain ⟨locs, elo⟩ : ∃ z : List Loc, z = [] := ⟨_, rfl⟩
  rw [← eH, ← elo] at hI ⊢
  obtain ⟨cells, slots, hbc, hbs, e0, e1⟩ : ∃ a b : Nat, a ≤ 0 ∧ b ≤ 0 ∧ a = 0 ∧ b = 0 := ⟨0, 0, by omega, by omega, rfl, rfl⟩
  show W p l e ({ frames := 9, cells := 0, slots := 0, locals := 160 } : Room) s m args below meth c H locs 0 0 (MQ below (va_Qi post (ga_E g) (ga_A g)) args s 0 0 (ga_A g)) (F0 m 0 ls [])
  suffices hgoal : W p l e ({ frames := 9, cells := 0, slots := 0, locals := 160 } : Room) s m args below meth c H locs cells slots (MQ below (va_Qi post (ga_E g) (ga_A g)) args s 0 0 (ga_A g)) (F0 m 0 ls []) by rw [e0, e1] at hgoal; exact hgoal
  refine ga_aload_n hx hb dJ4_hash_0 rfl (lv_at hl 0 rfl) ?_
  refine ga_ifnonnull (tgt := 8) hx hb dJ4_hash_1 (by decide) (fun a_1 hc_a_1 => ?_) (fun hc_a_1 => ?_)
  · have hw := hw.2 a_1 hc_a_1
    skip
    refine ga_aload_n hx hb dJ4_hash_8 rfl (lv_at hl 0 rfl) ?_
    obtain ⟨a_2, ea_2, hw⟩ := hw
    rewrite [ea_2]
    obtain ⟨fs_3, hq, hw⟩ := hw
    refine ga_calli (va_runU (As := []) (rest := []) ⟨hx, hb, hml, hown, hts⟩ (gm_X11_hashCode l g a_2 h _ hw) (va_cwA 0 hts (lw_app (List.forall_mem_cons.mpr ⟨q1794, List.forall_mem_cons.mpr ⟨q1796, List.forall_mem_cons.mpr ⟨q1804, List.forall_mem_cons.mpr ⟨q1805, List.forall_mem_cons.mpr ⟨q153, fun _ h => absurd h List.not_mem_nil⟩⟩⟩⟩⟩) (lw_meth q1806)) rfl rfl rfl (hI.2.1.1.2.1 _ (ga_nin q1793 rfl)) (by decide +kernel) ⟨Nat.le_of_ble_eq_true rfl, Nat.le_of_ble_eq_true rfl⟩) (ga_preV (C := "PaperStore$Paper") hI hq rfl rfl) rfl rfl hl.1 rfl (ga_room (Nat.le_of_ble_eq_true rfl)) dJ4_hash_9 ⟨hbc, hbs⟩) hI (bc := 0) (bs := 0) hbc hbs (Nat.zero_le _) (Nat.zero_le _) (fun r_5 h_4 H locs cells slots hw hI hbc hbs => ?_)
    refine lv_dup hx hb dJ4_hash_12 rfl ?_
    refine lv_istore_n (i := 1) (lv' := [(1, .int r_5), (0, va_rf p0)]) hx hb dJ4_hash_13 rfl hl (by decide) (by simp [ga_rcat, ga_cat_r, ga_cat_i, ga_cat_f, ga_cat_l, ga_cat_d]) (fun ls hl => ?_)
    refine lv_iload_n hx hb dJ4_hash_14 rfl (lv_at hl 0 rfl) ?_
    refine lv_bipush (v := 16) hx hb dJ4_hash_15 (by decide) ?_
    refine lv_iushr (v := (r_5.toUInt32 >>> ((16 : Int32).toUInt32 &&& Int32.toUInt32 31)).toInt32) hx hb dJ4_hash_17 rfl ?_
    refine lv_ixor hx hb dJ4_hash_18 ?_
    exact ga_iret hx hb hr rfl hlk hI hw hbc hbs dJ4_hash_19
  · have hw := hw.1 hc_a_1
    refine lv_iconst (v := 0) hx hb dJ4_hash_4 (by decide) ?_
    refine lv_goto (tgt := 19) hx hb dJ4_hash_5 (by decide) ?_
    exact ga_iret hx hb hr rfl hlk hI hw hbc hbs dJ4_hash_19
theorem hdG_J4_hash_P : yJ4_hash.cls ≠ "java/lang/invoke/MethodHandle" ∧ yJ4_hash.cls ≠ "java/lang/invoke/VarHandle" ∧ (parseMethodDescriptor yJ4_hash.desc).map (fun d => d.parameters.length) = some 1 := by decide +kernel
def gw_J32_init (K : ga_K) (p0 : Nat) (p1 : Int32) (p2 : Option Nat) (p3 : Option Nat) (p4 : Option Nat) (h : ga_H) (post : ga_H → Prop) : Prop :=
  ∃ fs_1 : List Value, h p0 = some (ga_O 16 fs_1) ∧ 0 < fs_1.length ∧ ∀ h_2 : ga_H, h_2 = ga_set h p0 (ga_O 16 (fs_1.set 0 (.int p1))) → (∃ fs_3 : List Value, h_2 p0 = some (ga_O 16 fs_3) ∧ 1 < fs_3.length ∧ ∀ h_4 : ga_H, h_4 = ga_set h_2 p0 (ga_O 16 (fs_3.set 1 (va_rf p2))) → (∃ fs_5 : List Value, h_4 p0 = some (ga_O 16 fs_5) ∧ 2 < fs_5.length ∧ ∀ h_6 : ga_H, h_6 = ga_set h_4 p0 (ga_O 16 (fs_5.set 2 (va_rf p3))) → (∃ fs_7 : List Value, h_6 p0 = some (ga_O 16 fs_7) ∧ 3 < fs_7.length ∧ ∀ h_8 : ga_H, h_8 = ga_set h_6 p0 (ga_O 16 (fs_7.set 3 (va_rf p4))) → (post h_8))))
set_option maxHeartbeats 4000000 in
theorem gm_J32_init (l : Launch) (g : ga_G) (p0 : Nat) (p1 : Int32) (p2 : Option Nat) (p3 : Option Nat) (p4 : Option Nat) (h : ga_H) (post : ga_H → Prop) (hw : gw_J32_init g.2.2 p0 p1 p2 p3 p4 h post) : Met l yJ32_init (ws_ yJ32_init cJ32_init 5 none) ({ frames := 8, cells := 0, slots := 0, locals := 140 } : Room) (va_Pc [.ref p0, .int p1, va_rf p2, va_rf p3, va_rf p4] (ga_B g h)) (va_Qv post (ga_E g) (ga_A g)) 0 0 (ga_A g) := by
  refine ga_met (own := "java/util/HashMap$Node") (nm := "<init>") (by decide) rfl rfl (by cases p2 <;> cases p3 <;> cases p4 <;> exact Nat.le_of_ble_eq_true rfl) (fun p e s m below meth c ls hC hI hl => ?_)
  have hl : lv_has ls 5 [(0, .ref p0), (1, .int p1), (2, va_rf p2), (3, va_rf p3), (4, va_rf p4)] := (by cases p2 <;> cases p3 <;> cases p4 <;> exact hl)
  generalize ([.ref p0, .int p1, va_rf p2, va_rf p3, va_rf p4] : List Value).toArray = args at hC ⊢
  obtain ⟨hx, hb, hml, hown, hts, hr, hlk, hnm⟩ := hC
  unfold gw_J32_init at hw
  obtain ⟨H, eH⟩ : ∃ z, z = s.heap := ⟨_, rfl⟩
  obtain ⟨locs, elo⟩ : ∃ z : List Loc, z = [] := ⟨_, rfl⟩
  rw [← eH, ← elo] at hI ⊢
  obtain ⟨cells, slots, hbc, hbs, e0, e1⟩ : ∃ a b : Nat, a ≤ 0 ∧ b ≤ 0 ∧ a = 0 ∧ b = 0 := ⟨0, 0, by omega, by omega, rfl, rfl⟩
  show W p l e ({ frames := 8, cells := 0, slots := 0, locals := 140 } : Room) s m args below meth c H locs 0 0 (MQ below (va_Qv post (ga_E g) (ga_A g)) args s 0 0 (ga_A g)) (F0 m 0 ls [])
  suffices hgoal : W p l e ({ frames := 8, cells := 0, slots := 0, locals := 140 } : Room) s m args below meth c H locs cells slots (MQ below (va_Qv post (ga_E g) (ga_A g)) args s 0 0 (ga_A g)) (F0 m 0 ls []) by rw [e0, e1] at hgoal; exact hgoal
  refine lv_aload_n hx hb dJ32_init_0 rfl (lv_at hl 0 rfl) ?_
  refine W.objInit hx hb hown (hts _ q1496) (hts _ q179) (hts _ q180) rfl (by rw [hml]; exact hl.1) rfl dJ32_init_1 (Nat.le_of_ble_eq_true rfl) (by have := ga_sum [] (Nat.le_of_ble_eq_true rfl); exact Nat.le_trans (Nat.add_le_add_right (Nat.add_le_add_left this 0) 12) (Nat.le_of_ble_eq_true rfl)) ?_
  refine W.eq (g2 := F0 m 4 ls []) rfl ?_
  refine lv_aload_n hx hb dJ32_init_4 rfl (lv_at hl 0 rfl) ?_
  refine lv_iload_n hx hb dJ32_init_5 rfl (lv_at hl 1 rfl) ?_
  obtain ⟨fs_1, hq, hk, hw⟩ := hw
  refine ga_putF (ci := 16) (T := TJ32) (v := .int p1) (ty := tyJ32 0) hx hb hts hown hI in_J32 rfl tyJ32 tyJ32_ok nmJ32 0 (by decide) q1497 (fun _ z => z) rfl hnm rfl (tyJ32_ok 0 (by decide)) rfl rfl hq hk dJ32_init_6 (fun H locs hI => ?_)
  obtain ⟨h_2, eh_2⟩ : ∃ z, z = ga_set h p0 (ga_O 16 (fs_1.set 0 (.int p1))) := ⟨_, rfl⟩
  rw [← eh_2] at hI
  have hw := hw h_2 eh_2
  refine lv_aload_n hx hb dJ32_init_9 rfl (lv_at hl 0 rfl) ?_
  refine ga_aload_n hx hb dJ32_init_10 rfl (lv_at hl 2 rfl) ?_
  obtain ⟨fs_3, hq, hk, hw⟩ := hw
  refine ga_putF (ci := 16) (T := TJ32) (v := va_rf p2) (ty := tyJ32 1) hx hb hts hown hI in_J32 rfl tyJ32 tyJ32_ok nmJ32 1 (by decide) q1501 (fun _ z => z) rfl hnm rfl (tyJ32_ok 1 (by decide)) (ga_nq _ _) (ga_fq _ _) hq hk dJ32_init_11 (fun H locs hI => ?_)
  obtain ⟨h_4, eh_4⟩ : ∃ z, z = ga_set h_2 p0 (ga_O 16 (fs_3.set 1 (va_rf p2))) := ⟨_, rfl⟩
  rw [← eh_4] at hI
  have hw := hw h_4 eh_4
  refine lv_aload_n hx hb dJ32_init_14 rfl (lv_at hl 0 rfl) ?_
  refine ga_aload_n hx hb dJ32_init_15 rfl (lv_at hl 3 rfl) ?_
  obtain ⟨fs_5, hq, hk, hw⟩ := hw
  refine ga_put (ci := 16) (T := TJ32) (v := va_rf p3) (ty := tyJ32 2) hx hb hts hown hI in_J32 rfl tyJ32 tyJ32_ok nmJ32 2 (by decide) q1506 (fun _ z => z) rfl (tyJ32_ok 2 (by decide)) (ga_nq _ _) (ga_fq _ _) hq hk dJ32_init_16 (fun H locs hI => ?_)
  obtain ⟨h_6, eh_6⟩ : ∃ z, z = ga_set h_4 p0 (ga_O 16 (fs_5.set 2 (va_rf p3))) := ⟨_, rfl⟩
  rw [← eh_6] at hI
  have hw := hw h_6 eh_6
  refine lv_aload_n hx hb dJ32_init_19 rfl (lv_at hl 0 rfl) ?_
  refine ga_aload hx hb dJ32_init_20 (lv_at hl 4 rfl) ?_
  obtain ⟨fs_7, hq, hk, hw⟩ := hw
  refine ga_put (ci := 16) (T := TJ32) (v := va_rf p4) (ty := tyJ32 3) hx hb hts hown hI in_J32 rfl tyJ32 tyJ32_ok nmJ32 3 (by decide) q1508 (fun _ z => z) rfl (tyJ32_ok 3 (by decide)) (ga_nq _ _) (ga_fq _ _) hq hk dJ32_init_22 (fun H locs hI => ?_)
  obtain ⟨h_8, eh_8⟩ : ∃ z, z = ga_set h_6 p0 (ga_O 16 (fs_7.set 3 (va_rf p4))) := ⟨_, rfl⟩
  rw [← eh_8] at hI
  have hw := hw h_8 eh_8
  exact ga_vret hx hb hr hlk hI hw hbc hbs dJ32_init_25
theorem hdG_J32_init : yJ32_init.cls ≠ "java/lang/invoke/MethodHandle" ∧ yJ32_init.cls ≠ "java/lang/invoke/VarHandle" ∧ (parseMethodDescriptor yJ32_init.desc).map (fun d => d.parameters.length) = some 4 := by decide +kernel
def gw_J4_newNode (K : ga_K) (p0 : Nat) (p1 : Int32) (p2 : Option Nat) (p3 : Option Nat) (p4 : Option Nat) (h : ga_H) (mc ms : Nat) (post : Option Nat → ga_H → Prop) : Prop :=
  1 ≤ mc ∧ 4 ≤ ms ∧ ∀ q_1 : Nat, h q_1 = none → ∀ h_2 : ga_H, h_2 = ga_set h q_1 (ga_O 16 [.int 0, va_rf none, va_rf none, va_rf none]) → (gw_J32_init K q_1 p1 p2 p3 p4 h_2 (fun (h_3 : ga_H) => post (some q_1) h_3))
set_option maxHeartbeats 4000000 in
theorem gm_J4_newNode (l : Launch) (g : ga_G) (p0 : Nat) (p1 : Int32) (p2 : Option Nat) (p3 : Option Nat) (p4 : Option Nat) (h : ga_H) (mc ms : Nat) (post : Option Nat → ga_H → Prop) (hw : gw_J4_newNode g.2.2 p0 p1 p2 p3 p4 h mc ms post) : Met l yJ4_newNode (ws_ yJ4_newNode cJ4_newNode 5 (some (.object "java/util/HashMap$Node"))) ({ frames := 9, cells := mc, slots := ms, locals := 164 } : Room) (va_Pc [.ref p0, .int p1, va_rf p2, va_rf p3, va_rf p4] (ga_B g h)) (va_Qq post (ga_E g) (ga_A g)) mc ms (ga_A g) := by
  refine ga_met (own := "java/util/HashMap") (nm := "newNode") (by decide) rfl rfl (by cases p2 <;> cases p3 <;> cases p4 <;> exact Nat.le_of_ble_eq_true rfl) (fun p e s m below meth c ls hC hI hl => ?_)
  have hl : lv_has ls 5 [(0, .ref p0), (1, .int p1), (2, va_rf p2), (3, va_rf p3), (4, va_rf p4)] := (by cases p2 <;> cases p3 <;> cases p4 <;> exact hl)
  generalize ([.ref p0, .int p1, va_rf p2, va_rf p3, va_rf p4] : List Value).toArray = args at hC ⊢
  obtain ⟨hx, hb, hml, hown, hts, hr, hlk, hnm⟩ := hC
  unfold gw_J4_newNode at hw
  obtain ⟨H, eH⟩ : ∃ z, z = s.heap := ⟨_, rfl⟩
  obtain ⟨locs, elo⟩ : ∃ z : List Loc, z = [] := ⟨_, rfl⟩
  rw [← eH, ← elo] at hI ⊢
  obtain ⟨cells, slots, hbc, hbs, e0, e1⟩ : ∃ a b : Nat, a + mc ≤ mc ∧ b + ms ≤ ms ∧ a = 0 ∧ b = 0 := ⟨0, 0, by omega, by omega, rfl, rfl⟩
  show W p l e ({ frames := 9, cells := mc, slots := ms, locals := 164 } : Room) s m args below meth c H locs 0 0 (MQ below (va_Qq post (ga_E g) (ga_A g)) args s mc ms (ga_A g)) (F0 m 0 ls [])
  suffices hgoal : W p l e ({ frames := 9, cells := mc, slots := ms, locals := 164 } : Room) s m args below meth c H locs cells slots (MQ below (va_Qq post (ga_E g) (ga_A g)) args s mc ms (ga_A g)) (F0 m 0 ls []) by rw [e0, e1] at hgoal; exact hgoal
  refine ga_new (ci := 16) (T := TJ32) hx hb hts hown hI in_J32 rfl tyJ32 tyJ32_ok q1476 q1492 q143 [.int 0, va_rf none, va_rf none, va_rf none] ga_df_J32 hbc hbs hw.1 hw.2.1 dJ4_newNode_0 (fun q_1 H cells slots hn_q_1 hI hbc hbs => ?_)
  obtain ⟨h_2, eh_2⟩ : ∃ z, z = ga_set h q_1 (ga_O 16 [.int 0, va_rf none, va_rf none, va_rf none]) := ⟨_, rfl⟩
  rw [← eh_2] at hI
  have hw := hw.2.2 q_1 hn_q_1 h_2 eh_2
  refine lv_dup hx hb dJ4_newNode_3 rfl ?_
  refine lv_iload_n hx hb dJ4_newNode_4 rfl (lv_at hl 1 rfl) ?_
  refine ga_aload_n hx hb dJ4_newNode_5 rfl (lv_at hl 2 rfl) ?_
  refine ga_aload_n hx hb dJ4_newNode_6 rfl (lv_at hl 3 rfl) ?_
  refine ga_aload hx hb dJ4_newNode_7 (lv_at hl 4 rfl) ?_
  refine ga_callv (va_runI (As := [.int p1, va_rf p2, va_rf p3, va_rf p4]) (rest := [.ref q_1]) ⟨hx, hb, hml, hown, hts⟩ (gm_J32_init l g q_1 p1 p2 p3 p4 h_2 _ hw) (cwI 4 hts (lw_meth q1495) rfl rfl rfl (hts _ q143) (hts _ q1493) (hts _ q1494) rfl hdG_J32_init ⟨Nat.le_of_ble_eq_true rfl, Nat.le_of_ble_eq_true rfl⟩) (ga_preS hI rfl) rfl rfl hl.1 rfl (ga_room (Nat.le_of_ble_eq_true rfl)) dJ4_newNode_9 ⟨Nat.le_trans (Nat.add_le_add_left (Nat.zero_le _) _) hbc, Nat.le_trans (Nat.add_le_add_left (Nat.zero_le _) _) hbs⟩) hI hbc hbs (Nat.zero_le _) (Nat.zero_le _) (fun h_3 H locs cells slots hw hI hbc hbs => ?_)
  exact ga_qret (v := (some q_1)) hx hb hr (Or.inl ⟨_, rfl⟩) hlk hI hw (Nat.le_trans (Nat.le_add_right _ _) hbc) (Nat.le_trans (Nat.le_add_right _ _) hbs) dJ4_newNode_12
theorem hdG_J4_newNode : yJ4_newNode.cls ≠ "java/lang/invoke/MethodHandle" ∧ yJ4_newNode.cls ≠ "java/lang/invoke/VarHandle" ∧ (parseMethodDescriptor yJ4_newNode.desc).map (fun d => d.parameters.length) = some 4 := by decide +kernel
def gw_J4_afterNodeAccess (K : ga_K) (p0 : Nat) (p1 : Option Nat) (h : ga_H) (post : ga_H → Prop) : Prop :=
  post h
set_option maxHeartbeats 4000000 in
theorem gm_J4_afterNodeAccess (l : Launch) (g : ga_G) (p0 : Nat) (p1 : Option Nat) (h : ga_H) (post : ga_H → Prop) (hw : gw_J4_afterNodeAccess g.2.2 p0 p1 h post) : Met l yJ4_afterNodeAccess (ws_ yJ4_afterNodeAccess cJ4_afterNodeAccess 2 none) ({ frames := 8, cells := 0, slots := 0, locals := 140 } : Room) (va_Pc [.ref p0, va_rf p1] (ga_B g h)) (va_Qv post (ga_E g) (ga_A g)) 0 0 (ga_A g) := by
  refine ga_met (own := "java/util/HashMap") (nm := "afterNodeAccess") (by decide) rfl rfl (by cases p1 <;> exact Nat.le_of_ble_eq_true rfl) (fun p e s m below meth c ls hC hI hl => ?_)
  have hl : lv_has ls 2 [(0, .ref p0), (1, va_rf p1)] := (by cases p1 <;> exact hl)
  generalize ([.ref p0, va_rf p1] : List Value).toArray = args at hC ⊢
  obtain ⟨hx, hb, hml, hown, hts, hr, hlk, hnm⟩ := hC
  unfold gw_J4_afterNodeAccess at hw
  obtain ⟨H, eH⟩ : ∃ z, z = s.heap := ⟨_, rfl⟩
  obtain ⟨locs, elo⟩ : ∃ z : List Loc, z = [] := ⟨_, rfl⟩
  rw [← eH, ← elo] at hI ⊢
  obtain ⟨cells, slots, hbc, hbs, e0, e1⟩ : ∃ a b : Nat, a ≤ 0 ∧ b ≤ 0 ∧ a = 0 ∧ b = 0 := ⟨0, 0, by omega, by omega, rfl, rfl⟩
  show W p l e ({ frames := 8, cells := 0, slots := 0, locals := 140 } : Room) s m args below meth c H locs 0 0 (MQ below (va_Qv post (ga_E g) (ga_A g)) args s 0 0 (ga_A g)) (F0 m 0 ls [])
  suffices hgoal : W p l e ({ frames := 8, cells := 0, slots := 0, locals := 140 } : Room) s m args below meth c H locs cells slots (MQ below (va_Qv post (ga_E g) (ga_A g)) args s 0 0 (ga_A g)) (F0 m 0 ls []) by rw [e0, e1] at hgoal; exact hgoal
  exact ga_vret hx hb hr hlk hI hw hbc hbs dJ4_afterNodeAccess_0
theorem hdG_J4_afterNodeAccess : yJ4_afterNodeAccess.cls ≠ "java/lang/invoke/MethodHandle" ∧ yJ4_afterNodeAccess.cls ≠ "java/lang/invoke/VarHandle" ∧ (parseMethodDescriptor yJ4_afterNodeAccess.desc).map (fun d => d.parameters.length) = some 1 := by decide +kernel
def gw_J4_afterNodeInsertion (K : ga_K) (p0 : Nat) (p1 : Int32) (h : ga_H) (post : ga_H → Prop) : Prop :=
  post h
set_option maxHeartbeats 4000000 in
theorem gm_J4_afterNodeInsertion (l : Launch) (g : ga_G) (p0 : Nat) (p1 : Int32) (h : ga_H) (post : ga_H → Prop) (hw : gw_J4_afterNodeInsertion g.2.2 p0 p1 h post) : Met l yJ4_afterNodeInsertion (ws_ yJ4_afterNodeInsertion cJ4_afterNodeInsertion 2 none) ({ frames := 8, cells := 0, slots := 0, locals := 140 } : Room) (va_Pc [.ref p0, .int p1] (ga_B g h)) (va_Qv post (ga_E g) (ga_A g)) 0 0 (ga_A g) := by
  refine ga_met (own := "java/util/HashMap") (nm := "afterNodeInsertion") (by decide) rfl rfl (by exact Nat.le_of_ble_eq_true rfl) (fun p e s m below meth c ls hC hI hl => ?_)
  have hl : lv_has ls 2 [(0, .ref p0), (1, .int p1)] := hl
  generalize ([.ref p0, .int p1] : List Value).toArray = args at hC ⊢
  obtain ⟨hx, hb, hml, hown, hts, hr, hlk, hnm⟩ := hC
  unfold gw_J4_afterNodeInsertion at hw
  obtain ⟨H, eH⟩ : ∃ z, z = s.heap := ⟨_, rfl⟩
  obtain ⟨locs, elo⟩ : ∃ z : List Loc, z = [] := ⟨_, rfl⟩
  rw [← eH, ← elo] at hI ⊢
  obtain ⟨cells, slots, hbc, hbs, e0, e1⟩ : ∃ a b : Nat, a ≤ 0 ∧ b ≤ 0 ∧ a = 0 ∧ b = 0 := ⟨0, 0, by omega, by omega, rfl, rfl⟩
  show W p l e ({ frames := 8, cells := 0, slots := 0, locals := 140 } : Room) s m args below meth c H locs 0 0 (MQ below (va_Qv post (ga_E g) (ga_A g)) args s 0 0 (ga_A g)) (F0 m 0 ls [])
  suffices hgoal : W p l e ({ frames := 8, cells := 0, slots := 0, locals := 140 } : Room) s m args below meth c H locs cells slots (MQ below (va_Qv post (ga_E g) (ga_A g)) args s 0 0 (ga_A g)) (F0 m 0 ls []) by rw [e0, e1] at hgoal; exact hgoal
  exact ga_vret hx hb hr hlk hI hw hbc hbs dJ4_afterNodeInsertion_0
theorem hdG_J4_afterNodeInsertion : yJ4_afterNodeInsertion.cls ≠ "java/lang/invoke/MethodHandle" ∧ yJ4_afterNodeInsertion.cls ≠ "java/lang/invoke/VarHandle" ∧ (parseMethodDescriptor yJ4_afterNodeInsertion.desc).map (fun d => d.parameters.length) = some 1 := by decide +kernel
def gw_J4_putVal_P_292 (K : ga_K) (post : Option Nat → ga_H → Prop) (p0 : Nat) (v5 : Int32) (h : ga_H) (bc bs : Nat) : Prop :=
  ∃ fs_49 : List Value, ga_at K h p0 (ga_O 15 fs_49) ∧ gw_J4_afterNodeInsertion K p0 v5 h (fun (h_50 : ga_H) => post none h_50)
set_option maxHeartbeats 4000000 in
theorem gj_J4_putVal_P_292 {p : Program} {l : Launch} {e : Env} {s : State} {m : MethodId} {args : Array Value} {below : List Frame} {meth : Method} {c : Code} {mc ms : Nat} {H : Heap} {locs : List Loc} {cells slots : Nat} {ls : Array Slot} (g : ga_G) (post : Option Nat → ga_H → Prop) (p0 : Nat) (v5 : Int32) (h : ga_H) (bc bs : Nat) (hC : ga_Cx p s m args meth c cJ4_putVal 13 (some (.object "java/lang/Object")) "java/util/HashMap" "putVal") (hw : gw_J4_putVal_P_292 g.2.2 post p0 v5 h bc bs) (hI : ga_I g h s H locs) (hbc : cells + bc ≤ mc) (hbs : slots + bs ≤ ms) (hl : lv_has ls 13 [(0, .ref p0), (5, .int v5)]) : W p l e ({ frames := 10, cells := mc, slots := ms, locals := 188 } : Room) s m args below meth c H locs cells slots (MQ below (va_Qq post (ga_E g) (ga_A g)) args s mc ms (ga_A g)) (F0 m 292 ls []) := by
  obtain ⟨hx, hb, hml, hown, hts, hr, hlk, hnm⟩ := hC
  unfold gw_J4_putVal_P_292 at hw
  refine lv_aload_n hx hb dJ4_putVal_292 rfl (lv_at hl 0 rfl) ?_
  refine lv_iload hx hb dJ4_putVal_293 (lv_at hl 1 rfl) ?_
  obtain ⟨fs_49, hq, hw⟩ := hw
  refine ga_callv (va_runV (As := [.int v5]) (rest := []) ⟨hx, hb, hml, hown, hts⟩ (gm_J4_afterNodeInsertion l g p0 v5 h _ hw) (cwV 1 hts (lw_V q2010 q2011 q2012 q106 q2013) rfl rfl rfl ⟨rfl, hdG_J4_afterNodeInsertion⟩ ⟨Nat.le_of_ble_eq_true rfl, Nat.le_of_ble_eq_true rfl⟩) (ga_preV hI hq rfl rfl) rfl rfl hl.1 rfl (ga_room (Nat.le_of_ble_eq_true rfl)) dJ4_putVal_295 ⟨Nat.le_trans (Nat.add_le_add_left (Nat.zero_le _) _) hbc, Nat.le_trans (Nat.add_le_add_left (Nat.zero_le _) _) hbs⟩) hI hbc hbs (Nat.zero_le _) (Nat.zero_le _) (fun h_50 H locs cells slots hw hI hbc hbs => ?_)
  refine lv_null hx hb dJ4_putVal_298 ?_
  exact ga_qret (v := none) hx hb hr (Or.inl ⟨_, rfl⟩) hlk hI hw (Nat.le_trans (Nat.le_add_right _ _) hbc) (Nat.le_trans (Nat.le_add_right _ _) hbs) dJ4_putVal_299
def gw_J4_putVal_P_259 (K : ga_K) (post : Option Nat → ga_H → Prop) (p0 : Nat) (v5 : Int32) (h : ga_H) (bc bs : Nat) : Prop :=
  ∃ (fs_38 : List Value) (v_39 : Int32), h p0 = some (ga_O 15 fs_38) ∧ fs_38[5]? = some (.int v_39) ∧ (∃ fs_40 : List Value, h p0 = some (ga_O 15 fs_40) ∧ 5 < fs_40.length ∧ ∀ h_41 : ga_H, h_41 = ga_set h p0 (ga_O 15 (fs_40.set 5 (.int (v_39 + (1 : Int32))))) → (∃ (fs_42 : List Value) (v_43 : Int32), h_41 p0 = some (ga_O 15 fs_42) ∧ fs_42[4]? = some (.int v_43) ∧ (∃ fs_44 : List Value, h_41 p0 = some (ga_O 15 fs_44) ∧ 4 < fs_44.length ∧ ∀ h_45 : ga_H, h_45 = ga_set h_41 p0 (ga_O 15 (fs_44.set 4 (.int (v_43 + (1 : Int32))))) → (∃ (fs_46 : List Value) (v_47 : Int32), h_45 p0 = some (ga_O 15 fs_46) ∧ fs_46[6]? = some (.int v_47) ∧ ((v_43 + (1 : Int32) ≤ v_47 → (gw_J4_putVal_P_292 K post p0 v5 h_45 bc bs)) ∧ (¬ v_43 + (1 : Int32) ≤ v_47 → (∃ kc_51 ks_52 : Nat, kc_51 ≤ bc ∧ ks_52 ≤ bs ∧ ∃ fs_53 : List Value, ga_at K h_45 p0 (ga_O 15 fs_53) ∧ gw_J4_resize K p0 h_45 kc_51 ks_52 (fun (r_55 : Option Nat) (h_54 : ga_H) => gw_J4_putVal_P_292 K post p0 v5 h_54 (bc - kc_51) (bs - ks_52)))))))))
set_option maxHeartbeats 4000000 in
theorem gj_J4_putVal_P_259 {p : Program} {l : Launch} {e : Env} {s : State} {m : MethodId} {args : Array Value} {below : List Frame} {meth : Method} {c : Code} {mc ms : Nat} {H : Heap} {locs : List Loc} {cells slots : Nat} {ls : Array Slot} (g : ga_G) (post : Option Nat → ga_H → Prop) (p0 : Nat) (v5 : Int32) (h : ga_H) (bc bs : Nat) (hC : ga_Cx p s m args meth c cJ4_putVal 13 (some (.object "java/lang/Object")) "java/util/HashMap" "putVal") (hw : gw_J4_putVal_P_259 g.2.2 post p0 v5 h bc bs) (hI : ga_I g h s H locs) (hbc : cells + bc ≤ mc) (hbs : slots + bs ≤ ms) (hl : lv_has ls 13 [(0, .ref p0), (5, .int v5)]) : W p l e ({ frames := 10, cells := mc, slots := ms, locals := 188 } : Room) s m args below meth c H locs cells slots (MQ below (va_Qq post (ga_E g) (ga_A g)) args s mc ms (ga_A g)) (F0 m 259 ls []) := by
  obtain ⟨hx, hb, hml, hown, hts, hr, hlk, hnm⟩ := hC
  unfold gw_J4_putVal_P_259 at hw
  refine lv_aload_n hx hb dJ4_putVal_259 rfl (lv_at hl 0 rfl) ?_
  refine lv_dup hx hb dJ4_putVal_260 rfl ?_
  obtain ⟨fs_38, v_39, hq, hv, hw⟩ := hw
  refine ga_get (ci := 15) (T := TJ4) (v := .int v_39) hx hb hts hown hI in_J4 rfl 5 (by decide) q236 (fun _ z => z) (ga_at.h hq) hv dJ4_putVal_261 ?_
  refine lv_iconst (v := 1) hx hb dJ4_putVal_264 (by decide) ?_
  refine lv_iadd hx hb dJ4_putVal_265 ?_
  obtain ⟨fs_40, hq, hk, hw⟩ := hw
  refine ga_put (ci := 15) (T := TJ4) (v := .int (v_39 + (1 : Int32))) (ty := tyJ4 5) hx hb hts hown hI in_J4 rfl tyJ4 tyJ4_ok nmJ4 5 (by decide) q236 (fun _ z => z) rfl (tyJ4_ok 5 (by decide)) rfl rfl hq hk dJ4_putVal_266 (fun H locs hI => ?_)
  obtain ⟨h_41, eh_41⟩ : ∃ z, z = ga_set h p0 (ga_O 15 (fs_40.set 5 (.int (v_39 + (1 : Int32))))) := ⟨_, rfl⟩
  rw [← eh_41] at hI
  have hw := hw h_41 eh_41
  refine lv_aload_n hx hb dJ4_putVal_269 rfl (lv_at hl 0 rfl) ?_
  refine lv_dup hx hb dJ4_putVal_270 rfl ?_
  obtain ⟨fs_42, v_43, hq, hv, hw⟩ := hw
  refine ga_get (ci := 15) (T := TJ4) (v := .int v_43) hx hb hts hown hI in_J4 rfl 4 (by decide) q234 (fun _ z => z) (ga_at.h hq) hv dJ4_putVal_271 ?_
  refine lv_iconst (v := 1) hx hb dJ4_putVal_274 (by decide) ?_
  refine lv_iadd hx hb dJ4_putVal_275 ?_
  refine lv_dup_x1 hx hb dJ4_putVal_276 rfl rfl ?_
  obtain ⟨fs_44, hq, hk, hw⟩ := hw
  refine ga_put (ci := 15) (T := TJ4) (v := .int (v_43 + (1 : Int32))) (ty := tyJ4 4) hx hb hts hown hI in_J4 rfl tyJ4 tyJ4_ok nmJ4 4 (by decide) q234 (fun _ z => z) rfl (tyJ4_ok 4 (by decide)) rfl rfl hq hk dJ4_putVal_277 (fun H locs hI => ?_)
  obtain ⟨h_45, eh_45⟩ : ∃ z, z = ga_set h_41 p0 (ga_O 15 (fs_44.set 4 (.int (v_43 + (1 : Int32))))) := ⟨_, rfl⟩
  rw [← eh_45] at hI
  have hw := hw h_45 eh_45
  refine lv_aload_n hx hb dJ4_putVal_280 rfl (lv_at hl 0 rfl) ?_
  obtain ⟨fs_46, v_47, hq, hv, hw⟩ := hw
  refine ga_get (ci := 15) (T := TJ4) (v := .int v_47) hx hb hts hown hI in_J4 rfl 6 (by decide) q237 (fun _ z => z) (ga_at.h hq) hv dJ4_putVal_281 ?_
  refine lv_icmp_le (tgt := 292) hx hb dJ4_putVal_284 (by decide) (fun hc_48 => ?_) (fun hc_48 => ?_)
  · have hw := hw.1 hc_48
    exact gj_J4_putVal_P_292 g post p0 v5 h_45 bc bs ⟨hx, hb, hml, hown, hts, hr, hlk, hnm⟩ hw hI hbc hbs (lv_sub hl [0, 1] rfl)
  · have hw := hw.2 hc_48
    refine lv_aload_n hx hb dJ4_putVal_287 rfl (lv_at hl 0 rfl) ?_
    obtain ⟨kc_51, ks_52, hk1, hk2, hw⟩ := hw
    obtain ⟨fs_53, hq, hw⟩ := hw
    refine ga_callq (va_runV (As := []) (rest := []) ⟨hx, hb, hml, hown, hts⟩ (gm_J4_resize l g p0 h_45 kc_51 ks_52 _ hw) (cwV 0 hts (lw_V q1470 q1471 q1472 q106 q1473) rfl rfl rfl ⟨rfl, hdG_J4_resize⟩ ⟨Nat.le_of_ble_eq_true rfl, Nat.le_of_ble_eq_true rfl⟩) (ga_preV hI hq rfl rfl) rfl rfl hl.1 rfl (ga_room (Nat.le_of_ble_eq_true rfl)) dJ4_putVal_288 ⟨Nat.le_trans (Nat.add_le_add_left hk1 _) hbc, Nat.le_trans (Nat.add_le_add_left hk2 _) hbs⟩) hI hbc hbs hk1 hk2 (fun r_55 h_54 H locs cells slots hw hI hbc hbs => ?_)
    refine lv_pop hx hb dJ4_putVal_291 (ga_rcat _) ?_
    exact gj_J4_putVal_P_292 g post p0 v5 h_54 (bc - kc_51) (bs - ks_52) ⟨hx, hb, hml, hown, hts, hr, hlk, hnm⟩ hw hI hbc hbs (lv_sub hl [0, 1] rfl)
def gw_J4_putVal_P_250 (K : ga_K) (post : Option Nat → ga_H → Prop) (p0 : Nat) (v10 : Option Nat) (v12 : Option Nat) (h : ga_H) (bc bs : Nat) : Prop :=
  ∃ fs_63 : List Value, ga_at K h p0 (ga_O 15 fs_63) ∧ gw_J4_afterNodeAccess K p0 v10 h (fun (h_64 : ga_H) => post v12 h_64)
set_option maxHeartbeats 4000000 in
theorem gj_J4_putVal_P_250 {p : Program} {l : Launch} {e : Env} {s : State} {m : MethodId} {args : Array Value} {below : List Frame} {meth : Method} {c : Code} {mc ms : Nat} {H : Heap} {locs : List Loc} {cells slots : Nat} {ls : Array Slot} (g : ga_G) (post : Option Nat → ga_H → Prop) (p0 : Nat) (v10 : Option Nat) (v12 : Option Nat) (h : ga_H) (bc bs : Nat) (hC : ga_Cx p s m args meth c cJ4_putVal 13 (some (.object "java/lang/Object")) "java/util/HashMap" "putVal") (hw : gw_J4_putVal_P_250 g.2.2 post p0 v10 v12 h bc bs) (hI : ga_I g h s H locs) (hbc : cells + bc ≤ mc) (hbs : slots + bs ≤ ms) (hl : lv_has ls 13 [(0, .ref p0), (10, va_rf v10), (12, va_rf v12)]) : W p l e ({ frames := 10, cells := mc, slots := ms, locals := 188 } : Room) s m args below meth c H locs cells slots (MQ below (va_Qq post (ga_E g) (ga_A g)) args s mc ms (ga_A g)) (F0 m 250 ls []) := by
  obtain ⟨hx, hb, hml, hown, hts, hr, hlk, hnm⟩ := hC
  unfold gw_J4_putVal_P_250 at hw
  refine lv_aload_n hx hb dJ4_putVal_250 rfl (lv_at hl 0 rfl) ?_
  refine ga_aload hx hb dJ4_putVal_251 (lv_at hl 1 rfl) ?_
  obtain ⟨fs_63, hq, hw⟩ := hw
  refine ga_callv (va_runV (As := [va_rf v10]) (rest := []) ⟨hx, hb, hml, hown, hts⟩ (gm_J4_afterNodeAccess l g p0 v10 h _ hw) (cwV 1 hts (lw_V q2006 q2007 q2008 q106 q2009) rfl rfl rfl ⟨rfl, hdG_J4_afterNodeAccess⟩ ⟨Nat.le_of_ble_eq_true rfl, Nat.le_of_ble_eq_true rfl⟩) (ga_preV hI hq rfl rfl) rfl rfl hl.1 rfl (ga_room (Nat.le_of_ble_eq_true rfl)) dJ4_putVal_253 ⟨Nat.le_trans (Nat.add_le_add_left (Nat.zero_le _) _) hbc, Nat.le_trans (Nat.add_le_add_left (Nat.zero_le _) _) hbs⟩) hI hbc hbs (Nat.zero_le _) (Nat.zero_le _) (fun h_64 H locs cells slots hw hI hbc hbs => ?_)
  refine ga_aload hx hb dJ4_putVal_256 (lv_at hl 2 rfl) ?_
  exact ga_qret (v := v12) hx hb hr (Or.inl ⟨_, rfl⟩) hlk hI hw (Nat.le_trans (Nat.le_add_right _ _) hbc) (Nat.le_trans (Nat.le_add_right _ _) hbs) dJ4_putVal_258
def gw_J4_putVal_P_244 (K : ga_K) (post : Option Nat → ga_H → Prop) (p0 : Nat) (v3 : Option Nat) (v10 : Option Nat) (v12 : Option Nat) (h : ga_H) (bc bs : Nat) : Prop :=
  ∃ a_60 : Nat, v10 = some a_60 ∧ ∃ fs_61 : List Value, h a_60 = some (ga_O 16 fs_61) ∧ 2 < fs_61.length ∧ ∀ h_62 : ga_H, h_62 = ga_set h a_60 (ga_O 16 (fs_61.set 2 (va_rf v3))) → (gw_J4_putVal_P_250 K post p0 v10 v12 h_62 bc bs)
set_option maxHeartbeats 4000000 in
theorem gj_J4_putVal_P_244 {p : Program} {l : Launch} {e : Env} {s : State} {m : MethodId} {args : Array Value} {below : List Frame} {meth : Method} {c : Code} {mc ms : Nat} {H : Heap} {locs : List Loc} {cells slots : Nat} {ls : Array Slot} (g : ga_G) (post : Option Nat → ga_H → Prop) (p0 : Nat) (v3 : Option Nat) (v10 : Option Nat) (v12 : Option Nat) (h : ga_H) (bc bs : Nat) (hC : ga_Cx p s m args meth c cJ4_putVal 13 (some (.object "java/lang/Object")) "java/util/HashMap" "putVal") (hw : gw_J4_putVal_P_244 g.2.2 post p0 v3 v10 v12 h bc bs) (hI : ga_I g h s H locs) (hbc : cells + bc ≤ mc) (hbs : slots + bs ≤ ms) (hl : lv_has ls 13 [(0, .ref p0), (3, va_rf v3), (10, va_rf v10), (12, va_rf v12)]) : W p l e ({ frames := 10, cells := mc, slots := ms, locals := 188 } : Room) s m args below meth c H locs cells slots (MQ below (va_Qq post (ga_E g) (ga_A g)) args s mc ms (ga_A g)) (F0 m 244 ls []) := by
  obtain ⟨hx, hb, hml, hown, hts, hr, hlk, hnm⟩ := hC
  unfold gw_J4_putVal_P_244 at hw
  refine ga_aload hx hb dJ4_putVal_244 (lv_at hl 2 rfl) ?_
  refine ga_aload_n hx hb dJ4_putVal_246 rfl (lv_at hl 1 rfl) ?_
  obtain ⟨a_60, ea_60, hw⟩ := hw
  rewrite [ea_60]
  obtain ⟨fs_61, hq, hk, hw⟩ := hw
  refine ga_put (ci := 16) (T := TJ32) (v := va_rf v3) (ty := tyJ32 2) hx hb hts hown hI in_J32 rfl tyJ32 tyJ32_ok nmJ32 2 (by decide) q1507 (fun _ z => z) rfl (tyJ32_ok 2 (by decide)) (ga_nq _ _) (ga_fq _ _) hq hk dJ4_putVal_247 (fun H locs hI => ?_)
  obtain ⟨h_62, eh_62⟩ : ∃ z, z = ga_set h a_60 (ga_O 16 (fs_61.set 2 (va_rf v3))) := ⟨_, rfl⟩
  rw [← eh_62] at hI
  have hw := hw h_62 eh_62
  exact gj_J4_putVal_P_250 g post p0 v10 v12 h_62 bc bs ⟨hx, hb, hml, hown, hts, hr, hlk, hnm⟩ hw hI hbc hbs (lv_sub hl [0, 2, 3] rfl)
def gw_J4_putVal_P_222 (K : ga_K) (post : Option Nat → ga_H → Prop) (p0 : Nat) (v3 : Option Nat) (v4 : Int32) (v5 : Int32) (v10 : Option Nat) (h : ga_H) (bc bs : Nat) : Prop :=
  (v10 = none → (gw_J4_putVal_P_259 K post p0 v5 h bc bs)) ∧ (∀ a_37 : Nat, v10 = some a_37 → (∃ a_56 : Nat, v10 = some a_56 ∧ ∃ (fs_57 : List Value) (v_58 : Option Nat), h a_56 = some (ga_O 16 fs_57) ∧ fs_57[2]? = some (va_rf v_58) ∧ ((v4 = (0 : Int32) → (gw_J4_putVal_P_244 K post p0 v3 v10 v_58 h bc bs)) ∧ (¬ v4 = (0 : Int32) → ((v_58 = none → (gw_J4_putVal_P_244 K post p0 v3 v10 v_58 h bc bs)) ∧ (∀ a_65 : Nat, v_58 = some a_65 → (gw_J4_putVal_P_250 K post p0 v10 v_58 h bc bs)))))))
set_option maxHeartbeats 4000000 in
theorem gj_J4_putVal_P_222 {p : Program} {l : Launch} {e : Env} {s : State} {m : MethodId} {args : Array Value} {below : List Frame} {meth : Method} {c : Code} {mc ms : Nat} {H : Heap} {locs : List Loc} {cells slots : Nat} {ls : Array Slot} (g : ga_G) (post : Option Nat → ga_H → Prop) (p0 : Nat) (v3 : Option Nat) (v4 : Int32) (v5 : Int32) (v10 : Option Nat) (h : ga_H) (bc bs : Nat) (hC : ga_Cx p s m args meth c cJ4_putVal 13 (some (.object "java/lang/Object")) "java/util/HashMap" "putVal") (hw : gw_J4_putVal_P_222 g.2.2 post p0 v3 v4 v5 v10 h bc bs) (hI : ga_I g h s H locs) (hbc : cells + bc ≤ mc) (hbs : slots + bs ≤ ms) (hl : lv_has ls 13 [(0, .ref p0), (3, va_rf v3), (4, .int v4), (5, .int v5), (10, va_rf v10)]) : W p l e ({ frames := 10, cells := mc, slots := ms, locals := 188 } : Room) s m args below meth c H locs cells slots (MQ below (va_Qq post (ga_E g) (ga_A g)) args s mc ms (ga_A g)) (F0 m 222 ls []) := by
  obtain ⟨hx, hb, hml, hown, hts, hr, hlk, hnm⟩ := hC
  unfold gw_J4_putVal_P_222 at hw
  refine ga_aload hx hb dJ4_putVal_222 (lv_at hl 4 rfl) ?_
  refine ga_ifnull (tgt := 259) hx hb dJ4_putVal_224 (by decide) (fun hc_a_37 => ?_) (fun a_37 hc_a_37 => ?_)
  · have hw := hw.1 hc_a_37
    exact gj_J4_putVal_P_259 g post p0 v5 h bc bs ⟨hx, hb, hml, hown, hts, hr, hlk, hnm⟩ hw hI hbc hbs (lv_sub hl [0, 3] rfl)
  · have hw := hw.2 a_37 hc_a_37
    skip
    refine ga_aload hx hb dJ4_putVal_227 (lv_at hl 4 rfl) ?_
    obtain ⟨a_56, ea_56, hw⟩ := hw
    rewrite [ea_56]
    obtain ⟨fs_57, v_58, hq, hv, hw⟩ := hw
    refine ga_get (ci := 16) (T := TJ32) (v := va_rf v_58) hx hb hts hown hI in_J32 rfl 2 (by decide) q1507 (fun _ z => z) (ga_at.h hq) hv dJ4_putVal_229 ?_
    refine ga_astore (x := v_58) (lv' := [(12, va_rf v_58), (0, .ref p0), (3, va_rf v3), (4, .int v4), (5, .int v5), (10, va_rf v10)]) hx hb dJ4_putVal_232 hl (by decide) rfl (fun ls hl => ?_)
    refine lv_iload hx hb dJ4_putVal_234 (lv_at hl 3 rfl) ?_
    refine lv_if_eq (tgt := 244) hx hb dJ4_putVal_236 (by decide) (fun hc_59 => ?_) (fun hc_59 => ?_)
    · have hw := hw.1 hc_59
      exact gj_J4_putVal_P_244 g post p0 v3 v10 v_58 h bc bs ⟨hx, hb, hml, hown, hts, hr, hlk, hnm⟩ hw hI hbc hbs (lv_sub hl [1, 2, 5, 0] rfl)
    · have hw := hw.2 hc_59
      refine ga_aload hx hb dJ4_putVal_239 (lv_at hl 0 rfl) ?_
      refine ga_ifnonnull (tgt := 250) hx hb dJ4_putVal_241 (by decide) (fun a_65 hc_a_65 => ?_) (fun hc_a_65 => ?_)
      · have hw := hw.2 a_65 hc_a_65
        skip
        exact gj_J4_putVal_P_250 g post p0 v10 v_58 h bc bs ⟨hx, hb, hml, hown, hts, hr, hlk, hnm⟩ hw hI hbc hbs (lv_sub hl [1, 5, 0] rfl)
      · have hw := hw.1 hc_a_65
        exact gj_J4_putVal_P_244 g post p0 v3 v10 v_58 h bc bs ⟨hx, hb, hml, hown, hts, hr, hlk, hnm⟩ hw hI hbc hbs (lv_sub hl [1, 2, 5, 0] rfl)
def gw_J4_putVal_P_104 (K : ga_K) (post : Option Nat → ga_H → Prop) (p0 : Nat) (v1 : Int32) (v2 : Option Nat) (v3 : Option Nat) (v4 : Int32) (v5 : Int32) (v6 : Option Nat) (v7 : Option Nat) (h : ga_H) (bc bs : Nat) : Prop :=
  ∃ a_22 : Nat, v7 = some a_22 ∧ ∃ fs_21 : List Value, ga_at K h a_22 (ga_O 16 fs_21) ∧ (∃ (In_24 : Option Nat → Int32 → ga_H → Nat → Nat → Prop) (mu_24 : Option Nat → Int32 → ga_H → Nat → Nat → Nat), In_24 v7 (0 : Int32) h bc bs ∧ ∀ (x7_24 : Option Nat) (x12_24 : Int32) (h_24 : ga_H) (bc_24 : Nat) (bs_24 : Nat), In_24 x7_24 x12_24 h_24 bc_24 bs_24 → (∃ a_25 : Nat, x7_24 = some a_25 ∧ ∃ (fs_26 : List Value) (v_27 : Option Nat), h_24 a_25 = some (ga_O 16 fs_26) ∧ fs_26[3]? = some (va_rf v_27) ∧ ((v_27 = none → (∃ kc_72 ks_73 : Nat, kc_72 ≤ bc_24 ∧ ks_73 ≤ bs_24 ∧ ∃ fs_74 : List Value, ga_at K h_24 p0 (ga_O 15 fs_74) ∧ gw_J4_newNode K p0 v1 v2 v3 none h_24 kc_72 ks_73 (fun (r_76 : Option Nat) (h_75 : ga_H) => ∃ a_77 : Nat, x7_24 = some a_77 ∧ ∃ fs_78 : List Value, h_75 a_77 = some (ga_O 16 fs_78) ∧ 3 < fs_78.length ∧ ∀ h_79 : ga_H, h_79 = ga_set h_75 a_77 (ga_O 16 (fs_78.set 3 (va_rf r_76))) → ((x12_24 < (7 : Int32) → (gw_J4_putVal_P_222 K post p0 v3 v4 v5 v_27 h_79 (bc_24 - kc_72) (bs_24 - ks_73))) ∧ (¬ x12_24 < (7 : Int32) → False))))) ∧ (∀ a_28 : Nat, v_27 = some a_28 → (∃ a_29 : Nat, v_27 = some a_29 ∧ ∃ (fs_30 : List Value) (v_31 : Int32), h_24 a_29 = some (ga_O 16 fs_30) ∧ fs_30[0]? = some (.int v_31) ∧ ((¬ v_31 = v1 → (In_24 v_27 (x12_24 + (1 : Int32)) h_24 bc_24 bs_24 ∧ mu_24 v_27 (x12_24 + (1 : Int32)) h_24 bc_24 bs_24 < mu_24 x7_24 x12_24 h_24 bc_24 bs_24)) ∧ (v_31 = v1 → (∃ a_33 : Nat, v_27 = some a_33 ∧ ∃ (fs_34 : List Value) (v_35 : Option Nat), h_24 a_33 = some (ga_O 16 fs_34) ∧ fs_34[1]? = some (va_rf v_35) ∧ ((v_35 = v2 → (gw_J4_putVal_P_222 K post p0 v3 v4 v5 v_27 h_24 bc_24 bs_24)) ∧ (¬ v_35 = v2 → ((v2 = none → (In_24 v_27 (x12_24 + (1 : Int32)) h_24 bc_24 bs_24 ∧ mu_24 v_27 (x12_24 + (1 : Int32)) h_24 bc_24 bs_24 < mu_24 x7_24 x12_24 h_24 bc_24 bs_24)) ∧ (∀ a_66 : Nat, v2 = some a_66 → (∃ a_67 : Nat, v2 = some a_67 ∧ ∃ fs_68 : List Value, ga_at K h_24 a_67 (ga_O 9 fs_68) ∧ gw_X11_equals K a_67 v_35 h_24 (fun (r_70 : Int32) (h_69 : ga_H) => (r_70 = (0 : Int32) → (In_24 v_27 (x12_24 + (1 : Int32)) h_69 bc_24 bs_24 ∧ mu_24 v_27 (x12_24 + (1 : Int32)) h_69 bc_24 bs_24 < mu_24 x7_24 x12_24 h_24 bc_24 bs_24)) ∧ (¬ r_70 = (0 : Int32) → (gw_J4_putVal_P_222 K post p0 v3 v4 v5 v_27 h_69 bc_24 bs_24))))))))))))))))
set_option maxHeartbeats 4000000 in
theorem gj_J4_putVal_P_104 {p : Program} {l : Launch} {e : Env} {s : State} {m : MethodId} {args : Array Value} {below : List Frame} {meth : Method} {c : Code} {mc ms : Nat} {H : Heap} {locs : List Loc} {cells slots : Nat} {ls : Array Slot} (g : ga_G) (post : Option Nat → ga_H → Prop) (p0 : Nat) (v1 : Int32) (v2 : Option Nat) (v3 : Option Nat) (v4 : Int32) (v5 : Int32) (v6 : Option Nat) (v7 : Option Nat) (h : ga_H) (bc bs : Nat) (hC : ga_Cx p s m args meth c cJ4_putVal 13 (some (.object "java/lang/Object")) "java/util/HashMap" "putVal") (hw : gw_J4_putVal_P_104 g.2.2 post p0 v1 v2 v3 v4 v5 v6 v7 h bc bs) (hI : ga_I g h s H locs) (hbc : cells + bc ≤ mc) (hbs : slots + bs ≤ ms) (hl : lv_has ls 13 [(0, .ref p0), (1, .int v1), (2, va_rf v2), (3, va_rf v3), (4, .int v4), (5, .int v5), (6, va_rf v6), (7, va_rf v7)]) : W p l e ({ frames := 10, cells := mc, slots := ms, locals := 188 } : Room) s m args below meth c H locs cells slots (MQ below (va_Qq post (ga_E g) (ga_A g)) args s mc ms (ga_A g)) (F0 m 104 ls []) := by
  obtain ⟨hx, hb, hml, hown, hts, hr, hlk, hnm⟩ := hC
  unfold gw_J4_putVal_P_104 at hw
  refine ga_aload hx hb dJ4_putVal_104 (lv_at hl 7 rfl) ?_
  obtain ⟨a_22, ea_22, hw⟩ := hw
  rewrite [ea_22]
  obtain ⟨fs_21, hq, hw⟩ := hw
  refine ga_instN (ci := 16) hx hb hts hown hI q1478 hq rfl (List.mem_of_getElem? (i := 0) rfl) dJ4_putVal_106 ?_
  refine lv_if_eq (tgt := 131) hx hb dJ4_putVal_109 (by decide) (fun _ => ?_) (fun hc_23 => by first | exact absurd hc_23 (by decide) | exact absurd (by decide) hc_23)
  refine lv_iconst (v := 0) hx hb dJ4_putVal_131 (by decide) ?_
  refine lv_istore (lv' := [(12, .int (0 : Int32)), (0, .ref p0), (1, .int v1), (2, va_rf v2), (3, va_rf v3), (4, .int v4), (5, .int v5), (6, va_rf v6), (7, va_rf v7)]) hx hb dJ4_putVal_132 hl (by decide) rfl (fun ls hl => ?_)
  obtain ⟨In_24, mu_24, h0_24, hw⟩ := hw
  have hL_24 : ∀ (n : Nat) (x7_24 : Option Nat) (x12_24 : Int32) (h_24 : ga_H) (bc_24 : Nat) (bs_24 : Nat) (H : Heap) (locs : List Loc) (cells slots : Nat) (ls : Array Slot), mu_24 x7_24 x12_24 h_24 bc_24 bs_24 < n → In_24 x7_24 x12_24 h_24 bc_24 bs_24 → ga_I g h_24 s H locs → cells + bc_24 ≤ mc → slots + bs_24 ≤ ms → lv_has ls 13 [(0, .ref p0), (1, .int v1), (2, va_rf v2), (3, va_rf v3), (4, .int v4), (5, .int v5), (6, va_rf v6), (7, va_rf x7_24), (12, .int x12_24)] → W p l e ({ frames := 10, cells := mc, slots := ms, locals := 188 } : Room) s m args below meth c H locs cells slots (MQ below (va_Qq post (ga_E g) (ga_A g)) args s mc ms (ga_A g)) (F0 m 134 ls []) := by
    intro n
    induction n with
    | zero => intro x7_24 x12_24 h_24 bc_24 bs_24 H locs cells slots ls hn _ _ _ _ _; exact absurd hn (Nat.not_lt_zero _)
    | succ n ih_24 =>
      intro x7_24 x12_24 h_24 bc_24 bs_24 H locs cells slots ls hn_24 hi_24 hI hbc hbs hl
      have hw := hw x7_24 x12_24 h_24 bc_24 bs_24 hi_24
      refine ga_aload hx hb dJ4_putVal_134 (lv_at hl 7 rfl) ?_
      obtain ⟨a_25, ea_25, hw⟩ := hw
      rewrite [ea_25]
      obtain ⟨fs_26, v_27, hq, hv, hw⟩ := hw
      refine ga_get (ci := 16) (T := TJ32) (v := va_rf v_27) hx hb hts hown hI in_J32 rfl 3 (by decide) q1513 (fun _ z => z) (ga_at.h hq) hv dJ4_putVal_136 ?_
      refine lv_dup hx hb dJ4_putVal_139 (ga_rcat _) ?_
      refine ga_astore (x := v_27) (lv' := [(10, va_rf v_27), (0, .ref p0), (1, .int v1), (2, va_rf v2), (3, va_rf v3), (4, .int v4), (5, .int v5), (6, va_rf v6), (7, va_rf x7_24), (12, .int x12_24)]) hx hb dJ4_putVal_140 hl (by decide) rfl (fun ls hl => ?_)
      refine ga_ifnonnull (tgt := 175) hx hb dJ4_putVal_142 (by decide) (fun a_28 hc_a_28 => ?_) (fun hc_a_28 => ?_)
      · have hw := hw.2 a_28 hc_a_28
        skip
        refine ga_aload hx hb dJ4_putVal_175 (lv_at hl 0 rfl) ?_
        obtain ⟨a_29, ea_29, hw⟩ := hw
        rewrite [ea_29]
        obtain ⟨fs_30, v_31, hq, hv, hw⟩ := hw
        refine ga_get (ci := 16) (T := TJ32) (v := .int v_31) hx hb hts hown hI in_J32 rfl 0 (by decide) q1500 (fun _ z => z) (ga_at.h hq) hv dJ4_putVal_177 ?_
        refine lv_iload_n hx hb dJ4_putVal_180 rfl (lv_at hl 2 rfl) ?_
        refine lv_icmp_ne (tgt := 212) hx hb dJ4_putVal_181 (by decide) (fun hc_32 => ?_) (fun hc_32 => ?_)
        · have hw := hw.1 hc_32
          refine ga_aload hx hb dJ4_putVal_212 (lv_at hl 0 rfl) ?_
          refine ga_astore (x := v_27) (lv' := [(7, va_rf v_27), (10, va_rf v_27), (0, .ref p0), (1, .int v1), (2, va_rf v2), (3, va_rf v3), (4, .int v4), (5, .int v5), (6, va_rf v6), (12, .int x12_24)]) hx hb dJ4_putVal_214 hl (by decide) (by simp [ga_rcat, ga_cat_r, ga_cat_i, ga_cat_f, ga_cat_l, ga_cat_d]) (fun ls hl => ?_)
          refine lv_iinc (v := x12_24 + (1 : Int32)) (lv' := [(12, .int (x12_24 + (1 : Int32))), (7, va_rf v_27), (10, va_rf v_27), (0, .ref p0), (1, .int v1), (2, va_rf v2), (3, va_rf v3), (4, .int v4), (5, .int v5), (6, va_rf v6)]) hx hb dJ4_putVal_216 hl (k := 9) rfl rfl (by decide) rfl (fun ls hl => ?_)
          refine lv_goto (tgt := 134) hx hb dJ4_putVal_219 (by decide) ?_
          exact ih_24 _ _ _ _ _ H locs cells slots ls (Nat.lt_of_lt_of_le hw.2 (Nat.le_of_lt_succ hn_24)) hw.1 hI hbc hbs (lv_sub hl [3, 4, 5, 6, 7, 8, 9, 1, 0] rfl)
        · have hw := hw.2 hc_32
          refine ga_aload hx hb dJ4_putVal_184 (lv_at hl 0 rfl) ?_
          obtain ⟨a_33, ea_33, hw⟩ := hw
          rewrite [ea_33]
          obtain ⟨fs_34, v_35, hq, hv, hw⟩ := hw
          refine ga_get (ci := 16) (T := TJ32) (v := va_rf v_35) hx hb hts hown hI in_J32 rfl 1 (by decide) q1505 (fun _ z => z) (ga_at.h hq) hv dJ4_putVal_186 ?_
          refine lv_dup hx hb dJ4_putVal_189 (ga_rcat _) ?_
          refine ga_astore (x := v_35) (lv' := [(11, va_rf v_35), (10, va_rf v_27), (0, .ref p0), (1, .int v1), (2, va_rf v2), (3, va_rf v3), (4, .int v4), (5, .int v5), (6, va_rf v6), (7, va_rf x7_24), (12, .int x12_24)]) hx hb dJ4_putVal_190 hl (by decide) (by simp [ga_rcat, ga_cat_r, ga_cat_i, ga_cat_f, ga_cat_l, ga_cat_d]) (fun ls hl => ?_)
          refine ga_aload_n hx hb dJ4_putVal_192 rfl (lv_at hl 4 rfl) ?_
          refine lv_acmp_eq (rx := v_35) (ry := v2) (tgt := 222) hx hb dJ4_putVal_193 (by decide) (fun hc_36 => ?_) (fun hc_36 => ?_)
          · have hw := hw.1 hc_36
            exact gj_J4_putVal_P_222 g post p0 v3 v4 v5 v_27 h_24 bc_24 bs_24 ⟨hx, hb, hml, hown, hts, hr, hlk, hnm⟩ hw hI hbc hbs (lv_sub hl [2, 5, 6, 7, 1] rfl)
          · have hw := hw.2 hc_36
            refine ga_aload_n hx hb dJ4_putVal_196 rfl (lv_at hl 4 rfl) ?_
            refine ga_ifnull (tgt := 212) hx hb dJ4_putVal_197 (by decide) (fun hc_a_66 => ?_) (fun a_66 hc_a_66 => ?_)
            · have hw := hw.1 hc_a_66
              refine ga_aload hx hb dJ4_putVal_212 (lv_at hl 1 rfl) ?_
              refine ga_astore (x := v_27) (lv' := [(7, va_rf v_27), (11, va_rf v_35), (10, va_rf v_27), (0, .ref p0), (1, .int v1), (2, va_rf v2), (3, va_rf v3), (4, .int v4), (5, .int v5), (6, va_rf v6), (12, .int x12_24)]) hx hb dJ4_putVal_214 hl (by decide) (by simp [ga_rcat, ga_cat_r, ga_cat_i, ga_cat_f, ga_cat_l, ga_cat_d]) (fun ls hl => ?_)
              refine lv_iinc (v := x12_24 + (1 : Int32)) (lv' := [(12, .int (x12_24 + (1 : Int32))), (7, va_rf v_27), (11, va_rf v_35), (10, va_rf v_27), (0, .ref p0), (1, .int v1), (2, va_rf v2), (3, va_rf v3), (4, .int v4), (5, .int v5), (6, va_rf v6)]) hx hb dJ4_putVal_216 hl (k := 10) rfl rfl (by decide) (by simp [ga_rcat, ga_cat_r, ga_cat_i, ga_cat_f, ga_cat_l, ga_cat_d]) (fun ls hl => ?_)
              refine lv_goto (tgt := 134) hx hb dJ4_putVal_219 (by decide) ?_
              exact ih_24 _ _ _ _ _ H locs cells slots ls (Nat.lt_of_lt_of_le hw.2 (Nat.le_of_lt_succ hn_24)) hw.1 hI hbc hbs (lv_sub hl [4, 5, 6, 7, 8, 9, 10, 1, 0] rfl)
            · have hw := hw.2 a_66 hc_a_66
              skip
              refine ga_aload_n hx hb dJ4_putVal_200 rfl (lv_at hl 4 rfl) ?_
              refine ga_aload hx hb dJ4_putVal_201 (lv_at hl 0 rfl) ?_
              obtain ⟨a_67, ea_67, hw⟩ := hw
              rewrite [ea_67]
              obtain ⟨fs_68, hq, hw⟩ := hw
              refine ga_calli (va_runU (As := [va_rf v_35]) (rest := []) ⟨hx, hb, hml, hown, hts⟩ (gm_X11_equals l g a_67 v_35 h_24 _ hw) (va_cwO 1 hts (lw_app (List.forall_mem_cons.mpr ⟨q1901, List.forall_mem_cons.mpr ⟨q1903, List.forall_mem_cons.mpr ⟨q1902, List.forall_mem_cons.mpr ⟨q1911, List.forall_mem_cons.mpr ⟨q1912, List.forall_mem_cons.mpr ⟨q153, fun _ h => absurd h List.not_mem_nil⟩⟩⟩⟩⟩⟩) (lw_meth q1913)) rfl rfl rfl q1946 (by decide +kernel) ⟨Nat.le_of_ble_eq_true rfl, Nat.le_of_ble_eq_true rfl⟩) (ga_preV (C := "PaperStore$Paper") hI hq rfl rfl) rfl rfl hl.1 rfl (ga_room (Nat.le_of_ble_eq_true rfl)) dJ4_putVal_203 ⟨Nat.le_trans (Nat.add_le_add_left (Nat.zero_le _) _) hbc, Nat.le_trans (Nat.add_le_add_left (Nat.zero_le _) _) hbs⟩) hI hbc hbs (Nat.zero_le _) (Nat.zero_le _) (fun r_70 h_69 H locs cells slots hw hI hbc hbs => ?_)
              refine lv_if_eq (tgt := 212) hx hb dJ4_putVal_206 (by decide) (fun hc_71 => ?_) (fun hc_71 => ?_)
              · have hw := hw.1 hc_71
                refine ga_aload hx hb dJ4_putVal_212 (lv_at hl 1 rfl) ?_
                refine ga_astore (x := v_27) (lv' := [(7, va_rf v_27), (11, va_rf v_35), (10, va_rf v_27), (0, .ref p0), (1, .int v1), (2, va_rf v2), (3, va_rf v3), (4, .int v4), (5, .int v5), (6, va_rf v6), (12, .int x12_24)]) hx hb dJ4_putVal_214 hl (by decide) (by simp [ga_rcat, ga_cat_r, ga_cat_i, ga_cat_f, ga_cat_l, ga_cat_d]) (fun ls hl => ?_)
                refine lv_iinc (v := x12_24 + (1 : Int32)) (lv' := [(12, .int (x12_24 + (1 : Int32))), (7, va_rf v_27), (11, va_rf v_35), (10, va_rf v_27), (0, .ref p0), (1, .int v1), (2, va_rf v2), (3, va_rf v3), (4, .int v4), (5, .int v5), (6, va_rf v6)]) hx hb dJ4_putVal_216 hl (k := 10) rfl rfl (by decide) (by simp [ga_rcat, ga_cat_r, ga_cat_i, ga_cat_f, ga_cat_l, ga_cat_d]) (fun ls hl => ?_)
                refine lv_goto (tgt := 134) hx hb dJ4_putVal_219 (by decide) ?_
                exact ih_24 _ _ _ _ _ H locs cells slots ls (Nat.lt_of_lt_of_le hw.2 (Nat.le_of_lt_succ hn_24)) hw.1 hI hbc hbs (lv_sub hl [4, 5, 6, 7, 8, 9, 10, 1, 0] rfl)
              · have hw := hw.2 hc_71
                refine lv_goto (tgt := 222) hx hb dJ4_putVal_209 (by decide) ?_
                exact gj_J4_putVal_P_222 g post p0 v3 v4 v5 v_27 h_69 bc_24 bs_24 ⟨hx, hb, hml, hown, hts, hr, hlk, hnm⟩ hw hI hbc hbs (lv_sub hl [2, 5, 6, 7, 1] rfl)
      · have hw := hw.1 hc_a_28
        refine ga_aload hx hb dJ4_putVal_145 (lv_at hl 8 rfl) ?_
        refine lv_aload_n hx hb dJ4_putVal_147 rfl (lv_at hl 1 rfl) ?_
        refine lv_iload_n hx hb dJ4_putVal_148 rfl (lv_at hl 2 rfl) ?_
        refine ga_aload_n hx hb dJ4_putVal_149 rfl (lv_at hl 3 rfl) ?_
        refine ga_aload_n hx hb dJ4_putVal_150 rfl (lv_at hl 4 rfl) ?_
        refine lv_null hx hb dJ4_putVal_151 ?_
        obtain ⟨kc_72, ks_73, hk1, hk2, hw⟩ := hw
        obtain ⟨fs_74, hq, hw⟩ := hw
        refine ga_callq (va_runV (As := [.int v1, va_rf v2, va_rf v3, va_rf none]) (rest := [va_rf x7_24]) ⟨hx, hb, hml, hown, hts⟩ (gm_J4_newNode l g p0 v1 v2 v3 none h_24 kc_72 ks_73 _ hw) (cwV 4 hts (lw_V q1896 q1897 q1898 q106 q1899) rfl rfl rfl ⟨rfl, hdG_J4_newNode⟩ ⟨Nat.le_of_ble_eq_true rfl, Nat.le_of_ble_eq_true rfl⟩) (ga_preV hI hq rfl rfl) rfl rfl hl.1 rfl (ga_room (Nat.le_of_ble_eq_true rfl)) dJ4_putVal_152 ⟨Nat.le_trans (Nat.add_le_add_left hk1 _) hbc, Nat.le_trans (Nat.add_le_add_left hk2 _) hbs⟩) hI hbc hbs hk1 hk2 (fun r_76 h_75 H locs cells slots hw hI hbc hbs => ?_)
        obtain ⟨a_77, ea_77, hw⟩ := hw
        rewrite [ea_77]
        obtain ⟨fs_78, hq, hk, hw⟩ := hw
        refine ga_put (ci := 16) (T := TJ32) (v := va_rf r_76) (ty := tyJ32 3) hx hb hts hown hI in_J32 rfl tyJ32 tyJ32_ok nmJ32 3 (by decide) q1513 (fun _ z => z) rfl (tyJ32_ok 3 (by decide)) (ga_nq _ _) (ga_fq _ _) hq hk dJ4_putVal_155 (fun H locs hI => ?_)
        obtain ⟨h_79, eh_79⟩ : ∃ z, z = ga_set h_75 a_77 (ga_O 16 (fs_78.set 3 (va_rf r_76))) := ⟨_, rfl⟩
        rw [← eh_79] at hI
        have hw := hw h_79 eh_79
        refine lv_iload hx hb dJ4_putVal_158 (lv_at hl 9 rfl) ?_
        refine lv_bipush (v := 7) hx hb dJ4_putVal_160 (by decide) ?_
        refine lv_icmp_lt (tgt := 222) hx hb dJ4_putVal_162 (by decide) (fun hc_80 => ?_) (fun hc_80 => ?_)
        · have hw := hw.1 hc_80
          exact gj_J4_putVal_P_222 g post p0 v3 v4 v5 v_27 h_79 (bc_24 - kc_72) (bs_24 - ks_73) ⟨hx, hb, hml, hown, hts, hr, hlk, hnm⟩ hw hI hbc hbs (lv_sub hl [1, 4, 5, 6, 0] rfl)
        · have hw := hw.2 hc_80
          exact hw.elim
  exact hL_24 _ _ _ _ _ _ H locs cells slots ls (Nat.lt_succ_self _) h0_24 hI hbc hbs (lv_sub hl [1, 2, 3, 4, 5, 6, 7, 8, 0] rfl)
def gw_J4_putVal_P_97 (K : ga_K) (post : Option Nat → ga_H → Prop) (p0 : Nat) (v3 : Option Nat) (v4 : Int32) (v5 : Int32) (v7 : Option Nat) (h : ga_H) (bc bs : Nat) : Prop :=
  gw_J4_putVal_P_222 K post p0 v3 v4 v5 v7 h bc bs
set_option maxHeartbeats 4000000 in
theorem gj_J4_putVal_P_97 {p : Program} {l : Launch} {e : Env} {s : State} {m : MethodId} {args : Array Value} {below : List Frame} {meth : Method} {c : Code} {mc ms : Nat} {H : Heap} {locs : List Loc} {cells slots : Nat} {ls : Array Slot} (g : ga_G) (post : Option Nat → ga_H → Prop) (p0 : Nat) (v3 : Option Nat) (v4 : Int32) (v5 : Int32) (v7 : Option Nat) (h : ga_H) (bc bs : Nat) (hC : ga_Cx p s m args meth c cJ4_putVal 13 (some (.object "java/lang/Object")) "java/util/HashMap" "putVal") (hw : gw_J4_putVal_P_97 g.2.2 post p0 v3 v4 v5 v7 h bc bs) (hI : ga_I g h s H locs) (hbc : cells + bc ≤ mc) (hbs : slots + bs ≤ ms) (hl : lv_has ls 13 [(0, .ref p0), (3, va_rf v3), (4, .int v4), (5, .int v5), (7, va_rf v7)]) : W p l e ({ frames := 10, cells := mc, slots := ms, locals := 188 } : Room) s m args below meth c H locs cells slots (MQ below (va_Qq post (ga_E g) (ga_A g)) args s mc ms (ga_A g)) (F0 m 97 ls []) := by
  obtain ⟨hx, hb, hml, hown, hts, hr, hlk, hnm⟩ := hC
  unfold gw_J4_putVal_P_97 at hw
  refine ga_aload hx hb dJ4_putVal_97 (lv_at hl 4 rfl) ?_
  refine ga_astore (x := v7) (lv' := [(10, va_rf v7), (0, .ref p0), (3, va_rf v3), (4, .int v4), (5, .int v5), (7, va_rf v7)]) hx hb dJ4_putVal_99 hl (by decide) rfl (fun ls hl => ?_)
  refine lv_goto (tgt := 222) hx hb dJ4_putVal_101 (by decide) ?_
  exact gj_J4_putVal_P_222 g post p0 v3 v4 v5 v7 h bc bs ⟨hx, hb, hml, hown, hts, hr, hlk, hnm⟩ hw hI hbc hbs (lv_sub hl [1, 2, 3, 4, 0] rfl)
def gw_J4_putVal_P_29 (K : ga_K) (post : Option Nat → ga_H → Prop) (p0 : Nat) (v1 : Int32) (v2 : Option Nat) (v3 : Option Nat) (v4 : Int32) (v5 : Int32) (v6 : Option Nat) (v8 : Int32) (h : ga_H) (bc bs : Nat) : Prop :=
  ∃ a_12 : Nat, v6 = some a_12 ∧ ∃ (n_13 : Nat) (f_14 : Nat → Option Nat), h a_12 = some (ga_Aq 8 n_13 f_14) ∧ vp_in ((v8 - (1 : Int32)) &&& v1) n_13 ∧ ∀ v_15 : Option Nat, v_15 = f_14 ((v8 - (1 : Int32)) &&& v1).toNatClampNeg → ((v_15 = none → (∃ kc_91 ks_92 : Nat, kc_91 ≤ bc ∧ ks_92 ≤ bs ∧ ∃ fs_93 : List Value, ga_at K h p0 (ga_O 15 fs_93) ∧ gw_J4_newNode K p0 v1 v2 v3 none h kc_91 ks_92 (fun (r_95 : Option Nat) (h_94 : ga_H) => ∃ a_96 : Nat, v6 = some a_96 ∧ ∃ (n_97 : Nat) (f_98 : Nat → Option Nat), h_94 a_96 = some (ga_Aq 8 n_97 f_98) ∧ vp_in ((v8 - (1 : Int32)) &&& v1) n_97 ∧ ga_ok K h_94 "java/util/HashMap$Node" r_95 ∧ ∀ h_99 : ga_H, h_99 = ga_set h_94 a_96 (ga_Aq 8 n_97 (va_up f_98 ((v8 - (1 : Int32)) &&& v1).toNatClampNeg r_95)) → (gw_J4_putVal_P_259 K post p0 v5 h_99 (bc - kc_91) (bs - ks_92))))) ∧ (∀ a_16 : Nat, v_15 = some a_16 → (∃ a_17 : Nat, v_15 = some a_17 ∧ ∃ (fs_18 : List Value) (v_19 : Int32), h a_17 = some (ga_O 16 fs_18) ∧ fs_18[0]? = some (.int v_19) ∧ ((¬ v_19 = v1 → (gw_J4_putVal_P_104 K post p0 v1 v2 v3 v4 v5 v6 v_15 h bc bs)) ∧ (v_19 = v1 → (∃ a_81 : Nat, v_15 = some a_81 ∧ ∃ (fs_82 : List Value) (v_83 : Option Nat), h a_81 = some (ga_O 16 fs_82) ∧ fs_82[1]? = some (va_rf v_83) ∧ ((v_83 = v2 → (gw_J4_putVal_P_97 K post p0 v3 v4 v5 v_15 h bc bs)) ∧ (¬ v_83 = v2 → ((v2 = none → (gw_J4_putVal_P_104 K post p0 v1 v2 v3 v4 v5 v6 v_15 h bc bs)) ∧ (∀ a_85 : Nat, v2 = some a_85 → (∃ a_86 : Nat, v2 = some a_86 ∧ ∃ fs_87 : List Value, ga_at K h a_86 (ga_O 9 fs_87) ∧ gw_X11_equals K a_86 v_83 h (fun (r_89 : Int32) (h_88 : ga_H) => (r_89 = (0 : Int32) → (gw_J4_putVal_P_104 K post p0 v1 v2 v3 v4 v5 v6 v_15 h_88 bc bs)) ∧ (¬ r_89 = (0 : Int32) → (gw_J4_putVal_P_97 K post p0 v3 v4 v5 v_15 h_88 bc bs))))))))))))))
set_option maxHeartbeats 4000000 in
theorem gj_J4_putVal_P_29 {p : Program} {l : Launch} {e : Env} {s : State} {m : MethodId} {args : Array Value} {below : List Frame} {meth : Method} {c : Code} {mc ms : Nat} {H : Heap} {locs : List Loc} {cells slots : Nat} {ls : Array Slot} (g : ga_G) (post : Option Nat → ga_H → Prop) (p0 : Nat) (v1 : Int32) (v2 : Option Nat) (v3 : Option Nat) (v4 : Int32) (v5 : Int32) (v6 : Option Nat) (v8 : Int32) (h : ga_H) (bc bs : Nat) (hC : ga_Cx p s m args meth c cJ4_putVal 13 (some (.object "java/lang/Object")) "java/util/HashMap" "putVal") (hw : gw_J4_putVal_P_29 g.2.2 post p0 v1 v2 v3 v4 v5 v6 v8 h bc bs) (hI : ga_I g h s H locs) (hbc : cells + bc ≤ mc) (hbs : slots + bs ≤ ms) (hl : lv_has ls 13 [(0, .ref p0), (1, .int v1), (2, va_rf v2), (3, va_rf v3), (4, .int v4), (5, .int v5), (6, va_rf v6), (8, .int v8)]) : W p l e ({ frames := 10, cells := mc, slots := ms, locals := 188 } : Room) s m args below meth c H locs cells slots (MQ below (va_Qq post (ga_E g) (ga_A g)) args s mc ms (ga_A g)) (F0 m 29 ls []) := by
  obtain ⟨hx, hb, hml, hown, hts, hr, hlk, hnm⟩ := hC
  unfold gw_J4_putVal_P_29 at hw
  refine ga_aload hx hb dJ4_putVal_29 (lv_at hl 6 rfl) ?_
  refine lv_iload hx hb dJ4_putVal_31 (lv_at hl 7 rfl) ?_
  refine lv_iconst (v := 1) hx hb dJ4_putVal_33 (by decide) ?_
  refine lv_isub hx hb dJ4_putVal_34 ?_
  refine lv_iload_n hx hb dJ4_putVal_35 rfl (lv_at hl 1 rfl) ?_
  refine lv_iand hx hb dJ4_putVal_36 ?_
  refine lv_dup hx hb dJ4_putVal_37 rfl ?_
  refine lv_istore (lv' := [(9, .int ((v8 - (1 : Int32)) &&& v1)), (0, .ref p0), (1, .int v1), (2, va_rf v2), (3, va_rf v3), (4, .int v4), (5, .int v5), (6, va_rf v6), (8, .int v8)]) hx hb dJ4_putVal_38 hl (by decide) rfl (fun ls hl => ?_)
  obtain ⟨a_12, ea_12, hw⟩ := hw
  rewrite [ea_12]
  obtain ⟨n_13, f_14, hq, hi, hw⟩ := hw
  refine ga_ldq hx hb hI (ga_at.h hq) rfl hi dJ4_putVal_40 ?_
  obtain ⟨v_15, ev_15⟩ : ∃ z, z = f_14 ((v8 - (1 : Int32)) &&& v1).toNatClampNeg := ⟨_, rfl⟩
  rw [← ev_15]
  have hw := hw v_15 ev_15
  refine lv_dup hx hb dJ4_putVal_41 (ga_rcat _) ?_
  refine ga_astore (x := v_15) (lv' := [(7, va_rf v_15), (9, .int ((v8 - (1 : Int32)) &&& v1)), (0, .ref p0), (1, .int v1), (2, va_rf v2), (3, va_rf v3), (4, .int v4), (5, .int v5), (6, va_rf v6), (8, .int v8)]) hx hb dJ4_putVal_42 hl (by decide) (by simp [ga_rcat, ga_cat_r, ga_cat_i, ga_cat_f, ga_cat_l, ga_cat_d]) (fun ls hl => ?_)
  refine ga_ifnonnull (tgt := 63) hx hb dJ4_putVal_44 (by decide) (fun a_16 hc_a_16 => ?_) (fun hc_a_16 => ?_)
  · have hw := hw.2 a_16 hc_a_16
    skip
    refine ga_aload hx hb dJ4_putVal_63 (lv_at hl 0 rfl) ?_
    obtain ⟨a_17, ea_17, hw⟩ := hw
    rewrite [ea_17]
    obtain ⟨fs_18, v_19, hq, hv, hw⟩ := hw
    refine ga_get (ci := 16) (T := TJ32) (v := .int v_19) hx hb hts hown hI in_J32 rfl 0 (by decide) q1500 (fun _ z => z) (ga_at.h hq) hv dJ4_putVal_65 ?_
    refine lv_iload_n hx hb dJ4_putVal_68 rfl (lv_at hl 3 rfl) ?_
    refine lv_icmp_ne (tgt := 104) hx hb dJ4_putVal_69 (by decide) (fun hc_20 => ?_) (fun hc_20 => ?_)
    · have hw := hw.1 hc_20
      exact gj_J4_putVal_P_104 g post p0 v1 v2 v3 v4 v5 v6 v_15 h bc bs ⟨hx, hb, hml, hown, hts, hr, hlk, hnm⟩ hw hI hbc hbs (lv_sub hl [2, 3, 4, 5, 6, 7, 8, 0] rfl)
    · have hw := hw.2 hc_20
      refine ga_aload hx hb dJ4_putVal_72 (lv_at hl 0 rfl) ?_
      obtain ⟨a_81, ea_81, hw⟩ := hw
      rewrite [ea_81]
      obtain ⟨fs_82, v_83, hq, hv, hw⟩ := hw
      refine ga_get (ci := 16) (T := TJ32) (v := va_rf v_83) hx hb hts hown hI in_J32 rfl 1 (by decide) q1505 (fun _ z => z) (ga_at.h hq) hv dJ4_putVal_74 ?_
      refine lv_dup hx hb dJ4_putVal_77 (ga_rcat _) ?_
      refine ga_astore (x := v_83) (lv' := [(11, va_rf v_83), (7, va_rf v_15), (9, .int ((v8 - (1 : Int32)) &&& v1)), (0, .ref p0), (1, .int v1), (2, va_rf v2), (3, va_rf v3), (4, .int v4), (5, .int v5), (6, va_rf v6), (8, .int v8)]) hx hb dJ4_putVal_78 hl (by decide) rfl (fun ls hl => ?_)
      refine ga_aload_n hx hb dJ4_putVal_80 rfl (lv_at hl 5 rfl) ?_
      refine lv_acmp_eq (rx := v_83) (ry := v2) (tgt := 97) hx hb dJ4_putVal_81 (by decide) (fun hc_84 => ?_) (fun hc_84 => ?_)
      · have hw := hw.1 hc_84
        exact gj_J4_putVal_P_97 g post p0 v3 v4 v5 v_15 h bc bs ⟨hx, hb, hml, hown, hts, hr, hlk, hnm⟩ hw hI hbc hbs (lv_sub hl [3, 6, 7, 8, 1] rfl)
      · have hw := hw.2 hc_84
        refine ga_aload_n hx hb dJ4_putVal_84 rfl (lv_at hl 5 rfl) ?_
        refine ga_ifnull (tgt := 104) hx hb dJ4_putVal_85 (by decide) (fun hc_a_85 => ?_) (fun a_85 hc_a_85 => ?_)
        · have hw := hw.1 hc_a_85
          exact gj_J4_putVal_P_104 g post p0 v1 v2 v3 v4 v5 v6 v_15 h bc bs ⟨hx, hb, hml, hown, hts, hr, hlk, hnm⟩ hw hI hbc hbs (lv_sub hl [3, 4, 5, 6, 7, 8, 9, 1] rfl)
        · have hw := hw.2 a_85 hc_a_85
          skip
          refine ga_aload_n hx hb dJ4_putVal_88 rfl (lv_at hl 5 rfl) ?_
          refine ga_aload hx hb dJ4_putVal_89 (lv_at hl 0 rfl) ?_
          obtain ⟨a_86, ea_86, hw⟩ := hw
          rewrite [ea_86]
          obtain ⟨fs_87, hq, hw⟩ := hw
          refine ga_calli (va_runU (As := [va_rf v_83]) (rest := []) ⟨hx, hb, hml, hown, hts⟩ (gm_X11_equals l g a_86 v_83 h _ hw) (va_cwO 1 hts (lw_app (List.forall_mem_cons.mpr ⟨q1901, List.forall_mem_cons.mpr ⟨q1903, List.forall_mem_cons.mpr ⟨q1902, List.forall_mem_cons.mpr ⟨q1911, List.forall_mem_cons.mpr ⟨q1912, List.forall_mem_cons.mpr ⟨q153, fun _ h => absurd h List.not_mem_nil⟩⟩⟩⟩⟩⟩) (lw_meth q1913)) rfl rfl rfl q1946 (by decide +kernel) ⟨Nat.le_of_ble_eq_true rfl, Nat.le_of_ble_eq_true rfl⟩) (ga_preV (C := "PaperStore$Paper") hI hq rfl rfl) rfl rfl hl.1 rfl (ga_room (Nat.le_of_ble_eq_true rfl)) dJ4_putVal_91 ⟨Nat.le_trans (Nat.add_le_add_left (Nat.zero_le _) _) hbc, Nat.le_trans (Nat.add_le_add_left (Nat.zero_le _) _) hbs⟩) hI hbc hbs (Nat.zero_le _) (Nat.zero_le _) (fun r_89 h_88 H locs cells slots hw hI hbc hbs => ?_)
          refine lv_if_eq (tgt := 104) hx hb dJ4_putVal_94 (by decide) (fun hc_90 => ?_) (fun hc_90 => ?_)
          · have hw := hw.1 hc_90
            exact gj_J4_putVal_P_104 g post p0 v1 v2 v3 v4 v5 v6 v_15 h_88 bc bs ⟨hx, hb, hml, hown, hts, hr, hlk, hnm⟩ hw hI hbc hbs (lv_sub hl [3, 4, 5, 6, 7, 8, 9, 1] rfl)
          · have hw := hw.2 hc_90
            exact gj_J4_putVal_P_97 g post p0 v3 v4 v5 v_15 h_88 bc bs ⟨hx, hb, hml, hown, hts, hr, hlk, hnm⟩ hw hI hbc hbs (lv_sub hl [3, 6, 7, 8, 1] rfl)
  · have hw := hw.1 hc_a_16
    refine ga_aload hx hb dJ4_putVal_47 (lv_at hl 8 rfl) ?_
    refine lv_iload hx hb dJ4_putVal_49 (lv_at hl 1 rfl) ?_
    refine lv_aload_n hx hb dJ4_putVal_51 rfl (lv_at hl 2 rfl) ?_
    refine lv_iload_n hx hb dJ4_putVal_52 rfl (lv_at hl 3 rfl) ?_
    refine ga_aload_n hx hb dJ4_putVal_53 rfl (lv_at hl 4 rfl) ?_
    refine ga_aload_n hx hb dJ4_putVal_54 rfl (lv_at hl 5 rfl) ?_
    refine lv_null hx hb dJ4_putVal_55 ?_
    obtain ⟨kc_91, ks_92, hk1, hk2, hw⟩ := hw
    obtain ⟨fs_93, hq, hw⟩ := hw
    refine ga_callq (va_runV (As := [.int v1, va_rf v2, va_rf v3, va_rf none]) (rest := [.int ((v8 - (1 : Int32)) &&& v1), va_rf v6]) ⟨hx, hb, hml, hown, hts⟩ (gm_J4_newNode l g p0 v1 v2 v3 none h kc_91 ks_92 _ hw) (cwV 4 hts (lw_V q1896 q1897 q1898 q106 q1899) rfl rfl rfl ⟨rfl, hdG_J4_newNode⟩ ⟨Nat.le_of_ble_eq_true rfl, Nat.le_of_ble_eq_true rfl⟩) (ga_preV hI hq rfl rfl) rfl rfl hl.1 rfl (ga_room (Nat.le_of_ble_eq_true rfl)) dJ4_putVal_56 ⟨Nat.le_trans (Nat.add_le_add_left hk1 _) hbc, Nat.le_trans (Nat.add_le_add_left hk2 _) hbs⟩) hI hbc hbs hk1 hk2 (fun r_95 h_94 H locs cells slots hw hI hbc hbs => ?_)
    obtain ⟨a_96, ea_96, hw⟩ := hw
    rewrite [ea_96]
    obtain ⟨n_97, f_98, hq, hi, hok, hw⟩ := hw
    refine ga_sto (x := r_95) hx hb hI hq rfl hok hi dJ4_putVal_59 (fun H locs hI => ?_)
    obtain ⟨h_99, eh_99⟩ : ∃ z, z = ga_set h_94 a_96 (ga_Aq 8 n_97 (va_up f_98 ((v8 - (1 : Int32)) &&& v1).toNatClampNeg r_95)) := ⟨_, rfl⟩
    rw [← eh_99] at hI
    have hw := hw h_99 eh_99
    refine lv_goto (tgt := 259) hx hb dJ4_putVal_60 (by decide) ?_
    exact gj_J4_putVal_P_259 g post p0 v5 h_99 (bc - kc_91) (bs - ks_92) ⟨hx, hb, hml, hown, hts, hr, hlk, hnm⟩ hw hI hbc hbs (lv_sub hl [2, 7] rfl)
def gw_J4_putVal_P_19 (K : ga_K) (post : Option Nat → ga_H → Prop) (p0 : Nat) (v1 : Int32) (v2 : Option Nat) (v3 : Option Nat) (v4 : Int32) (v5 : Int32) (h : ga_H) (bc bs : Nat) : Prop :=
  ∃ kc_4 ks_5 : Nat, kc_4 ≤ bc ∧ ks_5 ≤ bs ∧ ∃ fs_6 : List Value, ga_at K h p0 (ga_O 15 fs_6) ∧ gw_J4_resize K p0 h kc_4 ks_5 (fun (r_8 : Option Nat) (h_7 : ga_H) => ∃ a_9 : Nat, r_8 = some a_9 ∧ ∃ (n_10 : Nat) (f_11 : Nat → Option Nat), h_7 a_9 = some (ga_Aq 8 n_10 f_11) ∧ (gw_J4_putVal_P_29 K post p0 v1 v2 v3 v4 v5 r_8 (nI n_10) h_7 (bc - kc_4) (bs - ks_5)))
set_option maxHeartbeats 4000000 in
theorem gj_J4_putVal_P_19 {p : Program} {l : Launch} {e : Env} {s : State} {m : MethodId} {args : Array Value} {below : List Frame} {meth : Method} {c : Code} {mc ms : Nat} {H : Heap} {locs : List Loc} {cells slots : Nat} {ls : Array Slot} (g : ga_G) (post : Option Nat → ga_H → Prop) (p0 : Nat) (v1 : Int32) (v2 : Option Nat) (v3 : Option Nat) (v4 : Int32) (v5 : Int32) (h : ga_H) (bc bs : Nat) (hC : ga_Cx p s m args meth c cJ4_putVal 13 (some (.object "java/lang/Object")) "java/util/HashMap" "putVal") (hw : gw_J4_putVal_P_19 g.2.2 post p0 v1 v2 v3 v4 v5 h bc bs) (hI : ga_I g h s H locs) (hbc : cells + bc ≤ mc) (hbs : slots + bs ≤ ms) (hl : lv_has ls 13 [(0, .ref p0), (1, .int v1), (2, va_rf v2), (3, va_rf v3), (4, .int v4), (5, .int v5)]) : W p l e ({ frames := 10, cells := mc, slots := ms, locals := 188 } : Room) s m args below meth c H locs cells slots (MQ below (va_Qq post (ga_E g) (ga_A g)) args s mc ms (ga_A g)) (F0 m 19 ls []) := by
  obtain ⟨hx, hb, hml, hown, hts, hr, hlk, hnm⟩ := hC
  unfold gw_J4_putVal_P_19 at hw
  refine lv_aload_n hx hb dJ4_putVal_19 rfl (lv_at hl 0 rfl) ?_
  obtain ⟨kc_4, ks_5, hk1, hk2, hw⟩ := hw
  obtain ⟨fs_6, hq, hw⟩ := hw
  refine ga_callq (va_runV (As := []) (rest := []) ⟨hx, hb, hml, hown, hts⟩ (gm_J4_resize l g p0 h kc_4 ks_5 _ hw) (cwV 0 hts (lw_V q1470 q1471 q1472 q106 q1473) rfl rfl rfl ⟨rfl, hdG_J4_resize⟩ ⟨Nat.le_of_ble_eq_true rfl, Nat.le_of_ble_eq_true rfl⟩) (ga_preV hI hq rfl rfl) rfl rfl hl.1 rfl (ga_room (Nat.le_of_ble_eq_true rfl)) dJ4_putVal_20 ⟨Nat.le_trans (Nat.add_le_add_left hk1 _) hbc, Nat.le_trans (Nat.add_le_add_left hk2 _) hbs⟩) hI hbc hbs hk1 hk2 (fun r_8 h_7 H locs cells slots hw hI hbc hbs => ?_)
  refine lv_dup hx hb dJ4_putVal_23 (ga_rcat _) ?_
  refine ga_astore (x := r_8) (lv' := [(6, va_rf r_8), (0, .ref p0), (1, .int v1), (2, va_rf v2), (3, va_rf v3), (4, .int v4), (5, .int v5)]) hx hb dJ4_putVal_24 hl (by decide) rfl (fun ls hl => ?_)
  obtain ⟨a_9, ea_9, hw⟩ := hw
  rewrite [ea_9]
  obtain ⟨n_10, f_11, hq, hw⟩ := hw
  refine ga_len hx hb hI (ga_at.h hq) rfl dJ4_putVal_26 ?_
  refine lv_istore (lv' := [(8, .int (nI n_10)), (6, va_rf r_8), (0, .ref p0), (1, .int v1), (2, va_rf v2), (3, va_rf v3), (4, .int v4), (5, .int v5)]) hx hb dJ4_putVal_27 hl (by decide) rfl (fun ls hl => ?_)
  exact gj_J4_putVal_P_29 g post p0 v1 v2 v3 v4 v5 r_8 (nI n_10) h_7 (bc - kc_4) (bs - ks_5) ⟨hx, hb, hml, hown, hts, hr, hlk, hnm⟩ hw hI hbc hbs (lv_sub hl [2, 3, 4, 5, 6, 7, 1, 0] rfl)
def gw_J4_putVal_P (K : ga_K) (p0 : Nat) (p1 : Int32) (p2 : Option Nat) (p3 : Option Nat) (p4 : Int32) (p5 : Int32) (h : ga_H) (mc ms : Nat) (post : Option Nat → ga_H → Prop) : Prop :=
  ∃ (fs_1 : List Value) (v_2 : Option Nat), h p0 = some (ga_O 15 fs_1) ∧ fs_1[2]? = some (va_rf v_2) ∧ ((v_2 = none → (gw_J4_putVal_P_19 K post p0 p1 p2 p3 p4 p5 h mc ms)) ∧ (∀ a_3 : Nat, v_2 = some a_3 → (∃ a_100 : Nat, v_2 = some a_100 ∧ ∃ (n_101 : Nat) (f_102 : Nat → Option Nat), h a_100 = some (ga_Aq 8 n_101 f_102) ∧ ((¬ nI n_101 = (0 : Int32) → (gw_J4_putVal_P_29 K post p0 p1 p2 p3 p4 p5 v_2 (nI n_101) h mc ms)) ∧ (nI n_101 = (0 : Int32) → (gw_J4_putVal_P_19 K post p0 p1 p2 p3 p4 p5 h mc ms))))))
set_option maxHeartbeats 4000000 in
theorem gm_J4_putVal_P (l : Launch) (g : ga_G) (p0 : Nat) (p1 : Int32) (p2 : Option Nat) (p3 : Option Nat) (p4 : Int32) (p5 : Int32) (h : ga_H) (mc ms : Nat) (post : Option Nat → ga_H → Prop) (hw : gw_J4_putVal_P g.2.2 p0 p1 p2 p3 p4 p5 h mc ms post) : Met l yJ4_putVal (ws_ yJ4_putVal cJ4_putVal 13 (some (.object "java/lang/Object"))) ({ frames := 10, cells := mc, slots := ms, locals := 188 } : Room) (va_Pc [.ref p0, .int p1, va_rf p2, va_rf p3, .int p4, .int p5] (ga_B g h)) (va_Qq post (ga_E g) (ga_A g)) mc ms (ga_A g) := by
  refine ga_met (own := "java/util/HashMap") (nm := "putVal") (by decide) rfl rfl (by cases p2 <;> cases p3 <;> exact Nat.le_of_ble_eq_true rfl) (fun p e s m below meth c ls hC hI hl => ?_)
  have hl : lv_has ls 13 [(0, .ref p0), (1, .int p1), (2, va_rf p2), (3, va_rf p3), (4, .int p4), (5, .int p5)] := (by cases p2 <;> cases p3 <;> exact hl)
  generalize ([.ref p0, .int p1, va_rf p2, va_rf p3, .int p4, .int p5] : List Value).toArray = args at hC ⊢
  obtain ⟨hx, hb, hml, hown, hts, hr, hlk, hnm⟩ := hC
  unfold gw_J4_putVal_P at hw
  obtain ⟨H, eH⟩ : ∃ z, z = s.heap := ⟨_, rfl⟩
  obtain ⟨locs, elo⟩ : ∃ z : List Loc, z = [] := ⟨_, rfl⟩
  rw [← eH, ← elo] at hI ⊢
  obtain ⟨cells, slots, hbc, hbs, e0, e1⟩ : ∃ a b : Nat, a + mc ≤ mc ∧ b + ms ≤ ms ∧ a = 0 ∧ b = 0 := ⟨0, 0, by omega, by omega, rfl, rfl⟩
  show W p l e ({ frames := 10, cells := mc, slots := ms, locals := 188 } : Room) s m args below meth c H locs 0 0 (MQ below (va_Qq post (ga_E g) (ga_A g)) args s mc ms (ga_A g)) (F0 m 0 ls [])
  suffices hgoal : W p l e ({ frames := 10, cells := mc, slots := ms, locals := 188 } : Room) s m args below meth c H locs cells slots (MQ below (va_Qq post (ga_E g) (ga_A g)) args s mc ms (ga_A g)) (F0 m 0 ls []) by rw [e0, e1] at hgoal; exact hgoal
  refine lv_aload_n hx hb dJ4_putVal_0 rfl (lv_at hl 0 rfl) ?_
  obtain ⟨fs_1, v_2, hq, hv, hw⟩ := hw
  refine ga_get (ci := 15) (T := TJ4) (v := va_rf v_2) hx hb hts hown hI in_J4 rfl 2 (by decide) q229 (fun _ z => z) (ga_at.h hq) hv dJ4_putVal_1 ?_
  refine lv_dup hx hb dJ4_putVal_4 (ga_rcat _) ?_
  refine ga_astore (x := v_2) (lv' := [(6, va_rf v_2), (0, .ref p0), (1, .int p1), (2, va_rf p2), (3, va_rf p3), (4, .int p4), (5, .int p5)]) hx hb dJ4_putVal_5 hl (by decide) rfl (fun ls hl => ?_)
  refine ga_ifnull (tgt := 19) hx hb dJ4_putVal_7 (by decide) (fun hc_a_3 => ?_) (fun a_3 hc_a_3 => ?_)
  · have hw := hw.1 hc_a_3
    exact gj_J4_putVal_P_19 g post p0 p1 p2 p3 p4 p5 h mc ms ⟨hx, hb, hml, hown, hts, hr, hlk, hnm⟩ hw hI hbc hbs (lv_sub hl [1, 2, 3, 4, 5, 6] rfl)
  · have hw := hw.2 a_3 hc_a_3
    skip
    refine ga_aload hx hb dJ4_putVal_10 (lv_at hl 0 rfl) ?_
    obtain ⟨a_100, ea_100, hw⟩ := hw
    rewrite [ea_100]
    obtain ⟨n_101, f_102, hq, hw⟩ := hw
    refine ga_len hx hb hI (ga_at.h hq) rfl dJ4_putVal_12 ?_
    refine lv_dup hx hb dJ4_putVal_13 rfl ?_
    refine lv_istore (lv' := [(8, .int (nI n_101)), (6, va_rf v_2), (0, .ref p0), (1, .int p1), (2, va_rf p2), (3, va_rf p3), (4, .int p4), (5, .int p5)]) hx hb dJ4_putVal_14 hl (by decide) rfl (fun ls hl => ?_)
    refine lv_if_ne (tgt := 29) hx hb dJ4_putVal_16 (by decide) (fun hc_103 => ?_) (fun hc_103 => ?_)
    · have hw := hw.1 hc_103
      exact gj_J4_putVal_P_29 g post p0 p1 p2 p3 p4 p5 v_2 (nI n_101) h mc ms ⟨hx, hb, hml, hown, hts, hr, hlk, hnm⟩ hw hI hbc hbs (lv_sub hl [2, 3, 4, 5, 6, 7, 1, 0] rfl)
    · have hw := hw.2 hc_103
      exact gj_J4_putVal_P_19 g post p0 p1 p2 p3 p4 p5 h mc ms ⟨hx, hb, hml, hown, hts, hr, hlk, hnm⟩ hw hI hbc hbs (lv_sub hl [2, 3, 4, 5, 6, 7] rfl)
theorem hdG_J4_putVal_P : yJ4_putVal.cls ≠ "java/lang/invoke/MethodHandle" ∧ yJ4_putVal.cls ≠ "java/lang/invoke/VarHandle" ∧ (parseMethodDescriptor yJ4_putVal.desc).map (fun d => d.parameters.length) = some 5 := by decide +kernel
def gw_J4_putMapEntries_P_97 (K : ga_K) (post : ga_H → Prop) (p0 : Nat) (v1 : Option Nat) (v2 : Int32) (h : ga_H) (bc bs : Nat) : Prop :=
  ∃ a_13 : Nat, v1 = some a_13 ∧ ∃ kc_14 ks_15 : Nat, kc_14 ≤ bc ∧ ks_15 ≤ bs ∧ ∃ fs_16 : List Value, ga_at K h a_13 (ga_O 15 fs_16) ∧ gw_J4_entrySet K a_13 h kc_14 ks_15 (fun (r_18 : Option Nat) (h_17 : ga_H) => ∃ a_19 : Nat, r_18 = some a_19 ∧ ∃ kc_20 ks_21 : Nat, kc_20 ≤ (bc - kc_14) ∧ ks_21 ≤ (bs - ks_15) ∧ ∃ fs_22 : List Value, ga_at K h_17 a_19 (ga_O 17 fs_22) ∧ gw_J37_iterator K a_19 h_17 kc_20 ks_21 (fun (r_24 : Option Nat) (h_23 : ga_H) => ∃ (In_25 : ga_H → Nat → Nat → Prop) (mu_25 : ga_H → Nat → Nat → Nat), In_25 h_23 ((bc - kc_14) - kc_20) ((bs - ks_15) - ks_21) ∧ ∀ (h_25 : ga_H) (bc_25 : Nat) (bs_25 : Nat), In_25 h_25 bc_25 bs_25 → (∃ a_26 : Nat, r_24 = some a_26 ∧ ∃ fs_27 : List Value, ga_at K h_25 a_26 (ga_O 18 fs_27) ∧ gw_J17_hasNext_E K a_26 h_25 (fun (r_29 : Int32) (h_28 : ga_H) => (r_29 = (0 : Int32) → (post h_28)) ∧ (¬ r_29 = (0 : Int32) → (∃ a_31 : Nat, r_24 = some a_31 ∧ ∃ kc_32 ks_33 : Nat, kc_32 ≤ bc_25 ∧ ks_33 ≤ bs_25 ∧ ∃ fs_34 : List Value, ga_at K h_28 a_31 (ga_O 18 fs_34) ∧ gw_J18_next K a_31 h_28 kc_32 ks_33 (fun (r_36 : Option Nat) (h_35 : ga_H) => ga_ok K h_35 "java/util/Map$Entry" r_36 ∧ (∃ a_37 : Nat, r_36 = some a_37 ∧ ∃ fs_38 : List Value, ga_at K h_35 a_37 (ga_O 16 fs_38) ∧ gw_J32_getKey K a_37 h_35 (fun (r_40 : Option Nat) (h_39 : ga_H) => ∃ a_41 : Nat, r_36 = some a_41 ∧ ∃ fs_42 : List Value, ga_at K h_39 a_41 (ga_O 16 fs_42) ∧ gw_J32_getValue K a_41 h_39 (fun (r_44 : Option Nat) (h_43 : ga_H) => gw_J4_hash_P K r_40 h_43 (fun (r_46 : Int32) (h_45 : ga_H) => ∃ kc_47 ks_48 : Nat, kc_47 ≤ (bc_25 - kc_32) ∧ ks_48 ≤ (bs_25 - ks_33) ∧ ∃ fs_49 : List Value, ga_at K h_45 p0 (ga_O 15 fs_49) ∧ gw_J4_putVal_P K p0 r_46 r_40 r_44 (0 : Int32) v2 h_45 kc_47 ks_48 (fun (r_51 : Option Nat) (h_50 : ga_H) => In_25 h_50 ((bc_25 - kc_32) - kc_47) ((bs_25 - ks_33) - ks_48) ∧ mu_25 h_50 ((bc_25 - kc_32) - kc_47) ((bs_25 - ks_33) - ks_48) < mu_25 h_25 bc_25 bs_25))))))))))))
set_option maxHeartbeats 4000000 in
theorem gj_J4_putMapEntries_P_97 {p : Program} {l : Launch} {e : Env} {s : State} {m : MethodId} {args : Array Value} {below : List Frame} {meth : Method} {c : Code} {mc ms : Nat} {H : Heap} {locs : List Loc} {cells slots : Nat} {ls : Array Slot} (g : ga_G) (post : ga_H → Prop) (p0 : Nat) (v1 : Option Nat) (v2 : Int32) (h : ga_H) (bc bs : Nat) (hC : ga_Cx p s m args meth c cJ4_putMapEntries 8 none "java/util/HashMap" "putMapEntries") (hw : gw_J4_putMapEntries_P_97 g.2.2 post p0 v1 v2 h bc bs) (hI : ga_I g h s H locs) (hbc : cells + bc ≤ mc) (hbs : slots + bs ≤ ms) (hl : lv_has ls 8 [(0, .ref p0), (1, va_rf v1), (2, .int v2)]) : W p l e ({ frames := 13, cells := mc, slots := ms, locals := 1316 } : Room) s m args below meth c H locs cells slots (MQ below (va_Qv post (ga_E g) (ga_A g)) args s mc ms (ga_A g)) (F0 m 97 ls []) := by
  obtain ⟨hx, hb, hml, hown, hts, hr, hlk, hnm⟩ := hC
  unfold gw_J4_putMapEntries_P_97 at hw
  refine ga_aload_n hx hb dJ4_putMapEntries_97 rfl (lv_at hl 1 rfl) ?_
  obtain ⟨a_13, ea_13, hw⟩ := hw
  rewrite [ea_13]
  obtain ⟨kc_14, ks_15, hk1, hk2, hw⟩ := hw
  obtain ⟨fs_16, hq, hw⟩ := hw
  refine ga_callFq (va_runF (As := []) (rest := []) (hI.2.1.1.1.1 15 _ rfl).2 ⟨hx, hb, hml, hown, hts⟩ (gm_J4_entrySet l g a_13 h kc_14 ks_15 _ hw) (va_cwF 0 hts (lw_app (List.forall_mem_cons.mpr ⟨q1741, List.forall_mem_cons.mpr ⟨q1744, List.forall_mem_cons.mpr ⟨q1746, List.forall_mem_cons.mpr ⟨q106, fun _ h => absurd h List.not_mem_nil⟩⟩⟩⟩) (lw_meth q1748)) rfl rfl rfl (hI.2.1.1.2.2 _ _ _ ⟨by decide +kernel, q1743, q1742, q1747, q1745, q1432⟩) (by decide +kernel) ⟨Nat.le_of_ble_eq_true rfl, Nat.le_of_ble_eq_true rfl⟩) (ga_preV (C := "java/util/HashMap") hI hq rfl rfl) rfl rfl hl.1 rfl (ga_room (Nat.le_of_ble_eq_true rfl)) dJ4_putMapEntries_98 ⟨Nat.le_trans (Nat.add_le_add_left hk1 _) hbc, Nat.le_trans (Nat.add_le_add_left hk2 _) hbs⟩) hI hbc hbs hk1 hk2 (fun r_18 h_17 H locs cells slots hw hI hbc hbs => ?_)
  obtain ⟨a_19, ea_19, hw⟩ := hw
  rewrite [ea_19]
  obtain ⟨kc_20, ks_21, hk1, hk2, hw⟩ := hw
  obtain ⟨fs_22, hq, hw⟩ := hw
  refine ga_callFq (va_runF (As := []) (rest := []) (hI.2.1.1.1.1 17 _ rfl).2 ⟨hx, hb, hml, hown, hts⟩ (gm_J37_iterator l g a_19 h_17 kc_20 ks_21 _ hw) (va_cwF 0 hts (lw_app (List.forall_mem_cons.mpr ⟨q1760, List.forall_mem_cons.mpr ⟨q653, List.forall_mem_cons.mpr ⟨q586, List.forall_mem_cons.mpr ⟨q149, fun _ h => absurd h List.not_mem_nil⟩⟩⟩⟩) (lw_meth q587)) rfl rfl rfl (hI.2.1.1.2.2 _ _ _ ⟨by decide +kernel, q651, q650, q655, q654, q652⟩) (by decide +kernel) ⟨Nat.le_of_ble_eq_true rfl, Nat.le_of_ble_eq_true rfl⟩) (ga_preV (C := "java/util/HashMap$EntrySet") hI hq rfl rfl) rfl rfl hl.1 rfl (ga_room (Nat.le_of_ble_eq_true rfl)) dJ4_putMapEntries_103 ⟨Nat.le_trans (Nat.add_le_add_left hk1 _) hbc, Nat.le_trans (Nat.add_le_add_left hk2 _) hbs⟩) hI hbc hbs hk1 hk2 (fun r_24 h_23 H locs cells slots hw hI hbc hbs => ?_)
  refine ga_astore (x := r_24) (lv' := [(4, va_rf r_24), (0, .ref p0), (1, va_rf v1), (2, .int v2)]) hx hb dJ4_putMapEntries_108 hl (by decide) rfl (fun ls hl => ?_)
  obtain ⟨In_25, mu_25, h0_25, hw⟩ := hw
  have hL_25 : ∀ (n : Nat) (h_25 : ga_H) (bc_25 : Nat) (bs_25 : Nat) (H : Heap) (locs : List Loc) (cells slots : Nat) (ls : Array Slot), mu_25 h_25 bc_25 bs_25 < n → In_25 h_25 bc_25 bs_25 → ga_I g h_25 s H locs → cells + bc_25 ≤ mc → slots + bs_25 ≤ ms → lv_has ls 8 [(0, .ref p0), (2, .int v2), (4, va_rf r_24)] → W p l e ({ frames := 13, cells := mc, slots := ms, locals := 1316 } : Room) s m args below meth c H locs cells slots (MQ below (va_Qv post (ga_E g) (ga_A g)) args s mc ms (ga_A g)) (F0 m 110 ls []) := by
    intro n
    induction n with
    | zero => intro h_25 bc_25 bs_25 H locs cells slots ls hn _ _ _ _ _; exact absurd hn (Nat.not_lt_zero _)
    | succ n ih_25 =>
      intro h_25 bc_25 bs_25 H locs cells slots ls hn_25 hi_25 hI hbc hbs hl
      have hw := hw h_25 bc_25 bs_25 hi_25
      refine ga_aload hx hb dJ4_putMapEntries_110 (lv_at hl 2 rfl) ?_
      obtain ⟨a_26, ea_26, hw⟩ := hw
      rewrite [ea_26]
      obtain ⟨fs_27, hq, hw⟩ := hw
      refine ga_callFi (va_runF (As := []) (rest := []) (hI.2.1.1.1.1 18 _ rfl).2 ⟨hx, hb, hml, hown, hts⟩ (gm_J17_hasNext_E l g a_26 h_25 _ hw) (va_cwF 0 hts (lw_app (List.forall_mem_cons.mpr ⟨q1762, List.forall_mem_cons.mpr ⟨q702, List.forall_mem_cons.mpr ⟨q704, List.forall_mem_cons.mpr ⟨q123, fun _ h => absurd h List.not_mem_nil⟩⟩⟩⟩) (lw_meth q706)) rfl rfl rfl (hI.2.1.1.2.2 _ _ _ ⟨by decide +kernel, q694, q693, q705, q703, q701⟩) (by decide +kernel) ⟨Nat.le_of_ble_eq_true rfl, Nat.le_of_ble_eq_true rfl⟩) (ga_preV (C := "java/util/HashMap$EntryIterator") hI hq rfl rfl) rfl rfl hl.1 rfl (ga_room (Nat.le_of_ble_eq_true rfl)) dJ4_putMapEntries_112 ⟨Nat.le_trans (Nat.add_le_add_left (Nat.zero_le _) _) hbc, Nat.le_trans (Nat.add_le_add_left (Nat.zero_le _) _) hbs⟩) hI hbc hbs (Nat.zero_le _) (Nat.zero_le _) (fun r_29 h_28 H locs cells slots hw hI hbc hbs => ?_)
      refine lv_if_eq (tgt := 169) hx hb dJ4_putMapEntries_117 (by decide) (fun hc_30 => ?_) (fun hc_30 => ?_)
      · have hw := hw.1 hc_30
        exact ga_vret hx hb hr hlk hI hw (Nat.le_trans (Nat.le_add_right _ _) hbc) (Nat.le_trans (Nat.le_add_right _ _) hbs) dJ4_putMapEntries_169
      · have hw := hw.2 hc_30
        refine ga_aload hx hb dJ4_putMapEntries_120 (lv_at hl 2 rfl) ?_
        obtain ⟨a_31, ea_31, hw⟩ := hw
        rewrite [ea_31]
        obtain ⟨kc_32, ks_33, hk1, hk2, hw⟩ := hw
        obtain ⟨fs_34, hq, hw⟩ := hw
        refine ga_callFq (va_runF (As := []) (rest := []) (hI.2.1.1.1.1 18 _ rfl).2 ⟨hx, hb, hml, hown, hts⟩ (gm_J18_next l g a_31 h_28 kc_32 ks_33 _ hw) (va_cwF 0 hts (lw_app (List.forall_mem_cons.mpr ⟨q1764, List.forall_mem_cons.mpr ⟨q802, List.forall_mem_cons.mpr ⟨q804, List.forall_mem_cons.mpr ⟨q124, fun _ h => absurd h List.not_mem_nil⟩⟩⟩⟩) (lw_meth q806)) rfl rfl rfl (hI.2.1.1.2.2 _ _ _ ⟨by decide +kernel, q720, q719, q805, q803, q701⟩) (by decide +kernel) ⟨Nat.le_of_ble_eq_true rfl, Nat.le_of_ble_eq_true rfl⟩) (ga_preV (C := "java/util/HashMap$EntryIterator") hI hq rfl rfl) rfl rfl hl.1 rfl (ga_room (Nat.le_of_ble_eq_true rfl)) dJ4_putMapEntries_122 ⟨Nat.le_trans (Nat.add_le_add_left hk1 _) hbc, Nat.le_trans (Nat.add_le_add_left hk2 _) hbs⟩) hI hbc hbs hk1 hk2 (fun r_36 h_35 H locs cells slots hw hI hbc hbs => ?_)
        refine ga_cast (x := r_36) hx hb hts hown hI q1765 hw.1 dJ4_putMapEntries_127 ?_
        have hw := hw.2
        refine ga_astore (x := r_36) (lv' := [(5, va_rf r_36), (0, .ref p0), (2, .int v2), (4, va_rf r_24)]) hx hb dJ4_putMapEntries_130 hl (by decide) (by simp [ga_rcat, ga_cat_r, ga_cat_i, ga_cat_f, ga_cat_l, ga_cat_d]) (fun ls hl => ?_)
        refine ga_aload hx hb dJ4_putMapEntries_132 (lv_at hl 0 rfl) ?_
        obtain ⟨a_37, ea_37, hw⟩ := hw
        rewrite [ea_37]
        obtain ⟨fs_38, hq, hw⟩ := hw
        refine ga_callFq (va_runF (As := []) (rest := []) (hI.2.1.1.1.1 16 _ rfl).2 ⟨hx, hb, hml, hown, hts⟩ (gm_J32_getKey l g a_37 h_35 _ hw) (va_cwF 0 hts (lw_app (List.forall_mem_cons.mpr ⟨q1767, List.forall_mem_cons.mpr ⟨q1771, List.forall_mem_cons.mpr ⟨q1773, List.forall_mem_cons.mpr ⟨q143, fun _ h => absurd h List.not_mem_nil⟩⟩⟩⟩) (lw_meth q1775)) rfl rfl rfl (hI.2.1.1.2.2 _ _ _ ⟨by decide +kernel, q1769, q1768, q1774, q1772, q1770⟩) (by decide +kernel) ⟨Nat.le_of_ble_eq_true rfl, Nat.le_of_ble_eq_true rfl⟩) (ga_preV (C := "java/util/HashMap$Node") hI hq rfl rfl) rfl rfl hl.1 rfl (ga_room (Nat.le_of_ble_eq_true rfl)) dJ4_putMapEntries_134 ⟨Nat.le_trans (Nat.add_le_add_left (Nat.zero_le _) _) hbc, Nat.le_trans (Nat.add_le_add_left (Nat.zero_le _) _) hbs⟩) hI hbc hbs (Nat.zero_le _) (Nat.zero_le _) (fun r_40 h_39 H locs cells slots hw hI hbc hbs => ?_)
        refine ga_astore (x := r_40) (lv' := [(6, va_rf r_40), (5, va_rf r_36), (0, .ref p0), (2, .int v2), (4, va_rf r_24)]) hx hb dJ4_putMapEntries_139 hl (by decide) (by simp [ga_rcat, ga_cat_r, ga_cat_i, ga_cat_f, ga_cat_l, ga_cat_d]) (fun ls hl => ?_)
        refine ga_aload hx hb dJ4_putMapEntries_141 (lv_at hl 1 rfl) ?_
        obtain ⟨a_41, ea_41, hw⟩ := hw
        rewrite [ea_41]
        obtain ⟨fs_42, hq, hw⟩ := hw
        refine ga_callFq (va_runF (As := []) (rest := []) (hI.2.1.1.1.1 16 _ rfl).2 ⟨hx, hb, hml, hown, hts⟩ (gm_J32_getValue l g a_41 h_39 _ hw) (va_cwF 0 hts (lw_app (List.forall_mem_cons.mpr ⟨q1780, List.forall_mem_cons.mpr ⟨q1783, List.forall_mem_cons.mpr ⟨q1785, List.forall_mem_cons.mpr ⟨q143, fun _ h => absurd h List.not_mem_nil⟩⟩⟩⟩) (lw_meth q1787)) rfl rfl rfl (hI.2.1.1.2.2 _ _ _ ⟨by decide +kernel, q1782, q1781, q1786, q1784, q1770⟩) (by decide +kernel) ⟨Nat.le_of_ble_eq_true rfl, Nat.le_of_ble_eq_true rfl⟩) (ga_preV (C := "java/util/HashMap$Node") hI hq rfl rfl) rfl rfl hl.1 rfl (ga_room (Nat.le_of_ble_eq_true rfl)) dJ4_putMapEntries_143 ⟨Nat.le_trans (Nat.add_le_add_left (Nat.zero_le _) _) hbc, Nat.le_trans (Nat.add_le_add_left (Nat.zero_le _) _) hbs⟩) hI hbc hbs (Nat.zero_le _) (Nat.zero_le _) (fun r_44 h_43 H locs cells slots hw hI hbc hbs => ?_)
        refine ga_astore (x := r_44) (lv' := [(7, va_rf r_44), (6, va_rf r_40), (5, va_rf r_36), (0, .ref p0), (2, .int v2), (4, va_rf r_24)]) hx hb dJ4_putMapEntries_148 hl (by decide) (by simp [ga_rcat, ga_cat_r, ga_cat_i, ga_cat_f, ga_cat_l, ga_cat_d]) (fun ls hl => ?_)
        refine lv_aload_n hx hb dJ4_putMapEntries_150 rfl (lv_at hl 3 rfl) ?_
        refine ga_aload hx hb dJ4_putMapEntries_151 (lv_at hl 1 rfl) ?_
        refine ga_calli (va_runS (As := [va_rf r_40]) (rest := [.ref p0]) ⟨hx, hb, hml, hown, hts⟩ (gm_J4_hash_P l g r_40 h_43 _ hw) (va_cwS 1 hts (lw_S q1790 q1791 q106 q1792) rfl rfl rfl hdG_J4_hash_P ⟨Nat.le_of_ble_eq_true rfl, Nat.le_of_ble_eq_true rfl⟩) (ga_preS hI rfl) rfl rfl hl.1 rfl (ga_room (Nat.le_of_ble_eq_true rfl)) dJ4_putMapEntries_153 ⟨Nat.le_trans (Nat.add_le_add_left (Nat.zero_le _) _) hbc, Nat.le_trans (Nat.add_le_add_left (Nat.zero_le _) _) hbs⟩) hI hbc hbs (Nat.zero_le _) (Nat.zero_le _) (fun r_46 h_45 H locs cells slots hw hI hbc hbs => ?_)
        refine ga_aload hx hb dJ4_putMapEntries_156 (lv_at hl 1 rfl) ?_
        refine ga_aload hx hb dJ4_putMapEntries_158 (lv_at hl 0 rfl) ?_
        refine lv_iconst (v := 0) hx hb dJ4_putMapEntries_160 (by decide) ?_
        refine lv_iload_n hx hb dJ4_putMapEntries_161 rfl (lv_at hl 4 rfl) ?_
        obtain ⟨kc_47, ks_48, hk1, hk2, hw⟩ := hw
        obtain ⟨fs_49, hq, hw⟩ := hw
        refine ga_callq (va_runV (As := [.int r_46, va_rf r_40, va_rf r_44, .int (0 : Int32), .int v2]) (rest := []) ⟨hx, hb, hml, hown, hts⟩ (gm_J4_putVal_P l g p0 r_46 r_40 r_44 (0 : Int32) v2 h_45 kc_47 ks_48 _ hw) (cwV 5 hts (lw_V q1892 q1893 q1894 q106 q1895) rfl rfl rfl ⟨rfl, hdG_J4_putVal_P⟩ ⟨Nat.le_of_ble_eq_true rfl, Nat.le_of_ble_eq_true rfl⟩) (ga_preV hI hq rfl rfl) rfl rfl hl.1 rfl (ga_room (Nat.le_of_ble_eq_true rfl)) dJ4_putMapEntries_162 ⟨Nat.le_trans (Nat.add_le_add_left hk1 _) hbc, Nat.le_trans (Nat.add_le_add_left hk2 _) hbs⟩) hI hbc hbs hk1 hk2 (fun r_51 h_50 H locs cells slots hw hI hbc hbs => ?_)
        refine lv_pop hx hb dJ4_putMapEntries_165 (ga_rcat _) ?_
        refine lv_goto (tgt := 110) hx hb dJ4_putMapEntries_166 (by decide) ?_
        exact ih_25 _ _ _ H locs cells slots ls (Nat.lt_of_lt_of_le hw.2 (Nat.le_of_lt_succ hn_25)) hw.1 hI hbc hbs (lv_sub hl [3, 4, 5] rfl)
  exact hL_25 _ _ _ _ H locs cells slots ls (Nat.lt_succ_self _) h0_25 hI hbc hbs (lv_sub hl [1, 3, 0] rfl)
def gw_J4_putMapEntries_P_68 (K : ga_K) (post : ga_H → Prop) (p0 : Nat) (v1 : Option Nat) (v2 : Int32) (h : ga_H) (bc bs : Nat) : Prop :=
  gw_J4_putMapEntries_P_97 K post p0 v1 v2 h bc bs
set_option maxHeartbeats 4000000 in
theorem gj_J4_putMapEntries_P_68 {p : Program} {l : Launch} {e : Env} {s : State} {m : MethodId} {args : Array Value} {below : List Frame} {meth : Method} {c : Code} {mc ms : Nat} {H : Heap} {locs : List Loc} {cells slots : Nat} {ls : Array Slot} (g : ga_G) (post : ga_H → Prop) (p0 : Nat) (v1 : Option Nat) (v2 : Int32) (h : ga_H) (bc bs : Nat) (hC : ga_Cx p s m args meth c cJ4_putMapEntries 8 none "java/util/HashMap" "putMapEntries") (hw : gw_J4_putMapEntries_P_68 g.2.2 post p0 v1 v2 h bc bs) (hI : ga_I g h s H locs) (hbc : cells + bc ≤ mc) (hbs : slots + bs ≤ ms) (hl : lv_has ls 8 [(0, .ref p0), (1, va_rf v1), (2, .int v2)]) : W p l e ({ frames := 13, cells := mc, slots := ms, locals := 1316 } : Room) s m args below meth c H locs cells slots (MQ below (va_Qv post (ga_E g) (ga_A g)) args s mc ms (ga_A g)) (F0 m 68 ls []) := by
  obtain ⟨hx, hb, hml, hown, hts, hr, hlk, hnm⟩ := hC
  unfold gw_J4_putMapEntries_P_68 at hw
  refine lv_goto (tgt := 97) hx hb dJ4_putMapEntries_68 (by decide) ?_
  exact gj_J4_putMapEntries_P_97 g post p0 v1 v2 h bc bs ⟨hx, hb, hml, hown, hts, hr, hlk, hnm⟩ hw hI hbc hbs (lv_sub hl [0, 1, 2] rfl)
def gw_J4_putMapEntries_P_48 (K : ga_K) (post : ga_H → Prop) (p0 : Nat) (t0 : Int32) (v1 : Option Nat) (v2 : Int32) (h : ga_H) (bc bs : Nat) : Prop :=
  ∃ (fs_68 : List Value) (v_69 : Int32), h p0 = some (ga_O 15 fs_68) ∧ fs_68[6]? = some (.int v_69) ∧ ((t0 ≤ v_69 → (gw_J4_putMapEntries_P_68 K post p0 v1 v2 h bc bs)) ∧ (¬ t0 ≤ v_69 → (gw_J4_tableSizeFor K t0 h (fun (r_72 : Int32) (h_71 : ga_H) => ∃ fs_73 : List Value, h_71 p0 = some (ga_O 15 fs_73) ∧ 6 < fs_73.length ∧ ∀ h_74 : ga_H, h_74 = ga_set h_71 p0 (ga_O 15 (fs_73.set 6 (.int r_72))) → (gw_J4_putMapEntries_P_68 K post p0 v1 v2 h_74 bc bs)))))
set_option maxHeartbeats 4000000 in
theorem gj_J4_putMapEntries_P_48 {p : Program} {l : Launch} {e : Env} {s : State} {m : MethodId} {args : Array Value} {below : List Frame} {meth : Method} {c : Code} {mc ms : Nat} {H : Heap} {locs : List Loc} {cells slots : Nat} {ls : Array Slot} (g : ga_G) (post : ga_H → Prop) (p0 : Nat) (t0 : Int32) (v1 : Option Nat) (v2 : Int32) (h : ga_H) (bc bs : Nat) (hC : ga_Cx p s m args meth c cJ4_putMapEntries 8 none "java/util/HashMap" "putMapEntries") (hw : gw_J4_putMapEntries_P_48 g.2.2 post p0 t0 v1 v2 h bc bs) (hI : ga_I g h s H locs) (hbc : cells + bc ≤ mc) (hbs : slots + bs ≤ ms) (hl : lv_has ls 8 [(0, .ref p0), (1, va_rf v1), (2, .int v2)]) : W p l e ({ frames := 13, cells := mc, slots := ms, locals := 1316 } : Room) s m args below meth c H locs cells slots (MQ below (va_Qv post (ga_E g) (ga_A g)) args s mc ms (ga_A g)) (F0 m 48 ls [.int t0]) := by
  obtain ⟨hx, hb, hml, hown, hts, hr, hlk, hnm⟩ := hC
  unfold gw_J4_putMapEntries_P_48 at hw
  refine lv_istore (lv' := [(6, .int t0), (0, .ref p0), (1, va_rf v1), (2, .int v2)]) hx hb dJ4_putMapEntries_48 hl (by decide) rfl (fun ls hl => ?_)
  refine lv_iload hx hb dJ4_putMapEntries_50 (lv_at hl 0 rfl) ?_
  refine lv_aload_n hx hb dJ4_putMapEntries_52 rfl (lv_at hl 1 rfl) ?_
  obtain ⟨fs_68, v_69, hq, hv, hw⟩ := hw
  refine ga_get (ci := 15) (T := TJ4) (v := .int v_69) hx hb hts hown hI in_J4 rfl 6 (by decide) q237 (fun _ z => z) (ga_at.h hq) hv dJ4_putMapEntries_53 ?_
  refine lv_icmp_le (tgt := 68) hx hb dJ4_putMapEntries_56 (by decide) (fun hc_70 => ?_) (fun hc_70 => ?_)
  · have hw := hw.1 hc_70
    exact gj_J4_putMapEntries_P_68 g post p0 v1 v2 h bc bs ⟨hx, hb, hml, hown, hts, hr, hlk, hnm⟩ hw hI hbc hbs (lv_sub hl [1, 2, 3] rfl)
  · have hw := hw.2 hc_70
    refine lv_aload_n hx hb dJ4_putMapEntries_59 rfl (lv_at hl 1 rfl) ?_
    refine lv_iload hx hb dJ4_putMapEntries_60 (lv_at hl 0 rfl) ?_
    refine ga_calli (va_runS (As := [.int t0]) (rest := [.ref p0]) ⟨hx, hb, hml, hown, hts⟩ (gm_J4_tableSizeFor l g t0 h _ hw) (va_cwS 1 hts (lw_S q1464 q1465 q106 q1466) rfl rfl rfl hdG_J4_tableSizeFor ⟨Nat.le_of_ble_eq_true rfl, Nat.le_of_ble_eq_true rfl⟩) (ga_preS hI rfl) rfl rfl hl.1 rfl (ga_room (Nat.le_of_ble_eq_true rfl)) dJ4_putMapEntries_62 ⟨Nat.le_trans (Nat.add_le_add_left (Nat.zero_le _) _) hbc, Nat.le_trans (Nat.add_le_add_left (Nat.zero_le _) _) hbs⟩) hI hbc hbs (Nat.zero_le _) (Nat.zero_le _) (fun r_72 h_71 H locs cells slots hw hI hbc hbs => ?_)
    obtain ⟨fs_73, hq, hk, hw⟩ := hw
    refine ga_put (ci := 15) (T := TJ4) (v := .int r_72) (ty := tyJ4 6) hx hb hts hown hI in_J4 rfl tyJ4 tyJ4_ok nmJ4 6 (by decide) q237 (fun _ z => z) rfl (tyJ4_ok 6 (by decide)) rfl rfl hq hk dJ4_putMapEntries_65 (fun H locs hI => ?_)
    obtain ⟨h_74, eh_74⟩ : ∃ z, z = ga_set h_71 p0 (ga_O 15 (fs_73.set 6 (.int r_72))) := ⟨_, rfl⟩
    rw [← eh_74] at hI
    have hw := hw h_74 eh_74
    exact gj_J4_putMapEntries_P_68 g post p0 v1 v2 h_74 bc bs ⟨hx, hb, hml, hown, hts, hr, hlk, hnm⟩ hw hI hbc hbs (lv_sub hl [1, 2, 3] rfl)
def gw_J4_putMapEntries_P (K : ga_K) (p0 : Nat) (p1 : Option Nat) (p2 : Int32) (h : ga_H) (mc ms : Nat) (post : ga_H → Prop) : Prop :=
  ∃ a_1 : Nat, p1 = some a_1 ∧ ∃ fs_2 : List Value, ga_at K h a_1 (ga_O 15 fs_2) ∧ gw_J4_size K a_1 h (fun (r_4 : Int32) (h_3 : ga_H) => (r_4 ≤ (0 : Int32) → (post h_3)) ∧ (¬ r_4 ≤ (0 : Int32) → (∃ (fs_6 : List Value) (v_7 : Option Nat), h_3 p0 = some (ga_O 15 fs_6) ∧ fs_6[2]? = some (va_rf v_7) ∧ ((v_7 = none → (∃ (fs_63 : List Value) (v_64 : UInt32), h_3 p0 = some (ga_O 15 fs_63) ∧ fs_63[7]? = some (.float v_64) ∧ (vf_n64 (FP.f2d v_64) ∧ (vf_n64 (FP.ddiv (FP.i2d r_4) (FP.f2d v_64)) ∧ (gw_J14_ceil K (FP.ddiv (FP.i2d r_4) (FP.f2d v_64)) h_3 (fun (r_66 : UInt64) (h_65 : ga_H) => ((0 : Int32) ≤ Op.cmpValue (FP.dcmp r_66 (4742290407621132288 : UInt64)) .g → (gw_J4_putMapEntries_P_48 K post p0 (1073741824 : Int32) p1 p2 h_65 mc ms)) ∧ (¬ (0 : Int32) ≤ Op.cmpValue (FP.dcmp r_66 (4742290407621132288 : UInt64)) .g → (gw_J4_putMapEntries_P_48 K post p0 (FP.d2i r_66) p1 p2 h_65 mc ms)))))))) ∧ (∀ a_8 : Nat, v_7 = some a_8 → (∃ (In_9 : ga_H → Nat → Nat → Prop) (mu_9 : ga_H → Nat → Nat → Nat), In_9 h_3 mc ms ∧ ∀ (h_9 : ga_H) (bc_9 : Nat) (bs_9 : Nat), In_9 h_9 bc_9 bs_9 → (∃ (fs_10 : List Value) (v_11 : Int32), h_9 p0 = some (ga_O 15 fs_10) ∧ fs_10[6]? = some (.int v_11) ∧ ((r_4 ≤ v_11 → (gw_J4_putMapEntries_P_97 K post p0 p1 p2 h_9 bc_9 bs_9)) ∧ (¬ r_4 ≤ v_11 → (∃ (fs_52 : List Value) (v_53 : Option Nat), h_9 p0 = some (ga_O 15 fs_52) ∧ fs_52[2]? = some (va_rf v_53) ∧ (∃ a_54 : Nat, v_53 = some a_54 ∧ ∃ (n_55 : Nat) (f_56 : Nat → Option Nat), h_9 a_54 = some (ga_Aq 8 n_55 f_56) ∧ (((1073741824 : Int32) ≤ nI n_55 → (gw_J4_putMapEntries_P_97 K post p0 p1 p2 h_9 bc_9 bs_9)) ∧ (¬ (1073741824 : Int32) ≤ nI n_55 → (∃ kc_58 ks_59 : Nat, kc_58 ≤ bc_9 ∧ ks_59 ≤ bs_9 ∧ ∃ fs_60 : List Value, ga_at K h_9 p0 (ga_O 15 fs_60) ∧ gw_J4_resize K p0 h_9 kc_58 ks_59 (fun (r_62 : Option Nat) (h_61 : ga_H) => In_9 h_61 (bc_9 - kc_58) (bs_9 - ks_59) ∧ mu_9 h_61 (bc_9 - kc_58) (bs_9 - ks_59) < mu_9 h_9 bc_9 bs_9)))))))))))))))
set_option maxHeartbeats 4000000 in
theorem gm_J4_putMapEntries_P (l : Launch) (g : ga_G) (p0 : Nat) (p1 : Option Nat) (p2 : Int32) (h : ga_H) (mc ms : Nat) (post : ga_H → Prop) (hw : gw_J4_putMapEntries_P g.2.2 p0 p1 p2 h mc ms post) : Met l yJ4_putMapEntries (ws_ yJ4_putMapEntries cJ4_putMapEntries 8 none) ({ frames := 13, cells := mc, slots := ms, locals := 1316 } : Room) (va_Pc [.ref p0, va_rf p1, .int p2] (ga_B g h)) (va_Qv post (ga_E g) (ga_A g)) mc ms (ga_A g) := by
  refine ga_met (own := "java/util/HashMap") (nm := "putMapEntries") (by decide) rfl rfl (by cases p1 <;> exact Nat.le_of_ble_eq_true rfl) (fun p e s m below meth c ls hC hI hl => ?_)
  have hl : lv_has ls 8 [(0, .ref p0), (1, va_rf p1), (2, .int p2)] := (by cases p1 <;> exact hl)
  generalize ([.ref p0, va_rf p1, .int p2] : List Value).toArray = args at hC ⊢
  obtain ⟨hx, hb, hml, hown, hts, hr, hlk, hnm⟩ := hC
  unfold gw_J4_putMapEntries_P at hw
  obtain ⟨H, eH⟩ : ∃ z, z = s.heap := ⟨_, rfl⟩
  obtain ⟨locs, elo⟩ : ∃ z : List Loc, z = [] := ⟨_, rfl⟩
  rw [← eH, ← elo] at hI ⊢
  obtain ⟨cells, slots, hbc, hbs, e0, e1⟩ : ∃ a b : Nat, a + mc ≤ mc ∧ b + ms ≤ ms ∧ a = 0 ∧ b = 0 := ⟨0, 0, by omega, by omega, rfl, rfl⟩
  show W p l e ({ frames := 13, cells := mc, slots := ms, locals := 1316 } : Room) s m args below meth c H locs 0 0 (MQ below (va_Qv post (ga_E g) (ga_A g)) args s mc ms (ga_A g)) (F0 m 0 ls [])
  suffices hgoal : W p l e ({ frames := 13, cells := mc, slots := ms, locals := 1316 } : Room) s m args below meth c H locs cells slots (MQ below (va_Qv post (ga_E g) (ga_A g)) args s mc ms (ga_A g)) (F0 m 0 ls []) by rw [e0, e1] at hgoal; exact hgoal
  refine ga_aload_n hx hb dJ4_putMapEntries_0 rfl (lv_at hl 1 rfl) ?_
  obtain ⟨a_1, ea_1, hw⟩ := hw
  rewrite [ea_1]
  obtain ⟨fs_2, hq, hw⟩ := hw
  refine ga_callFi (va_runF (As := []) (rest := []) (hI.2.1.1.1.1 15 _ rfl).2 ⟨hx, hb, hml, hown, hts⟩ (gm_J4_size l g a_1 h _ hw) (va_cwF 0 hts (lw_app (List.forall_mem_cons.mpr ⟨q1429, List.forall_mem_cons.mpr ⟨q1433, List.forall_mem_cons.mpr ⟨q548, List.forall_mem_cons.mpr ⟨q106, fun _ h => absurd h List.not_mem_nil⟩⟩⟩⟩) (lw_meth q550)) rfl rfl rfl (hI.2.1.1.2.2 _ _ _ ⟨by decide +kernel, q1431, q1430, q1435, q1434, q1432⟩) (by decide +kernel) ⟨Nat.le_of_ble_eq_true rfl, Nat.le_of_ble_eq_true rfl⟩) (ga_preV (C := "java/util/HashMap") hI hq rfl rfl) rfl rfl hl.1 rfl (ga_room (Nat.le_of_ble_eq_true rfl)) dJ4_putMapEntries_1 ⟨Nat.le_trans (Nat.add_le_add_left (Nat.zero_le _) _) hbc, Nat.le_trans (Nat.add_le_add_left (Nat.zero_le _) _) hbs⟩) hI hbc hbs (Nat.zero_le _) (Nat.zero_le _) (fun r_4 h_3 H locs cells slots hw hI hbc hbs => ?_)
  refine lv_istore_n (i := 3) (lv' := [(3, .int r_4), (0, .ref p0), (1, va_rf p1), (2, .int p2)]) hx hb dJ4_putMapEntries_6 rfl hl (by decide) rfl (fun ls hl => ?_)
  refine lv_iload_n hx hb dJ4_putMapEntries_7 rfl (lv_at hl 0 rfl) ?_
  refine lv_if_le (tgt := 169) hx hb dJ4_putMapEntries_8 (by decide) (fun hc_5 => ?_) (fun hc_5 => ?_)
  · have hw := hw.1 hc_5
    exact ga_vret hx hb hr hlk hI hw (Nat.le_trans (Nat.le_add_right _ _) hbc) (Nat.le_trans (Nat.le_add_right _ _) hbs) dJ4_putMapEntries_169
  · have hw := hw.2 hc_5
    refine lv_aload_n hx hb dJ4_putMapEntries_11 rfl (lv_at hl 1 rfl) ?_
    obtain ⟨fs_6, v_7, hq, hv, hw⟩ := hw
    refine ga_get (ci := 15) (T := TJ4) (v := va_rf v_7) hx hb hts hown hI in_J4 rfl 2 (by decide) q229 (fun _ z => z) (ga_at.h hq) hv dJ4_putMapEntries_12 ?_
    refine ga_ifnonnull (tgt := 71) hx hb dJ4_putMapEntries_15 (by decide) (fun a_8 hc_a_8 => ?_) (fun hc_a_8 => ?_)
    · have hw := hw.2 a_8 hc_a_8
      skip
      obtain ⟨In_9, mu_9, h0_9, hw⟩ := hw
      have hL_9 : ∀ (n : Nat) (h_9 : ga_H) (bc_9 : Nat) (bs_9 : Nat) (H : Heap) (locs : List Loc) (cells slots : Nat) (ls : Array Slot), mu_9 h_9 bc_9 bs_9 < n → In_9 h_9 bc_9 bs_9 → ga_I g h_9 s H locs → cells + bc_9 ≤ mc → slots + bs_9 ≤ ms → lv_has ls 8 [(0, .ref p0), (1, va_rf p1), (2, .int p2), (3, .int r_4)] → W p l e ({ frames := 13, cells := mc, slots := ms, locals := 1316 } : Room) s m args below meth c H locs cells slots (MQ below (va_Qv post (ga_E g) (ga_A g)) args s mc ms (ga_A g)) (F0 m 71 ls []) := by
        intro n
        induction n with
        | zero => intro h_9 bc_9 bs_9 H locs cells slots ls hn _ _ _ _ _; exact absurd hn (Nat.not_lt_zero _)
        | succ n ih_9 =>
          intro h_9 bc_9 bs_9 H locs cells slots ls hn_9 hi_9 hI hbc hbs hl
          have hw := hw h_9 bc_9 bs_9 hi_9
          refine lv_iload_n hx hb dJ4_putMapEntries_71 rfl (lv_at hl 3 rfl) ?_
          refine lv_aload_n hx hb dJ4_putMapEntries_72 rfl (lv_at hl 0 rfl) ?_
          obtain ⟨fs_10, v_11, hq, hv, hw⟩ := hw
          refine ga_get (ci := 15) (T := TJ4) (v := .int v_11) hx hb hts hown hI in_J4 rfl 6 (by decide) q237 (fun _ z => z) (ga_at.h hq) hv dJ4_putMapEntries_73 ?_
          refine lv_icmp_le (tgt := 97) hx hb dJ4_putMapEntries_76 (by decide) (fun hc_12 => ?_) (fun hc_12 => ?_)
          · have hw := hw.1 hc_12
            exact gj_J4_putMapEntries_P_97 g post p0 p1 p2 h_9 bc_9 bs_9 ⟨hx, hb, hml, hown, hts, hr, hlk, hnm⟩ hw hI hbc hbs (lv_sub hl [0, 1, 2] rfl)
          · have hw := hw.2 hc_12
            refine lv_aload_n hx hb dJ4_putMapEntries_79 rfl (lv_at hl 0 rfl) ?_
            obtain ⟨fs_52, v_53, hq, hv, hw⟩ := hw
            refine ga_get (ci := 15) (T := TJ4) (v := va_rf v_53) hx hb hts hown hI in_J4 rfl 2 (by decide) q229 (fun _ z => z) (ga_at.h hq) hv dJ4_putMapEntries_80 ?_
            obtain ⟨a_54, ea_54, hw⟩ := hw
            rewrite [ea_54]
            obtain ⟨n_55, f_56, hq, hw⟩ := hw
            refine ga_len hx hb hI (ga_at.h hq) rfl dJ4_putMapEntries_83 ?_
            refine lv_ldc (v := 1073741824) hx hb hown (hts _ q1463) dJ4_putMapEntries_84 ?_
            refine lv_icmp_ge (tgt := 97) hx hb dJ4_putMapEntries_86 (by decide) (fun hc_57 => ?_) (fun hc_57 => ?_)
            · have hw := hw.1 hc_57
              exact gj_J4_putMapEntries_P_97 g post p0 p1 p2 h_9 bc_9 bs_9 ⟨hx, hb, hml, hown, hts, hr, hlk, hnm⟩ hw hI hbc hbs (lv_sub hl [0, 1, 2] rfl)
            · have hw := hw.2 hc_57
              refine lv_aload_n hx hb dJ4_putMapEntries_89 rfl (lv_at hl 0 rfl) ?_
              obtain ⟨kc_58, ks_59, hk1, hk2, hw⟩ := hw
              obtain ⟨fs_60, hq, hw⟩ := hw
              refine ga_callq (va_runV (As := []) (rest := []) ⟨hx, hb, hml, hown, hts⟩ (gm_J4_resize l g p0 h_9 kc_58 ks_59 _ hw) (cwV 0 hts (lw_V q1470 q1471 q1472 q106 q1473) rfl rfl rfl ⟨rfl, hdG_J4_resize⟩ ⟨Nat.le_of_ble_eq_true rfl, Nat.le_of_ble_eq_true rfl⟩) (ga_preV hI hq rfl rfl) rfl rfl hl.1 rfl (ga_room (Nat.le_of_ble_eq_true rfl)) dJ4_putMapEntries_90 ⟨Nat.le_trans (Nat.add_le_add_left hk1 _) hbc, Nat.le_trans (Nat.add_le_add_left hk2 _) hbs⟩) hI hbc hbs hk1 hk2 (fun r_62 h_61 H locs cells slots hw hI hbc hbs => ?_)
              refine lv_pop hx hb dJ4_putMapEntries_93 (ga_rcat _) ?_
              refine lv_goto (tgt := 71) hx hb dJ4_putMapEntries_94 (by decide) ?_
              exact ih_9 _ _ _ H locs cells slots ls (Nat.lt_of_lt_of_le hw.2 (Nat.le_of_lt_succ hn_9)) hw.1 hI hbc hbs (lv_sub hl [0, 1, 2, 3] rfl)
      exact hL_9 _ _ _ _ H locs cells slots ls (Nat.lt_succ_self _) h0_9 hI hbc hbs (lv_sub hl [1, 2, 3, 0] rfl)
    · have hw := hw.1 hc_a_8
      refine lv_iload_n hx hb dJ4_putMapEntries_18 rfl (lv_at hl 0 rfl) ?_
      refine lv_i2d hx hb dJ4_putMapEntries_19 ?_
      refine lv_aload_n hx hb dJ4_putMapEntries_20 rfl (lv_at hl 1 rfl) ?_
      obtain ⟨fs_63, v_64, hq, hv, hw⟩ := hw
      refine ga_get (ci := 15) (T := TJ4) (v := .float v_64) hx hb hts hown hI in_J4 rfl 7 (by decide) q238 (fun _ z => z) (ga_at.h hq) hv dJ4_putMapEntries_21 ?_
      refine lv_f2d hx hb dJ4_putMapEntries_24 hw.1 ?_
      have hw := hw.2
      refine lv_ddiv hx hb dJ4_putMapEntries_25 hw.1 ?_
      have hw := hw.2
      refine ga_calld (va_runS (As := [.double (FP.ddiv (FP.i2d r_4) (FP.f2d v_64))]) (rest := []) ⟨hx, hb, hml, hown, hts⟩ (gm_J14_ceil l g (FP.ddiv (FP.i2d r_4) (FP.f2d v_64)) h_3 _ hw) (va_cwS 1 hts (lw_S q1436 q1437 q119 q1438) rfl rfl rfl hdG_J14_ceil ⟨Nat.le_of_ble_eq_true rfl, Nat.le_of_ble_eq_true rfl⟩) (ga_preS hI rfl) rfl rfl hl.1 rfl (ga_room (Nat.le_of_ble_eq_true rfl)) dJ4_putMapEntries_26 ⟨Nat.le_trans (Nat.add_le_add_left (Nat.zero_le _) _) hbc, Nat.le_trans (Nat.add_le_add_left (Nat.zero_le _) _) hbs⟩) hI hbc hbs (Nat.zero_le _) (Nat.zero_le _) (fun r_66 h_65 H locs cells slots hw hI hbc hbs => ?_)
      refine lv_dstore (lv' := [(4, .double r_66), (3, .int r_4), (0, .ref p0), (1, va_rf p1), (2, .int p2)]) hx hb dJ4_putMapEntries_29 hl (by decide) rfl (fun ls hl => ?_)
      refine lv_dload hx hb dJ4_putMapEntries_31 (lv_at hl 0 rfl) ?_
      refine lv_ldc2d (v := 4742290407621132288) hx hb hown (hts _ q1462) dJ4_putMapEntries_33 ?_
      refine lv_dcmp hx hb dJ4_putMapEntries_36 ?_
      refine lv_if_ge (tgt := 46) hx hb dJ4_putMapEntries_37 (by decide) (fun hc_67 => ?_) (fun hc_67 => ?_)
      · have hw := hw.1 hc_67
        refine lv_ldc (v := 1073741824) hx hb hown (hts _ q1463) dJ4_putMapEntries_46 ?_
        exact gj_J4_putMapEntries_P_48 g post p0 (1073741824 : Int32) p1 p2 h_65 mc ms ⟨hx, hb, hml, hown, hts, hr, hlk, hnm⟩ hw hI hbc hbs (lv_sub hl [2, 3, 4] rfl)
      · have hw := hw.2 hc_67
        refine lv_dload hx hb dJ4_putMapEntries_40 (lv_at hl 0 rfl) ?_
        refine lv_d2i hx hb dJ4_putMapEntries_42 ?_
        refine lv_goto (tgt := 48) hx hb dJ4_putMapEntries_43 (by decide) ?_
        exact gj_J4_putMapEntries_P_48 g post p0 (FP.d2i r_66) p1 p2 h_65 mc ms ⟨hx, hb, hml, hown, hts, hr, hlk, hnm⟩ hw hI hbc hbs (lv_sub hl [2, 3, 4] rfl)
theorem hdG_J4_putMapEntries_P : yJ4_putMapEntries.cls ≠ "java/lang/invoke/MethodHandle" ∧ yJ4_putMapEntries.cls ≠ "java/lang/invoke/VarHandle" ∧ (parseMethodDescriptor yJ4_putMapEntries.desc).map (fun d => d.parameters.length) = some 2 := by decide +kernel
def gw_J4_putAll_P (K : ga_K) (p0 : Nat) (p1 : Option Nat) (h : ga_H) (mc ms : Nat) (post : ga_H → Prop) : Prop :=
  ∃ kc_1 ks_2 : Nat, kc_1 ≤ mc ∧ ks_2 ≤ ms ∧ ∃ fs_3 : List Value, ga_at K h p0 (ga_O 15 fs_3) ∧ gw_J4_putMapEntries_P K p0 p1 (1 : Int32) h kc_1 ks_2 (fun (h_4 : ga_H) => post h_4)
set_option maxHeartbeats 4000000 in
theorem gm_J4_putAll_P (l : Launch) (g : ga_G) (p0 : Nat) (p1 : Option Nat) (h : ga_H) (mc ms : Nat) (post : ga_H → Prop) (hw : gw_J4_putAll_P g.2.2 p0 p1 h mc ms post) : Met l yJ4_putAll (ws_ yJ4_putAll cJ4_putAll 2 none) ({ frames := 14, cells := mc, slots := ms, locals := 1343 } : Room) (va_Pc [.ref p0, va_rf p1] (ga_B g h)) (va_Qv post (ga_E g) (ga_A g)) mc ms (ga_A g) := by
  refine ga_met (own := "java/util/HashMap") (nm := "putAll") (by decide) rfl rfl (by cases p1 <;> exact Nat.le_of_ble_eq_true rfl) (fun p e s m below meth c ls hC hI hl => ?_)
  have hl : lv_has ls 2 [(0, .ref p0), (1, va_rf p1)] := (by cases p1 <;> exact hl)
  generalize ([.ref p0, va_rf p1] : List Value).toArray = args at hC ⊢
  obtain ⟨hx, hb, hml, hown, hts, hr, hlk, hnm⟩ := hC
  unfold gw_J4_putAll_P at hw
  obtain ⟨H, eH⟩ : ∃ z, z = s.heap := ⟨_, rfl⟩
  obtain ⟨locs, elo⟩ : ∃ z : List Loc, z = [] := ⟨_, rfl⟩
  rw [← eH, ← elo] at hI ⊢
  obtain ⟨cells, slots, hbc, hbs, e0, e1⟩ : ∃ a b : Nat, a + mc ≤ mc ∧ b + ms ≤ ms ∧ a = 0 ∧ b = 0 := ⟨0, 0, by omega, by omega, rfl, rfl⟩
  show W p l e ({ frames := 14, cells := mc, slots := ms, locals := 1343 } : Room) s m args below meth c H locs 0 0 (MQ below (va_Qv post (ga_E g) (ga_A g)) args s mc ms (ga_A g)) (F0 m 0 ls [])
  suffices hgoal : W p l e ({ frames := 14, cells := mc, slots := ms, locals := 1343 } : Room) s m args below meth c H locs cells slots (MQ below (va_Qv post (ga_E g) (ga_A g)) args s mc ms (ga_A g)) (F0 m 0 ls []) by rw [e0, e1] at hgoal; exact hgoal
  refine lv_aload_n hx hb dJ4_putAll_0 rfl (lv_at hl 0 rfl) ?_
  refine ga_aload_n hx hb dJ4_putAll_1 rfl (lv_at hl 1 rfl) ?_
  refine lv_iconst (v := 1) hx hb dJ4_putAll_2 (by decide) ?_
  obtain ⟨kc_1, ks_2, hk1, hk2, hw⟩ := hw
  obtain ⟨fs_3, hq, hw⟩ := hw
  refine ga_callv (va_runV (As := [va_rf p1, .int (1 : Int32)]) (rest := []) ⟨hx, hb, hml, hown, hts⟩ (gm_J4_putMapEntries_P l g p0 p1 (1 : Int32) h kc_1 ks_2 _ hw) (cwV 2 hts (lw_V q1424 q1425 q1426 q106 q1427) rfl rfl rfl ⟨rfl, hdG_J4_putMapEntries_P⟩ ⟨Nat.le_of_ble_eq_true rfl, Nat.le_of_ble_eq_true rfl⟩) (ga_preV hI hq rfl rfl) rfl rfl hl.1 rfl (ga_room (Nat.le_of_ble_eq_true rfl)) dJ4_putAll_3 ⟨Nat.le_trans (Nat.add_le_add_left hk1 _) hbc, Nat.le_trans (Nat.add_le_add_left hk2 _) hbs⟩) hI hbc hbs hk1 hk2 (fun h_4 H locs cells slots hw hI hbc hbs => ?_)
  exact ga_vret hx hb hr hlk hI hw (Nat.le_trans (Nat.le_add_right _ _) hbc) (Nat.le_trans (Nat.le_add_right _ _) hbs) dJ4_putAll_6
theorem hdG_J4_putAll_P : yJ4_putAll.cls ≠ "java/lang/invoke/MethodHandle" ∧ yJ4_putAll.cls ≠ "java/lang/invoke/VarHandle" ∧ (parseMethodDescriptor yJ4_putAll.desc).map (fun d => d.parameters.length) = some 1 := by decide +kernel
def gw_X2_copy (K : ga_K) (p0 : Nat) (h : ga_H) (mc ms : Nat) (post : Option Nat → ga_H → Prop) : Prop :=
  1 ≤ mc ∧ 10 ≤ ms ∧ ∀ q_1 : Nat, h q_1 = none → ∀ h_2 : ga_H, h_2 = ga_set h q_1 (ga_O 1 [va_rf none, va_rf none, va_rf none, va_rf none, va_rf none, va_rf none, .int 0, .int 0, .int 0, .int 0]) → (∃ kc_3 ks_4 : Nat, kc_3 ≤ (mc - 1) ∧ ks_4 ≤ (ms - 10) ∧ gw_X2_init K q_1 h_2 kc_3 ks_4 (fun (h_5 : ga_H) => ∃ (fs_6 : List Value) (v_7 : Option Nat), h_5 q_1 = some (ga_O 1 fs_6) ∧ fs_6[4]? = some (va_rf v_7) ∧ (∃ (fs_8 : List Value) (v_9 : Option Nat), h_5 p0 = some (ga_O 1 fs_8) ∧ fs_8[4]? = some (va_rf v_9) ∧ (∃ a_10 : Nat, v_7 = some a_10 ∧ ∃ kc_11 ks_12 : Nat, kc_11 ≤ ((mc - 1) - kc_3) ∧ ks_12 ≤ ((ms - 10) - ks_4) ∧ ∃ fs_13 : List Value, ga_at K h_5 a_10 (ga_O 13 fs_13) ∧ gw_J2_addAll K a_10 v_9 h_5 kc_11 ks_12 (fun (r_15 : Int32) (h_14 : ga_H) => ∃ (In_16 : Int32 → ga_H → Nat → Nat → Prop) (mu_16 : Int32 → ga_H → Nat → Nat → Nat), In_16 (0 : Int32) h_14 (((mc - 1) - kc_3) - kc_11) (((ms - 10) - ks_4) - ks_12) ∧ ∀ (x2_16 : Int32) (h_16 : ga_H) (bc_16 : Nat) (bs_16 : Nat), In_16 x2_16 h_16 bc_16 bs_16 → (((5 : Int32) ≤ x2_16 → (∃ (fs_18 : List Value) (v_19 : Option Nat), h_16 p0 = some (ga_O 1 fs_18) ∧ fs_18[1]? = some (va_rf v_19) ∧ (∃ a_20 : Nat, v_19 = some a_20 ∧ ∃ kc_21 ks_22 : Nat, kc_21 ≤ bc_16 ∧ ks_22 ≤ bs_16 ∧ ∃ fs_23 : List Value, ga_at K h_16 a_20 (ga_O 13 fs_23) ∧ gw_J2_iterator K a_20 h_16 kc_21 ks_22 (fun (r_25 : Option Nat) (h_24 : ga_H) => ∃ (In_26 : ga_H → Nat → Nat → Prop) (mu_26 : ga_H → Nat → Nat → Nat), In_26 h_24 (bc_16 - kc_21) (bs_16 - ks_22) ∧ ∀ (h_26 : ga_H) (bc_26 : Nat) (bs_26 : Nat), In_26 h_26 bc_26 bs_26 → (∃ a_27 : Nat, r_25 = some a_27 ∧ ∃ fs_28 : List Value, ga_at K h_26 a_27 (ga_O 14 fs_28) ∧ gw_J16_hasNext K a_27 h_26 (fun (r_30 : Int32) (h_29 : ga_H) => (r_30 = (0 : Int32) → (∃ (fs_32 : List Value) (v_33 : Option Nat), h_29 p0 = some (ga_O 1 fs_32) ∧ fs_32[2]? = some (va_rf v_33) ∧ (∃ a_34 : Nat, v_33 = some a_34 ∧ ∃ kc_35 ks_36 : Nat, kc_35 ≤ bc_26 ∧ ks_36 ≤ bs_26 ∧ ∃ fs_37 : List Value, ga_at K h_29 a_34 (ga_O 13 fs_37) ∧ gw_J2_iterator K a_34 h_29 kc_35 ks_36 (fun (r_39 : Option Nat) (h_38 : ga_H) => ∃ (In_40 : ga_H → Nat → Nat → Prop) (mu_40 : ga_H → Nat → Nat → Nat), In_40 h_38 (bc_26 - kc_35) (bs_26 - ks_36) ∧ ∀ (h_40 : ga_H) (bc_40 : Nat) (bs_40 : Nat), In_40 h_40 bc_40 bs_40 → (∃ a_41 : Nat, r_39 = some a_41 ∧ ∃ fs_42 : List Value, ga_at K h_40 a_41 (ga_O 14 fs_42) ∧ gw_J16_hasNext K a_41 h_40 (fun (r_44 : Int32) (h_43 : ga_H) => (r_44 = (0 : Int32) → (∃ (fs_46 : List Value) (v_47 : Option Nat), h_43 p0 = some (ga_O 1 fs_46) ∧ fs_46[3]? = some (va_rf v_47) ∧ (∃ a_48 : Nat, v_47 = some a_48 ∧ ∃ kc_49 ks_50 : Nat, kc_49 ≤ bc_40 ∧ ks_50 ≤ bs_40 ∧ ∃ fs_51 : List Value, ga_at K h_43 a_48 (ga_O 13 fs_51) ∧ gw_J2_iterator K a_48 h_43 kc_49 ks_50 (fun (r_53 : Option Nat) (h_52 : ga_H) => ∃ (In_54 : ga_H → Nat → Nat → Prop) (mu_54 : ga_H → Nat → Nat → Nat), In_54 h_52 (bc_40 - kc_49) (bs_40 - ks_50) ∧ ∀ (h_54 : ga_H) (bc_54 : Nat) (bs_54 : Nat), In_54 h_54 bc_54 bs_54 → (∃ a_55 : Nat, r_53 = some a_55 ∧ ∃ fs_56 : List Value, ga_at K h_54 a_55 (ga_O 14 fs_56) ∧ gw_J16_hasNext K a_55 h_54 (fun (r_58 : Int32) (h_57 : ga_H) => (r_58 = (0 : Int32) → (∃ (fs_60 : List Value) (v_61 : Option Nat), h_57 q_1 = some (ga_O 1 fs_60) ∧ fs_60[5]? = some (va_rf v_61) ∧ (∃ (fs_62 : List Value) (v_63 : Option Nat), h_57 p0 = some (ga_O 1 fs_62) ∧ fs_62[5]? = some (va_rf v_63) ∧ (∃ a_64 : Nat, v_61 = some a_64 ∧ ∃ kc_65 ks_66 : Nat, kc_65 ≤ bc_54 ∧ ks_66 ≤ bs_54 ∧ ∃ fs_67 : List Value, ga_at K h_57 a_64 (ga_O 15 fs_67) ∧ gw_J4_putAll_P K a_64 v_63 h_57 kc_65 ks_66 (fun (h_68 : ga_H) => ∃ (fs_69 : List Value) (v_70 : Int32), h_68 p0 = some (ga_O 1 fs_69) ∧ fs_69[6]? = some (.int v_70) ∧ (∃ fs_71 : List Value, h_68 q_1 = some (ga_O 1 fs_71) ∧ 6 < fs_71.length ∧ ∀ h_72 : ga_H, h_72 = ga_set h_68 q_1 (ga_O 1 (fs_71.set 6 (.int v_70))) → (∃ (fs_73 : List Value) (v_74 : Int32), h_72 p0 = some (ga_O 1 fs_73) ∧ fs_73[7]? = some (.int v_74) ∧ (∃ fs_75 : List Value, h_72 q_1 = some (ga_O 1 fs_75) ∧ 7 < fs_75.length ∧ ∀ h_76 : ga_H, h_76 = ga_set h_72 q_1 (ga_O 1 (fs_75.set 7 (.int v_74))) → (∃ (fs_77 : List Value) (v_78 : Int32), h_76 p0 = some (ga_O 1 fs_77) ∧ fs_77[8]? = some (.int v_78) ∧ (∃ fs_79 : List Value, h_76 q_1 = some (ga_O 1 fs_79) ∧ 8 < fs_79.length ∧ ∀ h_80 : ga_H, h_80 = ga_set h_76 q_1 (ga_O 1 (fs_79.set 8 (.int v_78))) → (∃ (fs_81 : List Value) (v_82 : Int32), h_80 p0 = some (ga_O 1 fs_81) ∧ fs_81[9]? = some (.int v_82) ∧ (∃ fs_83 : List Value, h_80 q_1 = some (ga_O 1 fs_83) ∧ 9 < fs_83.length ∧ ∀ h_84 : ga_H, h_84 = ga_set h_80 q_1 (ga_O 1 (fs_83.set 9 (.int v_82))) → (post (some q_1) h_84))))))))))))) ∧ (¬ r_58 = (0 : Int32) → (∃ a_85 : Nat, r_53 = some a_85 ∧ ∃ kc_86 ks_87 : Nat, kc_86 ≤ bc_54 ∧ ks_87 ≤ bs_54 ∧ ∃ fs_88 : List Value, ga_at K h_57 a_85 (ga_O 14 fs_88) ∧ gw_J16_next K a_85 h_57 kc_86 ks_87 (fun (r_90 : Option Nat) (h_89 : ga_H) => ga_ok K h_89 "PaperStore$Cart" r_90 ∧ (∃ (fs_91 : List Value) (v_92 : Option Nat), h_89 q_1 = some (ga_O 1 fs_91) ∧ fs_91[3]? = some (va_rf v_92) ∧ (∃ a_93 : Nat, r_90 = some a_93 ∧ ∃ kc_94 ks_95 : Nat, kc_94 ≤ (bc_54 - kc_86) ∧ ks_95 ≤ (bs_54 - ks_87) ∧ ∃ fs_96 : List Value, ga_at K h_89 a_93 (ga_O 7 fs_96) ∧ gw_X9_copy K a_93 h_89 kc_94 ks_95 (fun (r_98 : Option Nat) (h_97 : ga_H) => ∃ a_99 : Nat, v_92 = some a_99 ∧ ∃ kc_100 ks_101 : Nat, kc_100 ≤ ((bc_54 - kc_86) - kc_94) ∧ ks_101 ≤ ((bs_54 - ks_87) - ks_95) ∧ ∃ fs_102 : List Value, ga_at K h_97 a_99 (ga_O 13 fs_102) ∧ gw_J2_add K a_99 r_98 h_97 kc_100 ks_101 (fun (r_104 : Int32) (h_103 : ga_H) => In_54 h_103 (((bc_54 - kc_86) - kc_94) - kc_100) (((bs_54 - ks_87) - ks_95) - ks_101) ∧ mu_54 h_103 (((bc_54 - kc_86) - kc_94) - kc_100) (((bs_54 - ks_87) - ks_95) - ks_101) < mu_54 h_54 bc_54 bs_54))))))))))))) ∧ (¬ r_44 = (0 : Int32) → (∃ a_105 : Nat, r_39 = some a_105 ∧ ∃ kc_106 ks_107 : Nat, kc_106 ≤ bc_40 ∧ ks_107 ≤ bs_40 ∧ ∃ fs_108 : List Value, ga_at K h_43 a_105 (ga_O 14 fs_108) ∧ gw_J16_next K a_105 h_43 kc_106 ks_107 (fun (r_110 : Option Nat) (h_109 : ga_H) => ga_ok K h_109 "PaperStore$Order" r_110 ∧ (∃ (fs_111 : List Value) (v_112 : Option Nat), h_109 q_1 = some (ga_O 1 fs_111) ∧ fs_111[2]? = some (va_rf v_112) ∧ (∃ a_113 : Nat, r_110 = some a_113 ∧ ∃ kc_114 ks_115 : Nat, kc_114 ≤ (bc_40 - kc_106) ∧ ks_115 ≤ (bs_40 - ks_107) ∧ ∃ fs_116 : List Value, ga_at K h_109 a_113 (ga_O 6 fs_116) ∧ gw_X8_copy K a_113 h_109 kc_114 ks_115 (fun (r_118 : Option Nat) (h_117 : ga_H) => ∃ a_119 : Nat, v_112 = some a_119 ∧ ∃ kc_120 ks_121 : Nat, kc_120 ≤ ((bc_40 - kc_106) - kc_114) ∧ ks_121 ≤ ((bs_40 - ks_107) - ks_115) ∧ ∃ fs_122 : List Value, ga_at K h_117 a_119 (ga_O 13 fs_122) ∧ gw_J2_add K a_119 r_118 h_117 kc_120 ks_121 (fun (r_124 : Int32) (h_123 : ga_H) => In_40 h_123 (((bc_40 - kc_106) - kc_114) - kc_120) (((bs_40 - ks_107) - ks_115) - ks_121) ∧ mu_40 h_123 (((bc_40 - kc_106) - kc_114) - kc_120) (((bs_40 - ks_107) - ks_115) - ks_121) < mu_40 h_40 bc_40 bs_40))))))))))))) ∧ (¬ r_30 = (0 : Int32) → (∃ a_125 : Nat, r_25 = some a_125 ∧ ∃ kc_126 ks_127 : Nat, kc_126 ≤ bc_26 ∧ ks_127 ≤ bs_26 ∧ ∃ fs_128 : List Value, ga_at K h_29 a_125 (ga_O 14 fs_128) ∧ gw_J16_next K a_125 h_29 kc_126 ks_127 (fun (r_130 : Option Nat) (h_129 : ga_H) => ga_ok K h_129 "PaperStore$Ladder" r_130 ∧ (∃ (fs_131 : List Value) (v_132 : Option Nat), h_129 q_1 = some (ga_O 1 fs_131) ∧ fs_131[1]? = some (va_rf v_132) ∧ (1 ≤ (bc_26 - kc_126) ∧ 2 ≤ (bs_26 - ks_127) ∧ ∀ q_133 : Nat, h_129 q_133 = none → ∀ h_134 : ga_H, h_134 = ga_set h_129 q_133 (ga_O 5 [.int 0, .int 0]) → (∃ a_135 : Nat, r_130 = some a_135 ∧ ∃ (fs_136 : List Value) (v_137 : Int32), h_134 a_135 = some (ga_O 5 fs_136) ∧ fs_136[0]? = some (.int v_137) ∧ (∃ a_138 : Nat, r_130 = some a_138 ∧ ∃ (fs_139 : List Value) (v_140 : Int32), h_134 a_138 = some (ga_O 5 fs_139) ∧ fs_139[1]? = some (.int v_140) ∧ (gw_X7_init K q_133 v_137 v_140 h_134 (fun (h_141 : ga_H) => ∃ a_142 : Nat, v_132 = some a_142 ∧ ∃ kc_143 ks_144 : Nat, kc_143 ≤ ((bc_26 - kc_126) - 1) ∧ ks_144 ≤ ((bs_26 - ks_127) - 2) ∧ ∃ fs_145 : List Value, ga_at K h_141 a_142 (ga_O 13 fs_145) ∧ gw_J2_add K a_142 (some q_133) h_141 kc_143 ks_144 (fun (r_147 : Int32) (h_146 : ga_H) => In_26 h_146 (((bc_26 - kc_126) - 1) - kc_143) (((bs_26 - ks_127) - 2) - ks_144) ∧ mu_26 h_146 (((bc_26 - kc_126) - 1) - kc_143) (((bs_26 - ks_127) - 2) - ks_144) < mu_26 h_26 bc_26 bs_26)))))))))))))))) ∧ (¬ (5 : Int32) ≤ x2_16 → (∃ (fs_148 : List Value) (v_149 : Option Nat), h_16 q_1 = some (ga_O 1 fs_148) ∧ fs_148[0]? = some (va_rf v_149) ∧ (∃ (fs_150 : List Value) (v_151 : Option Nat), h_16 p0 = some (ga_O 1 fs_150) ∧ fs_150[0]? = some (va_rf v_151) ∧ (∃ a_152 : Nat, v_151 = some a_152 ∧ ∃ (n_153 : Nat) (f_154 : Nat → Option Nat), h_16 a_152 = some (ga_Aq 6 n_153 f_154) ∧ vp_in x2_16 n_153 ∧ ∀ v_155 : Option Nat, v_155 = f_154 x2_16.toNatClampNeg → (∃ a_156 : Nat, v_155 = some a_156 ∧ ∃ kc_157 ks_158 : Nat, kc_157 ≤ bc_16 ∧ ks_158 ≤ bs_16 ∧ ∃ fs_159 : List Value, ga_at K h_16 a_156 (ga_O 2 fs_159) ∧ gw_X3_copy K a_156 h_16 kc_157 ks_158 (fun (r_161 : Option Nat) (h_160 : ga_H) => ∃ a_162 : Nat, v_149 = some a_162 ∧ ∃ (n_163 : Nat) (f_164 : Nat → Option Nat), h_160 a_162 = some (ga_Aq 6 n_163 f_164) ∧ vp_in x2_16 n_163 ∧ ga_ok K h_160 "PaperStore$Aisle" r_161 ∧ ∀ h_165 : ga_H, h_165 = ga_set h_160 a_162 (ga_Aq 6 n_163 (va_up f_164 x2_16.toNatClampNeg r_161)) → (∃ (fs_166 : List Value) (v_167 : Option Nat), h_165 q_1 = some (ga_O 1 fs_166) ∧ fs_166[0]? = some (va_rf v_167) ∧ (∃ a_168 : Nat, v_167 = some a_168 ∧ ∃ (n_169 : Nat) (f_170 : Nat → Option Nat), h_165 a_168 = some (ga_Aq 6 n_169 f_170) ∧ vp_in x2_16 n_169 ∧ ∀ v_171 : Option Nat, v_171 = f_170 x2_16.toNatClampNeg → (∃ a_172 : Nat, v_171 = some a_172 ∧ ∃ kc_173 ks_174 : Nat, kc_173 ≤ (bc_16 - kc_157) ∧ ks_174 ≤ (bs_16 - ks_158) ∧ ∃ fs_175 : List Value, ga_at K h_165 a_172 (ga_O 2 fs_175) ∧ gw_X3_reams K a_172 h_165 kc_173 ks_174 (fun (r_177 : Option Nat) (h_176 : ga_H) => ∃ a_178 : Nat, r_177 = some a_178 ∧ ∃ kc_179 ks_180 : Nat, kc_179 ≤ ((bc_16 - kc_157) - kc_173) ∧ ks_180 ≤ ((bs_16 - ks_158) - ks_174) ∧ ∃ fs_181 : List Value, ga_at K h_176 a_178 (ga_O 13 fs_181) ∧ gw_J2_iterator K a_178 h_176 kc_179 ks_180 (fun (r_183 : Option Nat) (h_182 : ga_H) => ∃ (In_184 : ga_H → Nat → Nat → Prop) (mu_184 : ga_H → Nat → Nat → Nat), In_184 h_182 (((bc_16 - kc_157) - kc_173) - kc_179) (((bs_16 - ks_158) - ks_174) - ks_180) ∧ ∀ (h_184 : ga_H) (bc_184 : Nat) (bs_184 : Nat), In_184 h_184 bc_184 bs_184 → (∃ a_185 : Nat, r_183 = some a_185 ∧ ∃ fs_186 : List Value, ga_at K h_184 a_185 (ga_O 14 fs_186) ∧ gw_J16_hasNext K a_185 h_184 (fun (r_188 : Int32) (h_187 : ga_H) => (r_188 = (0 : Int32) → (In_16 (x2_16 + (1 : Int32)) h_187 bc_184 bs_184 ∧ mu_16 (x2_16 + (1 : Int32)) h_187 bc_184 bs_184 < mu_16 x2_16 h_16 bc_16 bs_16)) ∧ (¬ r_188 = (0 : Int32) → (∃ a_190 : Nat, r_183 = some a_190 ∧ ∃ kc_191 ks_192 : Nat, kc_191 ≤ bc_184 ∧ ks_192 ≤ bs_184 ∧ ∃ fs_193 : List Value, ga_at K h_187 a_190 (ga_O 14 fs_193) ∧ gw_J16_next K a_190 h_187 kc_191 ks_192 (fun (r_195 : Option Nat) (h_194 : ga_H) => ga_ok K h_194 "PaperStore$Ream" r_195 ∧ (∃ (fs_196 : List Value) (v_197 : Option Nat), h_194 q_1 = some (ga_O 1 fs_196) ∧ fs_196[4]? = some (va_rf v_197) ∧ (∃ a_198 : Nat, r_195 = some a_198 ∧ ∃ (fs_199 : List Value) (v_200 : Int32), h_194 a_198 = some (ga_O 4 fs_199) ∧ fs_199[0]? = some (.int v_200) ∧ (∃ a_201 : Nat, v_197 = some a_201 ∧ ∃ fs_202 : List Value, ga_at K h_194 a_201 (ga_O 13 fs_202) ∧ gw_J2_set K a_201 v_200 r_195 h_194 (fun (r_204 : Option Nat) (h_203 : ga_H) => ga_ok K h_203 "PaperStore$Ream" r_204 ∧ (In_184 h_203 (bc_184 - kc_191) (bs_184 - ks_192) ∧ mu_184 h_203 (bc_184 - kc_191) (bs_184 - ks_192) < mu_184 h_184 bc_184 bs_184)))))))))))))))))))))))))))
set_option maxHeartbeats 4000000 in
theorem gm_X2_copy (l : Launch) (g : ga_G) (p0 : Nat) (h : ga_H) (mc ms : Nat) (post : Option Nat → ga_H → Prop) (hw : gw_X2_copy g.2.2 p0 h mc ms post) : Met l yX2_copy (ws_ yX2_copy cX2_copy 6 (some (.object "PaperStore$Store"))) ({ frames := 16, cells := mc, slots := ms, locals := 1364 } : Room) (va_Pc [.ref p0] (ga_B g h)) (va_Qq post (ga_E g) (ga_A g)) mc ms (ga_A g) := by
  refine ga_met (own := "PaperStore$Store") (nm := "copy") (by decide) rfl rfl (by exact Nat.le_of_ble_eq_true rfl) (fun p e s m below meth c ls hC hI hl => ?_)
  have hl : lv_has ls 6 [(0, .ref p0)] := hl
  generalize ([.ref p0] : List Value).toArray = args at hC ⊢
  obtain ⟨hx, hb, hml, hown, hts, hr, hlk, hnm⟩ := hC
  unfold gw_X2_copy at hw
  obtain ⟨H, eH⟩ : ∃ z, z = s.heap := ⟨_, rfl⟩
  obtain ⟨locs, elo⟩ : ∃ z : List Loc, z = [] := ⟨_, rfl⟩
  rw [← eH, ← elo] at hI ⊢
  obtain ⟨cells, slots, hbc, hbs, e0, e1⟩ : ∃ a b : Nat, a + mc ≤ mc ∧ b + ms ≤ ms ∧ a = 0 ∧ b = 0 := ⟨0, 0, by omega, by omega, rfl, rfl⟩
  show W p l e ({ frames := 16, cells := mc, slots := ms, locals := 1364 } : Room) s m args below meth c H locs 0 0 (MQ below (va_Qq post (ga_E g) (ga_A g)) args s mc ms (ga_A g)) (F0 m 0 ls [])
  suffices hgoal : W p l e ({ frames := 16, cells := mc, slots := ms, locals := 1364 } : Room) s m args below meth c H locs cells slots (MQ below (va_Qq post (ga_E g) (ga_A g)) args s mc ms (ga_A g)) (F0 m 0 ls []) by rw [e0, e1] at hgoal; exact hgoal
  refine ga_new (ci := 1) (T := TX2) hx hb hts hown hI in_X2 rfl tyX2 tyX2_ok q1263 q182 q101 [va_rf none, va_rf none, va_rf none, va_rf none, va_rf none, va_rf none, .int 0, .int 0, .int 0, .int 0] ga_df_X2 hbc hbs hw.1 hw.2.1 dX2_copy_0 (fun q_1 H cells slots hn_q_1 hI hbc hbs => ?_)
  obtain ⟨h_2, eh_2⟩ : ∃ z, z = ga_set h q_1 (ga_O 1 [va_rf none, va_rf none, va_rf none, va_rf none, va_rf none, va_rf none, .int 0, .int 0, .int 0, .int 0]) := ⟨_, rfl⟩
  rw [← eh_2] at hI
  have hw := hw.2.2 q_1 hn_q_1 h_2 eh_2
  refine lv_dup hx hb dX2_copy_3 rfl ?_
  obtain ⟨kc_3, ks_4, hk1, hk2, hw⟩ := hw
  refine ga_callv (va_runI (As := []) (rest := [.ref q_1]) ⟨hx, hb, hml, hown, hts⟩ (gm_X2_init l g q_1 h_2 kc_3 ks_4 _ hw) (cwI 0 hts (lw_meth q185) rfl rfl rfl (hts _ q101) (hts _ q1264) (hts _ q184) rfl hdG_X2_init ⟨Nat.le_of_ble_eq_true rfl, Nat.le_of_ble_eq_true rfl⟩) (ga_preS hI rfl) rfl rfl hl.1 rfl (ga_room (Nat.le_of_ble_eq_true rfl)) dX2_copy_4 ⟨Nat.le_trans (Nat.add_le_add_left hk1 _) hbc, Nat.le_trans (Nat.add_le_add_left hk2 _) hbs⟩) hI hbc hbs hk1 hk2 (fun h_5 H locs cells slots hw hI hbc hbs => ?_)
  refine lv_astore_n (i := 1) (lv' := [(1, .ref q_1), (0, .ref p0)]) hx hb dX2_copy_7 rfl hl (by decide) rfl (fun ls hl => ?_)
  refine lv_aload_n hx hb dX2_copy_8 rfl (lv_at hl 0 rfl) ?_
  obtain ⟨fs_6, v_7, hq, hv, hw⟩ := hw
  refine ga_get (ci := 1) (T := TX2) (v := va_rf v_7) hx hb hts hown hI in_X2 rfl 4 (by decide) q318 (fun _ z => z) (ga_at.h hq) hv dX2_copy_9 ?_
  refine lv_aload_n hx hb dX2_copy_12 rfl (lv_at hl 1 rfl) ?_
  obtain ⟨fs_8, v_9, hq, hv, hw⟩ := hw
  refine ga_get (ci := 1) (T := TX2) (v := va_rf v_9) hx hb hts hown hI in_X2 rfl 4 (by decide) q318 (fun _ z => z) (ga_at.h hq) hv dX2_copy_13 ?_
  obtain ⟨a_10, ea_10, hw⟩ := hw
  rewrite [ea_10]
  obtain ⟨kc_11, ks_12, hk1, hk2, hw⟩ := hw
  obtain ⟨fs_13, hq, hw⟩ := hw
  refine ga_calli (va_runV (As := [va_rf v_9]) (rest := []) ⟨hx, hb, hml, hown, hts⟩ (gm_J2_addAll l g a_10 v_9 h_5 kc_11 ks_12 _ hw) (cwV 1 hts (lw_V q1166 q451 q452 q104 q453) rfl rfl rfl ⟨rfl, hdG_J2_addAll⟩ ⟨Nat.le_of_ble_eq_true rfl, Nat.le_of_ble_eq_true rfl⟩) (ga_preV hI hq rfl rfl) rfl rfl hl.1 rfl (ga_room (Nat.le_of_ble_eq_true rfl)) dX2_copy_16 ⟨Nat.le_trans (Nat.add_le_add_left hk1 _) hbc, Nat.le_trans (Nat.add_le_add_left hk2 _) hbs⟩) hI hbc hbs hk1 hk2 (fun r_15 h_14 H locs cells slots hw hI hbc hbs => ?_)
  refine lv_pop hx hb dX2_copy_19 rfl ?_
  refine lv_iconst (v := 0) hx hb dX2_copy_20 (by decide) ?_
  refine lv_istore_n (i := 2) (lv' := [(2, .int (0 : Int32)), (1, .ref q_1), (0, .ref p0)]) hx hb dX2_copy_21 rfl hl (by decide) rfl (fun ls hl => ?_)
  obtain ⟨In_16, mu_16, h0_16, hw⟩ := hw
  have hL_16 : ∀ (n : Nat) (x2_16 : Int32) (h_16 : ga_H) (bc_16 : Nat) (bs_16 : Nat) (H : Heap) (locs : List Loc) (cells slots : Nat) (ls : Array Slot), mu_16 x2_16 h_16 bc_16 bs_16 < n → In_16 x2_16 h_16 bc_16 bs_16 → ga_I g h_16 s H locs → cells + bc_16 ≤ mc → slots + bs_16 ≤ ms → lv_has ls 6 [(0, .ref p0), (1, va_rf (some q_1)), (2, .int x2_16)] → W p l e ({ frames := 16, cells := mc, slots := ms, locals := 1364 } : Room) s m args below meth c H locs cells slots (MQ below (va_Qq post (ga_E g) (ga_A g)) args s mc ms (ga_A g)) (F0 m 22 ls []) := by
    intro n
    induction n with
    | zero => intro x2_16 h_16 bc_16 bs_16 H locs cells slots ls hn _ _ _ _ _; exact absurd hn (Nat.not_lt_zero _)
    | succ n ih_16 =>
      intro x2_16 h_16 bc_16 bs_16 H locs cells slots ls hn_16 hi_16 hI hbc hbs hl
      have hw := hw x2_16 h_16 bc_16 bs_16 hi_16
      refine lv_iload_n hx hb dX2_copy_22 rfl (lv_at hl 2 rfl) ?_
      refine lv_iconst (v := 5) hx hb dX2_copy_23 (by decide) ?_
      refine lv_icmp_ge (tgt := 105) hx hb dX2_copy_24 (by decide) (fun hc_17 => ?_) (fun hc_17 => ?_)
      · have hw := hw.1 hc_17
        refine lv_aload_n hx hb dX2_copy_105 rfl (lv_at hl 0 rfl) ?_
        obtain ⟨fs_18, v_19, hq, hv, hw⟩ := hw
        refine ga_get (ci := 1) (T := TX2) (v := va_rf v_19) hx hb hts hown hI in_X2 rfl 1 (by decide) q312 (fun _ z => z) (ga_at.h hq) hv dX2_copy_106 ?_
        obtain ⟨a_20, ea_20, hw⟩ := hw
        rewrite [ea_20]
        obtain ⟨kc_21, ks_22, hk1, hk2, hw⟩ := hw
        obtain ⟨fs_23, hq, hw⟩ := hw
        refine ga_callq (va_runV (As := []) (rest := []) ⟨hx, hb, hml, hown, hts⟩ (gm_J2_iterator l g a_20 h_16 kc_21 ks_22 _ hw) (cwV 0 hts (lw_V q1245 q564 q4118 q104 q565) rfl rfl rfl ⟨rfl, hdG_J2_iterator⟩ ⟨Nat.le_of_ble_eq_true rfl, Nat.le_of_ble_eq_true rfl⟩) (ga_preV hI hq rfl rfl) rfl rfl hl.1 rfl (ga_room (Nat.le_of_ble_eq_true rfl)) dX2_copy_109 ⟨Nat.le_trans (Nat.add_le_add_left hk1 _) hbc, Nat.le_trans (Nat.add_le_add_left hk2 _) hbs⟩) hI hbc hbs hk1 hk2 (fun r_25 h_24 H locs cells slots hw hI hbc hbs => ?_)
        refine ga_astore_n (i := 2) (x := r_25) (lv' := [(2, va_rf r_25), (0, .ref p0), (1, va_rf (some q_1))]) hx hb dX2_copy_112 rfl hl (by decide) rfl (fun ls hl => ?_)
        obtain ⟨In_26, mu_26, h0_26, hw⟩ := hw
        have hL_26 : ∀ (n : Nat) (h_26 : ga_H) (bc_26 : Nat) (bs_26 : Nat) (H : Heap) (locs : List Loc) (cells slots : Nat) (ls : Array Slot), mu_26 h_26 bc_26 bs_26 < n → In_26 h_26 bc_26 bs_26 → ga_I g h_26 s H locs → cells + bc_26 ≤ mc → slots + bs_26 ≤ ms → lv_has ls 6 [(0, .ref p0), (1, va_rf (some q_1)), (2, va_rf r_25)] → W p l e ({ frames := 16, cells := mc, slots := ms, locals := 1364 } : Room) s m args below meth c H locs cells slots (MQ below (va_Qq post (ga_E g) (ga_A g)) args s mc ms (ga_A g)) (F0 m 113 ls []) := by
          intro n
          induction n with
          | zero => intro h_26 bc_26 bs_26 H locs cells slots ls hn _ _ _ _ _; exact absurd hn (Nat.not_lt_zero _)
          | succ n ih_26 =>
            intro h_26 bc_26 bs_26 H locs cells slots ls hn_26 hi_26 hI hbc hbs hl
            have hw := hw h_26 bc_26 bs_26 hi_26
            refine ga_aload_n hx hb dX2_copy_113 rfl (lv_at hl 2 rfl) ?_
            obtain ⟨a_27, ea_27, hw⟩ := hw
            rewrite [ea_27]
            obtain ⟨fs_28, hq, hw⟩ := hw
            refine ga_callFi (va_runF (As := []) (rest := []) (hI.2.1.1.1.1 14 _ rfl).2 ⟨hx, hb, hml, hown, hts⟩ (gm_J16_hasNext l g a_27 h_26 _ hw) (va_cwF 0 hts (lw_app (List.forall_mem_cons.mpr ⟨q1247, List.forall_mem_cons.mpr ⟨q696, List.forall_mem_cons.mpr ⟨q698, List.forall_mem_cons.mpr ⟨q122, fun _ h => absurd h List.not_mem_nil⟩⟩⟩⟩) (lw_meth q700)) rfl rfl rfl (hI.2.1.1.2.2 _ _ _ ⟨by decide +kernel, q694, q693, q699, q697, q695⟩) (by decide +kernel) ⟨Nat.le_of_ble_eq_true rfl, Nat.le_of_ble_eq_true rfl⟩) (ga_preV (C := "java/util/ArrayList$Itr") hI hq rfl rfl) rfl rfl hl.1 rfl (ga_room (Nat.le_of_ble_eq_true rfl)) dX2_copy_114 ⟨Nat.le_trans (Nat.add_le_add_left (Nat.zero_le _) _) hbc, Nat.le_trans (Nat.add_le_add_left (Nat.zero_le _) _) hbs⟩) hI hbc hbs (Nat.zero_le _) (Nat.zero_le _) (fun r_30 h_29 H locs cells slots hw hI hbc hbs => ?_)
            refine lv_if_eq (tgt := 158) hx hb dX2_copy_119 (by decide) (fun hc_31 => ?_) (fun hc_31 => ?_)
            · have hw := hw.1 hc_31
              refine lv_aload_n hx hb dX2_copy_158 rfl (lv_at hl 0 rfl) ?_
              obtain ⟨fs_32, v_33, hq, hv, hw⟩ := hw
              refine ga_get (ci := 1) (T := TX2) (v := va_rf v_33) hx hb hts hown hI in_X2 rfl 2 (by decide) q314 (fun _ z => z) (ga_at.h hq) hv dX2_copy_159 ?_
              obtain ⟨a_34, ea_34, hw⟩ := hw
              rewrite [ea_34]
              obtain ⟨kc_35, ks_36, hk1, hk2, hw⟩ := hw
              obtain ⟨fs_37, hq, hw⟩ := hw
              refine ga_callq (va_runV (As := []) (rest := []) ⟨hx, hb, hml, hown, hts⟩ (gm_J2_iterator l g a_34 h_29 kc_35 ks_36 _ hw) (cwV 0 hts (lw_V q1245 q564 q4118 q104 q565) rfl rfl rfl ⟨rfl, hdG_J2_iterator⟩ ⟨Nat.le_of_ble_eq_true rfl, Nat.le_of_ble_eq_true rfl⟩) (ga_preV hI hq rfl rfl) rfl rfl hl.1 rfl (ga_room (Nat.le_of_ble_eq_true rfl)) dX2_copy_162 ⟨Nat.le_trans (Nat.add_le_add_left hk1 _) hbc, Nat.le_trans (Nat.add_le_add_left hk2 _) hbs⟩) hI hbc hbs hk1 hk2 (fun r_39 h_38 H locs cells slots hw hI hbc hbs => ?_)
              refine ga_astore_n (i := 2) (x := r_39) (lv' := [(2, va_rf r_39), (0, .ref p0), (1, va_rf (some q_1))]) hx hb dX2_copy_165 rfl hl (by decide) rfl (fun ls hl => ?_)
              obtain ⟨In_40, mu_40, h0_40, hw⟩ := hw
              have hL_40 : ∀ (n : Nat) (h_40 : ga_H) (bc_40 : Nat) (bs_40 : Nat) (H : Heap) (locs : List Loc) (cells slots : Nat) (ls : Array Slot), mu_40 h_40 bc_40 bs_40 < n → In_40 h_40 bc_40 bs_40 → ga_I g h_40 s H locs → cells + bc_40 ≤ mc → slots + bs_40 ≤ ms → lv_has ls 6 [(0, .ref p0), (1, va_rf (some q_1)), (2, va_rf r_39)] → W p l e ({ frames := 16, cells := mc, slots := ms, locals := 1364 } : Room) s m args below meth c H locs cells slots (MQ below (va_Qq post (ga_E g) (ga_A g)) args s mc ms (ga_A g)) (F0 m 166 ls []) := by
                intro n
                induction n with
                | zero => intro h_40 bc_40 bs_40 H locs cells slots ls hn _ _ _ _ _; exact absurd hn (Nat.not_lt_zero _)
                | succ n ih_40 =>
                  intro h_40 bc_40 bs_40 H locs cells slots ls hn_40 hi_40 hI hbc hbs hl
                  have hw := hw h_40 bc_40 bs_40 hi_40
                  refine ga_aload_n hx hb dX2_copy_166 rfl (lv_at hl 2 rfl) ?_
                  obtain ⟨a_41, ea_41, hw⟩ := hw
                  rewrite [ea_41]
                  obtain ⟨fs_42, hq, hw⟩ := hw
                  refine ga_callFi (va_runF (As := []) (rest := []) (hI.2.1.1.1.1 14 _ rfl).2 ⟨hx, hb, hml, hown, hts⟩ (gm_J16_hasNext l g a_41 h_40 _ hw) (va_cwF 0 hts (lw_app (List.forall_mem_cons.mpr ⟨q1247, List.forall_mem_cons.mpr ⟨q696, List.forall_mem_cons.mpr ⟨q698, List.forall_mem_cons.mpr ⟨q122, fun _ h => absurd h List.not_mem_nil⟩⟩⟩⟩) (lw_meth q700)) rfl rfl rfl (hI.2.1.1.2.2 _ _ _ ⟨by decide +kernel, q694, q693, q699, q697, q695⟩) (by decide +kernel) ⟨Nat.le_of_ble_eq_true rfl, Nat.le_of_ble_eq_true rfl⟩) (ga_preV (C := "java/util/ArrayList$Itr") hI hq rfl rfl) rfl rfl hl.1 rfl (ga_room (Nat.le_of_ble_eq_true rfl)) dX2_copy_167 ⟨Nat.le_trans (Nat.add_le_add_left (Nat.zero_le _) _) hbc, Nat.le_trans (Nat.add_le_add_left (Nat.zero_le _) _) hbs⟩) hI hbc hbs (Nat.zero_le _) (Nat.zero_le _) (fun r_44 h_43 H locs cells slots hw hI hbc hbs => ?_)
                  refine lv_if_eq (tgt := 200) hx hb dX2_copy_172 (by decide) (fun hc_45 => ?_) (fun hc_45 => ?_)
                  · have hw := hw.1 hc_45
                    refine lv_aload_n hx hb dX2_copy_200 rfl (lv_at hl 0 rfl) ?_
                    obtain ⟨fs_46, v_47, hq, hv, hw⟩ := hw
                    refine ga_get (ci := 1) (T := TX2) (v := va_rf v_47) hx hb hts hown hI in_X2 rfl 3 (by decide) q316 (fun _ z => z) (ga_at.h hq) hv dX2_copy_201 ?_
                    obtain ⟨a_48, ea_48, hw⟩ := hw
                    rewrite [ea_48]
                    obtain ⟨kc_49, ks_50, hk1, hk2, hw⟩ := hw
                    obtain ⟨fs_51, hq, hw⟩ := hw
                    refine ga_callq (va_runV (As := []) (rest := []) ⟨hx, hb, hml, hown, hts⟩ (gm_J2_iterator l g a_48 h_43 kc_49 ks_50 _ hw) (cwV 0 hts (lw_V q1245 q564 q4118 q104 q565) rfl rfl rfl ⟨rfl, hdG_J2_iterator⟩ ⟨Nat.le_of_ble_eq_true rfl, Nat.le_of_ble_eq_true rfl⟩) (ga_preV hI hq rfl rfl) rfl rfl hl.1 rfl (ga_room (Nat.le_of_ble_eq_true rfl)) dX2_copy_204 ⟨Nat.le_trans (Nat.add_le_add_left hk1 _) hbc, Nat.le_trans (Nat.add_le_add_left hk2 _) hbs⟩) hI hbc hbs hk1 hk2 (fun r_53 h_52 H locs cells slots hw hI hbc hbs => ?_)
                    refine ga_astore_n (i := 2) (x := r_53) (lv' := [(2, va_rf r_53), (0, .ref p0), (1, va_rf (some q_1))]) hx hb dX2_copy_207 rfl hl (by decide) rfl (fun ls hl => ?_)
                    obtain ⟨In_54, mu_54, h0_54, hw⟩ := hw
                    have hL_54 : ∀ (n : Nat) (h_54 : ga_H) (bc_54 : Nat) (bs_54 : Nat) (H : Heap) (locs : List Loc) (cells slots : Nat) (ls : Array Slot), mu_54 h_54 bc_54 bs_54 < n → In_54 h_54 bc_54 bs_54 → ga_I g h_54 s H locs → cells + bc_54 ≤ mc → slots + bs_54 ≤ ms → lv_has ls 6 [(0, .ref p0), (1, va_rf (some q_1)), (2, va_rf r_53)] → W p l e ({ frames := 16, cells := mc, slots := ms, locals := 1364 } : Room) s m args below meth c H locs cells slots (MQ below (va_Qq post (ga_E g) (ga_A g)) args s mc ms (ga_A g)) (F0 m 208 ls []) := by
                      intro n
                      induction n with
                      | zero => intro h_54 bc_54 bs_54 H locs cells slots ls hn _ _ _ _ _; exact absurd hn (Nat.not_lt_zero _)
                      | succ n ih_54 =>
                        intro h_54 bc_54 bs_54 H locs cells slots ls hn_54 hi_54 hI hbc hbs hl
                        have hw := hw h_54 bc_54 bs_54 hi_54
                        refine ga_aload_n hx hb dX2_copy_208 rfl (lv_at hl 2 rfl) ?_
                        obtain ⟨a_55, ea_55, hw⟩ := hw
                        rewrite [ea_55]
                        obtain ⟨fs_56, hq, hw⟩ := hw
                        refine ga_callFi (va_runF (As := []) (rest := []) (hI.2.1.1.1.1 14 _ rfl).2 ⟨hx, hb, hml, hown, hts⟩ (gm_J16_hasNext l g a_55 h_54 _ hw) (va_cwF 0 hts (lw_app (List.forall_mem_cons.mpr ⟨q1247, List.forall_mem_cons.mpr ⟨q696, List.forall_mem_cons.mpr ⟨q698, List.forall_mem_cons.mpr ⟨q122, fun _ h => absurd h List.not_mem_nil⟩⟩⟩⟩) (lw_meth q700)) rfl rfl rfl (hI.2.1.1.2.2 _ _ _ ⟨by decide +kernel, q694, q693, q699, q697, q695⟩) (by decide +kernel) ⟨Nat.le_of_ble_eq_true rfl, Nat.le_of_ble_eq_true rfl⟩) (ga_preV (C := "java/util/ArrayList$Itr") hI hq rfl rfl) rfl rfl hl.1 rfl (ga_room (Nat.le_of_ble_eq_true rfl)) dX2_copy_209 ⟨Nat.le_trans (Nat.add_le_add_left (Nat.zero_le _) _) hbc, Nat.le_trans (Nat.add_le_add_left (Nat.zero_le _) _) hbs⟩) hI hbc hbs (Nat.zero_le _) (Nat.zero_le _) (fun r_58 h_57 H locs cells slots hw hI hbc hbs => ?_)
                        refine lv_if_eq (tgt := 242) hx hb dX2_copy_214 (by decide) (fun hc_59 => ?_) (fun hc_59 => ?_)
                        · have hw := hw.1 hc_59
                          refine ga_aload_n hx hb dX2_copy_242 rfl (lv_at hl 1 rfl) ?_
                          obtain ⟨fs_60, v_61, hq, hv, hw⟩ := hw
                          refine ga_get (ci := 1) (T := TX2) (v := va_rf v_61) hx hb hts hown hI in_X2 rfl 5 (by decide) q320 (fun _ z => z) (ga_at.h hq) hv dX2_copy_243 ?_
                          refine lv_aload_n hx hb dX2_copy_246 rfl (lv_at hl 0 rfl) ?_
                          obtain ⟨fs_62, v_63, hq, hv, hw⟩ := hw
                          refine ga_get (ci := 1) (T := TX2) (v := va_rf v_63) hx hb hts hown hI in_X2 rfl 5 (by decide) q320 (fun _ z => z) (ga_at.h hq) hv dX2_copy_247 ?_
                          obtain ⟨a_64, ea_64, hw⟩ := hw
                          rewrite [ea_64]
                          obtain ⟨kc_65, ks_66, hk1, hk2, hw⟩ := hw
                          obtain ⟨fs_67, hq, hw⟩ := hw
                          refine ga_callv (va_runV (As := [va_rf v_63]) (rest := []) ⟨hx, hb, hml, hown, hts⟩ (gm_J4_putAll_P l g a_64 v_63 h_57 kc_65 ks_66 _ hw) (cwV 1 hts (lw_V q1420 q1421 q1422 q106 q1423) rfl rfl rfl ⟨rfl, hdG_J4_putAll_P⟩ ⟨Nat.le_of_ble_eq_true rfl, Nat.le_of_ble_eq_true rfl⟩) (ga_preV hI hq rfl rfl) rfl rfl hl.1 rfl (ga_room (Nat.le_of_ble_eq_true rfl)) dX2_copy_250 ⟨Nat.le_trans (Nat.add_le_add_left hk1 _) hbc, Nat.le_trans (Nat.add_le_add_left hk2 _) hbs⟩) hI hbc hbs hk1 hk2 (fun h_68 H locs cells slots hw hI hbc hbs => ?_)
                          refine ga_aload_n hx hb dX2_copy_253 rfl (lv_at hl 1 rfl) ?_
                          refine lv_aload_n hx hb dX2_copy_254 rfl (lv_at hl 0 rfl) ?_
                          obtain ⟨fs_69, v_70, hq, hv, hw⟩ := hw
                          refine ga_get (ci := 1) (T := TX2) (v := .int v_70) hx hb hts hown hI in_X2 rfl 6 (by decide) q322 (fun _ z => z) (ga_at.h hq) hv dX2_copy_255 ?_
                          obtain ⟨fs_71, hq, hk, hw⟩ := hw
                          refine ga_put (ci := 1) (T := TX2) (v := .int v_70) (ty := tyX2 6) hx hb hts hown hI in_X2 rfl tyX2 tyX2_ok nmX2 6 (by decide) q322 (fun _ z => z) rfl (tyX2_ok 6 (by decide)) rfl rfl hq hk dX2_copy_258 (fun H locs hI => ?_)
                          obtain ⟨h_72, eh_72⟩ : ∃ z, z = ga_set h_68 q_1 (ga_O 1 (fs_71.set 6 (.int v_70))) := ⟨_, rfl⟩
                          rw [← eh_72] at hI
                          have hw := hw h_72 eh_72
                          refine ga_aload_n hx hb dX2_copy_261 rfl (lv_at hl 1 rfl) ?_
                          refine lv_aload_n hx hb dX2_copy_262 rfl (lv_at hl 0 rfl) ?_
                          obtain ⟨fs_73, v_74, hq, hv, hw⟩ := hw
                          refine ga_get (ci := 1) (T := TX2) (v := .int v_74) hx hb hts hown hI in_X2 rfl 7 (by decide) q324 (fun _ z => z) (ga_at.h hq) hv dX2_copy_263 ?_
                          obtain ⟨fs_75, hq, hk, hw⟩ := hw
                          refine ga_put (ci := 1) (T := TX2) (v := .int v_74) (ty := tyX2 7) hx hb hts hown hI in_X2 rfl tyX2 tyX2_ok nmX2 7 (by decide) q324 (fun _ z => z) rfl (tyX2_ok 7 (by decide)) rfl rfl hq hk dX2_copy_266 (fun H locs hI => ?_)
                          obtain ⟨h_76, eh_76⟩ : ∃ z, z = ga_set h_72 q_1 (ga_O 1 (fs_75.set 7 (.int v_74))) := ⟨_, rfl⟩
                          rw [← eh_76] at hI
                          have hw := hw h_76 eh_76
                          refine ga_aload_n hx hb dX2_copy_269 rfl (lv_at hl 1 rfl) ?_
                          refine lv_aload_n hx hb dX2_copy_270 rfl (lv_at hl 0 rfl) ?_
                          obtain ⟨fs_77, v_78, hq, hv, hw⟩ := hw
                          refine ga_get (ci := 1) (T := TX2) (v := .int v_78) hx hb hts hown hI in_X2 rfl 8 (by decide) q326 (fun _ z => z) (ga_at.h hq) hv dX2_copy_271 ?_
                          obtain ⟨fs_79, hq, hk, hw⟩ := hw
                          refine ga_put (ci := 1) (T := TX2) (v := .int v_78) (ty := tyX2 8) hx hb hts hown hI in_X2 rfl tyX2 tyX2_ok nmX2 8 (by decide) q326 (fun _ z => z) rfl (tyX2_ok 8 (by decide)) rfl rfl hq hk dX2_copy_274 (fun H locs hI => ?_)
                          obtain ⟨h_80, eh_80⟩ : ∃ z, z = ga_set h_76 q_1 (ga_O 1 (fs_79.set 8 (.int v_78))) := ⟨_, rfl⟩
                          rw [← eh_80] at hI
                          have hw := hw h_80 eh_80
                          refine ga_aload_n hx hb dX2_copy_277 rfl (lv_at hl 1 rfl) ?_
                          refine lv_aload_n hx hb dX2_copy_278 rfl (lv_at hl 0 rfl) ?_
                          obtain ⟨fs_81, v_82, hq, hv, hw⟩ := hw
                          refine ga_get (ci := 1) (T := TX2) (v := .int v_82) hx hb hts hown hI in_X2 rfl 9 (by decide) q328 (fun _ z => z) (ga_at.h hq) hv dX2_copy_279 ?_
                          obtain ⟨fs_83, hq, hk, hw⟩ := hw
                          refine ga_put (ci := 1) (T := TX2) (v := .int v_82) (ty := tyX2 9) hx hb hts hown hI in_X2 rfl tyX2 tyX2_ok nmX2 9 (by decide) q328 (fun _ z => z) rfl (tyX2_ok 9 (by decide)) rfl rfl hq hk dX2_copy_282 (fun H locs hI => ?_)
                          obtain ⟨h_84, eh_84⟩ : ∃ z, z = ga_set h_80 q_1 (ga_O 1 (fs_83.set 9 (.int v_82))) := ⟨_, rfl⟩
                          rw [← eh_84] at hI
                          have hw := hw h_84 eh_84
                          refine ga_aload_n hx hb dX2_copy_285 rfl (lv_at hl 1 rfl) ?_
                          exact ga_qret (v := (some q_1)) hx hb hr (Or.inl ⟨_, rfl⟩) hlk hI hw (Nat.le_trans (Nat.le_add_right _ _) hbc) (Nat.le_trans (Nat.le_add_right _ _) hbs) dX2_copy_286
                        · have hw := hw.2 hc_59
                          refine ga_aload_n hx hb dX2_copy_217 rfl (lv_at hl 2 rfl) ?_
                          obtain ⟨a_85, ea_85, hw⟩ := hw
                          rewrite [ea_85]
                          obtain ⟨kc_86, ks_87, hk1, hk2, hw⟩ := hw
                          obtain ⟨fs_88, hq, hw⟩ := hw
                          refine ga_callFq (va_runF (As := []) (rest := []) (hI.2.1.1.1.1 14 _ rfl).2 ⟨hx, hb, hml, hown, hts⟩ (gm_J16_next l g a_85 h_57 kc_86 ks_87 _ hw) (va_cwF 0 hts (lw_app (List.forall_mem_cons.mpr ⟨q1249, List.forall_mem_cons.mpr ⟨q721, List.forall_mem_cons.mpr ⟨q723, List.forall_mem_cons.mpr ⟨q122, fun _ h => absurd h List.not_mem_nil⟩⟩⟩⟩) (lw_meth q725)) rfl rfl rfl (hI.2.1.1.2.2 _ _ _ ⟨by decide +kernel, q720, q719, q724, q722, q695⟩) (by decide +kernel) ⟨Nat.le_of_ble_eq_true rfl, Nat.le_of_ble_eq_true rfl⟩) (ga_preV (C := "java/util/ArrayList$Itr") hI hq rfl rfl) rfl rfl hl.1 rfl (ga_room (Nat.le_of_ble_eq_true rfl)) dX2_copy_218 ⟨Nat.le_trans (Nat.add_le_add_left hk1 _) hbc, Nat.le_trans (Nat.add_le_add_left hk2 _) hbs⟩) hI hbc hbs hk1 hk2 (fun r_90 h_89 H locs cells slots hw hI hbc hbs => ?_)
                          refine ga_cast (x := r_90) hx hb hts hown hI q1250 hw.1 dX2_copy_223 ?_
                          have hw := hw.2
                          refine ga_astore_n (i := 3) (x := r_90) (lv' := [(3, va_rf r_90), (0, .ref p0), (1, va_rf (some q_1)), (2, va_rf r_53)]) hx hb dX2_copy_226 rfl hl (by decide) (by simp [ga_rcat, ga_cat_r, ga_cat_i, ga_cat_f, ga_cat_l, ga_cat_d]) (fun ls hl => ?_)
                          refine ga_aload_n hx hb dX2_copy_227 rfl (lv_at hl 2 rfl) ?_
                          obtain ⟨fs_91, v_92, hq, hv, hw⟩ := hw
                          refine ga_get (ci := 1) (T := TX2) (v := va_rf v_92) hx hb hts hown hI in_X2 rfl 3 (by decide) q316 (fun _ z => z) (ga_at.h hq) hv dX2_copy_228 ?_
                          refine ga_aload_n hx hb dX2_copy_231 rfl (lv_at hl 0 rfl) ?_
                          obtain ⟨a_93, ea_93, hw⟩ := hw
                          rewrite [ea_93]
                          obtain ⟨kc_94, ks_95, hk1, hk2, hw⟩ := hw
                          obtain ⟨fs_96, hq, hw⟩ := hw
                          refine ga_callq (va_runV (As := []) (rest := [va_rf v_92]) ⟨hx, hb, hml, hown, hts⟩ (gm_X9_copy l g a_93 h_89 kc_94 ks_95 _ hw) (cwV 0 hts (lw_V q1394 q1395 q1396 q140 q1397) rfl rfl rfl ⟨rfl, hdG_X9_copy⟩ ⟨Nat.le_of_ble_eq_true rfl, Nat.le_of_ble_eq_true rfl⟩) (ga_preV hI hq rfl rfl) rfl rfl hl.1 rfl (ga_room (Nat.le_of_ble_eq_true rfl)) dX2_copy_232 ⟨Nat.le_trans (Nat.add_le_add_left hk1 _) hbc, Nat.le_trans (Nat.add_le_add_left hk2 _) hbs⟩) hI hbc hbs hk1 hk2 (fun r_98 h_97 H locs cells slots hw hI hbc hbs => ?_)
                          obtain ⟨a_99, ea_99, hw⟩ := hw
                          rewrite [ea_99]
                          obtain ⟨kc_100, ks_101, hk1, hk2, hw⟩ := hw
                          obtain ⟨fs_102, hq, hw⟩ := hw
                          refine ga_calli (va_runV (As := [va_rf r_98]) (rest := []) ⟨hx, hb, hml, hown, hts⟩ (gm_J2_add l g a_99 r_98 h_97 kc_100 ks_101 _ hw) (cwV 1 hts (lw_V q1356 q1321 q1322 q104 q1323) rfl rfl rfl ⟨rfl, hdG_J2_add⟩ ⟨Nat.le_of_ble_eq_true rfl, Nat.le_of_ble_eq_true rfl⟩) (ga_preV hI hq rfl rfl) rfl rfl hl.1 rfl (ga_room (Nat.le_of_ble_eq_true rfl)) dX2_copy_235 ⟨Nat.le_trans (Nat.add_le_add_left hk1 _) hbc, Nat.le_trans (Nat.add_le_add_left hk2 _) hbs⟩) hI hbc hbs hk1 hk2 (fun r_104 h_103 H locs cells slots hw hI hbc hbs => ?_)
                          refine lv_pop hx hb dX2_copy_238 rfl ?_
                          refine lv_goto (tgt := 208) hx hb dX2_copy_239 (by decide) ?_
                          exact ih_54 _ _ _ H locs cells slots ls (Nat.lt_of_lt_of_le hw.2 (Nat.le_of_lt_succ hn_54)) hw.1 hI hbc hbs (lv_sub hl [1, 2, 3] rfl)
                    exact hL_54 _ _ _ _ H locs cells slots ls (Nat.lt_succ_self _) h0_54 hI hbc hbs (lv_sub hl [1, 2, 0] rfl)
                  · have hw := hw.2 hc_45
                    refine ga_aload_n hx hb dX2_copy_175 rfl (lv_at hl 2 rfl) ?_
                    obtain ⟨a_105, ea_105, hw⟩ := hw
                    rewrite [ea_105]
                    obtain ⟨kc_106, ks_107, hk1, hk2, hw⟩ := hw
                    obtain ⟨fs_108, hq, hw⟩ := hw
                    refine ga_callFq (va_runF (As := []) (rest := []) (hI.2.1.1.1.1 14 _ rfl).2 ⟨hx, hb, hml, hown, hts⟩ (gm_J16_next l g a_105 h_43 kc_106 ks_107 _ hw) (va_cwF 0 hts (lw_app (List.forall_mem_cons.mpr ⟨q1249, List.forall_mem_cons.mpr ⟨q721, List.forall_mem_cons.mpr ⟨q723, List.forall_mem_cons.mpr ⟨q122, fun _ h => absurd h List.not_mem_nil⟩⟩⟩⟩) (lw_meth q725)) rfl rfl rfl (hI.2.1.1.2.2 _ _ _ ⟨by decide +kernel, q720, q719, q724, q722, q695⟩) (by decide +kernel) ⟨Nat.le_of_ble_eq_true rfl, Nat.le_of_ble_eq_true rfl⟩) (ga_preV (C := "java/util/ArrayList$Itr") hI hq rfl rfl) rfl rfl hl.1 rfl (ga_room (Nat.le_of_ble_eq_true rfl)) dX2_copy_176 ⟨Nat.le_trans (Nat.add_le_add_left hk1 _) hbc, Nat.le_trans (Nat.add_le_add_left hk2 _) hbs⟩) hI hbc hbs hk1 hk2 (fun r_110 h_109 H locs cells slots hw hI hbc hbs => ?_)
                    refine ga_cast (x := r_110) hx hb hts hown hI q1357 hw.1 dX2_copy_181 ?_
                    have hw := hw.2
                    refine ga_astore_n (i := 3) (x := r_110) (lv' := [(3, va_rf r_110), (0, .ref p0), (1, va_rf (some q_1)), (2, va_rf r_39)]) hx hb dX2_copy_184 rfl hl (by decide) (by simp [ga_rcat, ga_cat_r, ga_cat_i, ga_cat_f, ga_cat_l, ga_cat_d]) (fun ls hl => ?_)
                    refine ga_aload_n hx hb dX2_copy_185 rfl (lv_at hl 2 rfl) ?_
                    obtain ⟨fs_111, v_112, hq, hv, hw⟩ := hw
                    refine ga_get (ci := 1) (T := TX2) (v := va_rf v_112) hx hb hts hown hI in_X2 rfl 2 (by decide) q314 (fun _ z => z) (ga_at.h hq) hv dX2_copy_186 ?_
                    refine ga_aload_n hx hb dX2_copy_189 rfl (lv_at hl 0 rfl) ?_
                    obtain ⟨a_113, ea_113, hw⟩ := hw
                    rewrite [ea_113]
                    obtain ⟨kc_114, ks_115, hk1, hk2, hw⟩ := hw
                    obtain ⟨fs_116, hq, hw⟩ := hw
                    refine ga_callq (va_runV (As := []) (rest := [va_rf v_112]) ⟨hx, hb, hml, hown, hts⟩ (gm_X8_copy l g a_113 h_109 kc_114 ks_115 _ hw) (cwV 0 hts (lw_V q1358 q1359 q1360 q139 q1361) rfl rfl rfl ⟨rfl, hdG_X8_copy⟩ ⟨Nat.le_of_ble_eq_true rfl, Nat.le_of_ble_eq_true rfl⟩) (ga_preV hI hq rfl rfl) rfl rfl hl.1 rfl (ga_room (Nat.le_of_ble_eq_true rfl)) dX2_copy_190 ⟨Nat.le_trans (Nat.add_le_add_left hk1 _) hbc, Nat.le_trans (Nat.add_le_add_left hk2 _) hbs⟩) hI hbc hbs hk1 hk2 (fun r_118 h_117 H locs cells slots hw hI hbc hbs => ?_)
                    obtain ⟨a_119, ea_119, hw⟩ := hw
                    rewrite [ea_119]
                    obtain ⟨kc_120, ks_121, hk1, hk2, hw⟩ := hw
                    obtain ⟨fs_122, hq, hw⟩ := hw
                    refine ga_calli (va_runV (As := [va_rf r_118]) (rest := []) ⟨hx, hb, hml, hown, hts⟩ (gm_J2_add l g a_119 r_118 h_117 kc_120 ks_121 _ hw) (cwV 1 hts (lw_V q1356 q1321 q1322 q104 q1323) rfl rfl rfl ⟨rfl, hdG_J2_add⟩ ⟨Nat.le_of_ble_eq_true rfl, Nat.le_of_ble_eq_true rfl⟩) (ga_preV hI hq rfl rfl) rfl rfl hl.1 rfl (ga_room (Nat.le_of_ble_eq_true rfl)) dX2_copy_193 ⟨Nat.le_trans (Nat.add_le_add_left hk1 _) hbc, Nat.le_trans (Nat.add_le_add_left hk2 _) hbs⟩) hI hbc hbs hk1 hk2 (fun r_124 h_123 H locs cells slots hw hI hbc hbs => ?_)
                    refine lv_pop hx hb dX2_copy_196 rfl ?_
                    refine lv_goto (tgt := 166) hx hb dX2_copy_197 (by decide) ?_
                    exact ih_40 _ _ _ H locs cells slots ls (Nat.lt_of_lt_of_le hw.2 (Nat.le_of_lt_succ hn_40)) hw.1 hI hbc hbs (lv_sub hl [1, 2, 3] rfl)
              exact hL_40 _ _ _ _ H locs cells slots ls (Nat.lt_succ_self _) h0_40 hI hbc hbs (lv_sub hl [1, 2, 0] rfl)
            · have hw := hw.2 hc_31
              refine ga_aload_n hx hb dX2_copy_122 rfl (lv_at hl 2 rfl) ?_
              obtain ⟨a_125, ea_125, hw⟩ := hw
              rewrite [ea_125]
              obtain ⟨kc_126, ks_127, hk1, hk2, hw⟩ := hw
              obtain ⟨fs_128, hq, hw⟩ := hw
              refine ga_callFq (va_runF (As := []) (rest := []) (hI.2.1.1.1.1 14 _ rfl).2 ⟨hx, hb, hml, hown, hts⟩ (gm_J16_next l g a_125 h_29 kc_126 ks_127 _ hw) (va_cwF 0 hts (lw_app (List.forall_mem_cons.mpr ⟨q1249, List.forall_mem_cons.mpr ⟨q721, List.forall_mem_cons.mpr ⟨q723, List.forall_mem_cons.mpr ⟨q122, fun _ h => absurd h List.not_mem_nil⟩⟩⟩⟩) (lw_meth q725)) rfl rfl rfl (hI.2.1.1.2.2 _ _ _ ⟨by decide +kernel, q720, q719, q724, q722, q695⟩) (by decide +kernel) ⟨Nat.le_of_ble_eq_true rfl, Nat.le_of_ble_eq_true rfl⟩) (ga_preV (C := "java/util/ArrayList$Itr") hI hq rfl rfl) rfl rfl hl.1 rfl (ga_room (Nat.le_of_ble_eq_true rfl)) dX2_copy_123 ⟨Nat.le_trans (Nat.add_le_add_left hk1 _) hbc, Nat.le_trans (Nat.add_le_add_left hk2 _) hbs⟩) hI hbc hbs hk1 hk2 (fun r_130 h_129 H locs cells slots hw hI hbc hbs => ?_)
              refine ga_cast (x := r_130) hx hb hts hown hI q1339 hw.1 dX2_copy_128 ?_
              have hw := hw.2
              refine ga_astore_n (i := 3) (x := r_130) (lv' := [(3, va_rf r_130), (0, .ref p0), (1, va_rf (some q_1)), (2, va_rf r_25)]) hx hb dX2_copy_131 rfl hl (by decide) (by simp [ga_rcat, ga_cat_r, ga_cat_i, ga_cat_f, ga_cat_l, ga_cat_d]) (fun ls hl => ?_)
              refine ga_aload_n hx hb dX2_copy_132 rfl (lv_at hl 2 rfl) ?_
              obtain ⟨fs_131, v_132, hq, hv, hw⟩ := hw
              refine ga_get (ci := 1) (T := TX2) (v := va_rf v_132) hx hb hts hown hI in_X2 rfl 1 (by decide) q312 (fun _ z => z) (ga_at.h hq) hv dX2_copy_133 ?_
              refine ga_new (ci := 5) (T := TX7) hx hb hts hown hI in_X7 rfl tyX7 tyX7_ok q1339 q1340 q138 [.int 0, .int 0] ga_df_X7 hbc hbs hw.1 hw.2.1 dX2_copy_136 (fun q_133 H cells slots hn_q_133 hI hbc hbs => ?_)
              obtain ⟨h_134, eh_134⟩ : ∃ z, z = ga_set h_129 q_133 (ga_O 5 [.int 0, .int 0]) := ⟨_, rfl⟩
              rw [← eh_134] at hI
              have hw := hw.2.2 q_133 hn_q_133 h_134 eh_134
              refine lv_dup hx hb dX2_copy_139 rfl ?_
              refine ga_aload_n hx hb dX2_copy_140 rfl (lv_at hl 0 rfl) ?_
              obtain ⟨a_135, ea_135, hw⟩ := hw
              rewrite [ea_135]
              obtain ⟨fs_136, v_137, hq, hv, hw⟩ := hw
              refine ga_getN (ci := 5) (T := TX7) (v := .int v_137) hx hb hts hown hI in_X7 rfl 0 (by decide) q1346 (fun _ z => z) (ga_at.h hq) hv dX2_copy_141 ?_
              refine ga_aload_n hx hb dX2_copy_144 rfl (lv_at hl 0 rfl) ?_
              obtain ⟨a_138, ea_138, hw⟩ := hw
              rewrite [ea_138]
              obtain ⟨fs_139, v_140, hq, hv, hw⟩ := hw
              refine ga_getN (ci := 5) (T := TX7) (v := .int v_140) hx hb hts hown hI in_X7 rfl 1 (by decide) q1349 (fun _ z => z) (ga_at.h hq) hv dX2_copy_145 ?_
              refine ga_callv (va_runI (As := [.int v_137, .int v_140]) (rest := [.ref q_133, va_rf v_132]) ⟨hx, hb, hml, hown, hts⟩ (gm_X7_init l g q_133 v_137 v_140 h_134 _ hw) (cwI 2 hts (lw_meth q1343) rfl rfl rfl (hts _ q138) (hts _ q1341) (hts _ q1342) rfl hdG_X7_init ⟨Nat.le_of_ble_eq_true rfl, Nat.le_of_ble_eq_true rfl⟩) (ga_preS hI rfl) rfl rfl hl.1 rfl (ga_room (Nat.le_of_ble_eq_true rfl)) dX2_copy_148 ⟨Nat.le_trans (Nat.add_le_add_left (Nat.zero_le _) _) hbc, Nat.le_trans (Nat.add_le_add_left (Nat.zero_le _) _) hbs⟩) hI hbc hbs (Nat.zero_le _) (Nat.zero_le _) (fun h_141 H locs cells slots hw hI hbc hbs => ?_)
              obtain ⟨a_142, ea_142, hw⟩ := hw
              rewrite [ea_142]
              obtain ⟨kc_143, ks_144, hk1, hk2, hw⟩ := hw
              obtain ⟨fs_145, hq, hw⟩ := hw
              refine ga_calli (va_runV (As := [va_rf (some q_133)]) (rest := []) ⟨hx, hb, hml, hown, hts⟩ (gm_J2_add l g a_142 (some q_133) h_141 kc_143 ks_144 _ hw) (cwV 1 hts (lw_V q1356 q1321 q1322 q104 q1323) rfl rfl rfl ⟨rfl, hdG_J2_add⟩ ⟨Nat.le_of_ble_eq_true rfl, Nat.le_of_ble_eq_true rfl⟩) (ga_preV hI hq rfl rfl) rfl rfl hl.1 rfl (ga_room (Nat.le_of_ble_eq_true rfl)) dX2_copy_151 ⟨Nat.le_trans (Nat.add_le_add_left hk1 _) hbc, Nat.le_trans (Nat.add_le_add_left hk2 _) hbs⟩) hI hbc hbs hk1 hk2 (fun r_147 h_146 H locs cells slots hw hI hbc hbs => ?_)
              refine lv_pop hx hb dX2_copy_154 rfl ?_
              refine lv_goto (tgt := 113) hx hb dX2_copy_155 (by decide) ?_
              exact ih_26 _ _ _ H locs cells slots ls (Nat.lt_of_lt_of_le hw.2 (Nat.le_of_lt_succ hn_26)) hw.1 hI hbc hbs (lv_sub hl [1, 2, 3] rfl)
        exact hL_26 _ _ _ _ H locs cells slots ls (Nat.lt_succ_self _) h0_26 hI hbc hbs (lv_sub hl [1, 2, 0] rfl)
      · have hw := hw.2 hc_17
        refine ga_aload_n hx hb dX2_copy_27 rfl (lv_at hl 1 rfl) ?_
        obtain ⟨fs_148, v_149, hq, hv, hw⟩ := hw
        refine ga_get (ci := 1) (T := TX2) (v := va_rf v_149) hx hb hts hown hI in_X2 rfl 0 (by decide) q310 (fun _ z => z) (ga_at.h hq) hv dX2_copy_28 ?_
        refine lv_iload_n hx hb dX2_copy_31 rfl (lv_at hl 2 rfl) ?_
        refine lv_aload_n hx hb dX2_copy_32 rfl (lv_at hl 0 rfl) ?_
        obtain ⟨fs_150, v_151, hq, hv, hw⟩ := hw
        refine ga_get (ci := 1) (T := TX2) (v := va_rf v_151) hx hb hts hown hI in_X2 rfl 0 (by decide) q310 (fun _ z => z) (ga_at.h hq) hv dX2_copy_33 ?_
        refine lv_iload_n hx hb dX2_copy_36 rfl (lv_at hl 2 rfl) ?_
        obtain ⟨a_152, ea_152, hw⟩ := hw
        rewrite [ea_152]
        obtain ⟨n_153, f_154, hq, hi, hw⟩ := hw
        refine ga_ldq hx hb hI (ga_at.h hq) rfl hi dX2_copy_37 ?_
        obtain ⟨v_155, ev_155⟩ : ∃ z, z = f_154 x2_16.toNatClampNeg := ⟨_, rfl⟩
        rw [← ev_155]
        have hw := hw v_155 ev_155
        obtain ⟨a_156, ea_156, hw⟩ := hw
        rewrite [ea_156]
        obtain ⟨kc_157, ks_158, hk1, hk2, hw⟩ := hw
        obtain ⟨fs_159, hq, hw⟩ := hw
        refine ga_callq (va_runV (As := []) (rest := [.int x2_16, va_rf v_149]) ⟨hx, hb, hml, hown, hts⟩ (gm_X3_copy l g a_156 h_16 kc_157 ks_158 _ hw) (cwV 0 hts (lw_V q1265 q1266 q1267 q107 q1268) rfl rfl rfl ⟨rfl, hdG_X3_copy⟩ ⟨Nat.le_of_ble_eq_true rfl, Nat.le_of_ble_eq_true rfl⟩) (ga_preV hI hq rfl rfl) rfl rfl hl.1 rfl (ga_room (Nat.le_of_ble_eq_true rfl)) dX2_copy_38 ⟨Nat.le_trans (Nat.add_le_add_left hk1 _) hbc, Nat.le_trans (Nat.add_le_add_left hk2 _) hbs⟩) hI hbc hbs hk1 hk2 (fun r_161 h_160 H locs cells slots hw hI hbc hbs => ?_)
        obtain ⟨a_162, ea_162, hw⟩ := hw
        rewrite [ea_162]
        obtain ⟨n_163, f_164, hq, hi, hok, hw⟩ := hw
        refine ga_sto (x := r_161) hx hb hI hq rfl hok hi dX2_copy_41 (fun H locs hI => ?_)
        obtain ⟨h_165, eh_165⟩ : ∃ z, z = ga_set h_160 a_162 (ga_Aq 6 n_163 (va_up f_164 x2_16.toNatClampNeg r_161)) := ⟨_, rfl⟩
        rw [← eh_165] at hI
        have hw := hw h_165 eh_165
        refine ga_aload_n hx hb dX2_copy_42 rfl (lv_at hl 1 rfl) ?_
        obtain ⟨fs_166, v_167, hq, hv, hw⟩ := hw
        refine ga_get (ci := 1) (T := TX2) (v := va_rf v_167) hx hb hts hown hI in_X2 rfl 0 (by decide) q310 (fun _ z => z) (ga_at.h hq) hv dX2_copy_43 ?_
        refine lv_iload_n hx hb dX2_copy_46 rfl (lv_at hl 2 rfl) ?_
        obtain ⟨a_168, ea_168, hw⟩ := hw
        rewrite [ea_168]
        obtain ⟨n_169, f_170, hq, hi, hw⟩ := hw
        refine ga_ldq hx hb hI (ga_at.h hq) rfl hi dX2_copy_47 ?_
        obtain ⟨v_171, ev_171⟩ : ∃ z, z = f_170 x2_16.toNatClampNeg := ⟨_, rfl⟩
        rw [← ev_171]
        have hw := hw v_171 ev_171
        obtain ⟨a_172, ea_172, hw⟩ := hw
        rewrite [ea_172]
        obtain ⟨kc_173, ks_174, hk1, hk2, hw⟩ := hw
        obtain ⟨fs_175, hq, hw⟩ := hw
        refine ga_callq (va_runV (As := []) (rest := []) ⟨hx, hb, hml, hown, hts⟩ (gm_X3_reams l g a_172 h_165 kc_173 ks_174 _ hw) (cwV 0 hts (lw_V q444 q445 q446 q107 q447) rfl rfl rfl ⟨rfl, hdG_X3_reams⟩ ⟨Nat.le_of_ble_eq_true rfl, Nat.le_of_ble_eq_true rfl⟩) (ga_preV hI hq rfl rfl) rfl rfl hl.1 rfl (ga_room (Nat.le_of_ble_eq_true rfl)) dX2_copy_48 ⟨Nat.le_trans (Nat.add_le_add_left hk1 _) hbc, Nat.le_trans (Nat.add_le_add_left hk2 _) hbs⟩) hI hbc hbs hk1 hk2 (fun r_177 h_176 H locs cells slots hw hI hbc hbs => ?_)
        obtain ⟨a_178, ea_178, hw⟩ := hw
        rewrite [ea_178]
        obtain ⟨kc_179, ks_180, hk1, hk2, hw⟩ := hw
        obtain ⟨fs_181, hq, hw⟩ := hw
        refine ga_callFq (va_runF (As := []) (rest := []) (hI.2.1.1.1.1 13 _ rfl).2 ⟨hx, hb, hml, hown, hts⟩ (gm_J2_iterator l g a_178 h_176 kc_179 ks_180 _ hw) (va_cwF 0 hts (lw_app (List.forall_mem_cons.mpr ⟨q1333, List.forall_mem_cons.mpr ⟨q1171, List.forall_mem_cons.mpr ⟨q564, List.forall_mem_cons.mpr ⟨q104, fun _ h => absurd h List.not_mem_nil⟩⟩⟩⟩) (lw_meth q565)) rfl rfl rfl (hI.2.1.1.2.2 _ _ _ ⟨by decide +kernel, q1170, q1169, q1173, q1172, q836⟩) (by decide +kernel) ⟨Nat.le_of_ble_eq_true rfl, Nat.le_of_ble_eq_true rfl⟩) (ga_preV (C := "java/util/ArrayList") hI hq rfl rfl) rfl rfl hl.1 rfl (ga_room (Nat.le_of_ble_eq_true rfl)) dX2_copy_51 ⟨Nat.le_trans (Nat.add_le_add_left hk1 _) hbc, Nat.le_trans (Nat.add_le_add_left hk2 _) hbs⟩) hI hbc hbs hk1 hk2 (fun r_183 h_182 H locs cells slots hw hI hbc hbs => ?_)
        refine ga_astore_n (i := 3) (x := r_183) (lv' := [(3, va_rf r_183), (0, .ref p0), (1, va_rf (some q_1)), (2, .int x2_16)]) hx hb dX2_copy_56 rfl hl (by decide) rfl (fun ls hl => ?_)
        obtain ⟨In_184, mu_184, h0_184, hw⟩ := hw
        have hL_184 : ∀ (n : Nat) (h_184 : ga_H) (bc_184 : Nat) (bs_184 : Nat) (H : Heap) (locs : List Loc) (cells slots : Nat) (ls : Array Slot), mu_184 h_184 bc_184 bs_184 < n → In_184 h_184 bc_184 bs_184 → ga_I g h_184 s H locs → cells + bc_184 ≤ mc → slots + bs_184 ≤ ms → lv_has ls 6 [(0, .ref p0), (1, va_rf (some q_1)), (2, .int x2_16), (3, va_rf r_183)] → W p l e ({ frames := 16, cells := mc, slots := ms, locals := 1364 } : Room) s m args below meth c H locs cells slots (MQ below (va_Qq post (ga_E g) (ga_A g)) args s mc ms (ga_A g)) (F0 m 57 ls []) := by
          intro n
          induction n with
          | zero => intro h_184 bc_184 bs_184 H locs cells slots ls hn _ _ _ _ _; exact absurd hn (Nat.not_lt_zero _)
          | succ n ih_184 =>
            intro h_184 bc_184 bs_184 H locs cells slots ls hn_184 hi_184 hI hbc hbs hl
            have hw := hw h_184 bc_184 bs_184 hi_184
            refine ga_aload_n hx hb dX2_copy_57 rfl (lv_at hl 3 rfl) ?_
            obtain ⟨a_185, ea_185, hw⟩ := hw
            rewrite [ea_185]
            obtain ⟨fs_186, hq, hw⟩ := hw
            refine ga_callFi (va_runF (As := []) (rest := []) (hI.2.1.1.1.1 14 _ rfl).2 ⟨hx, hb, hml, hown, hts⟩ (gm_J16_hasNext l g a_185 h_184 _ hw) (va_cwF 0 hts (lw_app (List.forall_mem_cons.mpr ⟨q1247, List.forall_mem_cons.mpr ⟨q696, List.forall_mem_cons.mpr ⟨q698, List.forall_mem_cons.mpr ⟨q122, fun _ h => absurd h List.not_mem_nil⟩⟩⟩⟩) (lw_meth q700)) rfl rfl rfl (hI.2.1.1.2.2 _ _ _ ⟨by decide +kernel, q694, q693, q699, q697, q695⟩) (by decide +kernel) ⟨Nat.le_of_ble_eq_true rfl, Nat.le_of_ble_eq_true rfl⟩) (ga_preV (C := "java/util/ArrayList$Itr") hI hq rfl rfl) rfl rfl hl.1 rfl (ga_room (Nat.le_of_ble_eq_true rfl)) dX2_copy_58 ⟨Nat.le_trans (Nat.add_le_add_left (Nat.zero_le _) _) hbc, Nat.le_trans (Nat.add_le_add_left (Nat.zero_le _) _) hbs⟩) hI hbc hbs (Nat.zero_le _) (Nat.zero_le _) (fun r_188 h_187 H locs cells slots hw hI hbc hbs => ?_)
            refine lv_if_eq (tgt := 99) hx hb dX2_copy_63 (by decide) (fun hc_189 => ?_) (fun hc_189 => ?_)
            · have hw := hw.1 hc_189
              refine lv_iinc (v := x2_16 + (1 : Int32)) (lv' := [(2, .int (x2_16 + (1 : Int32))), (0, .ref p0), (1, va_rf (some q_1)), (3, va_rf r_183)]) hx hb dX2_copy_99 hl (k := 2) rfl rfl (by decide) rfl (fun ls hl => ?_)
              refine lv_goto (tgt := 22) hx hb dX2_copy_102 (by decide) ?_
              exact ih_16 _ _ _ _ H locs cells slots ls (Nat.lt_of_lt_of_le hw.2 (Nat.le_of_lt_succ hn_16)) hw.1 hI hbc hbs (lv_sub hl [1, 2, 0] rfl)
            · have hw := hw.2 hc_189
              refine ga_aload_n hx hb dX2_copy_66 rfl (lv_at hl 3 rfl) ?_
              obtain ⟨a_190, ea_190, hw⟩ := hw
              rewrite [ea_190]
              obtain ⟨kc_191, ks_192, hk1, hk2, hw⟩ := hw
              obtain ⟨fs_193, hq, hw⟩ := hw
              refine ga_callFq (va_runF (As := []) (rest := []) (hI.2.1.1.1.1 14 _ rfl).2 ⟨hx, hb, hml, hown, hts⟩ (gm_J16_next l g a_190 h_187 kc_191 ks_192 _ hw) (va_cwF 0 hts (lw_app (List.forall_mem_cons.mpr ⟨q1249, List.forall_mem_cons.mpr ⟨q721, List.forall_mem_cons.mpr ⟨q723, List.forall_mem_cons.mpr ⟨q122, fun _ h => absurd h List.not_mem_nil⟩⟩⟩⟩) (lw_meth q725)) rfl rfl rfl (hI.2.1.1.2.2 _ _ _ ⟨by decide +kernel, q720, q719, q724, q722, q695⟩) (by decide +kernel) ⟨Nat.le_of_ble_eq_true rfl, Nat.le_of_ble_eq_true rfl⟩) (ga_preV (C := "java/util/ArrayList$Itr") hI hq rfl rfl) rfl rfl hl.1 rfl (ga_room (Nat.le_of_ble_eq_true rfl)) dX2_copy_67 ⟨Nat.le_trans (Nat.add_le_add_left hk1 _) hbc, Nat.le_trans (Nat.add_le_add_left hk2 _) hbs⟩) hI hbc hbs hk1 hk2 (fun r_195 h_194 H locs cells slots hw hI hbc hbs => ?_)
              refine ga_cast (x := r_195) hx hb hts hown hI q1334 hw.1 dX2_copy_72 ?_
              have hw := hw.2
              refine ga_astore (x := r_195) (lv' := [(4, va_rf r_195), (0, .ref p0), (1, va_rf (some q_1)), (2, .int x2_16), (3, va_rf r_183)]) hx hb dX2_copy_75 hl (by decide) (by simp [ga_rcat, ga_cat_r, ga_cat_i, ga_cat_f, ga_cat_l, ga_cat_d]) (fun ls hl => ?_)
              refine ga_aload_n hx hb dX2_copy_77 rfl (lv_at hl 2 rfl) ?_
              obtain ⟨fs_196, v_197, hq, hv, hw⟩ := hw
              refine ga_get (ci := 1) (T := TX2) (v := va_rf v_197) hx hb hts hown hI in_X2 rfl 4 (by decide) q318 (fun _ z => z) (ga_at.h hq) hv dX2_copy_78 ?_
              refine ga_aload hx hb dX2_copy_81 (lv_at hl 0 rfl) ?_
              obtain ⟨a_198, ea_198, hw⟩ := hw
              rewrite [ea_198]
              obtain ⟨fs_199, v_200, hq, hv, hw⟩ := hw
              refine ga_getN (ci := 4) (T := TX6) (v := .int v_200) hx hb hts hown hI in_X6 rfl 0 (by decide) q1294 (fun _ z => z) (ga_at.h hq) hv dX2_copy_83 ?_
              refine ga_aload hx hb dX2_copy_86 (lv_at hl 0 rfl) ?_
              obtain ⟨a_201, ea_201, hw⟩ := hw
              rewrite [ea_201]
              obtain ⟨fs_202, hq, hw⟩ := hw
              refine ga_callq (va_runV (As := [.int v_200, va_rf r_195]) (rest := []) ⟨hx, hb, hml, hown, hts⟩ (gm_J2_set l g a_201 v_200 r_195 h_194 _ hw) (cwV 2 hts (lw_V q1335 q1336 q1337 q104 q1338) rfl rfl rfl ⟨rfl, hdG_J2_set⟩ ⟨Nat.le_of_ble_eq_true rfl, Nat.le_of_ble_eq_true rfl⟩) (ga_preV hI hq rfl rfl) rfl rfl hl.1 rfl (ga_room (Nat.le_of_ble_eq_true rfl)) dX2_copy_88 ⟨Nat.le_trans (Nat.add_le_add_left (Nat.zero_le _) _) hbc, Nat.le_trans (Nat.add_le_add_left (Nat.zero_le _) _) hbs⟩) hI hbc hbs (Nat.zero_le _) (Nat.zero_le _) (fun r_204 h_203 H locs cells slots hw hI hbc hbs => ?_)
              refine ga_cast (x := r_204) hx hb hts hown hI q1334 hw.1 dX2_copy_91 ?_
              have hw := hw.2
              refine ga_astore (x := r_204) (lv' := [(5, va_rf r_204), (4, va_rf r_195), (0, .ref p0), (1, va_rf (some q_1)), (2, .int x2_16), (3, va_rf r_183)]) hx hb dX2_copy_94 hl (by decide) (by simp [ga_rcat, ga_cat_r, ga_cat_i, ga_cat_f, ga_cat_l, ga_cat_d]) (fun ls hl => ?_)
              refine lv_goto (tgt := 57) hx hb dX2_copy_96 (by decide) ?_
              exact ih_184 _ _ _ H locs cells slots ls (Nat.lt_of_lt_of_le hw.2 (Nat.le_of_lt_succ hn_184)) hw.1 hI hbc hbs (lv_sub hl [2, 3, 4, 5] rfl)
        exact hL_184 _ _ _ _ H locs cells slots ls (Nat.lt_succ_self _) h0_184 hI hbc hbs (lv_sub hl [1, 2, 3, 0] rfl)
  exact hL_16 _ _ _ _ _ H locs cells slots ls (Nat.lt_succ_self _) h0_16 hI hbc hbs (lv_sub hl [2, 1, 0] rfl)
theorem hdG_X2_copy : yX2_copy.cls ≠ "java/lang/invoke/MethodHandle" ∧ yX2_copy.cls ≠ "java/lang/invoke/VarHandle" ∧ (parseMethodDescriptor yX2_copy.desc).map (fun d => d.parameters.length) = some 0 := by decide +kernel
def gw_J2_size (K : ga_K) (p0 : Nat) (h : ga_H) (post : Int32 → ga_H → Prop) : Prop :=
  ∃ (fs_1 : List Value) (v_2 : Int32), h p0 = some (ga_O 13 fs_1) ∧ fs_1[2]? = some (.int v_2) ∧ (post v_2 h)
set_option maxHeartbeats 4000000 in
theorem gm_J2_size (l : Launch) (g : ga_G) (p0 : Nat) (h : ga_H) (post : Int32 → ga_H → Prop) (hw : gw_J2_size g.2.2 p0 h post) : Met l yJ2_size (ws_ yJ2_size cJ2_size 1 (some .int)) ({ frames := 8, cells := 0, slots := 0, locals := 140 } : Room) (va_Pc [.ref p0] (ga_B g h)) (va_Qi post (ga_E g) (ga_A g)) 0 0 (ga_A g) := by
  refine ga_met (own := "java/util/ArrayList") (nm := "size") (by decide) rfl rfl (by exact Nat.le_of_ble_eq_true rfl) (fun p e s m below meth c ls hC hI hl => ?_)
  have hl : lv_has ls 1 [(0, .ref p0)] := hl
  generalize ([.ref p0] : List Value).toArray = args at hC ⊢
  obtain ⟨hx, hb, hml, hown, hts, hr, hlk, hnm⟩ := hC
  unfold gw_J2_size at hw
  obtain ⟨H, eH⟩ : ∃ z, z = s.heap := ⟨_, rfl⟩
  obtain ⟨locs, elo⟩ : ∃ z : List Loc, z = [] := ⟨_, rfl⟩
  rw [← eH, ← elo] at hI ⊢
  obtain ⟨cells, slots, hbc, hbs, e0, e1⟩ : ∃ a b : Nat, a ≤ 0 ∧ b ≤ 0 ∧ a = 0 ∧ b = 0 := ⟨0, 0, by omega, by omega, rfl, rfl⟩
  show W p l e ({ frames := 8, cells := 0, slots := 0, locals := 140 } : Room) s m args below meth c H locs 0 0 (MQ below (va_Qi post (ga_E g) (ga_A g)) args s 0 0 (ga_A g)) (F0 m 0 ls [])
  suffices hgoal : W p l e ({ frames := 8, cells := 0, slots := 0, locals := 140 } : Room) s m args below meth c H locs cells slots (MQ below (va_Qi post (ga_E g) (ga_A g)) args s 0 0 (ga_A g)) (F0 m 0 ls []) by rw [e0, e1] at hgoal; exact hgoal
  refine lv_aload_n hx hb dJ2_size_0 rfl (lv_at hl 0 rfl) ?_
  obtain ⟨fs_1, v_2, hq, hv, hw⟩ := hw
  refine ga_get (ci := 13) (T := TJ2) (v := .int v_2) hx hb hts hown hI in_J2 rfl 2 (by decide) q206 (fun _ z => z) (ga_at.h hq) hv dJ2_size_1 ?_
  exact ga_iret hx hb hr rfl hlk hI hw hbc hbs dJ2_size_4
theorem hdG_J2_size : yJ2_size.cls ≠ "java/lang/invoke/MethodHandle" ∧ yJ2_size.cls ≠ "java/lang/invoke/VarHandle" ∧ (parseMethodDescriptor yJ2_size.desc).map (fun d => d.parameters.length) = some 0 := by decide +kernel
def gw_X10_init (K : ga_K) (p0 : Nat) (p1 : Int32) (p2 : Int32) (h : ga_H) (post : ga_H → Prop) (xp : String → Nat → ga_H → Prop) : Prop :=
  ∃ fs_1 : List Value, h p0 = some (ga_O 8 fs_1) ∧ fs_1.length = 8 ∧ ∀ fs_2 : List Value, fs_2.length = 8 → (∀ k : Nat, 3 ≤ k → fs_2[k]? = fs_1[k]?) → ∀ h_3 : ga_H, h_3 = ga_set h p0 (ga_O 8 fs_2) → (∃ fs_4 : List Value, h_3 p0 = some (ga_O 8 fs_4) ∧ 6 < fs_4.length ∧ ∀ h_5 : ga_H, h_5 = ga_set h_3 p0 (ga_O 8 (fs_4.set 6 (.int p1))) → (∃ fs_6 : List Value, h_5 p0 = some (ga_O 8 fs_6) ∧ 7 < fs_6.length ∧ ∀ h_7 : ga_H, h_7 = ga_set h_5 p0 (ga_O 8 (fs_6.set 7 (.int p2))) → (post h_7)))
set_option maxHeartbeats 4000000 in
theorem gm_X10_init (l : Launch) (hst : l.stackTraces = false) (g : ga_G) (p0 : Nat) (p1 : Int32) (p2 : Int32) (h : ga_H) (post : ga_H → Prop) (xp : String → Nat → ga_H → Prop) (hw : gw_X10_init g.2.2 p0 p1 p2 h post xp) : vx_Met l yX10_init (ws_ yX10_init cX10_init 3 none) ({ frames := 8, cells := 0, slots := 0, locals := 140 } : Room) (va_Pc [.ref p0, .int p1, .int p2] (fun U => ga_B g h U ∧ ga_rawH U "PaperStore$Refusal" p0 U.heap)) (va_Qv post (ga_E g) (ga_A g)) (ga_X g xp) 0 0 (ga_A g) := by
  refine ga_metxP (own := "PaperStore$Refusal") (nm := "<init>") (by decide) rfl rfl (by exact Nat.le_of_ble_eq_true rfl) (fun p e s m below meth c ls hC htab hI hraw hl => ?_)
  have hl : lv_has ls 3 [(0, .ref p0), (1, .int p1), (2, .int p2)] := hl
  generalize ([.ref p0, .int p1, .int p2] : List Value).toArray = args at hC ⊢
  obtain ⟨hx, hb, hml, hown, hts, hr, hlk, hnm⟩ := hC
  unfold gw_X10_init at hw
  obtain ⟨H, eH⟩ : ∃ z, z = s.heap := ⟨_, rfl⟩
  obtain ⟨locs, elo⟩ : ∃ z : List Loc, z = [] := ⟨_, rfl⟩
  rw [← eH, ← elo] at hI ⊢
  rw [← eH] at hraw
  obtain ⟨cells, slots, hbc, hbs, e0, e1⟩ : ∃ a b : Nat, a ≤ 0 ∧ b ≤ 0 ∧ a = 0 ∧ b = 0 := ⟨0, 0, by omega, by omega, rfl, rfl⟩
  show W p l e ({ frames := 8, cells := 0, slots := 0, locals := 140 } : Room) s m args below meth c H locs 0 0 (vx_MQ below (va_Qv post (ga_E g) (ga_A g)) (ga_X g xp) args s 0 0 (ga_A g)) (F0 m 0 ls [])
  suffices hgoal : W p l e ({ frames := 8, cells := 0, slots := 0, locals := 140 } : Room) s m args below meth c H locs cells slots (vx_MQ below (va_Qv post (ga_E g) (ga_A g)) (ga_X g xp) args s 0 0 (ga_A g)) (F0 m 0 ls []) by rw [e0, e1] at hgoal; exact hgoal
  refine lv_aload_n hx hb dX10_init_0 rfl (lv_at hl 0 rfl) ?_
  obtain ⟨fs_1, hq, hlen, hw⟩ := hw
  refine ga_exinit (ci := 8) (T := TX10) ga_exw_X10 hx hb hst hts hown hI (hl.1.trans hml.symm) in_X10 tyX10 tyX10_ok nmX10 rfl (by decide) ⟨rfl, rfl, rfl⟩ ⟨rfl, rfl, rfl⟩ ⟨rfl, rfl, rfl⟩ hq hlen hraw dX10_init_1 (Nat.le_of_ble_eq_true rfl) (Nat.le_trans (Nat.add_le_add_right (ga_sum [] (Nat.le_of_ble_eq_true rfl)) 81) (Nat.le_of_ble_eq_true rfl)) hbc hbs (fun fs_2 H locs k1 k2 hI => ?_)
  obtain ⟨h_3, eh_3⟩ : ∃ z, z = ga_set h p0 (ga_O 8 fs_2) := ⟨_, rfl⟩
  rw [← eh_3] at hI
  have hw := hw fs_2 k1 k2 h_3 eh_3
  refine lv_aload_n hx hb dX10_init_4 rfl (lv_at hl 0 rfl) ?_
  refine lv_iload_n hx hb dX10_init_5 rfl (lv_at hl 1 rfl) ?_
  obtain ⟨fs_4, hq, hk, hw⟩ := hw
  refine ga_putF (ci := 8) (T := TX10) (v := .int p1) (ty := tyX10 6) hx hb hts hown hI in_X10 rfl tyX10 tyX10_ok nmX10 6 (by decide) q2055 (fun _ z => z) rfl hnm rfl (tyX10_ok 6 (by decide)) rfl rfl hq hk dX10_init_6 (fun H locs hI => ?_)
  obtain ⟨h_5, eh_5⟩ : ∃ z, z = ga_set h_3 p0 (ga_O 8 (fs_4.set 6 (.int p1))) := ⟨_, rfl⟩
  rw [← eh_5] at hI
  have hw := hw h_5 eh_5
  refine lv_aload_n hx hb dX10_init_9 rfl (lv_at hl 0 rfl) ?_
  refine lv_iload_n hx hb dX10_init_10 rfl (lv_at hl 2 rfl) ?_
  obtain ⟨fs_6, hq, hk, hw⟩ := hw
  refine ga_putF (ci := 8) (T := TX10) (v := .int p2) (ty := tyX10 7) hx hb hts hown hI in_X10 rfl tyX10 tyX10_ok nmX10 7 (by decide) q2057 (fun _ z => z) rfl hnm rfl (tyX10_ok 7 (by decide)) rfl rfl hq hk dX10_init_11 (fun H locs hI => ?_)
  obtain ⟨h_7, eh_7⟩ : ∃ z, z = ga_set h_5 p0 (ga_O 8 (fs_6.set 7 (.int p2))) := ⟨_, rfl⟩
  rw [← eh_7] at hI
  have hw := hw h_7 eh_7
  exact ga_vretx hx hb hr hlk hI hw hbc hbs dX10_init_14
theorem hdG_X10_init : yX10_init.cls ≠ "java/lang/invoke/MethodHandle" ∧ yX10_init.cls ≠ "java/lang/invoke/VarHandle" ∧ (parseMethodDescriptor yX10_init.desc).map (fun d => d.parameters.length) = some 2 := by decide +kernel
def gw_X1_refuse (K : ga_K) (p0 : Int32) (p1 : Int32) (p2 : Int32) (h : ga_H) (mc ms : Nat) (post : ga_H → Prop) (xp : String → Nat → ga_H → Prop) : Prop :=
  (p0 = (0 : Int32) → (post h)) ∧ (¬ p0 = (0 : Int32) → (1 ≤ mc ∧ 8 ≤ ms ∧ ∀ q_2 : Nat, h q_2 = none → ∀ h_3 : ga_H, h_3 = ga_set h q_2 (ga_O 8 [va_rf none, va_rf none, va_rf none, va_rf none, va_rf none, .int 0, .int 0, .int 0]) → (gw_X10_init K q_2 p1 p2 h_3 (fun (h_4 : ga_H) => ∃ fs_8 : List Value, h_4 q_2 = some (ga_O 8 fs_8) ∧ (xp "PaperStore$Refusal" q_2 h_4)) (fun (E_5 : String) (q_6 : Nat) (h_7 : ga_H) => False))))
set_option maxHeartbeats 4000000 in
theorem gm_X1_refuse (l : Launch) (hst : l.stackTraces = false) (g : ga_G) (p0 : Int32) (p1 : Int32) (p2 : Int32) (h : ga_H) (mc ms : Nat) (post : ga_H → Prop) (xp : String → Nat → ga_H → Prop) (hw : gw_X1_refuse g.2.2 p0 p1 p2 h mc ms post xp) : vx_Met l yX1_refuse (ws_ yX1_refuse cX1_refuse 3 none) ({ frames := 9, cells := mc, slots := ms, locals := 162 } : Room) (va_Pc [.int p0, .int p1, .int p2] (ga_B g h)) (va_Qv post (ga_E g) (ga_A g)) (ga_X g xp) mc ms (ga_A g) := by
  refine ga_metx (own := "PaperStore") (nm := "refuse") (by decide) rfl rfl (by exact Nat.le_of_ble_eq_true rfl) (fun p e s m below meth c ls hC htab hI hl => ?_)
  have hl : lv_has ls 3 [(0, .int p0), (1, .int p1), (2, .int p2)] := hl
  generalize ([.int p0, .int p1, .int p2] : List Value).toArray = args at hC ⊢
  obtain ⟨hx, hb, hml, hown, hts, hr, hlk, hnm⟩ := hC
  unfold gw_X1_refuse at hw
  obtain ⟨H, eH⟩ : ∃ z, z = s.heap := ⟨_, rfl⟩
  obtain ⟨locs, elo⟩ : ∃ z : List Loc, z = [] := ⟨_, rfl⟩
  rw [← eH, ← elo] at hI ⊢
  obtain ⟨cells, slots, hbc, hbs, e0, e1⟩ : ∃ a b : Nat, a + mc ≤ mc ∧ b + ms ≤ ms ∧ a = 0 ∧ b = 0 := ⟨0, 0, by omega, by omega, rfl, rfl⟩
  show W p l e ({ frames := 9, cells := mc, slots := ms, locals := 162 } : Room) s m args below meth c H locs 0 0 (vx_MQ below (va_Qv post (ga_E g) (ga_A g)) (ga_X g xp) args s mc ms (ga_A g)) (F0 m 0 ls [])
  suffices hgoal : W p l e ({ frames := 9, cells := mc, slots := ms, locals := 162 } : Room) s m args below meth c H locs cells slots (vx_MQ below (va_Qv post (ga_E g) (ga_A g)) (ga_X g xp) args s mc ms (ga_A g)) (F0 m 0 ls []) by rw [e0, e1] at hgoal; exact hgoal
  refine lv_iload_n hx hb dX1_refuse_0 rfl (lv_at hl 0 rfl) ?_
  refine lv_if_eq (tgt := 14) hx hb dX1_refuse_1 (by decide) (fun hc_1 => ?_) (fun hc_1 => ?_)
  · have hw := hw.1 hc_1
    exact ga_vretx hx hb hr hlk hI hw (Nat.le_trans (Nat.le_add_right _ _) hbc) (Nat.le_trans (Nat.le_add_right _ _) hbs) dX1_refuse_14
  · have hw := hw.2 hc_1
    refine ga_newR (ci := 8) (T := TX10) hx hb hts hown hI in_X10 rfl tyX10 tyX10_ok q2023 q2043 q150 [va_rf none, va_rf none, va_rf none, va_rf none, va_rf none, .int 0, .int 0, .int 0] ga_df_X10 hbc hbs hw.1 hw.2.1 dX1_refuse_4 (fun q_2 H cells slots hn_q_2 hI hraw hbc hbs => ?_)
    obtain ⟨h_3, eh_3⟩ : ∃ z, z = ga_set h q_2 (ga_O 8 [va_rf none, va_rf none, va_rf none, va_rf none, va_rf none, .int 0, .int 0, .int 0]) := ⟨_, rfl⟩
    rw [← eh_3] at hI
    have hw := hw.2.2 q_2 hn_q_2 h_3 eh_3
    refine lv_dup hx hb dX1_refuse_7 rfl ?_
    refine lv_iload_n hx hb dX1_refuse_8 rfl (lv_at hl 1 rfl) ?_
    refine lv_iload_n hx hb dX1_refuse_9 rfl (lv_at hl 2 rfl) ?_
    refine ga_xcallv (vx_runI (As := [.int p1, .int p2]) (rest := [.ref q_2]) ⟨hx, hb, hml, hown, hts⟩ (gm_X10_init l hst g q_2 p1 p2 h_3 _ _ hw) (cwI 2 hts (lw_meth q2053) rfl rfl rfl (hts _ q150) (hts _ q2051) (hts _ q2052) rfl hdG_X10_init ⟨Nat.le_of_ble_eq_true rfl, Nat.le_of_ble_eq_true rfl⟩) (ga_preSP hI hraw rfl) rfl rfl hl.1 rfl (ga_room (Nat.le_of_ble_eq_true rfl)) dX1_refuse_10 ⟨Nat.le_trans (Nat.add_le_add_left (Nat.zero_le _) _) hbc, Nat.le_trans (Nat.add_le_add_left (Nat.zero_le _) _) hbs⟩) hI hbc hbs (Nat.zero_le _) (Nat.zero_le _) (fun E_5 q_6 h_7 ce H locs cells slots hw hI hce hbc hbs => ?_) (fun h_4 H locs cells slots hw hI hbc hbs => ?_)
    · exact hw.elim
    · skip
      obtain ⟨fs_8, hq, hw⟩ := hw
      refine ga_athrow (ci := 8) hx hb hI (ga_at.h hq) rfl dX1_refuse_13 (fun ce hce => ?_)
      exact ga_out hown hlk hI hw (by rw [htab]; intro z hz; cases hz) hce (Nat.le_trans (Nat.le_add_right _ _) hbc) (Nat.le_trans (Nat.le_add_right _ _) hbs)
theorem hdG_X1_refuse : yX1_refuse.cls ≠ "java/lang/invoke/MethodHandle" ∧ yX1_refuse.cls ≠ "java/lang/invoke/VarHandle" ∧ (parseMethodDescriptor yX1_refuse.desc).map (fun d => d.parameters.length) = some 3 := by decide +kernel
def gw_J2_get (K : ga_K) (p0 : Nat) (p1 : Int32) (h : ga_H) (post : Option Nat → ga_H → Prop) : Prop :=
  ∃ (fs_1 : List Value) (v_2 : Int32), h p0 = some (ga_O 13 fs_1) ∧ fs_1[2]? = some (.int v_2) ∧ (gw_J24_checkIndex K p1 v_2 h (fun (r_4 : Int32) (h_3 : ga_H) => ∃ fs_5 : List Value, ga_at K h_3 p0 (ga_O 13 fs_5) ∧ gw_J2_elementData K p0 p1 h_3 (fun (r_7 : Option Nat) (h_6 : ga_H) => post r_7 h_6)))
set_option maxHeartbeats 4000000 in
theorem gm_J2_get (l : Launch) (g : ga_G) (p0 : Nat) (p1 : Int32) (h : ga_H) (post : Option Nat → ga_H → Prop) (hw : gw_J2_get g.2.2 p0 p1 h post) : Met l yJ2_get (ws_ yJ2_get cJ2_get 2 (some (.object "java/lang/Object"))) ({ frames := 10, cells := 0, slots := 0, locals := 183 } : Room) (va_Pc [.ref p0, .int p1] (ga_B g h)) (va_Qq post (ga_E g) (ga_A g)) 0 0 (ga_A g) := by
  refine ga_met (own := "java/util/ArrayList") (nm := "get") (by decide) rfl rfl (by exact Nat.le_of_ble_eq_true rfl) (fun p e s m below meth c ls hC hI hl => ?_)
  have hl : lv_has ls 2 [(0, .ref p0), (1, .int p1)] := hl
  generalize ([.ref p0, .int p1] : List Value).toArray = args at hC ⊢
  obtain ⟨hx, hb, hml, hown, hts, hr, hlk, hnm⟩ := hC
  unfold gw_J2_get at hw
  obtain ⟨H, eH⟩ : ∃ z, z = s.heap := ⟨_, rfl⟩
  obtain ⟨locs, elo⟩ : ∃ z : List Loc, z = [] := ⟨_, rfl⟩
  rw [← eH, ← elo] at hI ⊢
  obtain ⟨cells, slots, hbc, hbs, e0, e1⟩ : ∃ a b : Nat, a ≤ 0 ∧ b ≤ 0 ∧ a = 0 ∧ b = 0 := ⟨0, 0, by omega, by omega, rfl, rfl⟩
  show W p l e ({ frames := 10, cells := 0, slots := 0, locals := 183 } : Room) s m args below meth c H locs 0 0 (MQ below (va_Qq post (ga_E g) (ga_A g)) args s 0 0 (ga_A g)) (F0 m 0 ls [])
  suffices hgoal : W p l e ({ frames := 10, cells := 0, slots := 0, locals := 183 } : Room) s m args below meth c H locs cells slots (MQ below (va_Qq post (ga_E g) (ga_A g)) args s 0 0 (ga_A g)) (F0 m 0 ls []) by rw [e0, e1] at hgoal; exact hgoal
  refine lv_iload_n hx hb dJ2_get_0 rfl (lv_at hl 1 rfl) ?_
  refine lv_aload_n hx hb dJ2_get_1 rfl (lv_at hl 0 rfl) ?_
  obtain ⟨fs_1, v_2, hq, hv, hw⟩ := hw
  refine ga_get (ci := 13) (T := TJ2) (v := .int v_2) hx hb hts hown hI in_J2 rfl 2 (by decide) q206 (fun _ z => z) (ga_at.h hq) hv dJ2_get_2 ?_
  refine ga_calli (va_runS (As := [.int p1, .int v_2]) (rest := []) ⟨hx, hb, hml, hown, hts⟩ (gm_J24_checkIndex l g p1 v_2 h _ hw) (va_cwS 2 hts (lw_S q842 q843 q130 q844) rfl rfl rfl hdG_J24_checkIndex ⟨Nat.le_of_ble_eq_true rfl, Nat.le_of_ble_eq_true rfl⟩) (ga_preS hI rfl) rfl rfl hl.1 rfl (ga_room (Nat.le_of_ble_eq_true rfl)) dJ2_get_5 ⟨hbc, hbs⟩) hI (bc := 0) (bs := 0) hbc hbs (Nat.zero_le _) (Nat.zero_le _) (fun r_4 h_3 H locs cells slots hw hI hbc hbs => ?_)
  refine lv_pop hx hb dJ2_get_8 rfl ?_
  refine lv_aload_n hx hb dJ2_get_9 rfl (lv_at hl 0 rfl) ?_
  refine lv_iload_n hx hb dJ2_get_10 rfl (lv_at hl 1 rfl) ?_
  obtain ⟨fs_5, hq, hw⟩ := hw
  refine ga_callq (va_runV (As := [.int p1]) (rest := []) ⟨hx, hb, hml, hown, hts⟩ (gm_J2_elementData l g p0 p1 h_3 _ hw) (cwV 1 hts (lw_V q848 q849 q850 q104 q851) rfl rfl rfl ⟨rfl, hdG_J2_elementData⟩ ⟨Nat.le_of_ble_eq_true rfl, Nat.le_of_ble_eq_true rfl⟩) (ga_preV hI hq rfl rfl) rfl rfl hl.1 rfl (ga_room (Nat.le_of_ble_eq_true rfl)) dJ2_get_11 ⟨hbc, hbs⟩) hI (bc := 0) (bs := 0) hbc hbs (Nat.zero_le _) (Nat.zero_le _) (fun r_7 h_6 H locs cells slots hw hI hbc hbs => ?_)
  exact ga_qret (v := r_7) hx hb hr (Or.inl ⟨_, rfl⟩) hlk hI hw hbc hbs dJ2_get_14
theorem hdG_J2_get : yJ2_get.cls ≠ "java/lang/invoke/MethodHandle" ∧ yJ2_get.cls ≠ "java/lang/invoke/VarHandle" ∧ (parseMethodDescriptor yJ2_get.desc).map (fun d => d.parameters.length) = some 1 := by decide +kernel
def gw_X2_ladderAt (K : ga_K) (p0 : Nat) (p1 : Int32) (h : ga_H) (post : Int32 → ga_H → Prop) : Prop :=
  ∃ (In_1 : Int32 → ga_H → Prop) (mu_1 : Int32 → ga_H → Nat), In_1 (0 : Int32) h ∧ ∀ (x2_1 : Int32) (h_1 : ga_H), In_1 x2_1 h_1 → (∃ (fs_2 : List Value) (v_3 : Option Nat), h_1 p0 = some (ga_O 1 fs_2) ∧ fs_2[1]? = some (va_rf v_3) ∧ (∃ a_4 : Nat, v_3 = some a_4 ∧ ∃ fs_5 : List Value, ga_at K h_1 a_4 (ga_O 13 fs_5) ∧ gw_J2_size K a_4 h_1 (fun (r_7 : Int32) (h_6 : ga_H) => (r_7 ≤ x2_1 → (post (-1 : Int32) h_6)) ∧ (¬ r_7 ≤ x2_1 → (∃ (fs_9 : List Value) (v_10 : Option Nat), h_6 p0 = some (ga_O 1 fs_9) ∧ fs_9[1]? = some (va_rf v_10) ∧ (∃ a_11 : Nat, v_10 = some a_11 ∧ ∃ fs_12 : List Value, ga_at K h_6 a_11 (ga_O 13 fs_12) ∧ gw_J2_get K a_11 x2_1 h_6 (fun (r_14 : Option Nat) (h_13 : ga_H) => ga_ok K h_13 "PaperStore$Ladder" r_14 ∧ (∃ a_15 : Nat, r_14 = some a_15 ∧ ∃ (fs_16 : List Value) (v_17 : Int32), h_13 a_15 = some (ga_O 5 fs_16) ∧ fs_16[1]? = some (.int v_17) ∧ ((¬ v_17 = p1 → (In_1 (x2_1 + (1 : Int32)) h_13 ∧ mu_1 (x2_1 + (1 : Int32)) h_13 < mu_1 x2_1 h_1)) ∧ (v_17 = p1 → (post x2_1 h_13)))))))))))
set_option maxHeartbeats 4000000 in
theorem gm_X2_ladderAt (l : Launch) (g : ga_G) (p0 : Nat) (p1 : Int32) (h : ga_H) (post : Int32 → ga_H → Prop) (hw : gw_X2_ladderAt g.2.2 p0 p1 h post) : Met l yX2_ladderAt (ws_ yX2_ladderAt cX2_ladderAt 3 (some .int)) ({ frames := 11, cells := 0, slots := 0, locals := 204 } : Room) (va_Pc [.ref p0, .int p1] (ga_B g h)) (va_Qi post (ga_E g) (ga_A g)) 0 0 (ga_A g) := by
  refine ga_met (own := "PaperStore$Store") (nm := "ladderAt") (by decide) rfl rfl (by exact Nat.le_of_ble_eq_true rfl) (fun p e s m below meth c ls hC hI hl => ?_)
  have hl : lv_has ls 3 [(0, .ref p0), (1, .int p1)] := hl
  generalize ([.ref p0, .int p1] : List Value).toArray = args at hC ⊢
  obtain ⟨hx, hb, hml, hown, hts, hr, hlk, hnm⟩ := hC
  unfold gw_X2_ladderAt at hw
  obtain ⟨H, eH⟩ : ∃ z, z = s.heap := ⟨_, rfl⟩
  obtain ⟨locs, elo⟩ : ∃ z : List Loc, z = [] := ⟨_, rfl⟩
  rw [← eH, ← elo] at hI ⊢
  obtain ⟨cells, slots, hbc, hbs, e0, e1⟩ : ∃ a b : Nat, a ≤ 0 ∧ b ≤ 0 ∧ a = 0 ∧ b = 0 := ⟨0, 0, by omega, by omega, rfl, rfl⟩
  show W p l e ({ frames := 11, cells := 0, slots := 0, locals := 204 } : Room) s m args below meth c H locs 0 0 (MQ below (va_Qi post (ga_E g) (ga_A g)) args s 0 0 (ga_A g)) (F0 m 0 ls [])
  suffices hgoal : W p l e ({ frames := 11, cells := 0, slots := 0, locals := 204 } : Room) s m args below meth c H locs cells slots (MQ below (va_Qi post (ga_E g) (ga_A g)) args s 0 0 (ga_A g)) (F0 m 0 ls []) by rw [e0, e1] at hgoal; exact hgoal
  refine lv_iconst (v := 0) hx hb dX2_ladderAt_0 (by decide) ?_
  refine lv_istore_n (i := 2) (lv' := [(2, .int (0 : Int32)), (0, .ref p0), (1, .int p1)]) hx hb dX2_ladderAt_1 rfl hl (by decide) rfl (fun ls hl => ?_)
  obtain ⟨In_1, mu_1, h0_1, hw⟩ := hw
  have hL_1 : ∀ (n : Nat) (x2_1 : Int32) (h_1 : ga_H) (H : Heap) (locs : List Loc) (cells slots : Nat) (ls : Array Slot), mu_1 x2_1 h_1 < n → In_1 x2_1 h_1 → ga_I g h_1 s H locs → cells ≤ 0 → slots ≤ 0 → lv_has ls 3 [(0, .ref p0), (1, .int p1), (2, .int x2_1)] → W p l e ({ frames := 11, cells := 0, slots := 0, locals := 204 } : Room) s m args below meth c H locs cells slots (MQ below (va_Qi post (ga_E g) (ga_A g)) args s 0 0 (ga_A g)) (F0 m 2 ls []) := by
    intro n
    induction n with
    | zero => intro x2_1 h_1 H locs cells slots ls hn _ _ _ _ _; exact absurd hn (Nat.not_lt_zero _)
    | succ n ih_1 =>
      intro x2_1 h_1 H locs cells slots ls hn_1 hi_1 hI hbc hbs hl
      have hw := hw x2_1 h_1 hi_1
      refine lv_iload_n hx hb dX2_ladderAt_2 rfl (lv_at hl 2 rfl) ?_
      refine lv_aload_n hx hb dX2_ladderAt_3 rfl (lv_at hl 0 rfl) ?_
      obtain ⟨fs_2, v_3, hq, hv, hw⟩ := hw
      refine ga_get (ci := 1) (T := TX2) (v := va_rf v_3) hx hb hts hown hI in_X2 rfl 1 (by decide) q312 (fun _ z => z) (ga_at.h hq) hv dX2_ladderAt_4 ?_
      obtain ⟨a_4, ea_4, hw⟩ := hw
      rewrite [ea_4]
      obtain ⟨fs_5, hq, hw⟩ := hw
      refine ga_calli (va_runV (As := []) (rest := [.int x2_1]) ⟨hx, hb, hml, hown, hts⟩ (gm_J2_size l g a_4 h_1 _ hw) (cwV 0 hts (lw_V q2039 q536 q4117 q104 q537) rfl rfl rfl ⟨rfl, hdG_J2_size⟩ ⟨Nat.le_of_ble_eq_true rfl, Nat.le_of_ble_eq_true rfl⟩) (ga_preV hI hq rfl rfl) rfl rfl hl.1 rfl (ga_room (Nat.le_of_ble_eq_true rfl)) dX2_ladderAt_7 ⟨hbc, hbs⟩) hI (bc := 0) (bs := 0) hbc hbs (Nat.zero_le _) (Nat.zero_le _) (fun r_7 h_6 H locs cells slots hw hI hbc hbs => ?_)
      refine lv_icmp_ge (tgt := 39) hx hb dX2_ladderAt_10 (by decide) (fun hc_8 => ?_) (fun hc_8 => ?_)
      · have hw := hw.1 hc_8
        refine lv_iconst (v := -1) hx hb dX2_ladderAt_39 (by decide) ?_
        exact ga_iret hx hb hr rfl hlk hI hw hbc hbs dX2_ladderAt_40
      · have hw := hw.2 hc_8
        refine lv_aload_n hx hb dX2_ladderAt_13 rfl (lv_at hl 0 rfl) ?_
        obtain ⟨fs_9, v_10, hq, hv, hw⟩ := hw
        refine ga_get (ci := 1) (T := TX2) (v := va_rf v_10) hx hb hts hown hI in_X2 rfl 1 (by decide) q312 (fun _ z => z) (ga_at.h hq) hv dX2_ladderAt_14 ?_
        refine lv_iload_n hx hb dX2_ladderAt_17 rfl (lv_at hl 2 rfl) ?_
        obtain ⟨a_11, ea_11, hw⟩ := hw
        rewrite [ea_11]
        obtain ⟨fs_12, hq, hw⟩ := hw
        refine ga_callq (va_runV (As := [.int x2_1]) (rest := []) ⟨hx, hb, hml, hown, hts⟩ (gm_J2_get l g a_11 x2_1 h_6 _ hw) (cwV 1 hts (lw_V q2069 q839 q4120 q104 q841) rfl rfl rfl ⟨rfl, hdG_J2_get⟩ ⟨Nat.le_of_ble_eq_true rfl, Nat.le_of_ble_eq_true rfl⟩) (ga_preV hI hq rfl rfl) rfl rfl hl.1 rfl (ga_room (Nat.le_of_ble_eq_true rfl)) dX2_ladderAt_18 ⟨hbc, hbs⟩) hI (bc := 0) (bs := 0) hbc hbs (Nat.zero_le _) (Nat.zero_le _) (fun r_14 h_13 H locs cells slots hw hI hbc hbs => ?_)
        refine ga_cast (x := r_14) hx hb hts hown hI q1339 hw.1 dX2_ladderAt_21 ?_
        have hw := hw.2
        obtain ⟨a_15, ea_15, hw⟩ := hw
        rewrite [ea_15]
        obtain ⟨fs_16, v_17, hq, hv, hw⟩ := hw
        refine ga_getN (ci := 5) (T := TX7) (v := .int v_17) hx hb hts hown hI in_X7 rfl 1 (by decide) q1349 (fun _ z => z) (ga_at.h hq) hv dX2_ladderAt_24 ?_
        refine lv_iload_n hx hb dX2_ladderAt_27 rfl (lv_at hl 1 rfl) ?_
        refine lv_icmp_ne (tgt := 33) hx hb dX2_ladderAt_28 (by decide) (fun hc_18 => ?_) (fun hc_18 => ?_)
        · have hw := hw.1 hc_18
          refine lv_iinc (v := x2_1 + (1 : Int32)) (lv' := [(2, .int (x2_1 + (1 : Int32))), (0, .ref p0), (1, .int p1)]) hx hb dX2_ladderAt_33 hl (k := 2) rfl rfl (by decide) rfl (fun ls hl => ?_)
          refine lv_goto (tgt := 2) hx hb dX2_ladderAt_36 (by decide) ?_
          exact ih_1 _ _ H locs cells slots ls (Nat.lt_of_lt_of_le hw.2 (Nat.le_of_lt_succ hn_1)) hw.1 hI hbc hbs (lv_sub hl [1, 2, 0] rfl)
        · have hw := hw.2 hc_18
          refine lv_iload_n hx hb dX2_ladderAt_31 rfl (lv_at hl 2 rfl) ?_
          exact ga_iret hx hb hr rfl hlk hI hw hbc hbs dX2_ladderAt_32
  exact hL_1 _ _ _ H locs cells slots ls (Nat.lt_succ_self _) h0_1 hI hbc hbs (lv_sub hl [1, 2, 0] rfl)
theorem hdG_X2_ladderAt : yX2_ladderAt.cls ≠ "java/lang/invoke/MethodHandle" ∧ yX2_ladderAt.cls ≠ "java/lang/invoke/VarHandle" ∧ (parseMethodDescriptor yX2_ladderAt.desc).map (fun d => d.parameters.length) = some 1 := by decide +kernel
def gw_X2_addLadder_16 (K : ga_K) (post : Int32 → ga_H → Prop) (xp : String → Nat → ga_H → Prop) (p0 : Nat) (t0 : Int32) (v1 : Int32) (h : ga_H) (bc bs : Nat) : Prop :=
  ∃ kc_8 ks_9 : Nat, kc_8 ≤ bc ∧ ks_9 ≤ bs ∧ gw_X1_refuse K t0 (1 : Int32) (3 : Int32) h kc_8 ks_9 (fun (h_10 : ga_H) => ∃ (In_14 : Int32 → ga_H → Nat → Nat → Prop) (mu_14 : Int32 → ga_H → Nat → Nat → Nat), In_14 (0 : Int32) h_10 (bc - kc_8) (bs - ks_9) ∧ ∀ (x2_14 : Int32) (h_14 : ga_H) (bc_14 : Nat) (bs_14 : Nat), In_14 x2_14 h_14 bc_14 bs_14 → (∃ fs_15 : List Value, ga_at K h_14 p0 (ga_O 1 fs_15) ∧ gw_X2_ladderAt K p0 x2_14 h_14 (fun (r_17 : Int32) (h_16 : ga_H) => (r_17 = (-1 : Int32) → (∃ (fs_19 : List Value) (v_20 : Option Nat), h_16 p0 = some (ga_O 1 fs_19) ∧ fs_19[1]? = some (va_rf v_20) ∧ (1 ≤ bc_14 ∧ 2 ≤ bs_14 ∧ ∀ q_21 : Nat, h_16 q_21 = none → ∀ h_22 : ga_H, h_22 = ga_set h_16 q_21 (ga_O 5 [.int 0, .int 0]) → (gw_X7_init K q_21 v1 x2_14 h_22 (fun (h_23 : ga_H) => ∃ a_24 : Nat, v_20 = some a_24 ∧ ∃ kc_25 ks_26 : Nat, kc_25 ≤ (bc_14 - 1) ∧ ks_26 ≤ (bs_14 - 2) ∧ ∃ fs_27 : List Value, ga_at K h_23 a_24 (ga_O 13 fs_27) ∧ gw_J2_add K a_24 (some q_21) h_23 kc_25 ks_26 (fun (r_29 : Int32) (h_28 : ga_H) => ∃ (fs_30 : List Value) (v_31 : Option Nat), h_28 p0 = some (ga_O 1 fs_30) ∧ fs_30[1]? = some (va_rf v_31) ∧ (∃ a_32 : Nat, v_31 = some a_32 ∧ ∃ fs_33 : List Value, ga_at K h_28 a_32 (ga_O 13 fs_33) ∧ gw_J2_size K a_32 h_28 (fun (r_35 : Int32) (h_34 : ga_H) => post (r_35 - (1 : Int32)) h_34)))))))) ∧ (¬ r_17 = (-1 : Int32) → (In_14 (x2_14 + (1 : Int32)) h_16 bc_14 bs_14 ∧ mu_14 (x2_14 + (1 : Int32)) h_16 bc_14 bs_14 < mu_14 x2_14 h_14 bc_14 bs_14))))) (fun (E_11 : String) (q_12 : Nat) (h_13 : ga_H) => xp E_11 q_12 h_13)
set_option maxHeartbeats 4000000 in
theorem gj_X2_addLadder_16 {p : Program} {l : Launch} {e : Env} {s : State} {m : MethodId} {args : Array Value} {below : List Frame} {meth : Method} {c : Code} {mc ms : Nat} {H : Heap} {locs : List Loc} {cells slots : Nat} {ls : Array Slot} (hst : l.stackTraces = false) (htab : c.exceptionTable.toList = []) (g : ga_G) (post : Int32 → ga_H → Prop) (xp : String → Nat → ga_H → Prop) (p0 : Nat) (t0 : Int32) (v1 : Int32) (h : ga_H) (bc bs : Nat) (hC : ga_Cx p s m args meth c cX2_addLadder 3 (some .int) "PaperStore$Store" "addLadder") (hw : gw_X2_addLadder_16 g.2.2 post xp p0 t0 v1 h bc bs) (hI : ga_I g h s H locs) (hbc : cells + bc ≤ mc) (hbs : slots + bs ≤ ms) (hl : lv_has ls 3 [(0, .ref p0), (1, .int v1)]) : W p l e ({ frames := 14, cells := mc, slots := ms, locals := 271 } : Room) s m args below meth c H locs cells slots (vx_MQ below (va_Qi post (ga_E g) (ga_A g)) (ga_X g xp) args s mc ms (ga_A g)) (F0 m 16 ls [.int t0]) := by
  obtain ⟨hx, hb, hml, hown, hts, hr, hlk, hnm⟩ := hC
  unfold gw_X2_addLadder_16 at hw
  refine lv_iconst (v := 1) hx hb dX2_addLadder_16 (by decide) ?_
  refine lv_iconst (v := 3) hx hb dX2_addLadder_17 (by decide) ?_
  obtain ⟨kc_8, ks_9, hk1, hk2, hw⟩ := hw
  refine ga_xcallv (vx_runSN (As := [.int t0, .int (1 : Int32), .int (3 : Int32)]) (rest := []) ⟨hx, hb, hml, hown, hts⟩ (gm_X1_refuse l hst g t0 (1 : Int32) (3 : Int32) h kc_8 ks_9 _ _ hw) ⟨va_cnB 3 hts (lw_meth q2042) rfl rfl rfl (hI.2.1.1.2.1 _ (ga_nin q2040 rfl)) (hts _ q100) hdG_X1_refuse ⟨Nat.le_of_ble_eq_true rfl, Nat.le_of_ble_eq_true rfl⟩, hts _ q2041, trivial⟩ (ga_preS hI rfl) rfl rfl hl.1 rfl (ga_room (Nat.le_of_ble_eq_true rfl)) dX2_addLadder_18 ⟨Nat.le_trans (Nat.add_le_add_left hk1 _) hbc, Nat.le_trans (Nat.add_le_add_left hk2 _) hbs⟩) hI hbc hbs hk1 hk2 (fun E_11 q_12 h_13 ce H locs cells slots hw hI hce hbc hbs => ?_) (fun h_10 H locs cells slots hw hI hbc hbs => ?_)
  · exact ga_out hown hlk hI hw (by rw [htab]; intro z hz; cases hz) hce (Nat.le_trans (Nat.le_add_right _ _) hbc) (Nat.le_trans (Nat.le_add_right _ _) hbs)
  · skip
    refine lv_iconst (v := 0) hx hb dX2_addLadder_21 (by decide) ?_
    refine lv_istore_n (i := 2) (lv' := [(2, .int (0 : Int32)), (0, .ref p0), (1, .int v1)]) hx hb dX2_addLadder_22 rfl hl (by decide) rfl (fun ls hl => ?_)
    obtain ⟨In_14, mu_14, h0_14, hw⟩ := hw
    have hL_14 : ∀ (n : Nat) (x2_14 : Int32) (h_14 : ga_H) (bc_14 : Nat) (bs_14 : Nat) (H : Heap) (locs : List Loc) (cells slots : Nat) (ls : Array Slot), mu_14 x2_14 h_14 bc_14 bs_14 < n → In_14 x2_14 h_14 bc_14 bs_14 → ga_I g h_14 s H locs → cells + bc_14 ≤ mc → slots + bs_14 ≤ ms → lv_has ls 3 [(0, .ref p0), (1, .int v1), (2, .int x2_14)] → W p l e ({ frames := 14, cells := mc, slots := ms, locals := 271 } : Room) s m args below meth c H locs cells slots (vx_MQ below (va_Qi post (ga_E g) (ga_A g)) (ga_X g xp) args s mc ms (ga_A g)) (F0 m 23 ls []) := by
      intro n
      induction n with
      | zero => intro x2_14 h_14 bc_14 bs_14 H locs cells slots ls hn _ _ _ _ _; exact absurd hn (Nat.not_lt_zero _)
      | succ n ih_14 =>
        intro x2_14 h_14 bc_14 bs_14 H locs cells slots ls hn_14 hi_14 hI hbc hbs hl
        have hw := hw x2_14 h_14 bc_14 bs_14 hi_14
        refine lv_aload_n hx hb dX2_addLadder_23 rfl (lv_at hl 0 rfl) ?_
        refine lv_iload_n hx hb dX2_addLadder_24 rfl (lv_at hl 2 rfl) ?_
        obtain ⟨fs_15, hq, hw⟩ := hw
        refine ga_calli (va_runV (As := [.int x2_14]) (rest := []) ⟨hx, hb, hml, hown, hts⟩ (gm_X2_ladderAt l g p0 x2_14 h_14 _ hw) (cwV 1 hts (lw_V q2065 q2066 q2067 q101 q2068) rfl rfl rfl ⟨rfl, hdG_X2_ladderAt⟩ ⟨Nat.le_of_ble_eq_true rfl, Nat.le_of_ble_eq_true rfl⟩) (ga_preV hI hq rfl rfl) rfl rfl hl.1 rfl (ga_room (Nat.le_of_ble_eq_true rfl)) dX2_addLadder_25 ⟨Nat.le_trans (Nat.add_le_add_left (Nat.zero_le _) _) hbc, Nat.le_trans (Nat.add_le_add_left (Nat.zero_le _) _) hbs⟩) hI hbc hbs (Nat.zero_le _) (Nat.zero_le _) (fun r_17 h_16 H locs cells slots hw hI hbc hbs => ?_)
        refine lv_iconst (v := -1) hx hb dX2_addLadder_28 (by decide) ?_
        refine lv_icmp_eq (tgt := 38) hx hb dX2_addLadder_29 (by decide) (fun hc_18 => ?_) (fun hc_18 => ?_)
        · have hw := hw.1 hc_18
          refine lv_aload_n hx hb dX2_addLadder_38 rfl (lv_at hl 0 rfl) ?_
          obtain ⟨fs_19, v_20, hq, hv, hw⟩ := hw
          refine ga_get (ci := 1) (T := TX2) (v := va_rf v_20) hx hb hts hown hI in_X2 rfl 1 (by decide) q312 (fun _ z => z) (ga_at.h hq) hv dX2_addLadder_39 ?_
          refine ga_new (ci := 5) (T := TX7) hx hb hts hown hI in_X7 rfl tyX7 tyX7_ok q1339 q1340 q138 [.int 0, .int 0] ga_df_X7 hbc hbs hw.1 hw.2.1 dX2_addLadder_42 (fun q_21 H cells slots hn_q_21 hI hbc hbs => ?_)
          obtain ⟨h_22, eh_22⟩ : ∃ z, z = ga_set h_16 q_21 (ga_O 5 [.int 0, .int 0]) := ⟨_, rfl⟩
          rw [← eh_22] at hI
          have hw := hw.2.2 q_21 hn_q_21 h_22 eh_22
          refine lv_dup hx hb dX2_addLadder_45 rfl ?_
          refine lv_iload_n hx hb dX2_addLadder_46 rfl (lv_at hl 1 rfl) ?_
          refine lv_iload_n hx hb dX2_addLadder_47 rfl (lv_at hl 2 rfl) ?_
          refine ga_callv (va_runI (As := [.int v1, .int x2_14]) (rest := [.ref q_21, va_rf v_20]) ⟨hx, hb, hml, hown, hts⟩ (gm_X7_init l g q_21 v1 x2_14 h_22 _ hw) (cwI 2 hts (lw_meth q1343) rfl rfl rfl (hts _ q138) (hts _ q1341) (hts _ q1342) rfl hdG_X7_init ⟨Nat.le_of_ble_eq_true rfl, Nat.le_of_ble_eq_true rfl⟩) (ga_preS hI rfl) rfl rfl hl.1 rfl (ga_room (Nat.le_of_ble_eq_true rfl)) dX2_addLadder_48 ⟨Nat.le_trans (Nat.add_le_add_left (Nat.zero_le _) _) hbc, Nat.le_trans (Nat.add_le_add_left (Nat.zero_le _) _) hbs⟩) hI hbc hbs (Nat.zero_le _) (Nat.zero_le _) (fun h_23 H locs cells slots hw hI hbc hbs => ?_)
          obtain ⟨a_24, ea_24, hw⟩ := hw
          rewrite [ea_24]
          obtain ⟨kc_25, ks_26, hk1, hk2, hw⟩ := hw
          obtain ⟨fs_27, hq, hw⟩ := hw
          refine ga_calli (va_runV (As := [va_rf (some q_21)]) (rest := []) ⟨hx, hb, hml, hown, hts⟩ (gm_J2_add l g a_24 (some q_21) h_23 kc_25 ks_26 _ hw) (cwV 1 hts (lw_V q1356 q1321 q1322 q104 q1323) rfl rfl rfl ⟨rfl, hdG_J2_add⟩ ⟨Nat.le_of_ble_eq_true rfl, Nat.le_of_ble_eq_true rfl⟩) (ga_preV hI hq rfl rfl) rfl rfl hl.1 rfl (ga_room (Nat.le_of_ble_eq_true rfl)) dX2_addLadder_51 ⟨Nat.le_trans (Nat.add_le_add_left hk1 _) hbc, Nat.le_trans (Nat.add_le_add_left hk2 _) hbs⟩) hI hbc hbs hk1 hk2 (fun r_29 h_28 H locs cells slots hw hI hbc hbs => ?_)
          refine lv_pop hx hb dX2_addLadder_54 rfl ?_
          refine lv_aload_n hx hb dX2_addLadder_55 rfl (lv_at hl 0 rfl) ?_
          obtain ⟨fs_30, v_31, hq, hv, hw⟩ := hw
          refine ga_get (ci := 1) (T := TX2) (v := va_rf v_31) hx hb hts hown hI in_X2 rfl 1 (by decide) q312 (fun _ z => z) (ga_at.h hq) hv dX2_addLadder_56 ?_
          obtain ⟨a_32, ea_32, hw⟩ := hw
          rewrite [ea_32]
          obtain ⟨fs_33, hq, hw⟩ := hw
          refine ga_calli (va_runV (As := []) (rest := []) ⟨hx, hb, hml, hown, hts⟩ (gm_J2_size l g a_32 h_28 _ hw) (cwV 0 hts (lw_V q2039 q536 q4117 q104 q537) rfl rfl rfl ⟨rfl, hdG_J2_size⟩ ⟨Nat.le_of_ble_eq_true rfl, Nat.le_of_ble_eq_true rfl⟩) (ga_preV hI hq rfl rfl) rfl rfl hl.1 rfl (ga_room (Nat.le_of_ble_eq_true rfl)) dX2_addLadder_59 ⟨Nat.le_trans (Nat.add_le_add_left (Nat.zero_le _) _) hbc, Nat.le_trans (Nat.add_le_add_left (Nat.zero_le _) _) hbs⟩) hI hbc hbs (Nat.zero_le _) (Nat.zero_le _) (fun r_35 h_34 H locs cells slots hw hI hbc hbs => ?_)
          refine lv_iconst (v := 1) hx hb dX2_addLadder_62 (by decide) ?_
          refine lv_isub hx hb dX2_addLadder_63 ?_
          exact ga_iretx hx hb hr rfl hlk hI hw (Nat.le_trans (Nat.le_add_right _ _) hbc) (Nat.le_trans (Nat.le_add_right _ _) hbs) dX2_addLadder_64
        · have hw := hw.2 hc_18
          refine lv_iinc (v := x2_14 + (1 : Int32)) (lv' := [(2, .int (x2_14 + (1 : Int32))), (0, .ref p0), (1, .int v1)]) hx hb dX2_addLadder_32 hl (k := 2) rfl rfl (by decide) rfl (fun ls hl => ?_)
          refine lv_goto (tgt := 23) hx hb dX2_addLadder_35 (by decide) ?_
          exact ih_14 _ _ _ _ H locs cells slots ls (Nat.lt_of_lt_of_le hw.2 (Nat.le_of_lt_succ hn_14)) hw.1 hI hbc hbs (lv_sub hl [1, 2, 0] rfl)
    exact hL_14 _ _ _ _ _ H locs cells slots ls (Nat.lt_succ_self _) h0_14 hI hbc hbs (lv_sub hl [1, 2, 0] rfl)
def gw_X2_addLadder (K : ga_K) (p0 : Nat) (p1 : Int32) (h : ga_H) (mc ms : Nat) (post : Int32 → ga_H → Prop) (xp : String → Nat → ga_H → Prop) : Prop :=
  ∃ (fs_1 : List Value) (v_2 : Option Nat), h p0 = some (ga_O 1 fs_1) ∧ fs_1[1]? = some (va_rf v_2) ∧ (∃ a_3 : Nat, v_2 = some a_3 ∧ ∃ fs_4 : List Value, ga_at K h a_3 (ga_O 13 fs_4) ∧ gw_J2_size K a_3 h (fun (r_6 : Int32) (h_5 : ga_H) => (¬ r_6 = (3 : Int32) → (gw_X2_addLadder_16 K post xp p0 (0 : Int32) p1 h_5 mc ms)) ∧ (r_6 = (3 : Int32) → (gw_X2_addLadder_16 K post xp p0 (1 : Int32) p1 h_5 mc ms))))
set_option maxHeartbeats 4000000 in
theorem gm_X2_addLadder (l : Launch) (hst : l.stackTraces = false) (g : ga_G) (p0 : Nat) (p1 : Int32) (h : ga_H) (mc ms : Nat) (post : Int32 → ga_H → Prop) (xp : String → Nat → ga_H → Prop) (hw : gw_X2_addLadder g.2.2 p0 p1 h mc ms post xp) : vx_Met l yX2_addLadder (ws_ yX2_addLadder cX2_addLadder 3 (some .int)) ({ frames := 14, cells := mc, slots := ms, locals := 271 } : Room) (va_Pc [.ref p0, .int p1] (ga_B g h)) (va_Qi post (ga_E g) (ga_A g)) (ga_X g xp) mc ms (ga_A g) := by
  refine ga_metx (own := "PaperStore$Store") (nm := "addLadder") (by decide) rfl rfl (by exact Nat.le_of_ble_eq_true rfl) (fun p e s m below meth c ls hC htab hI hl => ?_)
  have hl : lv_has ls 3 [(0, .ref p0), (1, .int p1)] := hl
  generalize ([.ref p0, .int p1] : List Value).toArray = args at hC ⊢
  obtain ⟨hx, hb, hml, hown, hts, hr, hlk, hnm⟩ := hC
  unfold gw_X2_addLadder at hw
  obtain ⟨H, eH⟩ : ∃ z, z = s.heap := ⟨_, rfl⟩
  obtain ⟨locs, elo⟩ : ∃ z : List Loc, z = [] := ⟨_, rfl⟩
  rw [← eH, ← elo] at hI ⊢
  obtain ⟨cells, slots, hbc, hbs, e0, e1⟩ : ∃ a b : Nat, a + mc ≤ mc ∧ b + ms ≤ ms ∧ a = 0 ∧ b = 0 := ⟨0, 0, by omega, by omega, rfl, rfl⟩
  show W p l e ({ frames := 14, cells := mc, slots := ms, locals := 271 } : Room) s m args below meth c H locs 0 0 (vx_MQ below (va_Qi post (ga_E g) (ga_A g)) (ga_X g xp) args s mc ms (ga_A g)) (F0 m 0 ls [])
  suffices hgoal : W p l e ({ frames := 14, cells := mc, slots := ms, locals := 271 } : Room) s m args below meth c H locs cells slots (vx_MQ below (va_Qi post (ga_E g) (ga_A g)) (ga_X g xp) args s mc ms (ga_A g)) (F0 m 0 ls []) by rw [e0, e1] at hgoal; exact hgoal
  refine lv_aload_n hx hb dX2_addLadder_0 rfl (lv_at hl 0 rfl) ?_
  obtain ⟨fs_1, v_2, hq, hv, hw⟩ := hw
  refine ga_get (ci := 1) (T := TX2) (v := va_rf v_2) hx hb hts hown hI in_X2 rfl 1 (by decide) q312 (fun _ z => z) (ga_at.h hq) hv dX2_addLadder_1 ?_
  obtain ⟨a_3, ea_3, hw⟩ := hw
  rewrite [ea_3]
  obtain ⟨fs_4, hq, hw⟩ := hw
  refine ga_calli (va_runV (As := []) (rest := []) ⟨hx, hb, hml, hown, hts⟩ (gm_J2_size l g a_3 h _ hw) (cwV 0 hts (lw_V q2039 q536 q4117 q104 q537) rfl rfl rfl ⟨rfl, hdG_J2_size⟩ ⟨Nat.le_of_ble_eq_true rfl, Nat.le_of_ble_eq_true rfl⟩) (ga_preV hI hq rfl rfl) rfl rfl hl.1 rfl (ga_room (Nat.le_of_ble_eq_true rfl)) dX2_addLadder_4 ⟨Nat.le_trans (Nat.add_le_add_left (Nat.zero_le _) _) hbc, Nat.le_trans (Nat.add_le_add_left (Nat.zero_le _) _) hbs⟩) hI hbc hbs (Nat.zero_le _) (Nat.zero_le _) (fun r_6 h_5 H locs cells slots hw hI hbc hbs => ?_)
  refine lv_iconst (v := 3) hx hb dX2_addLadder_7 (by decide) ?_
  refine lv_icmp_ne (tgt := 15) hx hb dX2_addLadder_8 (by decide) (fun hc_7 => ?_) (fun hc_7 => ?_)
  · have hw := hw.1 hc_7
    refine lv_iconst (v := 0) hx hb dX2_addLadder_15 (by decide) ?_
    exact gj_X2_addLadder_16 hst htab g post xp p0 (0 : Int32) p1 h_5 mc ms ⟨hx, hb, hml, hown, hts, hr, hlk, hnm⟩ hw hI hbc hbs (lv_sub hl [0, 1] rfl)
  · have hw := hw.2 hc_7
    refine lv_iconst (v := 1) hx hb dX2_addLadder_11 (by decide) ?_
    refine lv_goto (tgt := 16) hx hb dX2_addLadder_12 (by decide) ?_
    exact gj_X2_addLadder_16 hst htab g post xp p0 (1 : Int32) p1 h_5 mc ms ⟨hx, hb, hml, hown, hts, hr, hlk, hnm⟩ hw hI hbc hbs (lv_sub hl [0, 1] rfl)
theorem hdG_X2_addLadder : yX2_addLadder.cls ≠ "java/lang/invoke/MethodHandle" ∧ yX2_addLadder.cls ≠ "java/lang/invoke/VarHandle" ∧ (parseMethodDescriptor yX2_addLadder.desc).map (fun d => d.parameters.length) = some 1 := by decide +kernel
def gw_J2_fastRemove (K : ga_K) (p0 : Nat) (p1 : Option Nat) (p2 : Int32) (h : ga_H) (post : ga_H → Prop) : Prop :=
  ∃ (fs_1 : List Value) (v_2 : Int32), h p0 = some (ga_O 13 fs_1) ∧ fs_1[0]? = some (.int v_2) ∧ (∃ fs_3 : List Value, h p0 = some (ga_O 13 fs_3) ∧ 0 < fs_3.length ∧ ∀ h_4 : ga_H, h_4 = ga_set h p0 (ga_O 13 (fs_3.set 0 (.int (v_2 + (1 : Int32))))) → (∃ (fs_5 : List Value) (v_6 : Int32), h_4 p0 = some (ga_O 13 fs_5) ∧ fs_5[2]? = some (.int v_6) ∧ ((v_6 - (1 : Int32) ≤ p2 → (∃ fs_8 : List Value, h_4 p0 = some (ga_O 13 fs_8) ∧ 2 < fs_8.length ∧ ∀ h_9 : ga_H, h_9 = ga_set h_4 p0 (ga_O 13 (fs_8.set 2 (.int (v_6 - (1 : Int32))))) → (∃ a_10 : Nat, p1 = some a_10 ∧ ∃ (n_11 : Nat) (f_12 : Nat → Option Nat), h_9 a_10 = some (ga_Aq 5 n_11 f_12) ∧ vp_in (v_6 - (1 : Int32)) n_11 ∧ ga_ok K h_9 "java/lang/Object" none ∧ ∀ h_13 : ga_H, h_13 = ga_set h_9 a_10 (ga_Aq 5 n_11 (va_up f_12 (v_6 - (1 : Int32)).toNatClampNeg none)) → (post h_13)))) ∧ (¬ v_6 - (1 : Int32) ≤ p2 → (∃ a_14 : Nat, p1 = some a_14 ∧ ∃ (n_15 : Nat) (f_16 : Nat → Option Nat) (n_17 : Nat) (f_18 : Nat → Option Nat), (h_4 a_14 = some (ga_Aq 5 n_15 f_16) ∨ (n_15 = 0 ∧ K.1 a_14 = some (ga_Aq 5 0 f_16))) ∧ h_4 a_14 = some (ga_Aq 5 n_17 f_18) ∧ ¬ (p2 + (1 : Int32)) < 0 ∧ ¬ p2 < 0 ∧ ¬ ((v_6 - (1 : Int32)) - p2) < 0 ∧ (p2 + (1 : Int32)).toNatClampNeg + ((v_6 - (1 : Int32)) - p2).toNatClampNeg ≤ n_15 ∧ p2.toNatClampNeg + ((v_6 - (1 : Int32)) - p2).toNatClampNeg ≤ n_17 ∧ (∀ i : Nat, i < ((v_6 - (1 : Int32)) - p2).toNatClampNeg → ga_ok K h_4 "java/lang/Object" (f_16 ((p2 + (1 : Int32)).toNatClampNeg + i))) ∧ ∀ h_19 : ga_H, h_19 = ga_set h_4 a_14 (ga_Aq 5 n_17 (va_cpy f_16 f_18 (p2 + (1 : Int32)).toNatClampNeg p2.toNatClampNeg ((v_6 - (1 : Int32)) - p2).toNatClampNeg)) → (∃ fs_20 : List Value, h_19 p0 = some (ga_O 13 fs_20) ∧ 2 < fs_20.length ∧ ∀ h_21 : ga_H, h_21 = ga_set h_19 p0 (ga_O 13 (fs_20.set 2 (.int (v_6 - (1 : Int32))))) → (∃ a_22 : Nat, p1 = some a_22 ∧ ∃ (n_23 : Nat) (f_24 : Nat → Option Nat), h_21 a_22 = some (ga_Aq 5 n_23 f_24) ∧ vp_in (v_6 - (1 : Int32)) n_23 ∧ ga_ok K h_21 "java/lang/Object" none ∧ ∀ h_25 : ga_H, h_25 = ga_set h_21 a_22 (ga_Aq 5 n_23 (va_up f_24 (v_6 - (1 : Int32)).toNatClampNeg none)) → (post h_25))))))))
set_option maxHeartbeats 4000000 in
theorem gm_J2_fastRemove (l : Launch) (g : ga_G) (p0 : Nat) (p1 : Option Nat) (p2 : Int32) (h : ga_H) (post : ga_H → Prop) (hw : gw_J2_fastRemove g.2.2 p0 p1 p2 h post) : Met l yJ2_fastRemove (ws_ yJ2_fastRemove cJ2_fastRemove 4 none) ({ frames := 8, cells := 0, slots := 0, locals := 140 } : Room) (va_Pc [.ref p0, va_rf p1, .int p2] (ga_B g h)) (va_Qv post (ga_E g) (ga_A g)) 0 0 (ga_A g) := by
  refine ga_met (own := "java/util/ArrayList") (nm := "fastRemove") (by decide) rfl rfl (by cases p1 <;> exact Nat.le_of_ble_eq_true rfl) (fun p e s m below meth c ls hC hI hl => ?_)
  have hl : lv_has ls 4 [(0, .ref p0), (1, va_rf p1), (2, .int p2)] := (by cases p1 <;> exact hl)
  generalize ([.ref p0, va_rf p1, .int p2] : List Value).toArray = args at hC ⊢
  obtain ⟨hx, hb, hml, hown, hts, hr, hlk, hnm⟩ := hC
  unfold gw_J2_fastRemove at hw
  obtain ⟨H, eH⟩ : ∃ z, z = s.heap := ⟨_, rfl⟩
  obtain ⟨locs, elo⟩ : ∃ z : List Loc, z = [] := ⟨_, rfl⟩
  rw [← eH, ← elo] at hI ⊢
  obtain ⟨cells, slots, hbc, hbs, e0, e1⟩ : ∃ a b : Nat, a ≤ 0 ∧ b ≤ 0 ∧ a = 0 ∧ b = 0 := ⟨0, 0, by omega, by omega, rfl, rfl⟩
  show W p l e ({ frames := 8, cells := 0, slots := 0, locals := 140 } : Room) s m args below meth c H locs 0 0 (MQ below (va_Qv post (ga_E g) (ga_A g)) args s 0 0 (ga_A g)) (F0 m 0 ls [])
  suffices hgoal : W p l e ({ frames := 8, cells := 0, slots := 0, locals := 140 } : Room) s m args below meth c H locs cells slots (MQ below (va_Qv post (ga_E g) (ga_A g)) args s 0 0 (ga_A g)) (F0 m 0 ls []) by rw [e0, e1] at hgoal; exact hgoal
  refine lv_aload_n hx hb dJ2_fastRemove_0 rfl (lv_at hl 0 rfl) ?_
  refine lv_dup hx hb dJ2_fastRemove_1 rfl ?_
  obtain ⟨fs_1, v_2, hq, hv, hw⟩ := hw
  refine ga_get (ci := 13) (T := TJ2) (v := .int v_2) hx hb hts hown hI in_J2 rfl 0 (by decide) q210 (u_same (hts _ q209)) (ga_at.h hq) hv dJ2_fastRemove_2 ?_
  refine lv_iconst (v := 1) hx hb dJ2_fastRemove_5 (by decide) ?_
  refine lv_iadd hx hb dJ2_fastRemove_6 ?_
  obtain ⟨fs_3, hq, hk, hw⟩ := hw
  refine ga_put (ci := 13) (T := TJ2) (v := .int (v_2 + (1 : Int32))) (ty := tyJ2 0) hx hb hts hown hI in_J2 rfl tyJ2 tyJ2_ok nmJ2 0 (by decide) q210 (u_same (hts _ q209)) rfl (tyJ2_ok 0 (by decide)) rfl rfl hq hk dJ2_fastRemove_7 (fun H locs hI => ?_)
  obtain ⟨h_4, eh_4⟩ : ∃ z, z = ga_set h p0 (ga_O 13 (fs_3.set 0 (.int (v_2 + (1 : Int32))))) := ⟨_, rfl⟩
  rw [← eh_4] at hI
  have hw := hw h_4 eh_4
  refine lv_aload_n hx hb dJ2_fastRemove_10 rfl (lv_at hl 0 rfl) ?_
  obtain ⟨fs_5, v_6, hq, hv, hw⟩ := hw
  refine ga_get (ci := 13) (T := TJ2) (v := .int v_6) hx hb hts hown hI in_J2 rfl 2 (by decide) q206 (fun _ z => z) (ga_at.h hq) hv dJ2_fastRemove_11 ?_
  refine lv_iconst (v := 1) hx hb dJ2_fastRemove_14 (by decide) ?_
  refine lv_isub hx hb dJ2_fastRemove_15 ?_
  refine lv_dup hx hb dJ2_fastRemove_16 rfl ?_
  refine lv_istore_n (i := 3) (lv' := [(3, .int (v_6 - (1 : Int32))), (0, .ref p0), (1, va_rf p1), (2, .int p2)]) hx hb dJ2_fastRemove_17 rfl hl (by decide) rfl (fun ls hl => ?_)
  refine lv_iload_n hx hb dJ2_fastRemove_18 rfl (lv_at hl 3 rfl) ?_
  refine lv_icmp_le (tgt := 34) hx hb dJ2_fastRemove_19 (by decide) (fun hc_7 => ?_) (fun hc_7 => ?_)
  · have hw := hw.1 hc_7
    refine ga_aload_n hx hb dJ2_fastRemove_34 rfl (lv_at hl 2 rfl) ?_
    refine lv_aload_n hx hb dJ2_fastRemove_35 rfl (lv_at hl 1 rfl) ?_
    refine lv_iload_n hx hb dJ2_fastRemove_36 rfl (lv_at hl 0 rfl) ?_
    refine lv_dup_x1 hx hb dJ2_fastRemove_37 rfl rfl ?_
    obtain ⟨fs_8, hq, hk, hw⟩ := hw
    refine ga_put (ci := 13) (T := TJ2) (v := .int (v_6 - (1 : Int32))) (ty := tyJ2 2) hx hb hts hown hI in_J2 rfl tyJ2 tyJ2_ok nmJ2 2 (by decide) q206 (fun _ z => z) rfl (tyJ2_ok 2 (by decide)) rfl rfl hq hk dJ2_fastRemove_38 (fun H locs hI => ?_)
    obtain ⟨h_9, eh_9⟩ : ∃ z, z = ga_set h_4 p0 (ga_O 13 (fs_8.set 2 (.int (v_6 - (1 : Int32))))) := ⟨_, rfl⟩
    rw [← eh_9] at hI
    have hw := hw h_9 eh_9
    refine lv_null hx hb dJ2_fastRemove_41 ?_
    obtain ⟨a_10, ea_10, hw⟩ := hw
    rewrite [ea_10]
    obtain ⟨n_11, f_12, hq, hi, hok, hw⟩ := hw
    refine ga_sto (x := none) hx hb hI hq rfl hok hi dJ2_fastRemove_42 (fun H locs hI => ?_)
    obtain ⟨h_13, eh_13⟩ : ∃ z, z = ga_set h_9 a_10 (ga_Aq 5 n_11 (va_up f_12 (v_6 - (1 : Int32)).toNatClampNeg none)) := ⟨_, rfl⟩
    rw [← eh_13] at hI
    have hw := hw h_13 eh_13
    exact ga_vret hx hb hr hlk hI hw hbc hbs dJ2_fastRemove_43
  · have hw := hw.2 hc_7
    refine ga_aload_n hx hb dJ2_fastRemove_22 rfl (lv_at hl 2 rfl) ?_
    refine lv_iload_n hx hb dJ2_fastRemove_23 rfl (lv_at hl 3 rfl) ?_
    refine lv_iconst (v := 1) hx hb dJ2_fastRemove_24 (by decide) ?_
    refine lv_iadd hx hb dJ2_fastRemove_25 ?_
    refine ga_aload_n hx hb dJ2_fastRemove_26 rfl (lv_at hl 2 rfl) ?_
    refine lv_iload_n hx hb dJ2_fastRemove_27 rfl (lv_at hl 3 rfl) ?_
    refine lv_iload_n hx hb dJ2_fastRemove_28 rfl (lv_at hl 0 rfl) ?_
    refine lv_iload_n hx hb dJ2_fastRemove_29 rfl (lv_at hl 3 rfl) ?_
    refine lv_isub hx hb dJ2_fastRemove_30 ?_
    obtain ⟨a_14, ea_14, hw⟩ := hw
    rewrite [ea_14]
    obtain ⟨n_15, f_16, n_17, f_18, hq0, hq1, k1, k2, k3, k4, k5, k6, hw⟩ := hw
    refine ga_copyq hx hb (hml.trans hl.1.symm) hts hown q1165 hI hq0 hq1 k1 k2 k3 k4 k5 k6 (Nat.le_of_ble_eq_true rfl) (Nat.le_trans (Nat.add_le_add_right (ga_sum [] (Nat.le_of_ble_eq_true rfl)) _) (show (8 : Nat) + (nativeFrameWords "java/lang/System" "arraycopy" 5 + 11) ≤ 140 by decide +kernel)) dJ2_fastRemove_31 (fun H locs hI => ?_)
    obtain ⟨h_19, eh_19⟩ : ∃ z, z = ga_set h_4 a_14 (ga_Aq 5 n_17 (va_cpy f_16 f_18 (p2 + (1 : Int32)).toNatClampNeg p2.toNatClampNeg ((v_6 - (1 : Int32)) - p2).toNatClampNeg)) := ⟨_, rfl⟩
    rw [← eh_19] at hI
    have hw := hw h_19 eh_19
    refine ga_aload_n hx hb dJ2_fastRemove_34 rfl (lv_at hl 2 rfl) ?_
    refine lv_aload_n hx hb dJ2_fastRemove_35 rfl (lv_at hl 1 rfl) ?_
    refine lv_iload_n hx hb dJ2_fastRemove_36 rfl (lv_at hl 0 rfl) ?_
    refine lv_dup_x1 hx hb dJ2_fastRemove_37 rfl rfl ?_
    obtain ⟨fs_20, hq, hk, hw⟩ := hw
    refine ga_put (ci := 13) (T := TJ2) (v := .int (v_6 - (1 : Int32))) (ty := tyJ2 2) hx hb hts hown hI in_J2 rfl tyJ2 tyJ2_ok nmJ2 2 (by decide) q206 (fun _ z => z) rfl (tyJ2_ok 2 (by decide)) rfl rfl hq hk dJ2_fastRemove_38 (fun H locs hI => ?_)
    obtain ⟨h_21, eh_21⟩ : ∃ z, z = ga_set h_19 p0 (ga_O 13 (fs_20.set 2 (.int (v_6 - (1 : Int32))))) := ⟨_, rfl⟩
    rw [← eh_21] at hI
    have hw := hw h_21 eh_21
    refine lv_null hx hb dJ2_fastRemove_41 ?_
    obtain ⟨a_22, ea_22, hw⟩ := hw
    rewrite [ea_22]
    obtain ⟨n_23, f_24, hq, hi, hok, hw⟩ := hw
    refine ga_sto (x := none) hx hb hI hq rfl hok hi dJ2_fastRemove_42 (fun H locs hI => ?_)
    obtain ⟨h_25, eh_25⟩ : ∃ z, z = ga_set h_21 a_22 (ga_Aq 5 n_23 (va_up f_24 (v_6 - (1 : Int32)).toNatClampNeg none)) := ⟨_, rfl⟩
    rw [← eh_25] at hI
    have hw := hw h_25 eh_25
    exact ga_vret hx hb hr hlk hI hw hbc hbs dJ2_fastRemove_43
theorem hdG_J2_fastRemove : yJ2_fastRemove.cls ≠ "java/lang/invoke/MethodHandle" ∧ yJ2_fastRemove.cls ≠ "java/lang/invoke/VarHandle" ∧ (parseMethodDescriptor yJ2_fastRemove.desc).map (fun d => d.parameters.length) = some 2 := by decide +kernel
def gw_J2_remove (K : ga_K) (p0 : Nat) (p1 : Int32) (h : ga_H) (post : Option Nat → ga_H → Prop) : Prop :=
  ∃ (fs_1 : List Value) (v_2 : Int32), h p0 = some (ga_O 13 fs_1) ∧ fs_1[2]? = some (.int v_2) ∧ (gw_J24_checkIndex K p1 v_2 h (fun (r_4 : Int32) (h_3 : ga_H) => ∃ (fs_5 : List Value) (v_6 : Option Nat), h_3 p0 = some (ga_O 13 fs_5) ∧ fs_5[1]? = some (va_rf v_6) ∧ (∃ a_7 : Nat, v_6 = some a_7 ∧ ∃ (n_8 : Nat) (f_9 : Nat → Option Nat), ga_at K h_3 a_7 (ga_Aq 5 n_8 f_9) ∧ vp_in p1 n_8 ∧ ∀ v_10 : Option Nat, v_10 = f_9 p1.toNatClampNeg → (∃ fs_11 : List Value, ga_at K h_3 p0 (ga_O 13 fs_11) ∧ gw_J2_fastRemove K p0 v_6 p1 h_3 (fun (h_12 : ga_H) => post v_10 h_12)))))
set_option maxHeartbeats 4000000 in
theorem gm_J2_remove (l : Launch) (g : ga_G) (p0 : Nat) (p1 : Int32) (h : ga_H) (post : Option Nat → ga_H → Prop) (hw : gw_J2_remove g.2.2 p0 p1 h post) : Met l yJ2_remove (ws_ yJ2_remove cJ2_remove 4 (some (.object "java/lang/Object"))) ({ frames := 10, cells := 0, slots := 0, locals := 183 } : Room) (va_Pc [.ref p0, .int p1] (ga_B g h)) (va_Qq post (ga_E g) (ga_A g)) 0 0 (ga_A g) := by
  refine ga_met (own := "java/util/ArrayList") (nm := "remove") (by decide) rfl rfl (by exact Nat.le_of_ble_eq_true rfl) (fun p e s m below meth c ls hC hI hl => ?_)
  have hl : lv_has ls 4 [(0, .ref p0), (1, .int p1)] := hl
  generalize ([.ref p0, .int p1] : List Value).toArray = args at hC ⊢
  obtain ⟨hx, hb, hml, hown, hts, hr, hlk, hnm⟩ := hC
  unfold gw_J2_remove at hw
  obtain ⟨H, eH⟩ : ∃ z, z = s.heap := ⟨_, rfl⟩
  obtain ⟨locs, elo⟩ : ∃ z : List Loc, z = [] := ⟨_, rfl⟩
  rw [← eH, ← elo] at hI ⊢
  obtain ⟨cells, slots, hbc, hbs, e0, e1⟩ : ∃ a b : Nat, a ≤ 0 ∧ b ≤ 0 ∧ a = 0 ∧ b = 0 := ⟨0, 0, by omega, by omega, rfl, rfl⟩
  show W p l e ({ frames := 10, cells := 0, slots := 0, locals := 183 } : Room) s m args below meth c H locs 0 0 (MQ below (va_Qq post (ga_E g) (ga_A g)) args s 0 0 (ga_A g)) (F0 m 0 ls [])
  suffices hgoal : W p l e ({ frames := 10, cells := 0, slots := 0, locals := 183 } : Room) s m args below meth c H locs cells slots (MQ below (va_Qq post (ga_E g) (ga_A g)) args s 0 0 (ga_A g)) (F0 m 0 ls []) by rw [e0, e1] at hgoal; exact hgoal
  refine lv_iload_n hx hb dJ2_remove_0 rfl (lv_at hl 1 rfl) ?_
  refine lv_aload_n hx hb dJ2_remove_1 rfl (lv_at hl 0 rfl) ?_
  obtain ⟨fs_1, v_2, hq, hv, hw⟩ := hw
  refine ga_get (ci := 13) (T := TJ2) (v := .int v_2) hx hb hts hown hI in_J2 rfl 2 (by decide) q206 (fun _ z => z) (ga_at.h hq) hv dJ2_remove_2 ?_
  refine ga_calli (va_runS (As := [.int p1, .int v_2]) (rest := []) ⟨hx, hb, hml, hown, hts⟩ (gm_J24_checkIndex l g p1 v_2 h _ hw) (va_cwS 2 hts (lw_S q842 q843 q130 q844) rfl rfl rfl hdG_J24_checkIndex ⟨Nat.le_of_ble_eq_true rfl, Nat.le_of_ble_eq_true rfl⟩) (ga_preS hI rfl) rfl rfl hl.1 rfl (ga_room (Nat.le_of_ble_eq_true rfl)) dJ2_remove_5 ⟨hbc, hbs⟩) hI (bc := 0) (bs := 0) hbc hbs (Nat.zero_le _) (Nat.zero_le _) (fun r_4 h_3 H locs cells slots hw hI hbc hbs => ?_)
  refine lv_pop hx hb dJ2_remove_8 rfl ?_
  refine lv_aload_n hx hb dJ2_remove_9 rfl (lv_at hl 0 rfl) ?_
  obtain ⟨fs_5, v_6, hq, hv, hw⟩ := hw
  refine ga_get (ci := 13) (T := TJ2) (v := va_rf v_6) hx hb hts hown hI in_J2 rfl 1 (by decide) q203 (fun _ z => z) (ga_at.h hq) hv dJ2_remove_10 ?_
  refine ga_astore_n (i := 2) (x := v_6) (lv' := [(2, va_rf v_6), (0, .ref p0), (1, .int p1)]) hx hb dJ2_remove_13 rfl hl (by decide) rfl (fun ls hl => ?_)
  refine ga_aload_n hx hb dJ2_remove_14 rfl (lv_at hl 0 rfl) ?_
  refine lv_iload_n hx hb dJ2_remove_15 rfl (lv_at hl 2 rfl) ?_
  obtain ⟨a_7, ea_7, hw⟩ := hw
  rewrite [ea_7]
  obtain ⟨n_8, f_9, hq, hi, hw⟩ := hw
  refine ga_ldq hx hb hI hq rfl hi dJ2_remove_16 ?_
  obtain ⟨v_10, ev_10⟩ : ∃ z, z = f_9 p1.toNatClampNeg := ⟨_, rfl⟩
  rw [← ev_10]
  have hw := hw v_10 ev_10
  refine ga_astore_n (i := 3) (x := v_10) (lv' := [(3, va_rf v_10), (2, va_rf v_6), (0, .ref p0), (1, .int p1)]) hx hb dJ2_remove_17 rfl hl (by decide) (by simp [ga_rcat, ga_cat_r, ga_cat_i, ga_cat_f, ga_cat_l, ga_cat_d]) (fun ls hl => ?_)
  refine lv_aload_n hx hb dJ2_remove_18 rfl (lv_at hl 2 rfl) ?_
  refine ga_aload_n hx hb dJ2_remove_19 rfl (lv_at hl 1 rfl) ?_
  refine lv_iload_n hx hb dJ2_remove_20 rfl (lv_at hl 3 rfl) ?_
  obtain ⟨fs_11, hq, hw⟩ := hw
  refine ga_callv (va_runV (As := [va_rf v_6, .int p1]) (rest := []) ⟨hx, hb, hml, hown, hts⟩ (gm_J2_fastRemove l g p0 v_6 p1 h_3 _ hw) (cwV 2 hts (lw_V q2078 q2080 qs9 q104 q2081) rfl rfl rfl ⟨rfl, hdG_J2_fastRemove⟩ ⟨Nat.le_of_ble_eq_true rfl, Nat.le_of_ble_eq_true rfl⟩) (ga_preV hI hq rfl rfl) rfl rfl hl.1 rfl (ga_room (Nat.le_of_ble_eq_true rfl)) dJ2_remove_21 ⟨hbc, hbs⟩) hI (bc := 0) (bs := 0) hbc hbs (Nat.zero_le _) (Nat.zero_le _) (fun h_12 H locs cells slots hw hI hbc hbs => ?_)
  refine ga_aload_n hx hb dJ2_remove_24 rfl (lv_at hl 0 rfl) ?_
  exact ga_qret (v := v_10) hx hb hr (Or.inl ⟨_, rfl⟩) hlk hI hw hbc hbs dJ2_remove_25
theorem hdG_J2_remove : yJ2_remove.cls ≠ "java/lang/invoke/MethodHandle" ∧ yJ2_remove.cls ≠ "java/lang/invoke/VarHandle" ∧ (parseMethodDescriptor yJ2_remove.desc).map (fun d => d.parameters.length) = some 1 := by decide +kernel
def gw_X1_become_21 (K : ga_K) (post : Int32 → ga_H → Prop) (p0 : Nat) (v1 : Option Nat) (v2 : Int32) (h : ga_H) (bc bs : Nat) : Prop :=
  ∃ (fs_8 : List Value) (v_9 : Option Nat), h p0 = some (ga_O 0 fs_8) ∧ fs_8[2]? = some (va_rf v_9) ∧ (∃ (fs_10 : List Value) (v_11 : Option Nat), h p0 = some (ga_O 0 fs_10) ∧ fs_10[0]? = some (va_rf v_11) ∧ (∃ a_12 : Nat, v_9 = some a_12 ∧ ∃ kc_13 ks_14 : Nat, kc_13 ≤ bc ∧ ks_14 ≤ bs ∧ ∃ fs_15 : List Value, ga_at K h a_12 (ga_O 13 fs_15) ∧ gw_J2_add K a_12 v_11 h kc_13 ks_14 (fun (r_17 : Int32) (h_16 : ga_H) => ∃ fs_18 : List Value, h_16 p0 = some (ga_O 0 fs_18) ∧ 0 < fs_18.length ∧ ∀ h_19 : ga_H, h_19 = ga_set h_16 p0 (ga_O 0 (fs_18.set 0 (va_rf v1))) → (post v2 h_19))))
set_option maxHeartbeats 4000000 in
theorem gj_X1_become_21 {p : Program} {l : Launch} {e : Env} {s : State} {m : MethodId} {args : Array Value} {below : List Frame} {meth : Method} {c : Code} {mc ms : Nat} {H : Heap} {locs : List Loc} {cells slots : Nat} {ls : Array Slot} (g : ga_G) (post : Int32 → ga_H → Prop) (p0 : Nat) (v1 : Option Nat) (v2 : Int32) (h : ga_H) (bc bs : Nat) (hC : ga_Cx p s m args meth c cX1_become 3 (some .int) "PaperStore" "become") (hw : gw_X1_become_21 g.2.2 post p0 v1 v2 h bc bs) (hI : ga_I g h s H locs) (hbc : cells + bc ≤ mc) (hbs : slots + bs ≤ ms) (hl : lv_has ls 3 [(0, .ref p0), (1, va_rf v1), (2, .int v2)]) : W p l e ({ frames := 14, cells := mc, slots := ms, locals := 271 } : Room) s m args below meth c H locs cells slots (MQ below (va_Qi post (ga_E g) (ga_A g)) args s mc ms (ga_A g)) (F0 m 21 ls []) := by
  obtain ⟨hx, hb, hml, hown, hts, hr, hlk, hnm⟩ := hC
  unfold gw_X1_become_21 at hw
  refine lv_aload_n hx hb dX1_become_21 rfl (lv_at hl 0 rfl) ?_
  obtain ⟨fs_8, v_9, hq, hv, hw⟩ := hw
  refine ga_get (ci := 0) (T := TX1) (v := va_rf v_9) hx hb hts hown hI in_X1 rfl 2 (by decide) q389 (fun _ z => z) (ga_at.h hq) hv dX1_become_22 ?_
  refine lv_aload_n hx hb dX1_become_25 rfl (lv_at hl 0 rfl) ?_
  obtain ⟨fs_10, v_11, hq, hv, hw⟩ := hw
  refine ga_get (ci := 0) (T := TX1) (v := va_rf v_11) hx hb hts hown hI in_X1 rfl 0 (by decide) q387 (fun _ z => z) (ga_at.h hq) hv dX1_become_26 ?_
  obtain ⟨a_12, ea_12, hw⟩ := hw
  rewrite [ea_12]
  obtain ⟨kc_13, ks_14, hk1, hk2, hw⟩ := hw
  obtain ⟨fs_15, hq, hw⟩ := hw
  refine ga_calli (va_runV (As := [va_rf v_11]) (rest := []) ⟨hx, hb, hml, hown, hts⟩ (gm_J2_add l g a_12 v_11 h kc_13 ks_14 _ hw) (cwV 1 hts (lw_V q2082 q1321 q1322 q104 q1323) rfl rfl rfl ⟨rfl, hdG_J2_add⟩ ⟨Nat.le_of_ble_eq_true rfl, Nat.le_of_ble_eq_true rfl⟩) (ga_preV hI hq rfl rfl) rfl rfl hl.1 rfl (ga_room (Nat.le_of_ble_eq_true rfl)) dX1_become_29 ⟨Nat.le_trans (Nat.add_le_add_left hk1 _) hbc, Nat.le_trans (Nat.add_le_add_left hk2 _) hbs⟩) hI hbc hbs hk1 hk2 (fun r_17 h_16 H locs cells slots hw hI hbc hbs => ?_)
  refine lv_pop hx hb dX1_become_32 rfl ?_
  refine lv_aload_n hx hb dX1_become_33 rfl (lv_at hl 0 rfl) ?_
  refine ga_aload_n hx hb dX1_become_34 rfl (lv_at hl 1 rfl) ?_
  obtain ⟨fs_18, hq, hk, hw⟩ := hw
  refine ga_put (ci := 0) (T := TX1) (v := va_rf v1) (ty := tyX1 0) hx hb hts hown hI in_X1 rfl tyX1 tyX1_ok nmX1 0 (by decide) q387 (fun _ z => z) rfl (tyX1_ok 0 (by decide)) (ga_nq _ _) (ga_fq _ _) hq hk dX1_become_35 (fun H locs hI => ?_)
  obtain ⟨h_19, eh_19⟩ : ∃ z, z = ga_set h_16 p0 (ga_O 0 (fs_18.set 0 (va_rf v1))) := ⟨_, rfl⟩
  rw [← eh_19] at hI
  have hw := hw h_19 eh_19
  refine lv_iload_n hx hb dX1_become_38 rfl (lv_at hl 2 rfl) ?_
  exact ga_iret hx hb hr rfl hlk hI hw (Nat.le_trans (Nat.le_add_right _ _) hbc) (Nat.le_trans (Nat.le_add_right _ _) hbs) dX1_become_39
def gw_X1_become (K : ga_K) (p0 : Nat) (p1 : Option Nat) (p2 : Int32) (h : ga_H) (mc ms : Nat) (post : Int32 → ga_H → Prop) : Prop :=
  ∃ (fs_1 : List Value) (v_2 : Option Nat), h p0 = some (ga_O 0 fs_1) ∧ fs_1[2]? = some (va_rf v_2) ∧ (∃ a_3 : Nat, v_2 = some a_3 ∧ ∃ fs_4 : List Value, ga_at K h a_3 (ga_O 13 fs_4) ∧ gw_J2_size K a_3 h (fun (r_6 : Int32) (h_5 : ga_H) => (¬ r_6 = (6 : Int32) → (gw_X1_become_21 K post p0 p1 p2 h_5 mc ms)) ∧ (r_6 = (6 : Int32) → (∃ (fs_20 : List Value) (v_21 : Option Nat), h_5 p0 = some (ga_O 0 fs_20) ∧ fs_20[2]? = some (va_rf v_21) ∧ (∃ a_22 : Nat, v_21 = some a_22 ∧ ∃ fs_23 : List Value, ga_at K h_5 a_22 (ga_O 13 fs_23) ∧ gw_J2_remove K a_22 (0 : Int32) h_5 (fun (r_25 : Option Nat) (h_24 : ga_H) => gw_X1_become_21 K post p0 p1 p2 h_24 mc ms))))))
set_option maxHeartbeats 4000000 in
theorem gm_X1_become (l : Launch) (g : ga_G) (p0 : Nat) (p1 : Option Nat) (p2 : Int32) (h : ga_H) (mc ms : Nat) (post : Int32 → ga_H → Prop) (hw : gw_X1_become g.2.2 p0 p1 p2 h mc ms post) : Met l yX1_become (ws_ yX1_become cX1_become 3 (some .int)) ({ frames := 14, cells := mc, slots := ms, locals := 271 } : Room) (va_Pc [.ref p0, va_rf p1, .int p2] (ga_B g h)) (va_Qi post (ga_E g) (ga_A g)) mc ms (ga_A g) := by
  refine ga_met (own := "PaperStore") (nm := "become") (by decide) rfl rfl (by cases p1 <;> exact Nat.le_of_ble_eq_true rfl) (fun p e s m below meth c ls hC hI hl => ?_)
  have hl : lv_has ls 3 [(0, .ref p0), (1, va_rf p1), (2, .int p2)] := (by cases p1 <;> exact hl)
  generalize ([.ref p0, va_rf p1, .int p2] : List Value).toArray = args at hC ⊢
  obtain ⟨hx, hb, hml, hown, hts, hr, hlk, hnm⟩ := hC
  unfold gw_X1_become at hw
  obtain ⟨H, eH⟩ : ∃ z, z = s.heap := ⟨_, rfl⟩
  obtain ⟨locs, elo⟩ : ∃ z : List Loc, z = [] := ⟨_, rfl⟩
  rw [← eH, ← elo] at hI ⊢
  obtain ⟨cells, slots, hbc, hbs, e0, e1⟩ : ∃ a b : Nat, a + mc ≤ mc ∧ b + ms ≤ ms ∧ a = 0 ∧ b = 0 := ⟨0, 0, by omega, by omega, rfl, rfl⟩
  show W p l e ({ frames := 14, cells := mc, slots := ms, locals := 271 } : Room) s m args below meth c H locs 0 0 (MQ below (va_Qi post (ga_E g) (ga_A g)) args s mc ms (ga_A g)) (F0 m 0 ls [])
  suffices hgoal : W p l e ({ frames := 14, cells := mc, slots := ms, locals := 271 } : Room) s m args below meth c H locs cells slots (MQ below (va_Qi post (ga_E g) (ga_A g)) args s mc ms (ga_A g)) (F0 m 0 ls []) by rw [e0, e1] at hgoal; exact hgoal
  refine lv_aload_n hx hb dX1_become_0 rfl (lv_at hl 0 rfl) ?_
  obtain ⟨fs_1, v_2, hq, hv, hw⟩ := hw
  refine ga_get (ci := 0) (T := TX1) (v := va_rf v_2) hx hb hts hown hI in_X1 rfl 2 (by decide) q389 (fun _ z => z) (ga_at.h hq) hv dX1_become_1 ?_
  obtain ⟨a_3, ea_3, hw⟩ := hw
  rewrite [ea_3]
  obtain ⟨fs_4, hq, hw⟩ := hw
  refine ga_calli (va_runV (As := []) (rest := []) ⟨hx, hb, hml, hown, hts⟩ (gm_J2_size l g a_3 h _ hw) (cwV 0 hts (lw_V q1240 q536 q4117 q104 q537) rfl rfl rfl ⟨rfl, hdG_J2_size⟩ ⟨Nat.le_of_ble_eq_true rfl, Nat.le_of_ble_eq_true rfl⟩) (ga_preV hI hq rfl rfl) rfl rfl hl.1 rfl (ga_room (Nat.le_of_ble_eq_true rfl)) dX1_become_4 ⟨Nat.le_trans (Nat.add_le_add_left (Nat.zero_le _) _) hbc, Nat.le_trans (Nat.add_le_add_left (Nat.zero_le _) _) hbs⟩) hI hbc hbs (Nat.zero_le _) (Nat.zero_le _) (fun r_6 h_5 H locs cells slots hw hI hbc hbs => ?_)
  refine lv_bipush (v := 6) hx hb dX1_become_7 (by decide) ?_
  refine lv_icmp_ne (tgt := 21) hx hb dX1_become_9 (by decide) (fun hc_7 => ?_) (fun hc_7 => ?_)
  · have hw := hw.1 hc_7
    exact gj_X1_become_21 g post p0 p1 p2 h_5 mc ms ⟨hx, hb, hml, hown, hts, hr, hlk, hnm⟩ hw hI hbc hbs (lv_sub hl [0, 1, 2] rfl)
  · have hw := hw.2 hc_7
    refine lv_aload_n hx hb dX1_become_12 rfl (lv_at hl 0 rfl) ?_
    obtain ⟨fs_20, v_21, hq, hv, hw⟩ := hw
    refine ga_get (ci := 0) (T := TX1) (v := va_rf v_21) hx hb hts hown hI in_X1 rfl 2 (by decide) q389 (fun _ z => z) (ga_at.h hq) hv dX1_become_13 ?_
    refine lv_iconst (v := 0) hx hb dX1_become_16 (by decide) ?_
    obtain ⟨a_22, ea_22, hw⟩ := hw
    rewrite [ea_22]
    obtain ⟨fs_23, hq, hw⟩ := hw
    refine ga_callq (va_runV (As := [.int (0 : Int32)]) (rest := []) ⟨hx, hb, hml, hown, hts⟩ (gm_J2_remove l g a_22 (0 : Int32) h_5 _ hw) (cwV 1 hts (lw_V q2074 q2075 q2076 q104 q2077) rfl rfl rfl ⟨rfl, hdG_J2_remove⟩ ⟨Nat.le_of_ble_eq_true rfl, Nat.le_of_ble_eq_true rfl⟩) (ga_preV hI hq rfl rfl) rfl rfl hl.1 rfl (ga_room (Nat.le_of_ble_eq_true rfl)) dX1_become_17 ⟨Nat.le_trans (Nat.add_le_add_left (Nat.zero_le _) _) hbc, Nat.le_trans (Nat.add_le_add_left (Nat.zero_le _) _) hbs⟩) hI hbc hbs (Nat.zero_le _) (Nat.zero_le _) (fun r_25 h_24 H locs cells slots hw hI hbc hbs => ?_)
    refine lv_pop hx hb dX1_become_20 (ga_rcat _) ?_
    exact gj_X1_become_21 g post p0 p1 p2 h_24 mc ms ⟨hx, hb, hml, hown, hts, hr, hlk, hnm⟩ hw hI hbc hbs (lv_sub hl [0, 1, 2] rfl)
theorem hdG_X1_become : yX1_become.cls ≠ "java/lang/invoke/MethodHandle" ∧ yX1_become.cls ≠ "java/lang/invoke/VarHandle" ∧ (parseMethodDescriptor yX1_become.desc).map (fun d => d.parameters.length) = some 2 := by decide +kernel
def gw_X1_kept (K : ga_K) (p0 : Nat) (p1 : Option Nat) (h : ga_H) (mc ms : Nat) (post : Option Nat → ga_H → Prop) (xp : String → Nat → ga_H → Prop) : Prop :=
  ∃ fs_1 : List Value, h p0 = some (ga_O 0 fs_1) ∧ 7 < fs_1.length ∧ ∀ h_2 : ga_H, h_2 = ga_set h p0 (ga_O 0 (fs_1.set 7 (va_rf p1))) → (1 ≤ mc ∧ 6 ≤ ms ∧ ∀ q_3 : Nat, h_2 q_3 = none → ∀ h_4 : ga_H, h_4 = ga_set h_2 q_3 (ga_O 28 []) → (post (some q_3) h_4))
set_option maxHeartbeats 4000000 in
theorem gm_X1_kept (l : Launch) (hst : l.stackTraces = false) (g : ga_G) (p0 : Nat) (p1 : Option Nat) (h : ga_H) (mc ms : Nat) (post : Option Nat → ga_H → Prop) (xp : String → Nat → ga_H → Prop) (hw : gw_X1_kept g.2.2 p0 p1 h mc ms post xp) : vx_Met l yX1_kept (ws_ yX1_kept cX1_kept 2 (some (.object "java/lang/UnsupportedOperationException"))) ({ frames := 8, cells := mc, slots := ms, locals := 140 } : Room) (va_Pc [.ref p0, va_rf p1] (ga_B g h)) (va_Qq post (ga_E g) (ga_A g)) (ga_X g xp) mc ms (ga_A g) := by
  refine ga_metx (own := "PaperStore") (nm := "kept") (by decide) rfl rfl (by cases p1 <;> exact Nat.le_of_ble_eq_true rfl) (fun p e s m below meth c ls hC htab hI hl => ?_)
  have hl : lv_has ls 2 [(0, .ref p0), (1, va_rf p1)] := (by cases p1 <;> exact hl)
  generalize ([.ref p0, va_rf p1] : List Value).toArray = args at hC ⊢
  obtain ⟨hx, hb, hml, hown, hts, hr, hlk, hnm⟩ := hC
  unfold gw_X1_kept at hw
  obtain ⟨H, eH⟩ : ∃ z, z = s.heap := ⟨_, rfl⟩
  obtain ⟨locs, elo⟩ : ∃ z : List Loc, z = [] := ⟨_, rfl⟩
  rw [← eH, ← elo] at hI ⊢
  obtain ⟨cells, slots, hbc, hbs, e0, e1⟩ : ∃ a b : Nat, a + mc ≤ mc ∧ b + ms ≤ ms ∧ a = 0 ∧ b = 0 := ⟨0, 0, by omega, by omega, rfl, rfl⟩
  show W p l e ({ frames := 8, cells := mc, slots := ms, locals := 140 } : Room) s m args below meth c H locs 0 0 (vx_MQ below (va_Qq post (ga_E g) (ga_A g)) (ga_X g xp) args s mc ms (ga_A g)) (F0 m 0 ls [])
  suffices hgoal : W p l e ({ frames := 8, cells := mc, slots := ms, locals := 140 } : Room) s m args below meth c H locs cells slots (vx_MQ below (va_Qq post (ga_E g) (ga_A g)) (ga_X g xp) args s mc ms (ga_A g)) (F0 m 0 ls []) by rw [e0, e1] at hgoal; exact hgoal
  refine lv_aload_n hx hb dX1_kept_0 rfl (lv_at hl 0 rfl) ?_
  refine ga_aload_n hx hb dX1_kept_1 rfl (lv_at hl 1 rfl) ?_
  obtain ⟨fs_1, hq, hk, hw⟩ := hw
  refine ga_put (ci := 0) (T := TX1) (v := va_rf p1) (ty := tyX1 7) hx hb hts hown hI in_X1 rfl tyX1 tyX1_ok nmX1 7 (by decide) q394 (fun _ z => z) rfl (tyX1_ok 7 (by decide)) (ga_nq _ _) (ga_fq _ _) hq hk dX1_kept_2 (fun H locs hI => ?_)
  obtain ⟨h_2, eh_2⟩ : ∃ z, z = ga_set h p0 (ga_O 0 (fs_1.set 7 (va_rf p1))) := ⟨_, rfl⟩
  rw [← eh_2] at hI
  have hw := hw h_2 eh_2
  refine ga_mk_uoe (ik := 74) (ic := 76) hx hb hst hts hown q2087 q2096 hI (hl.1.trans hml.symm) dX1_kept_5 dX1_kept_8 dX1_kept_9 (Nat.le_of_ble_eq_true rfl) (Nat.le_trans (Nat.add_le_add_right (ga_sum [] (Nat.le_of_ble_eq_true rfl)) 81) (Nat.le_of_ble_eq_true rfl)) hbc hbs hw.1 hw.2.1 (fun q_3 H cells slots hn_q_3 hI hbc hbs => ?_)
  obtain ⟨h_4, eh_4⟩ : ∃ z, z = ga_set h_2 q_3 (ga_O 28 []) := ⟨_, rfl⟩
  rw [← eh_4] at hI
  have hw := hw.2.2 q_3 hn_q_3 h_4 eh_4
  exact ga_qretx (v := (some q_3)) hx hb hr (Or.inl ⟨_, rfl⟩) hlk hI hw (Nat.le_trans (Nat.le_add_right _ _) hbc) (Nat.le_trans (Nat.le_add_right _ _) hbs) dX1_kept_12
theorem hdG_X1_kept : yX1_kept.cls ≠ "java/lang/invoke/MethodHandle" ∧ yX1_kept.cls ≠ "java/lang/invoke/VarHandle" ∧ (parseMethodDescriptor yX1_kept.desc).map (fun d => d.parameters.length) = some 1 := by decide +kernel
def gw_X1_ladder (K : ga_K) (p0 : Nat) (p1 : Int32) (h : ga_H) (mc ms : Nat) (post : Int32 → ga_H → Prop) (xp : String → Nat → ga_H → Prop) : Prop :=
  gw_X1_isIn p1 (1 : Int32) (6 : Int32) (fun (r_1 : Int32) => ∃ kc_2 ks_3 : Nat, kc_2 ≤ mc ∧ ks_3 ≤ ms ∧ gw_X1_checkArgument K r_1 h kc_2 ks_3 (fun (h_4 : ga_H) => ∃ (fs_8 : List Value) (v_9 : Option Nat), h_4 p0 = some (ga_O 0 fs_8) ∧ fs_8[0]? = some (va_rf v_9) ∧ (∃ a_10 : Nat, v_9 = some a_10 ∧ ∃ kc_11 ks_12 : Nat, kc_11 ≤ (mc - kc_2) ∧ ks_12 ≤ (ms - ks_3) ∧ ∃ fs_13 : List Value, ga_at K h_4 a_10 (ga_O 1 fs_13) ∧ gw_X2_copy K a_10 h_4 kc_11 ks_12 (fun (r_15 : Option Nat) (h_14 : ga_H) => ∃ a_16 : Nat, r_15 = some a_16 ∧ ∃ kc_17 ks_18 : Nat, kc_17 ≤ ((mc - kc_2) - kc_11) ∧ ks_18 ≤ ((ms - ks_3) - ks_12) ∧ ∃ fs_19 : List Value, ga_at K h_14 a_16 (ga_O 1 fs_19) ∧ gw_X2_addLadder K a_16 p1 h_14 kc_17 ks_18 (fun (r_21 : Int32) (h_20 : ga_H) => ∃ kc_35 ks_36 : Nat, kc_35 ≤ (((mc - kc_2) - kc_11) - kc_17) ∧ ks_36 ≤ (((ms - ks_3) - ks_12) - ks_18) ∧ ∃ fs_37 : List Value, ga_at K h_20 p0 (ga_O 0 fs_37) ∧ gw_X1_become K p0 r_15 r_21 h_20 kc_35 ks_36 (fun (r_39 : Int32) (h_38 : ga_H) => post r_39 h_38)) (fun (E_22 : String) (q_23 : Nat) (h_24 : ga_H) => (E_22 = "PaperStore$Refusal" ∧ (∃ kc_25 ks_26 : Nat, kc_25 ≤ (((mc - kc_2) - kc_11) - kc_17) ∧ ks_26 ≤ (((ms - ks_3) - ks_12) - ks_18) ∧ ∃ fs_27 : List Value, ga_at K h_24 p0 (ga_O 0 fs_27) ∧ gw_X1_kept K p0 (some q_23) h_24 kc_25 ks_26 (fun (r_29 : Option Nat) (h_28 : ga_H) => ∃ a_33 : Nat, r_29 = some a_33 ∧ ∃ fs_34 : List Value, h_28 a_33 = some (ga_O 28 fs_34) ∧ (xp "java/lang/UnsupportedOperationException" a_33 h_28)) (fun (E_30 : String) (q_31 : Nat) (h_32 : ga_H) => False))))))) (fun (E_5 : String) (q_6 : Nat) (h_7 : ga_H) => (E_5 = "java/lang/IllegalArgumentException" ∧ (xp "java/lang/IllegalArgumentException" q_6 h_7))))
set_option maxHeartbeats 4000000 in
theorem gm_X1_ladder (l : Launch) (hst : l.stackTraces = false) (g : ga_G) (p0 : Nat) (p1 : Int32) (h : ga_H) (mc ms : Nat) (post : Int32 → ga_H → Prop) (xp : String → Nat → ga_H → Prop) (hw : gw_X1_ladder g.2.2 p0 p1 h mc ms post xp) : vx_Met l yX1_ladder (wsW_ yX1_ladder cX1_ladder 4 (some .int) [(18, 30, 31, 25)]) ({ frames := 17, cells := mc, slots := ms, locals := 1389 } : Room) (va_Pc [.ref p0, .int p1] (ga_B g h)) (va_Qi post (ga_E g) (ga_A g)) (ga_X g xp) mc ms (ga_A g) := by
  refine ga_metxW (own := "PaperStore") (nm := "ladder") (by decide) rfl rfl (by exact Nat.le_of_ble_eq_true rfl) (fun p e s m below meth c ls hC htab hI hl => ?_)
  have hl : lv_has ls 4 [(0, .ref p0), (1, .int p1)] := hl
  generalize ([.ref p0, .int p1] : List Value).toArray = args at hC ⊢
  obtain ⟨hx, hb, hml, hown, hts, hr, hlk, hnm⟩ := hC
  unfold gw_X1_ladder at hw
  obtain ⟨H, eH⟩ : ∃ z, z = s.heap := ⟨_, rfl⟩
  obtain ⟨locs, elo⟩ : ∃ z : List Loc, z = [] := ⟨_, rfl⟩
  rw [← eH, ← elo] at hI ⊢
  obtain ⟨cells, slots, hbc, hbs, e0, e1⟩ : ∃ a b : Nat, a + mc ≤ mc ∧ b + ms ≤ ms ∧ a = 0 ∧ b = 0 := ⟨0, 0, by omega, by omega, rfl, rfl⟩
  show W p l e ({ frames := 17, cells := mc, slots := ms, locals := 1389 } : Room) s m args below meth c H locs 0 0 (vx_MQ below (va_Qi post (ga_E g) (ga_A g)) (ga_X g xp) args s mc ms (ga_A g)) (F0 m 0 ls [])
  suffices hgoal : W p l e ({ frames := 17, cells := mc, slots := ms, locals := 1389 } : Room) s m args below meth c H locs cells slots (vx_MQ below (va_Qi post (ga_E g) (ga_A g)) (ga_X g xp) args s mc ms (ga_A g)) (F0 m 0 ls []) by rw [e0, e1] at hgoal; exact hgoal
  refine lv_iload_n hx hb dX1_ladder_0 rfl (lv_at hl 1 rfl) ?_
  refine lv_iconst (v := 1) hx hb dX1_ladder_1 (by decide) ?_
  refine lv_bipush (v := 6) hx hb dX1_ladder_2 (by decide) ?_
  refine ga_callS (As := [.int p1, .int (1 : Int32), .int (6 : Int32)]) (rest := []) ⟨hx, hb, hml, hown, hts⟩ (gm_X1_isIn l p1 (1 : Int32) (6 : Int32) _ hw) (va_cwS 3 hts (lw_S q2024 q2025 q100 q2026) rfl rfl rfl hdG_X1_isIn ⟨Nat.le_of_ble_eq_true rfl, Nat.le_of_ble_eq_true rfl⟩) rfl hl.1 rfl (ga_room (Nat.le_of_ble_eq_true rfl)) dX1_ladder_4 hbc hbs (fun r_1 hw => ?_)
  obtain ⟨kc_2, ks_3, hk1, hk2, hw⟩ := hw
  refine ga_xcallv (vx_runS (As := [.int r_1]) (rest := []) ⟨hx, hb, hml, hown, hts⟩ (gm_X1_checkArgument l hst g r_1 h kc_2 ks_3 _ _ hw) (va_cwS 1 hts (lw_S q2027 q2028 q100 q2029) rfl rfl rfl hdG_X1_checkArgument ⟨Nat.le_of_ble_eq_true rfl, Nat.le_of_ble_eq_true rfl⟩) (ga_preS hI rfl) rfl rfl hl.1 rfl (ga_room (Nat.le_of_ble_eq_true rfl)) dX1_ladder_7 ⟨Nat.le_trans (Nat.add_le_add_left hk1 _) hbc, Nat.le_trans (Nat.add_le_add_left hk2 _) hbs⟩) hI hbc hbs hk1 hk2 (fun E_5 q_6 h_7 ce H locs cells slots hw hI hce hbc hbs => ?_) (fun h_4 H locs cells slots hw hI hbc hbs => ?_)
  · obtain ⟨rfl, hw⟩ := hw
    exact ga_out hown hlk hI hw (by rw [htab]; exact (List.forall_mem_cons.mpr ⟨Or.inl rfl, fun _ h => absurd h List.not_mem_nil⟩)) hce (Nat.le_trans (Nat.le_add_right _ _) hbc) (Nat.le_trans (Nat.le_add_right _ _) hbs)
  · skip
    refine lv_aload_n hx hb dX1_ladder_10 rfl (lv_at hl 0 rfl) ?_
    obtain ⟨fs_8, v_9, hq, hv, hw⟩ := hw
    refine ga_get (ci := 0) (T := TX1) (v := va_rf v_9) hx hb hts hown hI in_X1 rfl 0 (by decide) q387 (fun _ z => z) (ga_at.h hq) hv dX1_ladder_11 ?_
    obtain ⟨a_10, ea_10, hw⟩ := hw
    rewrite [ea_10]
    obtain ⟨kc_11, ks_12, hk1, hk2, hw⟩ := hw
    obtain ⟨fs_13, hq, hw⟩ := hw
    refine ga_callq (va_runV (As := []) (rest := []) ⟨hx, hb, hml, hown, hts⟩ (gm_X2_copy l g a_10 h_4 kc_11 ks_12 _ hw) (cwV 0 hts (lw_V q1259 q1260 q1261 q101 q1262) rfl rfl rfl ⟨rfl, hdG_X2_copy⟩ ⟨Nat.le_of_ble_eq_true rfl, Nat.le_of_ble_eq_true rfl⟩) (ga_preV hI hq rfl rfl) rfl rfl hl.1 rfl (ga_room (Nat.le_of_ble_eq_true rfl)) dX1_ladder_14 ⟨Nat.le_trans (Nat.add_le_add_left hk1 _) hbc, Nat.le_trans (Nat.add_le_add_left hk2 _) hbs⟩) hI hbc hbs hk1 hk2 (fun r_15 h_14 H locs cells slots hw hI hbc hbs => ?_)
    refine ga_astore_n (i := 2) (x := r_15) (lv' := [(2, va_rf r_15), (0, .ref p0), (1, .int p1)]) hx hb dX1_ladder_17 rfl hl (by decide) rfl (fun ls hl => ?_)
    refine ga_aload_n hx hb dX1_ladder_18 rfl (lv_at hl 0 rfl) ?_
    refine lv_iload_n hx hb dX1_ladder_19 rfl (lv_at hl 2 rfl) ?_
    obtain ⟨a_16, ea_16, hw⟩ := hw
    rewrite [ea_16]
    obtain ⟨kc_17, ks_18, hk1, hk2, hw⟩ := hw
    obtain ⟨fs_19, hq, hw⟩ := hw
    refine ga_xcalli (vx_runV (As := [.int p1]) (rest := []) ⟨hx, hb, hml, hown, hts⟩ (gm_X2_addLadder l hst g a_16 p1 h_14 kc_17 ks_18 _ _ hw) (cwV 1 hts (lw_V q2035 q2036 q2037 q101 q2038) rfl rfl rfl ⟨rfl, hdG_X2_addLadder⟩ ⟨Nat.le_of_ble_eq_true rfl, Nat.le_of_ble_eq_true rfl⟩) (ga_preV hI hq rfl rfl) rfl rfl hl.1 rfl (ga_room (Nat.le_of_ble_eq_true rfl)) dX1_ladder_20 ⟨Nat.le_trans (Nat.add_le_add_left hk1 _) hbc, Nat.le_trans (Nat.add_le_add_left hk2 _) hbs⟩) hI hbc hbs hk1 hk2 (fun E_22 q_23 h_24 ce H locs cells slots hw hI hce hbc hbs => ?_) (fun r_21 h_20 H locs cells slots hw hI hbc hbs => ?_)
    · obtain ⟨rfl, hw⟩ := hw
      refine ga_catch hown hts hI ([]) (⟨18, 30, 31, 25⟩) ([]) (by rw [htab]; rfl) (fun _ h => absurd h List.not_mem_nil) rfl (by decide) q2023 q2044 hce ?_
      refine W.eq (g2 := F0 m 31 ls [.ref q_23]) rfl ?_
      refine lv_astore_n (i := 3) (lv' := [(3, .ref q_23), (2, va_rf r_15), (0, .ref p0), (1, .int p1)]) hx hb dX1_ladder_31 rfl hl (by decide) (by simp [ga_rcat, ga_cat_r, ga_cat_i, ga_cat_f, ga_cat_l, ga_cat_d]) (fun ls hl => ?_)
      refine lv_aload_n hx hb dX1_ladder_32 rfl (lv_at hl 2 rfl) ?_
      refine lv_aload_n hx hb dX1_ladder_33 rfl (lv_at hl 0 rfl) ?_
      obtain ⟨kc_25, ks_26, hk1, hk2, hw⟩ := hw
      obtain ⟨fs_27, hq, hw⟩ := hw
      refine ga_xcallq (vx_runV (As := [va_rf (some q_23)]) (rest := []) ⟨hx, hb, hml, hown, hts⟩ (gm_X1_kept l hst g p0 (some q_23) h_24 kc_25 ks_26 _ _ hw) (cwV 1 hts (lw_V q2083 q2085 qs10 q100 q2086) rfl rfl rfl ⟨rfl, hdG_X1_kept⟩ ⟨Nat.le_of_ble_eq_true rfl, Nat.le_of_ble_eq_true rfl⟩) (ga_preV hI hq rfl rfl) rfl rfl hl.1 rfl (ga_room (Nat.le_of_ble_eq_true rfl)) dX1_ladder_34 ⟨Nat.le_trans (Nat.add_le_add_left hk1 _) hbc, Nat.le_trans (Nat.add_le_add_left hk2 _) hbs⟩) hI hbc hbs hk1 hk2 (fun E_30 q_31 h_32 ce H locs cells slots hw hI hce hbc hbs => ?_) (fun r_29 h_28 H locs cells slots hw hI hbc hbs => ?_)
      · exact hw.elim
      · skip
        obtain ⟨a_33, ea_33, hw⟩ := hw
        rewrite [ea_33]
        obtain ⟨fs_34, hq, hw⟩ := hw
        refine ga_athrow (ci := 28) hx hb hI (ga_at.h hq) rfl dX1_ladder_37 (fun ce hce => ?_)
        exact ga_out hown hlk hI hw (by rw [htab]; exact (List.forall_mem_cons.mpr ⟨Or.inl rfl, fun _ h => absurd h List.not_mem_nil⟩)) hce (Nat.le_trans (Nat.le_add_right _ _) hbc) (Nat.le_trans (Nat.le_add_right _ _) hbs)
    · skip
      refine lv_istore_n (i := 3) (lv' := [(3, .int r_21), (2, va_rf r_15), (0, .ref p0), (1, .int p1)]) hx hb dX1_ladder_23 rfl hl (by decide) (by simp [ga_rcat, ga_cat_r, ga_cat_i, ga_cat_f, ga_cat_l, ga_cat_d]) (fun ls hl => ?_)
      refine lv_aload_n hx hb dX1_ladder_24 rfl (lv_at hl 2 rfl) ?_
      refine ga_aload_n hx hb dX1_ladder_25 rfl (lv_at hl 1 rfl) ?_
      refine lv_iload_n hx hb dX1_ladder_26 rfl (lv_at hl 0 rfl) ?_
      obtain ⟨kc_35, ks_36, hk1, hk2, hw⟩ := hw
      obtain ⟨fs_37, hq, hw⟩ := hw
      refine ga_calli (va_runV (As := [va_rf r_15, .int r_21]) (rest := []) ⟨hx, hb, hml, hown, hts⟩ (gm_X1_become l g p0 r_15 r_21 h_20 kc_35 ks_36 _ hw) (cwV 2 hts (lw_V q2070 q2072 qs8 q100 q2073) rfl rfl rfl ⟨rfl, hdG_X1_become⟩ ⟨Nat.le_of_ble_eq_true rfl, Nat.le_of_ble_eq_true rfl⟩) (ga_preV hI hq rfl rfl) rfl rfl hl.1 rfl (ga_room (Nat.le_of_ble_eq_true rfl)) dX1_ladder_27 ⟨Nat.le_trans (Nat.add_le_add_left hk1 _) hbc, Nat.le_trans (Nat.add_le_add_left hk2 _) hbs⟩) hI hbc hbs hk1 hk2 (fun r_39 h_38 H locs cells slots hw hI hbc hbs => ?_)
      exact ga_iretx hx hb hr rfl hlk hI hw (Nat.le_trans (Nat.le_add_right _ _) hbc) (Nat.le_trans (Nat.le_add_right _ _) hbs) dX1_ladder_30
theorem hdG_X1_ladder : yX1_ladder.cls ≠ "java/lang/invoke/MethodHandle" ∧ yX1_ladder.cls ≠ "java/lang/invoke/VarHandle" ∧ (parseMethodDescriptor yX1_ladder.desc).map (fun d => d.parameters.length) = some 1 := by decide +kernel
def gw_X0_ladder (K : ga_K) (p0 : Option Nat) (p1 : Int32) (p2 : Option Nat) (h : ga_H) (mc ms : Nat) (post : Int32 → ga_H → Prop) (xp : String → Nat → ga_H → Prop) : Prop :=
  ∃ a_1 : Nat, p0 = some a_1 ∧ ∃ kc_2 ks_3 : Nat, kc_2 ≤ mc ∧ ks_3 ≤ ms ∧ ∃ fs_4 : List Value, ga_at K h a_1 (ga_O 0 fs_4) ∧ gw_X1_ladder K a_1 p1 h kc_2 ks_3 (fun (r_6 : Int32) (h_5 : ga_H) => ∃ a_10 : Nat, p2 = some a_10 ∧ ∃ (n_11 : Nat) (f_12 : Nat → Int64), h_5 a_10 = some (ga_Al n_11 f_12) ∧ vp_in (0 : Int32) n_11 ∧ ∀ h_13 : ga_H, h_13 = ga_set h_5 a_10 (ga_Al n_11 (vp_updL f_12 (0 : Int32).toNatClampNeg r_6.toInt64)) → (post (0 : Int32) h_13)) (fun (E_7 : String) (q_8 : Nat) (h_9 : ga_H) => (E_7 = "java/lang/IllegalArgumentException" ∧ (post (1 : Int32) h_9)) ∨ (E_7 = "java/lang/UnsupportedOperationException" ∧ (post (2 : Int32) h_9)))
set_option maxHeartbeats 4000000 in
theorem gm_X0_ladder (l : Launch) (hst : l.stackTraces = false) (g : ga_G) (p0 : Option Nat) (p1 : Int32) (p2 : Option Nat) (h : ga_H) (mc ms : Nat) (post : Int32 → ga_H → Prop) (xp : String → Nat → ga_H → Prop) (hw : gw_X0_ladder g.2.2 p0 p1 p2 h mc ms post xp) : vx_Met l yX0_ladder (wsW_ yX0_ladder cX0_ladder 4 (some .int) [(0, 9, 12, 13), (0, 9, 15, 15)]) ({ frames := 18, cells := mc, slots := ms, locals := 1412 } : Room) (va_Pc [va_rf p0, .int p1, va_rf p2] (ga_B g h)) (va_Qi post (ga_E g) (ga_A g)) (ga_X g xp) mc ms (ga_A g) := by
  refine ga_metxW (own := "PaperStoreLaw") (nm := "ladder") (by decide) rfl rfl (by cases p0 <;> cases p2 <;> exact Nat.le_of_ble_eq_true rfl) (fun p e s m below meth c ls hC htab hI hl => ?_)
  have hl : lv_has ls 4 [(0, va_rf p0), (1, .int p1), (2, va_rf p2)] := (by cases p0 <;> cases p2 <;> exact hl)
  generalize ([va_rf p0, .int p1, va_rf p2] : List Value).toArray = args at hC ⊢
  obtain ⟨hx, hb, hml, hown, hts, hr, hlk, hnm⟩ := hC
  unfold gw_X0_ladder at hw
  obtain ⟨H, eH⟩ : ∃ z, z = s.heap := ⟨_, rfl⟩
  obtain ⟨locs, elo⟩ : ∃ z : List Loc, z = [] := ⟨_, rfl⟩
  rw [← eH, ← elo] at hI ⊢
  obtain ⟨cells, slots, hbc, hbs, e0, e1⟩ : ∃ a b : Nat, a + mc ≤ mc ∧ b + ms ≤ ms ∧ a = 0 ∧ b = 0 := ⟨0, 0, by omega, by omega, rfl, rfl⟩
  show W p l e ({ frames := 18, cells := mc, slots := ms, locals := 1412 } : Room) s m args below meth c H locs 0 0 (vx_MQ below (va_Qi post (ga_E g) (ga_A g)) (ga_X g xp) args s mc ms (ga_A g)) (F0 m 0 ls [])
  suffices hgoal : W p l e ({ frames := 18, cells := mc, slots := ms, locals := 1412 } : Room) s m args below meth c H locs cells slots (vx_MQ below (va_Qi post (ga_E g) (ga_A g)) (ga_X g xp) args s mc ms (ga_A g)) (F0 m 0 ls []) by rw [e0, e1] at hgoal; exact hgoal
  refine ga_aload_n hx hb dX0_ladder_0 rfl (lv_at hl 2 rfl) ?_
  refine lv_iconst (v := 0) hx hb dX0_ladder_1 (by decide) ?_
  refine ga_aload_n hx hb dX0_ladder_2 rfl (lv_at hl 0 rfl) ?_
  refine lv_iload_n hx hb dX0_ladder_3 rfl (lv_at hl 1 rfl) ?_
  obtain ⟨a_1, ea_1, hw⟩ := hw
  rewrite [ea_1]
  obtain ⟨kc_2, ks_3, hk1, hk2, hw⟩ := hw
  obtain ⟨fs_4, hq, hw⟩ := hw
  refine ga_xcalli (vx_runVX (As := [.int p1]) (rest := [.int (0 : Int32), va_rf p2]) ⟨hx, hb, hml, hown, hts⟩ (gm_X1_ladder l hst g a_1 p1 h kc_2 ks_3 _ _ hw) (vx_cwVW 1 hts (lw_VW q2019 q2020 q2021 q100 q2022) rfl rfl rfl ⟨rfl, hdG_X1_ladder⟩ ⟨Nat.le_of_ble_eq_true rfl, Nat.le_of_ble_eq_true rfl⟩) (ga_preV hI hq rfl rfl) rfl rfl hl.1 rfl (ga_room (Nat.le_of_ble_eq_true rfl)) dX0_ladder_4 ⟨Nat.le_trans (Nat.add_le_add_left hk1 _) hbc, Nat.le_trans (Nat.add_le_add_left hk2 _) hbs⟩) hI hbc hbs hk1 hk2 (fun E_7 q_8 h_9 ce H locs cells slots hw hI hce hbc hbs => ?_) (fun r_6 h_5 H locs cells slots hw hI hbc hbs => ?_)
  · rcases hw with ⟨rfl, hw⟩ | ⟨rfl, hw⟩
    · skip
      refine ga_catch hown hts hI ([]) (⟨0, 9, 12, 13⟩) ([⟨0, 9, 15, 15⟩]) (by rw [htab]; rfl) (fun _ h => absurd h List.not_mem_nil) rfl (by decide) q2017 q1054 hce ?_
      refine W.eq (g2 := F0 m 12 ls [.ref q_8]) rfl ?_
      refine lv_astore_n (i := 3) (lv' := [(3, .ref q_8), (0, va_rf p0), (1, .int p1), (2, va_rf p2)]) hx hb dX0_ladder_12 rfl hl (by decide) (by simp [ga_rcat, ga_cat_r, ga_cat_i, ga_cat_f, ga_cat_l, ga_cat_d]) (fun ls hl => ?_)
      refine lv_iconst (v := 1) hx hb dX0_ladder_13 (by decide) ?_
      exact ga_iretx hx hb hr rfl hlk hI hw (Nat.le_trans (Nat.le_add_right _ _) hbc) (Nat.le_trans (Nat.le_add_right _ _) hbs) dX0_ladder_14
    · skip
      refine ga_catch hown hts hI ([⟨0, 9, 12, 13⟩]) (⟨0, 9, 15, 15⟩) ([]) (by rw [htab]; rfl) (List.forall_mem_cons.mpr ⟨Or.inr ⟨by decide, ga_ncs hts hI q2017 (List.mem_of_getElem? (i := 3) rfl)⟩, fun _ h => absurd h List.not_mem_nil⟩) rfl (by decide) q2018 q2089 hce ?_
      refine W.eq (g2 := F0 m 15 ls [.ref q_8]) rfl ?_
      refine lv_astore_n (i := 3) (lv' := [(3, .ref q_8), (0, va_rf p0), (1, .int p1), (2, va_rf p2)]) hx hb dX0_ladder_15 rfl hl (by decide) (by simp [ga_rcat, ga_cat_r, ga_cat_i, ga_cat_f, ga_cat_l, ga_cat_d]) (fun ls hl => ?_)
      refine lv_iconst (v := 2) hx hb dX0_ladder_16 (by decide) ?_
      exact ga_iretx hx hb hr rfl hlk hI hw (Nat.le_trans (Nat.le_add_right _ _) hbc) (Nat.le_trans (Nat.le_add_right _ _) hbs) dX0_ladder_17
  · skip
    refine lv_i2l (v := r_6.toInt64) hx hb dX0_ladder_7 rfl ?_
    obtain ⟨a_10, ea_10, hw⟩ := hw
    rewrite [ea_10]
    obtain ⟨n_11, f_12, hq, hi, hw⟩ := hw
    refine ga_stl hx hb hI hq hi dX0_ladder_8 (fun H locs hI => ?_)
    obtain ⟨h_13, eh_13⟩ : ∃ z, z = ga_set h_5 a_10 (ga_Al n_11 (vp_updL f_12 (0 : Int32).toNatClampNeg r_6.toInt64)) := ⟨_, rfl⟩
    rw [← eh_13] at hI
    have hw := hw h_13 eh_13
    refine lv_goto (tgt := 18) hx hb dX0_ladder_9 (by decide) ?_
    refine lv_iconst (v := 0) hx hb dX0_ladder_18 (by decide) ?_
    exact ga_iretx hx hb hr rfl hlk hI hw (Nat.le_trans (Nat.le_add_right _ _) hbc) (Nat.le_trans (Nat.le_add_right _ _) hbs) dX0_ladder_19
theorem hdG_X0_ladder : yX0_ladder.cls ≠ "java/lang/invoke/MethodHandle" ∧ yX0_ladder.cls ≠ "java/lang/invoke/VarHandle" ∧ (parseMethodDescriptor yX0_ladder.desc).map (fun d => d.parameters.length) = some 3 := by decide +kernel
def gw_X2_isLadder (K : ga_K) (p0 : Nat) (p1 : Int32) (h : ga_H) (post : Int32 → ga_H → Prop) : Prop :=
  ∃ (fs_1 : List Value) (v_2 : Option Nat), h p0 = some (ga_O 1 fs_1) ∧ fs_1[1]? = some (va_rf v_2) ∧ (∃ a_3 : Nat, v_2 = some a_3 ∧ ∃ fs_4 : List Value, ga_at K h a_3 (ga_O 13 fs_4) ∧ gw_J2_size K a_3 h (fun (r_6 : Int32) (h_5 : ga_H) => gw_X1_isIn p1 (0 : Int32) (r_6 - (1 : Int32)) (fun (r_7 : Int32) => zt_nar .boolean r_7 ∧ post r_7 h_5)))
set_option maxHeartbeats 4000000 in
theorem gm_X2_isLadder (l : Launch) (g : ga_G) (p0 : Nat) (p1 : Int32) (h : ga_H) (post : Int32 → ga_H → Prop) (hw : gw_X2_isLadder g.2.2 p0 p1 h post) : Met l yX2_isLadder (ws_ yX2_isLadder cX2_isLadder 2 (some .boolean)) ({ frames := 9, cells := 0, slots := 0, locals := 162 } : Room) (va_Pc [.ref p0, .int p1] (ga_B g h)) (va_Qi post (ga_E g) (ga_A g)) 0 0 (ga_A g) := by
  refine ga_met (own := "PaperStore$Store") (nm := "isLadder") (by decide) rfl rfl (by exact Nat.le_of_ble_eq_true rfl) (fun p e s m below meth c ls hC hI hl => ?_)
  have hl : lv_has ls 2 [(0, .ref p0), (1, .int p1)] := hl
  generalize ([.ref p0, .int p1] : List Value).toArray = args at hC ⊢
  obtain ⟨hx, hb, hml, hown, hts, hr, hlk, hnm⟩ := hC
  unfold gw_X2_isLadder at hw
  obtain ⟨H, eH⟩ : ∃ z, z = s.heap := ⟨_, rfl⟩
  obtain ⟨locs, elo⟩ : ∃ z : List Loc, z = [] := ⟨_, rfl⟩
  rw [← eH, ← elo] at hI ⊢
  obtain ⟨cells, slots, hbc, hbs, e0, e1⟩ : ∃ a b : Nat, a ≤ 0 ∧ b ≤ 0 ∧ a = 0 ∧ b = 0 := ⟨0, 0, by omega, by omega, rfl, rfl⟩
  show W p l e ({ frames := 9, cells := 0, slots := 0, locals := 162 } : Room) s m args below meth c H locs 0 0 (MQ below (va_Qi post (ga_E g) (ga_A g)) args s 0 0 (ga_A g)) (F0 m 0 ls [])
  suffices hgoal : W p l e ({ frames := 9, cells := 0, slots := 0, locals := 162 } : Room) s m args below meth c H locs cells slots (MQ below (va_Qi post (ga_E g) (ga_A g)) args s 0 0 (ga_A g)) (F0 m 0 ls []) by rw [e0, e1] at hgoal; exact hgoal
  refine lv_iload_n hx hb dX2_isLadder_0 rfl (lv_at hl 1 rfl) ?_
  refine lv_iconst (v := 0) hx hb dX2_isLadder_1 (by decide) ?_
  refine lv_aload_n hx hb dX2_isLadder_2 rfl (lv_at hl 0 rfl) ?_
  obtain ⟨fs_1, v_2, hq, hv, hw⟩ := hw
  refine ga_get (ci := 1) (T := TX2) (v := va_rf v_2) hx hb hts hown hI in_X2 rfl 1 (by decide) q312 (fun _ z => z) (ga_at.h hq) hv dX2_isLadder_3 ?_
  obtain ⟨a_3, ea_3, hw⟩ := hw
  rewrite [ea_3]
  obtain ⟨fs_4, hq, hw⟩ := hw
  refine ga_calli (va_runV (As := []) (rest := [.int (0 : Int32), .int p1]) ⟨hx, hb, hml, hown, hts⟩ (gm_J2_size l g a_3 h _ hw) (cwV 0 hts (lw_V q2039 q536 q4117 q104 q537) rfl rfl rfl ⟨rfl, hdG_J2_size⟩ ⟨Nat.le_of_ble_eq_true rfl, Nat.le_of_ble_eq_true rfl⟩) (ga_preV hI hq rfl rfl) rfl rfl hl.1 rfl (ga_room (Nat.le_of_ble_eq_true rfl)) dX2_isLadder_6 ⟨hbc, hbs⟩) hI (bc := 0) (bs := 0) hbc hbs (Nat.zero_le _) (Nat.zero_le _) (fun r_6 h_5 H locs cells slots hw hI hbc hbs => ?_)
  refine lv_iconst (v := 1) hx hb dX2_isLadder_9 (by decide) ?_
  refine lv_isub hx hb dX2_isLadder_10 ?_
  refine ga_callSN (As := [.int p1, .int (0 : Int32), .int (r_6 - (1 : Int32))]) (rest := []) ⟨hx, hb, hml, hown, hts⟩ (gm_X1_isIn l p1 (0 : Int32) (r_6 - (1 : Int32)) _ hw) (⟨va_cnB 3 hts (lw_meth q2026) rfl rfl rfl (hI.2.1.1.2.1 _ (ga_nin q2133 rfl)) (hts _ q100) hdG_X1_isIn ⟨Nat.le_of_ble_eq_true rfl, Nat.le_of_ble_eq_true rfl⟩, hts _ q2025, trivial⟩) rfl hl.1 rfl (ga_room (Nat.le_of_ble_eq_true rfl)) dX2_isLadder_11 (bc := 0) (bs := 0) hbc hbs (fun r_7 hw => ?_)
  exact ga_iret hx hb hr hw.1 hlk hI hw.2 hbc hbs dX2_isLadder_14
theorem hdG_X2_isLadder : yX2_isLadder.cls ≠ "java/lang/invoke/MethodHandle" ∧ yX2_isLadder.cls ≠ "java/lang/invoke/VarHandle" ∧ (parseMethodDescriptor yX2_isLadder.desc).map (fun d => d.parameters.length) = some 1 := by decide +kernel
def gw_X1_checkIndex (K : ga_K) (p0 : Int32) (h : ga_H) (mc ms : Nat) (post : ga_H → Prop) (xp : String → Nat → ga_H → Prop) : Prop :=
  (¬ p0 = (0 : Int32) → (post h)) ∧ (p0 = (0 : Int32) → (1 ≤ mc ∧ 6 ≤ ms ∧ ∀ q_2 : Nat, xp "java/lang/IndexOutOfBoundsException" q_2 h))
set_option maxHeartbeats 4000000 in
theorem gm_X1_checkIndex (l : Launch) (hst : l.stackTraces = false) (g : ga_G) (p0 : Int32) (h : ga_H) (mc ms : Nat) (post : ga_H → Prop) (xp : String → Nat → ga_H → Prop) (hw : gw_X1_checkIndex g.2.2 p0 h mc ms post xp) : vx_Met l yX1_checkIndex (ws_ yX1_checkIndex cX1_checkIndex 1 none) ({ frames := 8, cells := mc, slots := ms, locals := 140 } : Room) (va_Pc [.int p0] (ga_B g h)) (va_Qv post (ga_E g) (ga_A g)) (ga_X g xp) mc ms (ga_A g) := by
  refine ga_metx (own := "PaperStore") (nm := "checkIndex") (by decide) rfl rfl (by exact Nat.le_of_ble_eq_true rfl) (fun p e s m below meth c ls hC htab hI hl => ?_)
  have hl : lv_has ls 1 [(0, .int p0)] := hl
  generalize ([.int p0] : List Value).toArray = args at hC ⊢
  obtain ⟨hx, hb, hml, hown, hts, hr, hlk, hnm⟩ := hC
  unfold gw_X1_checkIndex at hw
  obtain ⟨H, eH⟩ : ∃ z, z = s.heap := ⟨_, rfl⟩
  obtain ⟨locs, elo⟩ : ∃ z : List Loc, z = [] := ⟨_, rfl⟩
  rw [← eH, ← elo] at hI ⊢
  obtain ⟨cells, slots, hbc, hbs, e0, e1⟩ : ∃ a b : Nat, a + mc ≤ mc ∧ b + ms ≤ ms ∧ a = 0 ∧ b = 0 := ⟨0, 0, by omega, by omega, rfl, rfl⟩
  show W p l e ({ frames := 8, cells := mc, slots := ms, locals := 140 } : Room) s m args below meth c H locs 0 0 (vx_MQ below (va_Qv post (ga_E g) (ga_A g)) (ga_X g xp) args s mc ms (ga_A g)) (F0 m 0 ls [])
  suffices hgoal : W p l e ({ frames := 8, cells := mc, slots := ms, locals := 140 } : Room) s m args below meth c H locs cells slots (vx_MQ below (va_Qv post (ga_E g) (ga_A g)) (ga_X g xp) args s mc ms (ga_A g)) (F0 m 0 ls []) by rw [e0, e1] at hgoal; exact hgoal
  refine lv_iload_n hx hb dX1_checkIndex_0 rfl (lv_at hl 0 rfl) ?_
  refine lv_if_ne (tgt := 12) hx hb dX1_checkIndex_1 (by decide) (fun hc_1 => ?_) (fun hc_1 => ?_)
  · have hw := hw.1 hc_1
    exact ga_vretx hx hb hr hlk hI hw (Nat.le_trans (Nat.le_add_right _ _) hbc) (Nat.le_trans (Nat.le_add_right _ _) hbs) dX1_checkIndex_12
  · have hw := hw.2 hc_1
    exact ga_thr_ioobe (ik := 13) (ic := 15) hx hb hst hts hown q2137 q2138 hI (hl.1.trans hml.symm) dX1_checkIndex_4 dX1_checkIndex_7 dX1_checkIndex_8 dX1_checkIndex_11 (by rw [htab]; intro z hz; cases hz) (Nat.le_of_ble_eq_true rfl) (Nat.le_trans (Nat.add_le_add_right (ga_sum [] (Nat.le_of_ble_eq_true rfl)) 81) (Nat.le_of_ble_eq_true rfl)) hlk hbc hbs hw.1 hw.2.1 hw.2.2
theorem hdG_X1_checkIndex : yX1_checkIndex.cls ≠ "java/lang/invoke/MethodHandle" ∧ yX1_checkIndex.cls ≠ "java/lang/invoke/VarHandle" ∧ (parseMethodDescriptor yX1_checkIndex.desc).map (fun d => d.parameters.length) = some 1 := by decide +kernel
def gw_X1_ladderAt (K : ga_K) (p0 : Nat) (p1 : Int32) (h : ga_H) (mc ms : Nat) (post : Option Nat → ga_H → Prop) (xp : String → Nat → ga_H → Prop) : Prop :=
  ∃ (fs_1 : List Value) (v_2 : Option Nat), h p0 = some (ga_O 0 fs_1) ∧ fs_1[0]? = some (va_rf v_2) ∧ (∃ a_3 : Nat, v_2 = some a_3 ∧ ∃ fs_4 : List Value, ga_at K h a_3 (ga_O 1 fs_4) ∧ gw_X2_isLadder K a_3 p1 h (fun (r_6 : Int32) (h_5 : ga_H) => ∃ kc_7 ks_8 : Nat, kc_7 ≤ mc ∧ ks_8 ≤ ms ∧ gw_X1_checkIndex K r_6 h_5 kc_7 ks_8 (fun (h_9 : ga_H) => ∃ (fs_13 : List Value) (v_14 : Option Nat), h_9 p0 = some (ga_O 0 fs_13) ∧ fs_13[0]? = some (va_rf v_14) ∧ (∃ a_15 : Nat, v_14 = some a_15 ∧ ∃ (fs_16 : List Value) (v_17 : Option Nat), h_9 a_15 = some (ga_O 1 fs_16) ∧ fs_16[1]? = some (va_rf v_17) ∧ (∃ a_18 : Nat, v_17 = some a_18 ∧ ∃ fs_19 : List Value, ga_at K h_9 a_18 (ga_O 13 fs_19) ∧ gw_J2_get K a_18 p1 h_9 (fun (r_21 : Option Nat) (h_20 : ga_H) => ga_ok K h_20 "PaperStore$Ladder" r_21 ∧ (post r_21 h_20))))) (fun (E_10 : String) (q_11 : Nat) (h_12 : ga_H) => xp E_10 q_11 h_12)))
set_option maxHeartbeats 4000000 in
theorem gm_X1_ladderAt (l : Launch) (hst : l.stackTraces = false) (g : ga_G) (p0 : Nat) (p1 : Int32) (h : ga_H) (mc ms : Nat) (post : Option Nat → ga_H → Prop) (xp : String → Nat → ga_H → Prop) (hw : gw_X1_ladderAt g.2.2 p0 p1 h mc ms post xp) : vx_Met l yX1_ladderAt (ws_ yX1_ladderAt cX1_ladderAt 2 (some (.object "PaperStore$Ladder"))) ({ frames := 11, cells := mc, slots := ms, locals := 204 } : Room) (va_Pc [.ref p0, .int p1] (ga_B g h)) (va_Qq post (ga_E g) (ga_A g)) (ga_X g xp) mc ms (ga_A g) := by
  refine ga_metx (own := "PaperStore") (nm := "ladderAt") (by decide) rfl rfl (by exact Nat.le_of_ble_eq_true rfl) (fun p e s m below meth c ls hC htab hI hl => ?_)
  have hl : lv_has ls 2 [(0, .ref p0), (1, .int p1)] := hl
  generalize ([.ref p0, .int p1] : List Value).toArray = args at hC ⊢
  obtain ⟨hx, hb, hml, hown, hts, hr, hlk, hnm⟩ := hC
  unfold gw_X1_ladderAt at hw
  obtain ⟨H, eH⟩ : ∃ z, z = s.heap := ⟨_, rfl⟩
  obtain ⟨locs, elo⟩ : ∃ z : List Loc, z = [] := ⟨_, rfl⟩
  rw [← eH, ← elo] at hI ⊢
  obtain ⟨cells, slots, hbc, hbs, e0, e1⟩ : ∃ a b : Nat, a + mc ≤ mc ∧ b + ms ≤ ms ∧ a = 0 ∧ b = 0 := ⟨0, 0, by omega, by omega, rfl, rfl⟩
  show W p l e ({ frames := 11, cells := mc, slots := ms, locals := 204 } : Room) s m args below meth c H locs 0 0 (vx_MQ below (va_Qq post (ga_E g) (ga_A g)) (ga_X g xp) args s mc ms (ga_A g)) (F0 m 0 ls [])
  suffices hgoal : W p l e ({ frames := 11, cells := mc, slots := ms, locals := 204 } : Room) s m args below meth c H locs cells slots (vx_MQ below (va_Qq post (ga_E g) (ga_A g)) (ga_X g xp) args s mc ms (ga_A g)) (F0 m 0 ls []) by rw [e0, e1] at hgoal; exact hgoal
  refine lv_aload_n hx hb dX1_ladderAt_0 rfl (lv_at hl 0 rfl) ?_
  obtain ⟨fs_1, v_2, hq, hv, hw⟩ := hw
  refine ga_get (ci := 0) (T := TX1) (v := va_rf v_2) hx hb hts hown hI in_X1 rfl 0 (by decide) q387 (fun _ z => z) (ga_at.h hq) hv dX1_ladderAt_1 ?_
  refine lv_iload_n hx hb dX1_ladderAt_4 rfl (lv_at hl 1 rfl) ?_
  obtain ⟨a_3, ea_3, hw⟩ := hw
  rewrite [ea_3]
  obtain ⟨fs_4, hq, hw⟩ := hw
  refine ga_calli (va_runV (As := [.int p1]) (rest := []) ⟨hx, hb, hml, hown, hts⟩ (gm_X2_isLadder l g a_3 p1 h _ hw) (cwV 1 hts (lw_V q2129 q2130 q2131 q101 q2132) rfl rfl rfl ⟨rfl, hdG_X2_isLadder⟩ ⟨Nat.le_of_ble_eq_true rfl, Nat.le_of_ble_eq_true rfl⟩) (ga_preV hI hq rfl rfl) rfl rfl hl.1 rfl (ga_room (Nat.le_of_ble_eq_true rfl)) dX1_ladderAt_5 ⟨Nat.le_trans (Nat.add_le_add_left (Nat.zero_le _) _) hbc, Nat.le_trans (Nat.add_le_add_left (Nat.zero_le _) _) hbs⟩) hI hbc hbs (Nat.zero_le _) (Nat.zero_le _) (fun r_6 h_5 H locs cells slots hw hI hbc hbs => ?_)
  obtain ⟨kc_7, ks_8, hk1, hk2, hw⟩ := hw
  refine ga_xcallv (vx_runS (As := [.int r_6]) (rest := []) ⟨hx, hb, hml, hown, hts⟩ (gm_X1_checkIndex l hst g r_6 h_5 kc_7 ks_8 _ _ hw) (va_cwS 1 hts (lw_S q2134 q2135 q100 q2136) rfl rfl rfl hdG_X1_checkIndex ⟨Nat.le_of_ble_eq_true rfl, Nat.le_of_ble_eq_true rfl⟩) (ga_preS hI rfl) rfl rfl hl.1 rfl (ga_room (Nat.le_of_ble_eq_true rfl)) dX1_ladderAt_8 ⟨Nat.le_trans (Nat.add_le_add_left hk1 _) hbc, Nat.le_trans (Nat.add_le_add_left hk2 _) hbs⟩) hI hbc hbs hk1 hk2 (fun E_10 q_11 h_12 ce H locs cells slots hw hI hce hbc hbs => ?_) (fun h_9 H locs cells slots hw hI hbc hbs => ?_)
  · exact ga_out hown hlk hI hw (by rw [htab]; intro z hz; cases hz) hce (Nat.le_trans (Nat.le_add_right _ _) hbc) (Nat.le_trans (Nat.le_add_right _ _) hbs)
  · skip
    refine lv_aload_n hx hb dX1_ladderAt_11 rfl (lv_at hl 0 rfl) ?_
    obtain ⟨fs_13, v_14, hq, hv, hw⟩ := hw
    refine ga_get (ci := 0) (T := TX1) (v := va_rf v_14) hx hb hts hown hI in_X1 rfl 0 (by decide) q387 (fun _ z => z) (ga_at.h hq) hv dX1_ladderAt_12 ?_
    obtain ⟨a_15, ea_15, hw⟩ := hw
    rewrite [ea_15]
    obtain ⟨fs_16, v_17, hq, hv, hw⟩ := hw
    refine ga_getN (ci := 1) (T := TX2) (v := va_rf v_17) hx hb hts hown hI in_X2 rfl 1 (by decide) q313 (fun _ z => z) (ga_at.h hq) hv dX1_ladderAt_15 ?_
    refine lv_iload_n hx hb dX1_ladderAt_18 rfl (lv_at hl 1 rfl) ?_
    obtain ⟨a_18, ea_18, hw⟩ := hw
    rewrite [ea_18]
    obtain ⟨fs_19, hq, hw⟩ := hw
    refine ga_callq (va_runV (As := [.int p1]) (rest := []) ⟨hx, hb, hml, hown, hts⟩ (gm_J2_get l g a_18 p1 h_9 _ hw) (cwV 1 hts (lw_V q2142 q839 q4120 q104 q841) rfl rfl rfl ⟨rfl, hdG_J2_get⟩ ⟨Nat.le_of_ble_eq_true rfl, Nat.le_of_ble_eq_true rfl⟩) (ga_preV hI hq rfl rfl) rfl rfl hl.1 rfl (ga_room (Nat.le_of_ble_eq_true rfl)) dX1_ladderAt_19 ⟨Nat.le_trans (Nat.add_le_add_left (Nat.zero_le _) _) hbc, Nat.le_trans (Nat.add_le_add_left (Nat.zero_le _) _) hbs⟩) hI hbc hbs (Nat.zero_le _) (Nat.zero_le _) (fun r_21 h_20 H locs cells slots hw hI hbc hbs => ?_)
    refine ga_cast (x := r_21) hx hb hts hown hI q2143 hw.1 dX1_ladderAt_22 ?_
    have hw := hw.2
    exact ga_qretx (v := r_21) hx hb hr (Or.inl ⟨_, rfl⟩) hlk hI hw (Nat.le_trans (Nat.le_add_right _ _) hbc) (Nat.le_trans (Nat.le_add_right _ _) hbs) dX1_ladderAt_25
theorem hdG_X1_ladderAt : yX1_ladderAt.cls ≠ "java/lang/invoke/MethodHandle" ∧ yX1_ladderAt.cls ≠ "java/lang/invoke/VarHandle" ∧ (parseMethodDescriptor yX1_ladderAt.desc).map (fun d => d.parameters.length) = some 1 := by decide +kernel
def gw_X1_isAisle (p0 : Int32) (post : Int32 → Prop) : Prop :=
  gw_X1_isIn p0 (0 : Int32) (4 : Int32) (fun (r_1 : Int32) => zt_nar .boolean r_1 ∧ post r_1)
set_option maxHeartbeats 4000000 in
theorem gm_X1_isAisle (l : Launch) (p0 : Int32) (post : Int32 → Prop) (hw : gw_X1_isAisle p0 post) : Met l yX1_isAisle (ws_ yX1_isAisle cX1_isAisle 1 (some .boolean)) ({ frames := 9, cells := 0, slots := 0, locals := 162 } : Room) (va_Pc [.int p0] (fun _ => True)) (vp_Si post) 0 0 (fun _ => False) := by
  refine ga_metS (own := "PaperStore") (nm := "isAisle") (by decide) rfl rfl (by exact Nat.le_of_ble_eq_true rfl) (fun p e s m below meth c ls hC hl => ?_)
  have hl : lv_has ls 1 [(0, .int p0)] := hl
  generalize ([.int p0] : List Value).toArray = args at hC ⊢
  obtain ⟨hx, hb, hml, hown, hts, hr, hlk, hnm⟩ := hC
  unfold gw_X1_isAisle at hw
  refine lv_iload_n hx hb dX1_isAisle_0 rfl (lv_at hl 0 rfl) ?_
  refine lv_iconst (v := 0) hx hb dX1_isAisle_1 (by decide) ?_
  refine lv_iconst (v := 4) hx hb dX1_isAisle_2 (by decide) ?_
  refine zt_callS (As := [.int p0, .int (0 : Int32), .int (4 : Int32)]) (rest := []) ⟨hx, hb, hml, hown, hts⟩ (gm_X1_isIn l p0 (0 : Int32) (4 : Int32) _ hw) (va_cwS 3 hts (lw_S q2024 q2025 q100 q2026) rfl rfl rfl hdG_X1_isIn ⟨Nat.le_of_ble_eq_true rfl, Nat.le_of_ble_eq_true rfl⟩) rfl hl.1 rfl (ga_room (Nat.le_of_ble_eq_true rfl)) dX1_isAisle_3 ⟨Nat.le_refl _, Nat.le_refl _⟩ (fun r_1 hw => ?_)
  exact ga_sret hx hb hr hlk hw.1 hw.2 dX1_isAisle_6
theorem hdG_X1_isAisle : yX1_isAisle.cls ≠ "java/lang/invoke/MethodHandle" ∧ yX1_isAisle.cls ≠ "java/lang/invoke/VarHandle" ∧ (parseMethodDescriptor yX1_isAisle.desc).map (fun d => d.parameters.length) = some 1 := by decide +kernel
def gw_X2_push_21 (K : ga_K) (post : Int32 → ga_H → Prop) (xp : String → Nat → ga_H → Prop) (p0 : Nat) (t0 : Int32) (v1 : Int32) (v2 : Int32) (v3 : Int32) (h : ga_H) (bc bs : Nat) : Prop :=
  ∃ kc_5 ks_6 : Nat, kc_5 ≤ bc ∧ ks_6 ≤ bs ∧ gw_X1_refuse K t0 (4 : Int32) v3 h kc_5 ks_6 (fun (h_7 : ga_H) => ∃ (fs_11 : List Value) (v_12 : Option Nat), h_7 p0 = some (ga_O 1 fs_11) ∧ fs_11[1]? = some (va_rf v_12) ∧ (∃ a_13 : Nat, v_12 = some a_13 ∧ ∃ fs_14 : List Value, ga_at K h_7 a_13 (ga_O 13 fs_14) ∧ gw_J2_get K a_13 v1 h_7 (fun (r_16 : Option Nat) (h_15 : ga_H) => ga_ok K h_15 "PaperStore$Ladder" r_16 ∧ (∃ a_17 : Nat, r_16 = some a_17 ∧ ∃ (fs_18 : List Value) (v_19 : Int32), h_15 a_17 = some (ga_O 5 fs_18) ∧ fs_18[1]? = some (.int v_19) ∧ (∃ a_20 : Nat, r_16 = some a_20 ∧ ∃ fs_21 : List Value, h_15 a_20 = some (ga_O 5 fs_21) ∧ 1 < fs_21.length ∧ ∀ h_22 : ga_H, h_22 = ga_set h_15 a_20 (ga_O 5 (fs_21.set 1 (.int v2))) → (post v_19 h_22)))))) (fun (E_8 : String) (q_9 : Nat) (h_10 : ga_H) => xp E_8 q_9 h_10)
set_option maxHeartbeats 4000000 in
theorem gj_X2_push_21 {p : Program} {l : Launch} {e : Env} {s : State} {m : MethodId} {args : Array Value} {below : List Frame} {meth : Method} {c : Code} {mc ms : Nat} {H : Heap} {locs : List Loc} {cells slots : Nat} {ls : Array Slot} (hst : l.stackTraces = false) (htab : c.exceptionTable.toList = []) (g : ga_G) (post : Int32 → ga_H → Prop) (xp : String → Nat → ga_H → Prop) (p0 : Nat) (t0 : Int32) (v1 : Int32) (v2 : Int32) (v3 : Int32) (h : ga_H) (bc bs : Nat) (hC : ga_Cx p s m args meth c cX2_push 6 (some .int) "PaperStore$Store" "push") (hw : gw_X2_push_21 g.2.2 post xp p0 t0 v1 v2 v3 h bc bs) (hI : ga_I g h s H locs) (hbc : cells + bc ≤ mc) (hbs : slots + bs ≤ ms) (hl : lv_has ls 6 [(0, .ref p0), (1, .int v1), (2, .int v2), (3, .int v3)]) : W p l e ({ frames := 12, cells := mc, slots := ms, locals := 226 } : Room) s m args below meth c H locs cells slots (vx_MQ below (va_Qi post (ga_E g) (ga_A g)) (ga_X g xp) args s mc ms (ga_A g)) (F0 m 21 ls [.int t0]) := by
  obtain ⟨hx, hb, hml, hown, hts, hr, hlk, hnm⟩ := hC
  unfold gw_X2_push_21 at hw
  refine lv_iconst (v := 4) hx hb dX2_push_21 (by decide) ?_
  refine lv_iload_n hx hb dX2_push_22 rfl (lv_at hl 3 rfl) ?_
  obtain ⟨kc_5, ks_6, hk1, hk2, hw⟩ := hw
  refine ga_xcallv (vx_runSN (As := [.int t0, .int (4 : Int32), .int v3]) (rest := []) ⟨hx, hb, hml, hown, hts⟩ (gm_X1_refuse l hst g t0 (4 : Int32) v3 h kc_5 ks_6 _ _ hw) ⟨va_cnB 3 hts (lw_meth q2042) rfl rfl rfl (hI.2.1.1.2.1 _ (ga_nin q2040 rfl)) (hts _ q100) hdG_X1_refuse ⟨Nat.le_of_ble_eq_true rfl, Nat.le_of_ble_eq_true rfl⟩, hts _ q2041, trivial⟩ (ga_preS hI rfl) rfl rfl hl.1 rfl (ga_room (Nat.le_of_ble_eq_true rfl)) dX2_push_23 ⟨Nat.le_trans (Nat.add_le_add_left hk1 _) hbc, Nat.le_trans (Nat.add_le_add_left hk2 _) hbs⟩) hI hbc hbs hk1 hk2 (fun E_8 q_9 h_10 ce H locs cells slots hw hI hce hbc hbs => ?_) (fun h_7 H locs cells slots hw hI hbc hbs => ?_)
  · exact ga_out hown hlk hI hw (by rw [htab]; intro z hz; cases hz) hce (Nat.le_trans (Nat.le_add_right _ _) hbc) (Nat.le_trans (Nat.le_add_right _ _) hbs)
  · skip
    refine lv_aload_n hx hb dX2_push_26 rfl (lv_at hl 0 rfl) ?_
    obtain ⟨fs_11, v_12, hq, hv, hw⟩ := hw
    refine ga_get (ci := 1) (T := TX2) (v := va_rf v_12) hx hb hts hown hI in_X2 rfl 1 (by decide) q312 (fun _ z => z) (ga_at.h hq) hv dX2_push_27 ?_
    refine lv_iload_n hx hb dX2_push_30 rfl (lv_at hl 1 rfl) ?_
    obtain ⟨a_13, ea_13, hw⟩ := hw
    rewrite [ea_13]
    obtain ⟨fs_14, hq, hw⟩ := hw
    refine ga_callq (va_runV (As := [.int v1]) (rest := []) ⟨hx, hb, hml, hown, hts⟩ (gm_J2_get l g a_13 v1 h_7 _ hw) (cwV 1 hts (lw_V q2069 q839 q4120 q104 q841) rfl rfl rfl ⟨rfl, hdG_J2_get⟩ ⟨Nat.le_of_ble_eq_true rfl, Nat.le_of_ble_eq_true rfl⟩) (ga_preV hI hq rfl rfl) rfl rfl hl.1 rfl (ga_room (Nat.le_of_ble_eq_true rfl)) dX2_push_31 ⟨Nat.le_trans (Nat.add_le_add_left (Nat.zero_le _) _) hbc, Nat.le_trans (Nat.add_le_add_left (Nat.zero_le _) _) hbs⟩) hI hbc hbs (Nat.zero_le _) (Nat.zero_le _) (fun r_16 h_15 H locs cells slots hw hI hbc hbs => ?_)
    refine ga_cast (x := r_16) hx hb hts hown hI q1339 hw.1 dX2_push_34 ?_
    have hw := hw.2
    refine ga_astore (x := r_16) (lv' := [(4, va_rf r_16), (0, .ref p0), (1, .int v1), (2, .int v2), (3, .int v3)]) hx hb dX2_push_37 hl (by decide) rfl (fun ls hl => ?_)
    refine ga_aload hx hb dX2_push_39 (lv_at hl 0 rfl) ?_
    obtain ⟨a_17, ea_17, hw⟩ := hw
    rewrite [ea_17]
    obtain ⟨fs_18, v_19, hq, hv, hw⟩ := hw
    refine ga_getN (ci := 5) (T := TX7) (v := .int v_19) hx hb hts hown hI in_X7 rfl 1 (by decide) q1349 (fun _ z => z) (ga_at.h hq) hv dX2_push_41 ?_
    refine lv_istore (lv' := [(5, .int v_19), (4, va_rf r_16), (0, .ref p0), (1, .int v1), (2, .int v2), (3, .int v3)]) hx hb dX2_push_44 hl (by decide) (by simp [ga_rcat, ga_cat_r, ga_cat_i, ga_cat_f, ga_cat_l, ga_cat_d]) (fun ls hl => ?_)
    refine ga_aload hx hb dX2_push_46 (lv_at hl 1 rfl) ?_
    refine lv_iload_n hx hb dX2_push_48 rfl (lv_at hl 4 rfl) ?_
    obtain ⟨a_20, ea_20, hw⟩ := hw
    rewrite [ea_20]
    obtain ⟨fs_21, hq, hk, hw⟩ := hw
    refine ga_putN (ci := 5) (T := TX7) (v := .int v2) (ty := tyX7 1) hx hb hts hown hI in_X7 rfl tyX7 tyX7_ok nmX7 1 (by decide) q1349 (fun _ z => z) rfl (tyX7_ok 1 (by decide)) rfl rfl hq hk dX2_push_49 (fun H locs hI => ?_)
    obtain ⟨h_22, eh_22⟩ : ∃ z, z = ga_set h_15 a_20 (ga_O 5 (fs_21.set 1 (.int v2))) := ⟨_, rfl⟩
    rw [← eh_22] at hI
    have hw := hw h_22 eh_22
    refine lv_iload hx hb dX2_push_52 (lv_at hl 0 rfl) ?_
    exact ga_iretx hx hb hr rfl hlk hI hw (Nat.le_trans (Nat.le_add_right _ _) hbc) (Nat.le_trans (Nat.le_add_right _ _) hbs) dX2_push_54
def gw_X2_push_20 (K : ga_K) (post : Int32 → ga_H → Prop) (xp : String → Nat → ga_H → Prop) (p0 : Nat) (v1 : Int32) (v2 : Int32) (v3 : Int32) (h : ga_H) (bc bs : Nat) : Prop :=
  gw_X2_push_21 K post xp p0 (0 : Int32) v1 v2 v3 h bc bs
set_option maxHeartbeats 4000000 in
theorem gj_X2_push_20 {p : Program} {l : Launch} {e : Env} {s : State} {m : MethodId} {args : Array Value} {below : List Frame} {meth : Method} {c : Code} {mc ms : Nat} {H : Heap} {locs : List Loc} {cells slots : Nat} {ls : Array Slot} (hst : l.stackTraces = false) (htab : c.exceptionTable.toList = []) (g : ga_G) (post : Int32 → ga_H → Prop) (xp : String → Nat → ga_H → Prop) (p0 : Nat) (v1 : Int32) (v2 : Int32) (v3 : Int32) (h : ga_H) (bc bs : Nat) (hC : ga_Cx p s m args meth c cX2_push 6 (some .int) "PaperStore$Store" "push") (hw : gw_X2_push_20 g.2.2 post xp p0 v1 v2 v3 h bc bs) (hI : ga_I g h s H locs) (hbc : cells + bc ≤ mc) (hbs : slots + bs ≤ ms) (hl : lv_has ls 6 [(0, .ref p0), (1, .int v1), (2, .int v2), (3, .int v3)]) : W p l e ({ frames := 12, cells := mc, slots := ms, locals := 226 } : Room) s m args below meth c H locs cells slots (vx_MQ below (va_Qi post (ga_E g) (ga_A g)) (ga_X g xp) args s mc ms (ga_A g)) (F0 m 20 ls []) := by
  obtain ⟨hx, hb, hml, hown, hts, hr, hlk, hnm⟩ := hC
  unfold gw_X2_push_20 at hw
  refine lv_iconst (v := 0) hx hb dX2_push_20 (by decide) ?_
  exact gj_X2_push_21 hst htab g post xp p0 (0 : Int32) v1 v2 v3 h bc bs ⟨hx, hb, hml, hown, hts, hr, hlk, hnm⟩ hw hI hbc hbs (lv_sub hl [0, 1, 2, 3] rfl)
def gw_X2_push (K : ga_K) (p0 : Nat) (p1 : Int32) (p2 : Int32) (h : ga_H) (mc ms : Nat) (post : Int32 → ga_H → Prop) (xp : String → Nat → ga_H → Prop) : Prop :=
  ∃ fs_1 : List Value, ga_at K h p0 (ga_O 1 fs_1) ∧ gw_X2_ladderAt K p0 p2 h (fun (r_3 : Int32) (h_2 : ga_H) => (r_3 = (-1 : Int32) → (gw_X2_push_20 K post xp p0 p1 p2 r_3 h_2 mc ms)) ∧ (¬ r_3 = (-1 : Int32) → ((r_3 = p1 → (gw_X2_push_20 K post xp p0 p1 p2 r_3 h_2 mc ms)) ∧ (¬ r_3 = p1 → (gw_X2_push_21 K post xp p0 (1 : Int32) p1 p2 r_3 h_2 mc ms)))))
set_option maxHeartbeats 4000000 in
theorem gm_X2_push (l : Launch) (hst : l.stackTraces = false) (g : ga_G) (p0 : Nat) (p1 : Int32) (p2 : Int32) (h : ga_H) (mc ms : Nat) (post : Int32 → ga_H → Prop) (xp : String → Nat → ga_H → Prop) (hw : gw_X2_push g.2.2 p0 p1 p2 h mc ms post xp) : vx_Met l yX2_push (ws_ yX2_push cX2_push 6 (some .int)) ({ frames := 12, cells := mc, slots := ms, locals := 226 } : Room) (va_Pc [.ref p0, .int p1, .int p2] (ga_B g h)) (va_Qi post (ga_E g) (ga_A g)) (ga_X g xp) mc ms (ga_A g) := by
  refine ga_metx (own := "PaperStore$Store") (nm := "push") (by decide) rfl rfl (by exact Nat.le_of_ble_eq_true rfl) (fun p e s m below meth c ls hC htab hI hl => ?_)
  have hl : lv_has ls 6 [(0, .ref p0), (1, .int p1), (2, .int p2)] := hl
  generalize ([.ref p0, .int p1, .int p2] : List Value).toArray = args at hC ⊢
  obtain ⟨hx, hb, hml, hown, hts, hr, hlk, hnm⟩ := hC
  unfold gw_X2_push at hw
  obtain ⟨H, eH⟩ : ∃ z, z = s.heap := ⟨_, rfl⟩
  obtain ⟨locs, elo⟩ : ∃ z : List Loc, z = [] := ⟨_, rfl⟩
  rw [← eH, ← elo] at hI ⊢
  obtain ⟨cells, slots, hbc, hbs, e0, e1⟩ : ∃ a b : Nat, a + mc ≤ mc ∧ b + ms ≤ ms ∧ a = 0 ∧ b = 0 := ⟨0, 0, by omega, by omega, rfl, rfl⟩
  show W p l e ({ frames := 12, cells := mc, slots := ms, locals := 226 } : Room) s m args below meth c H locs 0 0 (vx_MQ below (va_Qi post (ga_E g) (ga_A g)) (ga_X g xp) args s mc ms (ga_A g)) (F0 m 0 ls [])
  suffices hgoal : W p l e ({ frames := 12, cells := mc, slots := ms, locals := 226 } : Room) s m args below meth c H locs cells slots (vx_MQ below (va_Qi post (ga_E g) (ga_A g)) (ga_X g xp) args s mc ms (ga_A g)) (F0 m 0 ls []) by rw [e0, e1] at hgoal; exact hgoal
  refine lv_aload_n hx hb dX2_push_0 rfl (lv_at hl 0 rfl) ?_
  refine lv_iload_n hx hb dX2_push_1 rfl (lv_at hl 2 rfl) ?_
  obtain ⟨fs_1, hq, hw⟩ := hw
  refine ga_calli (va_runV (As := [.int p2]) (rest := []) ⟨hx, hb, hml, hown, hts⟩ (gm_X2_ladderAt l g p0 p2 h _ hw) (cwV 1 hts (lw_V q2065 q2066 q2067 q101 q2068) rfl rfl rfl ⟨rfl, hdG_X2_ladderAt⟩ ⟨Nat.le_of_ble_eq_true rfl, Nat.le_of_ble_eq_true rfl⟩) (ga_preV hI hq rfl rfl) rfl rfl hl.1 rfl (ga_room (Nat.le_of_ble_eq_true rfl)) dX2_push_2 ⟨Nat.le_trans (Nat.add_le_add_left (Nat.zero_le _) _) hbc, Nat.le_trans (Nat.add_le_add_left (Nat.zero_le _) _) hbs⟩) hI hbc hbs (Nat.zero_le _) (Nat.zero_le _) (fun r_3 h_2 H locs cells slots hw hI hbc hbs => ?_)
  refine lv_istore_n (i := 3) (lv' := [(3, .int r_3), (0, .ref p0), (1, .int p1), (2, .int p2)]) hx hb dX2_push_5 rfl hl (by decide) rfl (fun ls hl => ?_)
  refine lv_iload_n hx hb dX2_push_6 rfl (lv_at hl 0 rfl) ?_
  refine lv_iconst (v := -1) hx hb dX2_push_7 (by decide) ?_
  refine lv_icmp_eq (tgt := 20) hx hb dX2_push_8 (by decide) (fun hc_4 => ?_) (fun hc_4 => ?_)
  · have hw := hw.1 hc_4
    exact gj_X2_push_20 hst htab g post xp p0 p1 p2 r_3 h_2 mc ms ⟨hx, hb, hml, hown, hts, hr, hlk, hnm⟩ hw hI hbc hbs (lv_sub hl [1, 2, 3, 0] rfl)
  · have hw := hw.2 hc_4
    refine lv_iload_n hx hb dX2_push_11 rfl (lv_at hl 0 rfl) ?_
    refine lv_iload_n hx hb dX2_push_12 rfl (lv_at hl 2 rfl) ?_
    refine lv_icmp_eq (tgt := 20) hx hb dX2_push_13 (by decide) (fun hc_23 => ?_) (fun hc_23 => ?_)
    · have hw := hw.1 hc_23
      exact gj_X2_push_20 hst htab g post xp p0 p1 p2 r_3 h_2 mc ms ⟨hx, hb, hml, hown, hts, hr, hlk, hnm⟩ hw hI hbc hbs (lv_sub hl [1, 2, 3, 0] rfl)
    · have hw := hw.2 hc_23
      refine lv_iconst (v := 1) hx hb dX2_push_16 (by decide) ?_
      refine lv_goto (tgt := 21) hx hb dX2_push_17 (by decide) ?_
      exact gj_X2_push_21 hst htab g post xp p0 (1 : Int32) p1 p2 r_3 h_2 mc ms ⟨hx, hb, hml, hown, hts, hr, hlk, hnm⟩ hw hI hbc hbs (lv_sub hl [1, 2, 3, 0] rfl)
theorem hdG_X2_push : yX2_push.cls ≠ "java/lang/invoke/MethodHandle" ∧ yX2_push.cls ≠ "java/lang/invoke/VarHandle" ∧ (parseMethodDescriptor yX2_push.desc).map (fun d => d.parameters.length) = some 2 := by decide +kernel
def gw_X1_push (K : ga_K) (p0 : Nat) (p1 : Int32) (p2 : Int32) (h : ga_H) (mc ms : Nat) (post : Int32 → ga_H → Prop) (xp : String → Nat → ga_H → Prop) : Prop :=
  ∃ kc_1 ks_2 : Nat, kc_1 ≤ mc ∧ ks_2 ≤ ms ∧ ∃ fs_3 : List Value, ga_at K h p0 (ga_O 0 fs_3) ∧ gw_X1_ladderAt K p0 p1 h kc_1 ks_2 (fun (r_5 : Option Nat) (h_4 : ga_H) => gw_X1_isAisle p2 (fun (r_9 : Int32) => ∃ kc_10 ks_11 : Nat, kc_10 ≤ (mc - kc_1) ∧ ks_11 ≤ (ms - ks_2) ∧ gw_X1_checkArgument K r_9 h_4 kc_10 ks_11 (fun (h_12 : ga_H) => ∃ (fs_16 : List Value) (v_17 : Option Nat), h_12 p0 = some (ga_O 0 fs_16) ∧ fs_16[0]? = some (va_rf v_17) ∧ (∃ a_18 : Nat, v_17 = some a_18 ∧ ∃ kc_19 ks_20 : Nat, kc_19 ≤ ((mc - kc_1) - kc_10) ∧ ks_20 ≤ ((ms - ks_2) - ks_11) ∧ ∃ fs_21 : List Value, ga_at K h_12 a_18 (ga_O 1 fs_21) ∧ gw_X2_copy K a_18 h_12 kc_19 ks_20 (fun (r_23 : Option Nat) (h_22 : ga_H) => ∃ a_24 : Nat, r_23 = some a_24 ∧ ∃ kc_25 ks_26 : Nat, kc_25 ≤ (((mc - kc_1) - kc_10) - kc_19) ∧ ks_26 ≤ (((ms - ks_2) - ks_11) - ks_20) ∧ ∃ fs_27 : List Value, ga_at K h_22 a_24 (ga_O 1 fs_27) ∧ gw_X2_push K a_24 p1 p2 h_22 kc_25 ks_26 (fun (r_29 : Int32) (h_28 : ga_H) => ∃ kc_43 ks_44 : Nat, kc_43 ≤ ((((mc - kc_1) - kc_10) - kc_19) - kc_25) ∧ ks_44 ≤ ((((ms - ks_2) - ks_11) - ks_20) - ks_26) ∧ ∃ fs_45 : List Value, ga_at K h_28 p0 (ga_O 0 fs_45) ∧ gw_X1_become K p0 r_23 r_29 h_28 kc_43 ks_44 (fun (r_47 : Int32) (h_46 : ga_H) => post r_47 h_46)) (fun (E_30 : String) (q_31 : Nat) (h_32 : ga_H) => (E_30 = "PaperStore$Refusal" ∧ (∃ kc_33 ks_34 : Nat, kc_33 ≤ ((((mc - kc_1) - kc_10) - kc_19) - kc_25) ∧ ks_34 ≤ ((((ms - ks_2) - ks_11) - ks_20) - ks_26) ∧ ∃ fs_35 : List Value, ga_at K h_32 p0 (ga_O 0 fs_35) ∧ gw_X1_kept K p0 (some q_31) h_32 kc_33 ks_34 (fun (r_37 : Option Nat) (h_36 : ga_H) => ∃ a_41 : Nat, r_37 = some a_41 ∧ ∃ fs_42 : List Value, h_36 a_41 = some (ga_O 28 fs_42) ∧ (xp "java/lang/UnsupportedOperationException" a_41 h_36)) (fun (E_38 : String) (q_39 : Nat) (h_40 : ga_H) => False))))))) (fun (E_13 : String) (q_14 : Nat) (h_15 : ga_H) => (E_13 = "java/lang/IllegalArgumentException" ∧ (xp "java/lang/IllegalArgumentException" q_14 h_15))))) (fun (E_6 : String) (q_7 : Nat) (h_8 : ga_H) => (E_6 = "java/lang/IndexOutOfBoundsException" ∧ (xp "java/lang/IndexOutOfBoundsException" q_7 h_8)))
set_option maxHeartbeats 4000000 in
theorem gm_X1_push (l : Launch) (hst : l.stackTraces = false) (g : ga_G) (p0 : Nat) (p1 : Int32) (p2 : Int32) (h : ga_H) (mc ms : Nat) (post : Int32 → ga_H → Prop) (xp : String → Nat → ga_H → Prop) (hw : gw_X1_push g.2.2 p0 p1 p2 h mc ms post xp) : vx_Met l yX1_push (wsW_ yX1_push cX1_push 6 (some .int) [(22, 39, 40, 25)]) ({ frames := 17, cells := mc, slots := ms, locals := 1389 } : Room) (va_Pc [.ref p0, .int p1, .int p2] (ga_B g h)) (va_Qi post (ga_E g) (ga_A g)) (ga_X g xp) mc ms (ga_A g) := by
  refine ga_metxW (own := "PaperStore") (nm := "push") (by decide) rfl rfl (by exact Nat.le_of_ble_eq_true rfl) (fun p e s m below meth c ls hC htab hI hl => ?_)
  have hl : lv_has ls 6 [(0, .ref p0), (1, .int p1), (2, .int p2)] := hl
  generalize ([.ref p0, .int p1, .int p2] : List Value).toArray = args at hC ⊢
  obtain ⟨hx, hb, hml, hown, hts, hr, hlk, hnm⟩ := hC
  unfold gw_X1_push at hw
  obtain ⟨H, eH⟩ : ∃ z, z = s.heap := ⟨_, rfl⟩
  obtain ⟨locs, elo⟩ : ∃ z : List Loc, z = [] := ⟨_, rfl⟩
  rw [← eH, ← elo] at hI ⊢
  obtain ⟨cells, slots, hbc, hbs, e0, e1⟩ : ∃ a b : Nat, a + mc ≤ mc ∧ b + ms ≤ ms ∧ a = 0 ∧ b = 0 := ⟨0, 0, by omega, by omega, rfl, rfl⟩
  show W p l e ({ frames := 17, cells := mc, slots := ms, locals := 1389 } : Room) s m args below meth c H locs 0 0 (vx_MQ below (va_Qi post (ga_E g) (ga_A g)) (ga_X g xp) args s mc ms (ga_A g)) (F0 m 0 ls [])
  suffices hgoal : W p l e ({ frames := 17, cells := mc, slots := ms, locals := 1389 } : Room) s m args below meth c H locs cells slots (vx_MQ below (va_Qi post (ga_E g) (ga_A g)) (ga_X g xp) args s mc ms (ga_A g)) (F0 m 0 ls []) by rw [e0, e1] at hgoal; exact hgoal
  refine lv_aload_n hx hb dX1_push_0 rfl (lv_at hl 0 rfl) ?_
  refine lv_iload_n hx hb dX1_push_1 rfl (lv_at hl 1 rfl) ?_
  obtain ⟨kc_1, ks_2, hk1, hk2, hw⟩ := hw
  obtain ⟨fs_3, hq, hw⟩ := hw
  refine ga_xcallq (vx_runV (As := [.int p1]) (rest := []) ⟨hx, hb, hml, hown, hts⟩ (gm_X1_ladderAt l hst g p0 p1 h kc_1 ks_2 _ _ hw) (cwV 1 hts (lw_V q2125 q2127 qs11 q100 q2128) rfl rfl rfl ⟨rfl, hdG_X1_ladderAt⟩ ⟨Nat.le_of_ble_eq_true rfl, Nat.le_of_ble_eq_true rfl⟩) (ga_preV hI hq rfl rfl) rfl rfl hl.1 rfl (ga_room (Nat.le_of_ble_eq_true rfl)) dX1_push_2 ⟨Nat.le_trans (Nat.add_le_add_left hk1 _) hbc, Nat.le_trans (Nat.add_le_add_left hk2 _) hbs⟩) hI hbc hbs hk1 hk2 (fun E_6 q_7 h_8 ce H locs cells slots hw hI hce hbc hbs => ?_) (fun r_5 h_4 H locs cells slots hw hI hbc hbs => ?_)
  · obtain ⟨rfl, hw⟩ := hw
    exact ga_out hown hlk hI hw (by rw [htab]; exact (List.forall_mem_cons.mpr ⟨Or.inl rfl, fun _ h => absurd h List.not_mem_nil⟩)) hce (Nat.le_trans (Nat.le_add_right _ _) hbc) (Nat.le_trans (Nat.le_add_right _ _) hbs)
  · skip
    refine ga_astore_n (i := 3) (x := r_5) (lv' := [(3, va_rf r_5), (0, .ref p0), (1, .int p1), (2, .int p2)]) hx hb dX1_push_5 rfl hl (by decide) rfl (fun ls hl => ?_)
    refine lv_iload_n hx hb dX1_push_6 rfl (lv_at hl 3 rfl) ?_
    refine ga_callS (As := [.int p2]) (rest := []) ⟨hx, hb, hml, hown, hts⟩ (gm_X1_isAisle l p2 _ hw) (va_cwS 1 hts (lw_S q2144 q2145 q100 q2146) rfl rfl rfl hdG_X1_isAisle ⟨Nat.le_of_ble_eq_true rfl, Nat.le_of_ble_eq_true rfl⟩) rfl hl.1 rfl (ga_room (Nat.le_of_ble_eq_true rfl)) dX1_push_7 hbc hbs (fun r_9 hw => ?_)
    obtain ⟨kc_10, ks_11, hk1, hk2, hw⟩ := hw
    refine ga_xcallv (vx_runS (As := [.int r_9]) (rest := []) ⟨hx, hb, hml, hown, hts⟩ (gm_X1_checkArgument l hst g r_9 h_4 kc_10 ks_11 _ _ hw) (va_cwS 1 hts (lw_S q2027 q2028 q100 q2029) rfl rfl rfl hdG_X1_checkArgument ⟨Nat.le_of_ble_eq_true rfl, Nat.le_of_ble_eq_true rfl⟩) (ga_preS hI rfl) rfl rfl hl.1 rfl (ga_room (Nat.le_of_ble_eq_true rfl)) dX1_push_10 ⟨Nat.le_trans (Nat.add_le_add_left hk1 _) hbc, Nat.le_trans (Nat.add_le_add_left hk2 _) hbs⟩) hI hbc hbs hk1 hk2 (fun E_13 q_14 h_15 ce H locs cells slots hw hI hce hbc hbs => ?_) (fun h_12 H locs cells slots hw hI hbc hbs => ?_)
    · obtain ⟨rfl, hw⟩ := hw
      exact ga_out hown hlk hI hw (by rw [htab]; exact (List.forall_mem_cons.mpr ⟨Or.inl rfl, fun _ h => absurd h List.not_mem_nil⟩)) hce (Nat.le_trans (Nat.le_add_right _ _) hbc) (Nat.le_trans (Nat.le_add_right _ _) hbs)
    · skip
      refine lv_aload_n hx hb dX1_push_13 rfl (lv_at hl 1 rfl) ?_
      obtain ⟨fs_16, v_17, hq, hv, hw⟩ := hw
      refine ga_get (ci := 0) (T := TX1) (v := va_rf v_17) hx hb hts hown hI in_X1 rfl 0 (by decide) q387 (fun _ z => z) (ga_at.h hq) hv dX1_push_14 ?_
      obtain ⟨a_18, ea_18, hw⟩ := hw
      rewrite [ea_18]
      obtain ⟨kc_19, ks_20, hk1, hk2, hw⟩ := hw
      obtain ⟨fs_21, hq, hw⟩ := hw
      refine ga_callq (va_runV (As := []) (rest := []) ⟨hx, hb, hml, hown, hts⟩ (gm_X2_copy l g a_18 h_12 kc_19 ks_20 _ hw) (cwV 0 hts (lw_V q1259 q1260 q1261 q101 q1262) rfl rfl rfl ⟨rfl, hdG_X2_copy⟩ ⟨Nat.le_of_ble_eq_true rfl, Nat.le_of_ble_eq_true rfl⟩) (ga_preV hI hq rfl rfl) rfl rfl hl.1 rfl (ga_room (Nat.le_of_ble_eq_true rfl)) dX1_push_17 ⟨Nat.le_trans (Nat.add_le_add_left hk1 _) hbc, Nat.le_trans (Nat.add_le_add_left hk2 _) hbs⟩) hI hbc hbs hk1 hk2 (fun r_23 h_22 H locs cells slots hw hI hbc hbs => ?_)
      refine ga_astore (x := r_23) (lv' := [(4, va_rf r_23), (3, va_rf r_5), (0, .ref p0), (1, .int p1), (2, .int p2)]) hx hb dX1_push_20 hl (by decide) (by simp [ga_rcat, ga_cat_r, ga_cat_i, ga_cat_f, ga_cat_l, ga_cat_d]) (fun ls hl => ?_)
      refine ga_aload hx hb dX1_push_22 (lv_at hl 0 rfl) ?_
      refine lv_iload_n hx hb dX1_push_24 rfl (lv_at hl 3 rfl) ?_
      refine lv_iload_n hx hb dX1_push_25 rfl (lv_at hl 4 rfl) ?_
      obtain ⟨a_24, ea_24, hw⟩ := hw
      rewrite [ea_24]
      obtain ⟨kc_25, ks_26, hk1, hk2, hw⟩ := hw
      obtain ⟨fs_27, hq, hw⟩ := hw
      refine ga_xcalli (vx_runV (As := [.int p1, .int p2]) (rest := []) ⟨hx, hb, hml, hown, hts⟩ (gm_X2_push l hst g a_24 p1 p2 h_22 kc_25 ks_26 _ _ hw) (cwV 2 hts (lw_V q2147 q2148 q2149 q101 q2150) rfl rfl rfl ⟨rfl, hdG_X2_push⟩ ⟨Nat.le_of_ble_eq_true rfl, Nat.le_of_ble_eq_true rfl⟩) (ga_preV hI hq rfl rfl) rfl rfl hl.1 rfl (ga_room (Nat.le_of_ble_eq_true rfl)) dX1_push_26 ⟨Nat.le_trans (Nat.add_le_add_left hk1 _) hbc, Nat.le_trans (Nat.add_le_add_left hk2 _) hbs⟩) hI hbc hbs hk1 hk2 (fun E_30 q_31 h_32 ce H locs cells slots hw hI hce hbc hbs => ?_) (fun r_29 h_28 H locs cells slots hw hI hbc hbs => ?_)
      · obtain ⟨rfl, hw⟩ := hw
        refine ga_catch hown hts hI ([]) (⟨22, 39, 40, 25⟩) ([]) (by rw [htab]; rfl) (fun _ h => absurd h List.not_mem_nil) rfl (by decide) q2023 q2044 hce ?_
        refine W.eq (g2 := F0 m 40 ls [.ref q_31]) rfl ?_
        refine lv_astore (lv' := [(5, .ref q_31), (4, va_rf r_23), (3, va_rf r_5), (0, .ref p0), (1, .int p1), (2, .int p2)]) hx hb dX1_push_40 hl (by decide) (by simp [ga_rcat, ga_cat_r, ga_cat_i, ga_cat_f, ga_cat_l, ga_cat_d]) (fun ls hl => ?_)
        refine lv_aload_n hx hb dX1_push_42 rfl (lv_at hl 3 rfl) ?_
        refine lv_aload hx hb dX1_push_43 (lv_at hl 0 rfl) ?_
        obtain ⟨kc_33, ks_34, hk1, hk2, hw⟩ := hw
        obtain ⟨fs_35, hq, hw⟩ := hw
        refine ga_xcallq (vx_runV (As := [va_rf (some q_31)]) (rest := []) ⟨hx, hb, hml, hown, hts⟩ (gm_X1_kept l hst g p0 (some q_31) h_32 kc_33 ks_34 _ _ hw) (cwV 1 hts (lw_V q2083 q2085 qs10 q100 q2086) rfl rfl rfl ⟨rfl, hdG_X1_kept⟩ ⟨Nat.le_of_ble_eq_true rfl, Nat.le_of_ble_eq_true rfl⟩) (ga_preV hI hq rfl rfl) rfl rfl hl.1 rfl (ga_room (Nat.le_of_ble_eq_true rfl)) dX1_push_45 ⟨Nat.le_trans (Nat.add_le_add_left hk1 _) hbc, Nat.le_trans (Nat.add_le_add_left hk2 _) hbs⟩) hI hbc hbs hk1 hk2 (fun E_38 q_39 h_40 ce H locs cells slots hw hI hce hbc hbs => ?_) (fun r_37 h_36 H locs cells slots hw hI hbc hbs => ?_)
        · exact hw.elim
        · skip
          obtain ⟨a_41, ea_41, hw⟩ := hw
          rewrite [ea_41]
          obtain ⟨fs_42, hq, hw⟩ := hw
          refine ga_athrow (ci := 28) hx hb hI (ga_at.h hq) rfl dX1_push_48 (fun ce hce => ?_)
          exact ga_out hown hlk hI hw (by rw [htab]; exact (List.forall_mem_cons.mpr ⟨Or.inl rfl, fun _ h => absurd h List.not_mem_nil⟩)) hce (Nat.le_trans (Nat.le_add_right _ _) hbc) (Nat.le_trans (Nat.le_add_right _ _) hbs)
      · skip
        refine lv_istore (lv' := [(5, .int r_29), (4, va_rf r_23), (3, va_rf r_5), (0, .ref p0), (1, .int p1), (2, .int p2)]) hx hb dX1_push_29 hl (by decide) (by simp [ga_rcat, ga_cat_r, ga_cat_i, ga_cat_f, ga_cat_l, ga_cat_d]) (fun ls hl => ?_)
        refine lv_aload_n hx hb dX1_push_31 rfl (lv_at hl 3 rfl) ?_
        refine ga_aload hx hb dX1_push_32 (lv_at hl 1 rfl) ?_
        refine lv_iload hx hb dX1_push_34 (lv_at hl 0 rfl) ?_
        obtain ⟨kc_43, ks_44, hk1, hk2, hw⟩ := hw
        obtain ⟨fs_45, hq, hw⟩ := hw
        refine ga_calli (va_runV (As := [va_rf r_23, .int r_29]) (rest := []) ⟨hx, hb, hml, hown, hts⟩ (gm_X1_become l g p0 r_23 r_29 h_28 kc_43 ks_44 _ hw) (cwV 2 hts (lw_V q2070 q2072 qs8 q100 q2073) rfl rfl rfl ⟨rfl, hdG_X1_become⟩ ⟨Nat.le_of_ble_eq_true rfl, Nat.le_of_ble_eq_true rfl⟩) (ga_preV hI hq rfl rfl) rfl rfl hl.1 rfl (ga_room (Nat.le_of_ble_eq_true rfl)) dX1_push_36 ⟨Nat.le_trans (Nat.add_le_add_left hk1 _) hbc, Nat.le_trans (Nat.add_le_add_left hk2 _) hbs⟩) hI hbc hbs hk1 hk2 (fun r_47 h_46 H locs cells slots hw hI hbc hbs => ?_)
        exact ga_iretx hx hb hr rfl hlk hI hw (Nat.le_trans (Nat.le_add_right _ _) hbc) (Nat.le_trans (Nat.le_add_right _ _) hbs) dX1_push_39
theorem hdG_X1_push : yX1_push.cls ≠ "java/lang/invoke/MethodHandle" ∧ yX1_push.cls ≠ "java/lang/invoke/VarHandle" ∧ (parseMethodDescriptor yX1_push.desc).map (fun d => d.parameters.length) = some 2 := by decide +kernel
def gw_X0_push (K : ga_K) (p0 : Option Nat) (p1 : Int32) (p2 : Int32) (p3 : Option Nat) (h : ga_H) (mc ms : Nat) (post : Int32 → ga_H → Prop) (xp : String → Nat → ga_H → Prop) : Prop :=
  ∃ a_1 : Nat, p0 = some a_1 ∧ ∃ kc_2 ks_3 : Nat, kc_2 ≤ mc ∧ ks_3 ≤ ms ∧ ∃ fs_4 : List Value, ga_at K h a_1 (ga_O 0 fs_4) ∧ gw_X1_push K a_1 p1 p2 h kc_2 ks_3 (fun (r_6 : Int32) (h_5 : ga_H) => ∃ a_10 : Nat, p3 = some a_10 ∧ ∃ (n_11 : Nat) (f_12 : Nat → Int64), h_5 a_10 = some (ga_Al n_11 f_12) ∧ vp_in (0 : Int32) n_11 ∧ ∀ h_13 : ga_H, h_13 = ga_set h_5 a_10 (ga_Al n_11 (vp_updL f_12 (0 : Int32).toNatClampNeg r_6.toInt64)) → (post (0 : Int32) h_13)) (fun (E_7 : String) (q_8 : Nat) (h_9 : ga_H) => (E_7 = "java/lang/IllegalArgumentException" ∧ (post (2 : Int32) h_9)) ∨ (E_7 = "java/lang/IndexOutOfBoundsException" ∧ (post (1 : Int32) h_9)) ∨ (E_7 = "java/lang/UnsupportedOperationException" ∧ (post (3 : Int32) h_9)))
set_option maxHeartbeats 4000000 in
theorem gm_X0_push (l : Launch) (hst : l.stackTraces = false) (g : ga_G) (p0 : Option Nat) (p1 : Int32) (p2 : Int32) (p3 : Option Nat) (h : ga_H) (mc ms : Nat) (post : Int32 → ga_H → Prop) (xp : String → Nat → ga_H → Prop) (hw : gw_X0_push g.2.2 p0 p1 p2 p3 h mc ms post xp) : vx_Met l yX0_push (wsW_ yX0_push cX0_push 5 (some .int) [(0, 10, 13, 21), (0, 10, 17, 13), (0, 10, 21, 15)]) ({ frames := 18, cells := mc, slots := ms, locals := 1414 } : Room) (va_Pc [va_rf p0, .int p1, .int p2, va_rf p3] (ga_B g h)) (va_Qi post (ga_E g) (ga_A g)) (ga_X g xp) mc ms (ga_A g) := by
  refine ga_metxW (own := "PaperStoreLaw") (nm := "push") (by decide) rfl rfl (by cases p0 <;> cases p3 <;> exact Nat.le_of_ble_eq_true rfl) (fun p e s m below meth c ls hC htab hI hl => ?_)
  have hl : lv_has ls 5 [(0, va_rf p0), (1, .int p1), (2, .int p2), (3, va_rf p3)] := (by cases p0 <;> cases p3 <;> exact hl)
  generalize ([va_rf p0, .int p1, .int p2, va_rf p3] : List Value).toArray = args at hC ⊢
  obtain ⟨hx, hb, hml, hown, hts, hr, hlk, hnm⟩ := hC
  unfold gw_X0_push at hw
  obtain ⟨H, eH⟩ : ∃ z, z = s.heap := ⟨_, rfl⟩
  obtain ⟨locs, elo⟩ : ∃ z : List Loc, z = [] := ⟨_, rfl⟩
  rw [← eH, ← elo] at hI ⊢
  obtain ⟨cells, slots, hbc, hbs, e0, e1⟩ : ∃ a b : Nat, a + mc ≤ mc ∧ b + ms ≤ ms ∧ a = 0 ∧ b = 0 := ⟨0, 0, by omega, by omega, rfl, rfl⟩
  show W p l e ({ frames := 18, cells := mc, slots := ms, locals := 1414 } : Room) s m args below meth c H locs 0 0 (vx_MQ below (va_Qi post (ga_E g) (ga_A g)) (ga_X g xp) args s mc ms (ga_A g)) (F0 m 0 ls [])
  suffices hgoal : W p l e ({ frames := 18, cells := mc, slots := ms, locals := 1414 } : Room) s m args below meth c H locs cells slots (vx_MQ below (va_Qi post (ga_E g) (ga_A g)) (ga_X g xp) args s mc ms (ga_A g)) (F0 m 0 ls []) by rw [e0, e1] at hgoal; exact hgoal
  refine ga_aload_n hx hb dX0_push_0 rfl (lv_at hl 3 rfl) ?_
  refine lv_iconst (v := 0) hx hb dX0_push_1 (by decide) ?_
  refine ga_aload_n hx hb dX0_push_2 rfl (lv_at hl 0 rfl) ?_
  refine lv_iload_n hx hb dX0_push_3 rfl (lv_at hl 1 rfl) ?_
  refine lv_iload_n hx hb dX0_push_4 rfl (lv_at hl 2 rfl) ?_
  obtain ⟨a_1, ea_1, hw⟩ := hw
  rewrite [ea_1]
  obtain ⟨kc_2, ks_3, hk1, hk2, hw⟩ := hw
  obtain ⟨fs_4, hq, hw⟩ := hw
  refine ga_xcalli (vx_runVX (As := [.int p1, .int p2]) (rest := [.int (0 : Int32), va_rf p3]) ⟨hx, hb, hml, hown, hts⟩ (gm_X1_push l hst g a_1 p1 p2 h kc_2 ks_3 _ _ hw) (vx_cwVW 2 hts (lw_VW q2121 q2122 q2123 q100 q2124) rfl rfl rfl ⟨rfl, hdG_X1_push⟩ ⟨Nat.le_of_ble_eq_true rfl, Nat.le_of_ble_eq_true rfl⟩) (ga_preV hI hq rfl rfl) rfl rfl hl.1 rfl (ga_room (Nat.le_of_ble_eq_true rfl)) dX0_push_5 ⟨Nat.le_trans (Nat.add_le_add_left hk1 _) hbc, Nat.le_trans (Nat.add_le_add_left hk2 _) hbs⟩) hI hbc hbs hk1 hk2 (fun E_7 q_8 h_9 ce H locs cells slots hw hI hce hbc hbs => ?_) (fun r_6 h_5 H locs cells slots hw hI hbc hbs => ?_)
  · rcases hw with ⟨rfl, hw⟩ | ⟨rfl, hw⟩ | ⟨rfl, hw⟩
    · skip
      refine ga_catch hown hts hI ([⟨0, 10, 13, 21⟩]) (⟨0, 10, 17, 13⟩) ([⟨0, 10, 21, 15⟩]) (by rw [htab]; rfl) (List.forall_mem_cons.mpr ⟨Or.inr ⟨by decide, ga_ncs hts hI q2105 (List.mem_of_getElem? (i := 1) rfl)⟩, fun _ h => absurd h List.not_mem_nil⟩) rfl (by decide) q2017 q1054 hce ?_
      refine W.eq (g2 := F0 m 17 ls [.ref q_8]) rfl ?_
      refine lv_astore (lv' := [(4, .ref q_8), (0, va_rf p0), (1, .int p1), (2, .int p2), (3, va_rf p3)]) hx hb dX0_push_17 hl (by decide) (by simp [ga_rcat, ga_cat_r, ga_cat_i, ga_cat_f, ga_cat_l, ga_cat_d]) (fun ls hl => ?_)
      refine lv_iconst (v := 2) hx hb dX0_push_19 (by decide) ?_
      exact ga_iretx hx hb hr rfl hlk hI hw (Nat.le_trans (Nat.le_add_right _ _) hbc) (Nat.le_trans (Nat.le_add_right _ _) hbs) dX0_push_20
    · skip
      refine ga_catch hown hts hI ([]) (⟨0, 10, 13, 21⟩) ([⟨0, 10, 17, 13⟩, ⟨0, 10, 21, 15⟩]) (by rw [htab]; rfl) (fun _ h => absurd h List.not_mem_nil) rfl (by decide) q2105 q866 hce ?_
      refine W.eq (g2 := F0 m 13 ls [.ref q_8]) rfl ?_
      refine lv_astore (lv' := [(4, .ref q_8), (0, va_rf p0), (1, .int p1), (2, .int p2), (3, va_rf p3)]) hx hb dX0_push_13 hl (by decide) (by simp [ga_rcat, ga_cat_r, ga_cat_i, ga_cat_f, ga_cat_l, ga_cat_d]) (fun ls hl => ?_)
      refine lv_iconst (v := 1) hx hb dX0_push_15 (by decide) ?_
      exact ga_iretx hx hb hr rfl hlk hI hw (Nat.le_trans (Nat.le_add_right _ _) hbc) (Nat.le_trans (Nat.le_add_right _ _) hbs) dX0_push_16
    · skip
      refine ga_catch hown hts hI ([⟨0, 10, 13, 21⟩, ⟨0, 10, 17, 13⟩]) (⟨0, 10, 21, 15⟩) ([]) (by rw [htab]; rfl) (List.forall_mem_cons.mpr ⟨Or.inr ⟨by decide, ga_ncs hts hI q2105 (List.mem_of_getElem? (i := 2) rfl)⟩, List.forall_mem_cons.mpr ⟨Or.inr ⟨by decide, ga_ncs hts hI q2017 (List.mem_of_getElem? (i := 3) rfl)⟩, fun _ h => absurd h List.not_mem_nil⟩⟩) rfl (by decide) q2018 q2089 hce ?_
      refine W.eq (g2 := F0 m 21 ls [.ref q_8]) rfl ?_
      refine lv_astore (lv' := [(4, .ref q_8), (0, va_rf p0), (1, .int p1), (2, .int p2), (3, va_rf p3)]) hx hb dX0_push_21 hl (by decide) (by simp [ga_rcat, ga_cat_r, ga_cat_i, ga_cat_f, ga_cat_l, ga_cat_d]) (fun ls hl => ?_)
      refine lv_iconst (v := 3) hx hb dX0_push_23 (by decide) ?_
      exact ga_iretx hx hb hr rfl hlk hI hw (Nat.le_trans (Nat.le_add_right _ _) hbc) (Nat.le_trans (Nat.le_add_right _ _) hbs) dX0_push_24
  · skip
    refine lv_i2l (v := r_6.toInt64) hx hb dX0_push_8 rfl ?_
    obtain ⟨a_10, ea_10, hw⟩ := hw
    rewrite [ea_10]
    obtain ⟨n_11, f_12, hq, hi, hw⟩ := hw
    refine ga_stl hx hb hI hq hi dX0_push_9 (fun H locs hI => ?_)
    obtain ⟨h_13, eh_13⟩ : ∃ z, z = ga_set h_5 a_10 (ga_Al n_11 (vp_updL f_12 (0 : Int32).toNatClampNeg r_6.toInt64)) := ⟨_, rfl⟩
    rw [← eh_13] at hI
    have hw := hw h_13 eh_13
    refine lv_goto (tgt := 25) hx hb dX0_push_10 (by decide) ?_
    refine lv_iconst (v := 0) hx hb dX0_push_25 (by decide) ?_
    exact ga_iretx hx hb hr rfl hlk hI hw (Nat.le_trans (Nat.le_add_right _ _) hbc) (Nat.le_trans (Nat.le_add_right _ _) hbs) dX0_push_26
theorem hdG_X0_push : yX0_push.cls ≠ "java/lang/invoke/MethodHandle" ∧ yX0_push.cls ≠ "java/lang/invoke/VarHandle" ∧ (parseMethodDescriptor yX0_push.desc).map (fun d => d.parameters.length) = some 4 := by decide +kernel
def gw_X1_isShelf (p0 : Int32) (post : Int32 → Prop) : Prop :=
  gw_X1_isIn p0 (0 : Int32) (5 : Int32) (fun (r_1 : Int32) => zt_nar .boolean r_1 ∧ post r_1)
set_option maxHeartbeats 4000000 in
theorem gm_X1_isShelf (l : Launch) (p0 : Int32) (post : Int32 → Prop) (hw : gw_X1_isShelf p0 post) : Met l yX1_isShelf (ws_ yX1_isShelf cX1_isShelf 1 (some .boolean)) ({ frames := 9, cells := 0, slots := 0, locals := 162 } : Room) (va_Pc [.int p0] (fun _ => True)) (vp_Si post) 0 0 (fun _ => False) := by
  refine ga_metS (own := "PaperStore") (nm := "isShelf") (by decide) rfl rfl (by exact Nat.le_of_ble_eq_true rfl) (fun p e s m below meth c ls hC hl => ?_)
  have hl : lv_has ls 1 [(0, .int p0)] := hl
  generalize ([.int p0] : List Value).toArray = args at hC ⊢
  obtain ⟨hx, hb, hml, hown, hts, hr, hlk, hnm⟩ := hC
  unfold gw_X1_isShelf at hw
  refine lv_iload_n hx hb dX1_isShelf_0 rfl (lv_at hl 0 rfl) ?_
  refine lv_iconst (v := 0) hx hb dX1_isShelf_1 (by decide) ?_
  refine lv_iconst (v := 5) hx hb dX1_isShelf_2 (by decide) ?_
  refine zt_callS (As := [.int p0, .int (0 : Int32), .int (5 : Int32)]) (rest := []) ⟨hx, hb, hml, hown, hts⟩ (gm_X1_isIn l p0 (0 : Int32) (5 : Int32) _ hw) (va_cwS 3 hts (lw_S q2024 q2025 q100 q2026) rfl rfl rfl hdG_X1_isIn ⟨Nat.le_of_ble_eq_true rfl, Nat.le_of_ble_eq_true rfl⟩) rfl hl.1 rfl (ga_room (Nat.le_of_ble_eq_true rfl)) dX1_isShelf_3 ⟨Nat.le_refl _, Nat.le_refl _⟩ (fun r_1 hw => ?_)
  exact ga_sret hx hb hr hlk hw.1 hw.2 dX1_isShelf_6
theorem hdG_X1_isShelf : yX1_isShelf.cls ≠ "java/lang/invoke/MethodHandle" ∧ yX1_isShelf.cls ≠ "java/lang/invoke/VarHandle" ∧ (parseMethodDescriptor yX1_isShelf.desc).map (fun d => d.parameters.length) = some 1 := by decide +kernel
