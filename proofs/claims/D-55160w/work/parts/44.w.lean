set_option maxRecDepth 100000
def gw_X2_isAhead (K : ga_K) (p0 : Nat) (p1 : Int32) (p2 : Int32) (h : ga_H) (mc ms : Nat) (post : Int32 → ga_H → Prop) : Prop :=
  ∃ (fs_1 : List Value) (v_2 : Option Nat), h p0 = some (ga_O 1 fs_1) ∧ fs_1[0]? = some (va_rf v_2) ∧ (∃ a_3 : Nat, v_2 = some a_3 ∧ ∃ (n_4 : Nat) (f_5 : Nat → Option Nat), h a_3 = some (ga_Aq 6 n_4 f_5) ∧ vp_in p1 n_4 ∧ ∀ v_6 : Option Nat, v_6 = f_5 p1.toNatClampNeg → (∃ a_7 : Nat, v_6 = some a_7 ∧ ∃ kc_8 ks_9 : Nat, kc_8 ≤ mc ∧ ks_9 ≤ ms ∧ ∃ fs_10 : List Value, ga_at K h a_7 (ga_O 2 fs_10) ∧ gw_X3_quires K a_7 h kc_8 ks_9 (fun (r_12 : Int32) (h_11 : ga_H) => ∃ (fs_13 : List Value) (v_14 : Option Nat), h_11 p0 = some (ga_O 1 fs_13) ∧ fs_13[0]? = some (va_rf v_14) ∧ (∃ a_15 : Nat, v_14 = some a_15 ∧ ∃ (n_16 : Nat) (f_17 : Nat → Option Nat), h_11 a_15 = some (ga_Aq 6 n_16 f_17) ∧ vp_in p2 n_16 ∧ ∀ v_18 : Option Nat, v_18 = f_17 p2.toNatClampNeg → (∃ a_19 : Nat, v_18 = some a_19 ∧ ∃ kc_20 ks_21 : Nat, kc_20 ≤ (mc - kc_8) ∧ ks_21 ≤ (ms - ks_9) ∧ ∃ fs_22 : List Value, ga_at K h_11 a_19 (ga_O 2 fs_22) ∧ gw_X3_quires K a_19 h_11 kc_20 ks_21 (fun (r_24 : Int32) (h_23 : ga_H) => ∃ (fs_25 : List Value) (v_26 : Option Nat), h_23 p0 = some (ga_O 1 fs_25) ∧ fs_25[0]? = some (va_rf v_26) ∧ (∃ a_27 : Nat, v_26 = some a_27 ∧ ∃ (n_28 : Nat) (f_29 : Nat → Option Nat), h_23 a_27 = some (ga_Aq 6 n_28 f_29) ∧ vp_in p1 n_28 ∧ ∀ v_30 : Option Nat, v_30 = f_29 p1.toNatClampNeg → (∃ a_31 : Nat, v_30 = some a_31 ∧ ∃ (fs_32 : List Value) (v_33 : Int32), h_23 a_31 = some (ga_O 2 fs_32) ∧ fs_32[2]? = some (.int v_33) ∧ (∃ (fs_34 : List Value) (v_35 : Option Nat), h_23 p0 = some (ga_O 1 fs_34) ∧ fs_34[0]? = some (va_rf v_35) ∧ (∃ a_36 : Nat, v_35 = some a_36 ∧ ∃ (n_37 : Nat) (f_38 : Nat → Option Nat), h_23 a_36 = some (ga_Aq 6 n_37 f_38) ∧ vp_in p2 n_37 ∧ ∀ v_39 : Option Nat, v_39 = f_38 p2.toNatClampNeg → (∃ a_40 : Nat, v_39 = some a_40 ∧ ∃ (fs_41 : List Value) (v_42 : Int32), h_23 a_40 = some (ga_O 2 fs_41) ∧ fs_41[2]? = some (.int v_42) ∧ ((r_12 - r_24 = (0 : Int32) → ((v_33 - v_42 = (0 : Int32) → ((p2 ≤ p1 → (post (0 : Int32) h_23)) ∧ (¬ p2 ≤ p1 → (post (1 : Int32) h_23)))) ∧ (¬ v_33 - v_42 = (0 : Int32) → (((0 : Int32) ≤ v_33 - v_42 → (post (0 : Int32) h_23)) ∧ (¬ (0 : Int32) ≤ v_33 - v_42 → (post (1 : Int32) h_23)))))) ∧ (¬ r_12 - r_24 = (0 : Int32) → ((r_12 - r_24 ≤ (0 : Int32) → (post (0 : Int32) h_23)) ∧ (¬ r_12 - r_24 ≤ (0 : Int32) → (post (1 : Int32) h_23))))))))))))))))
set_option maxHeartbeats 4000000 in
theorem gm_X2_isAhead (l : Launch) (g : ga_G) (p0 : Nat) (p1 : Int32) (p2 : Int32) (h : ga_H) (mc ms : Nat) (post : Int32 → ga_H → Prop) (hw : gw_X2_isAhead g.2.2 p0 p1 p2 h mc ms post) : Met l yX2_isAhead (ws_ yX2_isAhead cX2_isAhead 5 (some .boolean)) ({ frames := 14, cells := mc, slots := ms, locals := 280 } : Room) (va_Pc [.ref p0, .int p1, .int p2] (ga_B g h)) (va_Qi post (ga_E g) (ga_A g)) mc ms (ga_A g) := by
  refine ga_met (own := "PaperStore$Store") (nm := "isAhead") (by decide) rfl rfl (by exact Nat.le_of_ble_eq_true rfl) (fun p e s m below meth c ls hC hI hl => ?_)
  have hl : lv_has ls 5 [(0, .ref p0), (1, .int p1), (2, .int p2)] := hl
  generalize ([.ref p0, .int p1, .int p2] : List Value).toArray = args at hC ⊢
  obtain ⟨hx, hb, hml, hown, hts, hr, hlk, hnm⟩ := hC
  unfold gw_X2_isAhead at hw
  obtain ⟨H, eH⟩ : ∃ z, z = s.heap := ⟨_, rfl⟩
  obtain ⟨locs, elo⟩ : ∃ z : List Loc, z = [] := ⟨_, rfl⟩
  rw [← eH, ← elo] at hI ⊢
  obtain ⟨cells, slots, hbc, hbs, e0, e1⟩ : ∃ a b : Nat, a + mc ≤ mc ∧ b + ms ≤ ms ∧ a = 0 ∧ b = 0 := ⟨0, 0, by omega, by omega, rfl, rfl⟩
  show W p l e ({ frames := 14, cells := mc, slots := ms, locals := 280 } : Room) s m args below meth c H locs 0 0 (MQ below (va_Qi post (ga_E g) (ga_A g)) args s mc ms (ga_A g)) (F0 m 0 ls [])
  suffices hgoal : W p l e ({ frames := 14, cells := mc, slots := ms, locals := 280 } : Room) s m args below meth c H locs cells slots (MQ below (va_Qi post (ga_E g) (ga_A g)) args s mc ms (ga_A g)) (F0 m 0 ls []) by rw [e0, e1] at hgoal; exact hgoal
  refine lv_aload_n hx hb dX2_isAhead_0 rfl (lv_at hl 0 rfl) ?_
  obtain ⟨fs_1, v_2, hq, hv, hw⟩ := hw
  refine ga_get (ci := 1) (T := TX2) (v := va_rf v_2) hx hb hts hown hI in_X2 rfl 0 (by decide) q310 (fun _ z => z) (ga_at.h hq) hv dX2_isAhead_1 ?_
  refine lv_iload_n hx hb dX2_isAhead_4 rfl (lv_at hl 1 rfl) ?_
  obtain ⟨a_3, ea_3, hw⟩ := hw
  rewrite [ea_3]
  obtain ⟨n_4, f_5, hq, hi, hw⟩ := hw
  refine ga_ldq hx hb hI (ga_at.h hq) rfl hi dX2_isAhead_5 ?_
  obtain ⟨v_6, ev_6⟩ : ∃ z, z = f_5 p1.toNatClampNeg := ⟨_, rfl⟩
  rw [← ev_6]
  have hw := hw v_6 ev_6
  obtain ⟨a_7, ea_7, hw⟩ := hw
  rewrite [ea_7]
  obtain ⟨kc_8, ks_9, hk1, hk2, hw⟩ := hw
  obtain ⟨fs_10, hq, hw⟩ := hw
  refine ga_calli (va_runV (As := []) (rest := []) ⟨hx, hb, hml, hown, hts⟩ (gm_X3_quires l g a_7 h kc_8 ks_9 _ hw) (cwV 0 hts (lw_V q2400 q2348 q2349 q107 q2350) rfl rfl rfl ⟨rfl, hdG_X3_quires⟩ ⟨Nat.le_of_ble_eq_true rfl, Nat.le_of_ble_eq_true rfl⟩) (ga_preV hI hq rfl rfl) rfl rfl hl.1 rfl (ga_room (Nat.le_of_ble_eq_true rfl)) dX2_isAhead_6 ⟨Nat.le_trans (Nat.add_le_add_left hk1 _) hbc, Nat.le_trans (Nat.add_le_add_left hk2 _) hbs⟩) hI hbc hbs hk1 hk2 (fun r_12 h_11 H locs cells slots hw hI hbc hbs => ?_)
  refine lv_aload_n hx hb dX2_isAhead_9 rfl (lv_at hl 0 rfl) ?_
  obtain ⟨fs_13, v_14, hq, hv, hw⟩ := hw
  refine ga_get (ci := 1) (T := TX2) (v := va_rf v_14) hx hb hts hown hI in_X2 rfl 0 (by decide) q310 (fun _ z => z) (ga_at.h hq) hv dX2_isAhead_10 ?_
  refine lv_iload_n hx hb dX2_isAhead_13 rfl (lv_at hl 2 rfl) ?_
  obtain ⟨a_15, ea_15, hw⟩ := hw
  rewrite [ea_15]
  obtain ⟨n_16, f_17, hq, hi, hw⟩ := hw
  refine ga_ldq hx hb hI (ga_at.h hq) rfl hi dX2_isAhead_14 ?_
  obtain ⟨v_18, ev_18⟩ : ∃ z, z = f_17 p2.toNatClampNeg := ⟨_, rfl⟩
  rw [← ev_18]
  have hw := hw v_18 ev_18
  obtain ⟨a_19, ea_19, hw⟩ := hw
  rewrite [ea_19]
  obtain ⟨kc_20, ks_21, hk1, hk2, hw⟩ := hw
  obtain ⟨fs_22, hq, hw⟩ := hw
  refine ga_calli (va_runV (As := []) (rest := [.int r_12]) ⟨hx, hb, hml, hown, hts⟩ (gm_X3_quires l g a_19 h_11 kc_20 ks_21 _ hw) (cwV 0 hts (lw_V q2400 q2348 q2349 q107 q2350) rfl rfl rfl ⟨rfl, hdG_X3_quires⟩ ⟨Nat.le_of_ble_eq_true rfl, Nat.le_of_ble_eq_true rfl⟩) (ga_preV hI hq rfl rfl) rfl rfl hl.1 rfl (ga_room (Nat.le_of_ble_eq_true rfl)) dX2_isAhead_15 ⟨Nat.le_trans (Nat.add_le_add_left hk1 _) hbc, Nat.le_trans (Nat.add_le_add_left hk2 _) hbs⟩) hI hbc hbs hk1 hk2 (fun r_24 h_23 H locs cells slots hw hI hbc hbs => ?_)
  refine lv_isub hx hb dX2_isAhead_18 ?_
  refine lv_istore_n (i := 3) (lv' := [(3, .int (r_12 - r_24)), (0, .ref p0), (1, .int p1), (2, .int p2)]) hx hb dX2_isAhead_19 rfl hl (by decide) rfl (fun ls hl => ?_)
  refine lv_aload_n hx hb dX2_isAhead_20 rfl (lv_at hl 1 rfl) ?_
  obtain ⟨fs_25, v_26, hq, hv, hw⟩ := hw
  refine ga_get (ci := 1) (T := TX2) (v := va_rf v_26) hx hb hts hown hI in_X2 rfl 0 (by decide) q310 (fun _ z => z) (ga_at.h hq) hv dX2_isAhead_21 ?_
  refine lv_iload_n hx hb dX2_isAhead_24 rfl (lv_at hl 2 rfl) ?_
  obtain ⟨a_27, ea_27, hw⟩ := hw
  rewrite [ea_27]
  obtain ⟨n_28, f_29, hq, hi, hw⟩ := hw
  refine ga_ldq hx hb hI (ga_at.h hq) rfl hi dX2_isAhead_25 ?_
  obtain ⟨v_30, ev_30⟩ : ∃ z, z = f_29 p1.toNatClampNeg := ⟨_, rfl⟩
  rw [← ev_30]
  have hw := hw v_30 ev_30
  obtain ⟨a_31, ea_31, hw⟩ := hw
  rewrite [ea_31]
  obtain ⟨fs_32, v_33, hq, hv, hw⟩ := hw
  refine ga_getN (ci := 2) (T := TX3) (v := .int v_33) hx hb hts hown hI in_X3 rfl 2 (by decide) q286 (fun _ z => z) (ga_at.h hq) hv dX2_isAhead_26 ?_
  refine lv_aload_n hx hb dX2_isAhead_29 rfl (lv_at hl 1 rfl) ?_
  obtain ⟨fs_34, v_35, hq, hv, hw⟩ := hw
  refine ga_get (ci := 1) (T := TX2) (v := va_rf v_35) hx hb hts hown hI in_X2 rfl 0 (by decide) q310 (fun _ z => z) (ga_at.h hq) hv dX2_isAhead_30 ?_
  refine lv_iload_n hx hb dX2_isAhead_33 rfl (lv_at hl 3 rfl) ?_
  obtain ⟨a_36, ea_36, hw⟩ := hw
  rewrite [ea_36]
  obtain ⟨n_37, f_38, hq, hi, hw⟩ := hw
  refine ga_ldq hx hb hI (ga_at.h hq) rfl hi dX2_isAhead_34 ?_
  obtain ⟨v_39, ev_39⟩ : ∃ z, z = f_38 p2.toNatClampNeg := ⟨_, rfl⟩
  rw [← ev_39]
  have hw := hw v_39 ev_39
  obtain ⟨a_40, ea_40, hw⟩ := hw
  rewrite [ea_40]
  obtain ⟨fs_41, v_42, hq, hv, hw⟩ := hw
  refine ga_getN (ci := 2) (T := TX3) (v := .int v_42) hx hb hts hown hI in_X3 rfl 2 (by decide) q286 (fun _ z => z) (ga_at.h hq) hv dX2_isAhead_35 ?_
  refine lv_isub hx hb dX2_isAhead_38 ?_
  refine lv_istore (lv' := [(4, .int (v_33 - v_42)), (3, .int (r_12 - r_24)), (0, .ref p0), (1, .int p1), (2, .int p2)]) hx hb dX2_isAhead_39 hl (by decide) rfl (fun ls hl => ?_)
  refine lv_iload_n hx hb dX2_isAhead_41 rfl (lv_at hl 1 rfl) ?_
  refine lv_if_eq (tgt := 57) hx hb dX2_isAhead_42 (by decide) (fun hc_43 => ?_) (fun hc_43 => ?_)
  · have hw := hw.1 hc_43
    refine lv_iload hx hb dX2_isAhead_57 (lv_at hl 0 rfl) ?_
    refine lv_if_eq (tgt := 75) hx hb dX2_isAhead_59 (by decide) (fun hc_44 => ?_) (fun hc_44 => ?_)
    · have hw := hw.1 hc_44
      refine lv_iload_n hx hb dX2_isAhead_75 rfl (lv_at hl 3 rfl) ?_
      refine lv_iload_n hx hb dX2_isAhead_76 rfl (lv_at hl 4 rfl) ?_
      refine lv_icmp_ge (tgt := 84) hx hb dX2_isAhead_77 (by decide) (fun hc_45 => ?_) (fun hc_45 => ?_)
      · have hw := hw.1 hc_45
        refine lv_iconst (v := 0) hx hb dX2_isAhead_84 (by decide) ?_
        exact ga_iret hx hb hr rfl hlk hI hw (Nat.le_trans (Nat.le_add_right _ _) hbc) (Nat.le_trans (Nat.le_add_right _ _) hbs) dX2_isAhead_85
      · have hw := hw.2 hc_45
        refine lv_iconst (v := 1) hx hb dX2_isAhead_80 (by decide) ?_
        refine lv_goto (tgt := 85) hx hb dX2_isAhead_81 (by decide) ?_
        exact ga_iret hx hb hr rfl hlk hI hw (Nat.le_trans (Nat.le_add_right _ _) hbc) (Nat.le_trans (Nat.le_add_right _ _) hbs) dX2_isAhead_85
    · have hw := hw.2 hc_44
      refine lv_iload hx hb dX2_isAhead_62 (lv_at hl 0 rfl) ?_
      refine lv_if_ge (tgt := 71) hx hb dX2_isAhead_64 (by decide) (fun hc_46 => ?_) (fun hc_46 => ?_)
      · have hw := hw.1 hc_46
        refine lv_iconst (v := 0) hx hb dX2_isAhead_71 (by decide) ?_
        refine lv_goto (tgt := 85) hx hb dX2_isAhead_72 (by decide) ?_
        exact ga_iret hx hb hr rfl hlk hI hw (Nat.le_trans (Nat.le_add_right _ _) hbc) (Nat.le_trans (Nat.le_add_right _ _) hbs) dX2_isAhead_85
      · have hw := hw.2 hc_46
        refine lv_iconst (v := 1) hx hb dX2_isAhead_67 (by decide) ?_
        refine lv_goto (tgt := 85) hx hb dX2_isAhead_68 (by decide) ?_
        exact ga_iret hx hb hr rfl hlk hI hw (Nat.le_trans (Nat.le_add_right _ _) hbc) (Nat.le_trans (Nat.le_add_right _ _) hbs) dX2_isAhead_85
  · have hw := hw.2 hc_43
    refine lv_iload_n hx hb dX2_isAhead_45 rfl (lv_at hl 1 rfl) ?_
    refine lv_if_le (tgt := 53) hx hb dX2_isAhead_46 (by decide) (fun hc_47 => ?_) (fun hc_47 => ?_)
    · have hw := hw.1 hc_47
      refine lv_iconst (v := 0) hx hb dX2_isAhead_53 (by decide) ?_
      refine lv_goto (tgt := 85) hx hb dX2_isAhead_54 (by decide) ?_
      exact ga_iret hx hb hr rfl hlk hI hw (Nat.le_trans (Nat.le_add_right _ _) hbc) (Nat.le_trans (Nat.le_add_right _ _) hbs) dX2_isAhead_85
    · have hw := hw.2 hc_47
      refine lv_iconst (v := 1) hx hb dX2_isAhead_49 (by decide) ?_
      refine lv_goto (tgt := 85) hx hb dX2_isAhead_50 (by decide) ?_
      exact ga_iret hx hb hr rfl hlk hI hw (Nat.le_trans (Nat.le_add_right _ _) hbc) (Nat.le_trans (Nat.le_add_right _ _) hbs) dX2_isAhead_85
theorem hdG_X2_isAhead : yX2_isAhead.cls ≠ "java/lang/invoke/MethodHandle" ∧ yX2_isAhead.cls ≠ "java/lang/invoke/VarHandle" ∧ (parseMethodDescriptor yX2_isAhead.desc).map (fun d => d.parameters.length) = some 2 := by decide +kernel
def gw_X1_ranked (K : ga_K) (p0 : Nat) (p1 : Int32) (h : ga_H) (mc ms : Nat) (post : Int32 → ga_H → Prop) (xp : String → Nat → ga_H → Prop) : Prop :=
  gw_X1_isAisle p1 (fun (r_1 : Int32) => ∃ kc_2 ks_3 : Nat, kc_2 ≤ mc ∧ ks_3 ≤ ms ∧ gw_X1_checkElement K r_1 h kc_2 ks_3 (fun (h_4 : ga_H) => ∃ (In_8 : Int32 → Int32 → ga_H → Nat → Nat → Prop) (mu_8 : Int32 → Int32 → ga_H → Nat → Nat → Nat), In_8 (-1 : Int32) (0 : Int32) h_4 (mc - kc_2) (ms - ks_3) ∧ ∀ (x2_8 : Int32) (x3_8 : Int32) (h_8 : ga_H) (bc_8 : Nat) (bs_8 : Nat), In_8 x2_8 x3_8 h_8 bc_8 bs_8 → (((5 : Int32) ≤ x3_8 → (post x2_8 h_8)) ∧ (¬ (5 : Int32) ≤ x3_8 → (∃ (In_10 : Int32 → Int32 → ga_H → Nat → Nat → Prop) (mu_10 : Int32 → Int32 → ga_H → Nat → Nat → Nat), In_10 (0 : Int32) (0 : Int32) h_8 bc_8 bs_8 ∧ ∀ (x4_10 : Int32) (x5_10 : Int32) (h_10 : ga_H) (bc_10 : Nat) (bs_10 : Nat), In_10 x4_10 x5_10 h_10 bc_10 bs_10 → (((5 : Int32) ≤ x5_10 → ((¬ x4_10 = p1 → (In_8 x2_8 (x3_8 + (1 : Int32)) h_10 bc_10 bs_10 ∧ mu_8 x2_8 (x3_8 + (1 : Int32)) h_10 bc_10 bs_10 < mu_8 x2_8 x3_8 h_8 bc_8 bs_8)) ∧ (x4_10 = p1 → (In_8 x3_8 (x3_8 + (1 : Int32)) h_10 bc_10 bs_10 ∧ mu_8 x3_8 (x3_8 + (1 : Int32)) h_10 bc_10 bs_10 < mu_8 x2_8 x3_8 h_8 bc_8 bs_8)))) ∧ (¬ (5 : Int32) ≤ x5_10 → ((x5_10 = x3_8 → (In_10 (x4_10 + (0 : Int32)) (x5_10 + (1 : Int32)) h_10 bc_10 bs_10 ∧ mu_10 (x4_10 + (0 : Int32)) (x5_10 + (1 : Int32)) h_10 bc_10 bs_10 < mu_10 x4_10 x5_10 h_10 bc_10 bs_10)) ∧ (¬ x5_10 = x3_8 → (∃ (fs_14 : List Value) (v_15 : Option Nat), h_10 p0 = some (ga_O 0 fs_14) ∧ fs_14[0]? = some (va_rf v_15) ∧ (∃ a_16 : Nat, v_15 = some a_16 ∧ ∃ kc_17 ks_18 : Nat, kc_17 ≤ bc_10 ∧ ks_18 ≤ bs_10 ∧ ∃ fs_19 : List Value, ga_at K h_10 a_16 (ga_O 1 fs_19) ∧ gw_X2_isAhead K a_16 x5_10 x3_8 h_10 kc_17 ks_18 (fun (r_21 : Int32) (h_20 : ga_H) => (r_21 = (0 : Int32) → (In_10 (x4_10 + (0 : Int32)) (x5_10 + (1 : Int32)) h_20 (bc_10 - kc_17) (bs_10 - ks_18) ∧ mu_10 (x4_10 + (0 : Int32)) (x5_10 + (1 : Int32)) h_20 (bc_10 - kc_17) (bs_10 - ks_18) < mu_10 x4_10 x5_10 h_10 bc_10 bs_10)) ∧ (¬ r_21 = (0 : Int32) → (In_10 (x4_10 + (1 : Int32)) (x5_10 + (1 : Int32)) h_20 (bc_10 - kc_17) (bs_10 - ks_18) ∧ mu_10 (x4_10 + (1 : Int32)) (x5_10 + (1 : Int32)) h_20 (bc_10 - kc_17) (bs_10 - ks_18) < mu_10 x4_10 x5_10 h_10 bc_10 bs_10))))))))))))) (fun (E_5 : String) (q_6 : Nat) (h_7 : ga_H) => xp E_5 q_6 h_7))
set_option maxHeartbeats 4000000 in
theorem gm_X1_ranked (l : Launch) (hst : l.stackTraces = false) (g : ga_G) (p0 : Nat) (p1 : Int32) (h : ga_H) (mc ms : Nat) (post : Int32 → ga_H → Prop) (xp : String → Nat → ga_H → Prop) (hw : gw_X1_ranked g.2.2 p0 p1 h mc ms post xp) : vx_Met l yX1_ranked (ws_ yX1_ranked cX1_ranked 6 (some .int)) ({ frames := 15, cells := mc, slots := ms, locals := 304 } : Room) (va_Pc [.ref p0, .int p1] (ga_B g h)) (va_Qi post (ga_E g) (ga_A g)) (ga_X g xp) mc ms (ga_A g) := by
  refine ga_metx (own := "PaperStore") (nm := "ranked") (by decide) rfl rfl (by exact Nat.le_of_ble_eq_true rfl) (fun p e s m below meth c ls hC htab hI hl => ?_)
  have hl : lv_has ls 6 [(0, .ref p0), (1, .int p1)] := hl
  generalize ([.ref p0, .int p1] : List Value).toArray = args at hC ⊢
  obtain ⟨hx, hb, hml, hown, hts, hr, hlk, hnm⟩ := hC
  unfold gw_X1_ranked at hw
  obtain ⟨H, eH⟩ : ∃ z, z = s.heap := ⟨_, rfl⟩
  obtain ⟨locs, elo⟩ : ∃ z : List Loc, z = [] := ⟨_, rfl⟩
  rw [← eH, ← elo] at hI ⊢
  obtain ⟨cells, slots, hbc, hbs, e0, e1⟩ : ∃ a b : Nat, a + mc ≤ mc ∧ b + ms ≤ ms ∧ a = 0 ∧ b = 0 := ⟨0, 0, by omega, by omega, rfl, rfl⟩
  show W p l e ({ frames := 15, cells := mc, slots := ms, locals := 304 } : Room) s m args below meth c H locs 0 0 (vx_MQ below (va_Qi post (ga_E g) (ga_A g)) (ga_X g xp) args s mc ms (ga_A g)) (F0 m 0 ls [])
  suffices hgoal : W p l e ({ frames := 15, cells := mc, slots := ms, locals := 304 } : Room) s m args below meth c H locs cells slots (vx_MQ below (va_Qi post (ga_E g) (ga_A g)) (ga_X g xp) args s mc ms (ga_A g)) (F0 m 0 ls []) by rw [e0, e1] at hgoal; exact hgoal
  refine lv_iload_n hx hb dX1_ranked_0 rfl (lv_at hl 1 rfl) ?_
  refine ga_callS (As := [.int p1]) (rest := []) ⟨hx, hb, hml, hown, hts⟩ (gm_X1_isAisle l p1 _ hw) (va_cwS 1 hts (lw_S q2144 q2145 q100 q2146) rfl rfl rfl hdG_X1_isAisle ⟨Nat.le_of_ble_eq_true rfl, Nat.le_of_ble_eq_true rfl⟩) rfl hl.1 rfl (ga_room (Nat.le_of_ble_eq_true rfl)) dX1_ranked_1 hbc hbs (fun r_1 hw => ?_)
  obtain ⟨kc_2, ks_3, hk1, hk2, hw⟩ := hw
  refine ga_xcallv (vx_runS (As := [.int r_1]) (rest := []) ⟨hx, hb, hml, hown, hts⟩ (gm_X1_checkElement l hst g r_1 h kc_2 ks_3 _ _ hw) (va_cwS 1 hts (lw_S q2271 q2272 q100 q2273) rfl rfl rfl hdG_X1_checkElement ⟨Nat.le_of_ble_eq_true rfl, Nat.le_of_ble_eq_true rfl⟩) (ga_preS hI rfl) rfl rfl hl.1 rfl (ga_room (Nat.le_of_ble_eq_true rfl)) dX1_ranked_4 ⟨Nat.le_trans (Nat.add_le_add_left hk1 _) hbc, Nat.le_trans (Nat.add_le_add_left hk2 _) hbs⟩) hI hbc hbs hk1 hk2 (fun E_5 q_6 h_7 ce H locs cells slots hw hI hce hbc hbs => ?_) (fun h_4 H locs cells slots hw hI hbc hbs => ?_)
  · exact ga_out hown hlk hI hw (by rw [htab]; intro z hz; cases hz) hce (Nat.le_trans (Nat.le_add_right _ _) hbc) (Nat.le_trans (Nat.le_add_right _ _) hbs)
  · skip
    refine lv_iconst (v := -1) hx hb dX1_ranked_7 (by decide) ?_
    refine lv_istore_n (i := 2) (lv' := [(2, .int (-1 : Int32)), (0, .ref p0), (1, .int p1)]) hx hb dX1_ranked_8 rfl hl (by decide) rfl (fun ls hl => ?_)
    refine lv_iconst (v := 0) hx hb dX1_ranked_9 (by decide) ?_
    refine lv_istore_n (i := 3) (lv' := [(3, .int (0 : Int32)), (2, .int (-1 : Int32)), (0, .ref p0), (1, .int p1)]) hx hb dX1_ranked_10 rfl hl (by decide) rfl (fun ls hl => ?_)
    obtain ⟨In_8, mu_8, h0_8, hw⟩ := hw
    have hL_8 : ∀ (n : Nat) (x2_8 : Int32) (x3_8 : Int32) (h_8 : ga_H) (bc_8 : Nat) (bs_8 : Nat) (H : Heap) (locs : List Loc) (cells slots : Nat) (ls : Array Slot), mu_8 x2_8 x3_8 h_8 bc_8 bs_8 < n → In_8 x2_8 x3_8 h_8 bc_8 bs_8 → ga_I g h_8 s H locs → cells + bc_8 ≤ mc → slots + bs_8 ≤ ms → lv_has ls 6 [(0, .ref p0), (1, .int p1), (2, .int x2_8), (3, .int x3_8)] → W p l e ({ frames := 15, cells := mc, slots := ms, locals := 304 } : Room) s m args below meth c H locs cells slots (vx_MQ below (va_Qi post (ga_E g) (ga_A g)) (ga_X g xp) args s mc ms (ga_A g)) (F0 m 11 ls []) := by
      intro n
      induction n with
      | zero => intro x2_8 x3_8 h_8 bc_8 bs_8 H locs cells slots ls hn _ _ _ _ _; exact absurd hn (Nat.not_lt_zero _)
      | succ n ih_8 =>
        intro x2_8 x3_8 h_8 bc_8 bs_8 H locs cells slots ls hn_8 hi_8 hI hbc hbs hl
        have hw := hw x2_8 x3_8 h_8 bc_8 bs_8 hi_8
        refine lv_iload_n hx hb dX1_ranked_11 rfl (lv_at hl 3 rfl) ?_
        refine lv_iconst (v := 5) hx hb dX1_ranked_12 (by decide) ?_
        refine lv_icmp_ge (tgt := 81) hx hb dX1_ranked_13 (by decide) (fun hc_9 => ?_) (fun hc_9 => ?_)
        · have hw := hw.1 hc_9
          refine lv_iload_n hx hb dX1_ranked_81 rfl (lv_at hl 2 rfl) ?_
          exact ga_iretx hx hb hr rfl hlk hI hw (Nat.le_trans (Nat.le_add_right _ _) hbc) (Nat.le_trans (Nat.le_add_right _ _) hbs) dX1_ranked_82
        · have hw := hw.2 hc_9
          refine lv_iconst (v := 0) hx hb dX1_ranked_16 (by decide) ?_
          refine lv_istore (lv' := [(4, .int (0 : Int32)), (0, .ref p0), (1, .int p1), (2, .int x2_8), (3, .int x3_8)]) hx hb dX1_ranked_17 hl (by decide) rfl (fun ls hl => ?_)
          refine lv_iconst (v := 0) hx hb dX1_ranked_19 (by decide) ?_
          refine lv_istore (lv' := [(5, .int (0 : Int32)), (4, .int (0 : Int32)), (0, .ref p0), (1, .int p1), (2, .int x2_8), (3, .int x3_8)]) hx hb dX1_ranked_20 hl (by decide) rfl (fun ls hl => ?_)
          obtain ⟨In_10, mu_10, h0_10, hw⟩ := hw
          have hL_10 : ∀ (n : Nat) (x4_10 : Int32) (x5_10 : Int32) (h_10 : ga_H) (bc_10 : Nat) (bs_10 : Nat) (H : Heap) (locs : List Loc) (cells slots : Nat) (ls : Array Slot), mu_10 x4_10 x5_10 h_10 bc_10 bs_10 < n → In_10 x4_10 x5_10 h_10 bc_10 bs_10 → ga_I g h_10 s H locs → cells + bc_10 ≤ mc → slots + bs_10 ≤ ms → lv_has ls 6 [(0, .ref p0), (1, .int p1), (2, .int x2_8), (3, .int x3_8), (4, .int x4_10), (5, .int x5_10)] → W p l e ({ frames := 15, cells := mc, slots := ms, locals := 304 } : Room) s m args below meth c H locs cells slots (vx_MQ below (va_Qi post (ga_E g) (ga_A g)) (ga_X g xp) args s mc ms (ga_A g)) (F0 m 22 ls []) := by
            intro n
            induction n with
            | zero => intro x4_10 x5_10 h_10 bc_10 bs_10 H locs cells slots ls hn _ _ _ _ _; exact absurd hn (Nat.not_lt_zero _)
            | succ n ih_10 =>
              intro x4_10 x5_10 h_10 bc_10 bs_10 H locs cells slots ls hn_10 hi_10 hI hbc hbs hl
              have hw := hw x4_10 x5_10 h_10 bc_10 bs_10 hi_10
              refine lv_iload hx hb dX1_ranked_22 (lv_at hl 5 rfl) ?_
              refine lv_iconst (v := 5) hx hb dX1_ranked_24 (by decide) ?_
              refine lv_icmp_ge (tgt := 63) hx hb dX1_ranked_25 (by decide) (fun hc_11 => ?_) (fun hc_11 => ?_)
              · have hw := hw.1 hc_11
                refine lv_iload hx hb dX1_ranked_63 (lv_at hl 4 rfl) ?_
                refine lv_iload_n hx hb dX1_ranked_65 rfl (lv_at hl 1 rfl) ?_
                refine lv_icmp_ne (tgt := 73) hx hb dX1_ranked_66 (by decide) (fun hc_12 => ?_) (fun hc_12 => ?_)
                · have hw := hw.1 hc_12
                  refine lv_iload_n hx hb dX1_ranked_73 rfl (lv_at hl 2 rfl) ?_
                  refine lv_istore_n (i := 2) (lv' := [(2, .int x2_8), (0, .ref p0), (1, .int p1), (3, .int x3_8), (4, .int x4_10), (5, .int x5_10)]) hx hb dX1_ranked_74 rfl hl (by decide) rfl (fun ls hl => ?_)
                  refine lv_iinc (v := x3_8 + (1 : Int32)) (lv' := [(3, .int (x3_8 + (1 : Int32))), (2, .int x2_8), (0, .ref p0), (1, .int p1), (4, .int x4_10), (5, .int x5_10)]) hx hb dX1_ranked_75 hl (k := 3) rfl rfl (by decide) rfl (fun ls hl => ?_)
                  refine lv_goto (tgt := 11) hx hb dX1_ranked_78 (by decide) ?_
                  exact ih_8 _ _ _ _ _ H locs cells slots ls (Nat.lt_of_lt_of_le hw.2 (Nat.le_of_lt_succ hn_8)) hw.1 hI hbc hbs (lv_sub hl [2, 3, 1, 0] rfl)
                · have hw := hw.2 hc_12
                  refine lv_iload_n hx hb dX1_ranked_69 rfl (lv_at hl 3 rfl) ?_
                  refine lv_goto (tgt := 74) hx hb dX1_ranked_70 (by decide) ?_
                  refine lv_istore_n (i := 2) (lv' := [(2, .int x3_8), (0, .ref p0), (1, .int p1), (3, .int x3_8), (4, .int x4_10), (5, .int x5_10)]) hx hb dX1_ranked_74 rfl hl (by decide) rfl (fun ls hl => ?_)
                  refine lv_iinc (v := x3_8 + (1 : Int32)) (lv' := [(3, .int (x3_8 + (1 : Int32))), (2, .int x3_8), (0, .ref p0), (1, .int p1), (4, .int x4_10), (5, .int x5_10)]) hx hb dX1_ranked_75 hl (k := 3) rfl rfl (by decide) rfl (fun ls hl => ?_)
                  refine lv_goto (tgt := 11) hx hb dX1_ranked_78 (by decide) ?_
                  exact ih_8 _ _ _ _ _ H locs cells slots ls (Nat.lt_of_lt_of_le hw.2 (Nat.le_of_lt_succ hn_8)) hw.1 hI hbc hbs (lv_sub hl [2, 3, 1, 0] rfl)
              · have hw := hw.2 hc_11
                refine lv_iload hx hb dX1_ranked_28 (lv_at hl 4 rfl) ?_
                refine lv_iload hx hb dX1_ranked_30 (lv_at hl 5 rfl) ?_
                refine lv_iload_n hx hb dX1_ranked_32 rfl (lv_at hl 3 rfl) ?_
                refine lv_icmp_eq (tgt := 53) hx hb dX1_ranked_33 (by decide) (fun hc_13 => ?_) (fun hc_13 => ?_)
                · have hw := hw.1 hc_13
                  refine lv_iconst (v := 0) hx hb dX1_ranked_53 (by decide) ?_
                  refine lv_iadd hx hb dX1_ranked_54 ?_
                  refine lv_istore (lv' := [(4, .int (x4_10 + (0 : Int32))), (0, .ref p0), (1, .int p1), (2, .int x2_8), (3, .int x3_8), (5, .int x5_10)]) hx hb dX1_ranked_55 hl (by decide) rfl (fun ls hl => ?_)
                  refine lv_iinc (v := x5_10 + (1 : Int32)) (lv' := [(5, .int (x5_10 + (1 : Int32))), (4, .int (x4_10 + (0 : Int32))), (0, .ref p0), (1, .int p1), (2, .int x2_8), (3, .int x3_8)]) hx hb dX1_ranked_57 hl (k := 5) rfl rfl (by decide) rfl (fun ls hl => ?_)
                  refine lv_goto (tgt := 22) hx hb dX1_ranked_60 (by decide) ?_
                  exact ih_10 _ _ _ _ _ H locs cells slots ls (Nat.lt_of_lt_of_le hw.2 (Nat.le_of_lt_succ hn_10)) hw.1 hI hbc hbs (lv_sub hl [2, 3, 4, 5, 1, 0] rfl)
                · have hw := hw.2 hc_13
                  refine lv_aload_n hx hb dX1_ranked_36 rfl (lv_at hl 0 rfl) ?_
                  obtain ⟨fs_14, v_15, hq, hv, hw⟩ := hw
                  refine ga_get (ci := 0) (T := TX1) (v := va_rf v_15) hx hb hts hown hI in_X1 rfl 0 (by decide) q387 (fun _ z => z) (ga_at.h hq) hv dX1_ranked_37 ?_
                  refine lv_iload hx hb dX1_ranked_40 (lv_at hl 5 rfl) ?_
                  refine lv_iload_n hx hb dX1_ranked_42 rfl (lv_at hl 3 rfl) ?_
                  obtain ⟨a_16, ea_16, hw⟩ := hw
                  rewrite [ea_16]
                  obtain ⟨kc_17, ks_18, hk1, hk2, hw⟩ := hw
                  obtain ⟨fs_19, hq, hw⟩ := hw
                  refine ga_calli (va_runV (As := [.int x5_10, .int x3_8]) (rest := [.int x4_10]) ⟨hx, hb, hml, hown, hts⟩ (gm_X2_isAhead l g a_16 x5_10 x3_8 h_10 kc_17 ks_18 _ hw) (cwV 2 hts (lw_V q2396 q2397 q2398 q101 q2399) rfl rfl rfl ⟨rfl, hdG_X2_isAhead⟩ ⟨Nat.le_of_ble_eq_true rfl, Nat.le_of_ble_eq_true rfl⟩) (ga_preV hI hq rfl rfl) rfl rfl hl.1 rfl (ga_room (Nat.le_of_ble_eq_true rfl)) dX1_ranked_43 ⟨Nat.le_trans (Nat.add_le_add_left hk1 _) hbc, Nat.le_trans (Nat.add_le_add_left hk2 _) hbs⟩) hI hbc hbs hk1 hk2 (fun r_21 h_20 H locs cells slots hw hI hbc hbs => ?_)
                  refine lv_if_eq (tgt := 53) hx hb dX1_ranked_46 (by decide) (fun hc_22 => ?_) (fun hc_22 => ?_)
                  · have hw := hw.1 hc_22
                    refine lv_iconst (v := 0) hx hb dX1_ranked_53 (by decide) ?_
                    refine lv_iadd hx hb dX1_ranked_54 ?_
                    refine lv_istore (lv' := [(4, .int (x4_10 + (0 : Int32))), (0, .ref p0), (1, .int p1), (2, .int x2_8), (3, .int x3_8), (5, .int x5_10)]) hx hb dX1_ranked_55 hl (by decide) rfl (fun ls hl => ?_)
                    refine lv_iinc (v := x5_10 + (1 : Int32)) (lv' := [(5, .int (x5_10 + (1 : Int32))), (4, .int (x4_10 + (0 : Int32))), (0, .ref p0), (1, .int p1), (2, .int x2_8), (3, .int x3_8)]) hx hb dX1_ranked_57 hl (k := 5) rfl rfl (by decide) rfl (fun ls hl => ?_)
                    refine lv_goto (tgt := 22) hx hb dX1_ranked_60 (by decide) ?_
                    exact ih_10 _ _ _ _ _ H locs cells slots ls (Nat.lt_of_lt_of_le hw.2 (Nat.le_of_lt_succ hn_10)) hw.1 hI hbc hbs (lv_sub hl [2, 3, 4, 5, 1, 0] rfl)
                  · have hw := hw.2 hc_22
                    refine lv_iconst (v := 1) hx hb dX1_ranked_49 (by decide) ?_
                    refine lv_goto (tgt := 54) hx hb dX1_ranked_50 (by decide) ?_
                    refine lv_iadd hx hb dX1_ranked_54 ?_
                    refine lv_istore (lv' := [(4, .int (x4_10 + (1 : Int32))), (0, .ref p0), (1, .int p1), (2, .int x2_8), (3, .int x3_8), (5, .int x5_10)]) hx hb dX1_ranked_55 hl (by decide) rfl (fun ls hl => ?_)
                    refine lv_iinc (v := x5_10 + (1 : Int32)) (lv' := [(5, .int (x5_10 + (1 : Int32))), (4, .int (x4_10 + (1 : Int32))), (0, .ref p0), (1, .int p1), (2, .int x2_8), (3, .int x3_8)]) hx hb dX1_ranked_57 hl (k := 5) rfl rfl (by decide) rfl (fun ls hl => ?_)
                    refine lv_goto (tgt := 22) hx hb dX1_ranked_60 (by decide) ?_
                    exact ih_10 _ _ _ _ _ H locs cells slots ls (Nat.lt_of_lt_of_le hw.2 (Nat.le_of_lt_succ hn_10)) hw.1 hI hbc hbs (lv_sub hl [2, 3, 4, 5, 1, 0] rfl)
          exact hL_10 _ _ _ _ _ _ H locs cells slots ls (Nat.lt_succ_self _) h0_10 hI hbc hbs (lv_sub hl [2, 3, 4, 5, 1, 0] rfl)
    exact hL_8 _ _ _ _ _ _ H locs cells slots ls (Nat.lt_succ_self _) h0_8 hI hbc hbs (lv_sub hl [2, 3, 1, 0] rfl)
theorem hdG_X1_ranked : yX1_ranked.cls ≠ "java/lang/invoke/MethodHandle" ∧ yX1_ranked.cls ≠ "java/lang/invoke/VarHandle" ∧ (parseMethodDescriptor yX1_ranked.desc).map (fun d => d.parameters.length) = some 1 := by decide +kernel
def gw_X0_ranked (K : ga_K) (p0 : Option Nat) (p1 : Int32) (p2 : Option Nat) (h : ga_H) (mc ms : Nat) (post : Int32 → ga_H → Prop) (xp : String → Nat → ga_H → Prop) : Prop :=
  ∃ a_1 : Nat, p0 = some a_1 ∧ ∃ kc_2 ks_3 : Nat, kc_2 ≤ mc ∧ ks_3 ≤ ms ∧ ∃ fs_4 : List Value, ga_at K h a_1 (ga_O 0 fs_4) ∧ gw_X1_ranked K a_1 p1 h kc_2 ks_3 (fun (r_6 : Int32) (h_5 : ga_H) => ∃ a_10 : Nat, p2 = some a_10 ∧ ∃ (n_11 : Nat) (f_12 : Nat → Int64), h_5 a_10 = some (ga_Al n_11 f_12) ∧ vp_in (0 : Int32) n_11 ∧ ∀ h_13 : ga_H, h_13 = ga_set h_5 a_10 (ga_Al n_11 (vp_updL f_12 (0 : Int32).toNatClampNeg r_6.toInt64)) → (post (0 : Int32) h_13)) (fun (E_7 : String) (q_8 : Nat) (h_9 : ga_H) => (E_7 = "java/util/NoSuchElementException" ∧ (post (1 : Int32) h_9)))
set_option maxHeartbeats 4000000 in
theorem gm_X0_ranked (l : Launch) (hst : l.stackTraces = false) (g : ga_G) (p0 : Option Nat) (p1 : Int32) (p2 : Option Nat) (h : ga_H) (mc ms : Nat) (post : Int32 → ga_H → Prop) (xp : String → Nat → ga_H → Prop) (hw : gw_X0_ranked g.2.2 p0 p1 p2 h mc ms post xp) : vx_Met l yX0_ranked (wsW_ yX0_ranked cX0_ranked 4 (some .int) [(0, 9, 12, 37)]) ({ frames := 16, cells := mc, slots := ms, locals := 329 } : Room) (va_Pc [va_rf p0, .int p1, va_rf p2] (ga_B g h)) (va_Qi post (ga_E g) (ga_A g)) (ga_X g xp) mc ms (ga_A g) := by
  refine ga_metxW (own := "PaperStoreLaw") (nm := "ranked") (by decide) rfl rfl (by cases p0 <;> cases p2 <;> exact Nat.le_of_ble_eq_true rfl) (fun p e s m below meth c ls hC htab hI hl => ?_)
  have hl : lv_has ls 4 [(0, va_rf p0), (1, .int p1), (2, va_rf p2)] := (by cases p0 <;> cases p2 <;> exact hl)
  generalize ([va_rf p0, .int p1, va_rf p2] : List Value).toArray = args at hC ⊢
  obtain ⟨hx, hb, hml, hown, hts, hr, hlk, hnm⟩ := hC
  unfold gw_X0_ranked at hw
  obtain ⟨H, eH⟩ : ∃ z, z = s.heap := ⟨_, rfl⟩
  obtain ⟨locs, elo⟩ : ∃ z : List Loc, z = [] := ⟨_, rfl⟩
  rw [← eH, ← elo] at hI ⊢
  obtain ⟨cells, slots, hbc, hbs, e0, e1⟩ : ∃ a b : Nat, a + mc ≤ mc ∧ b + ms ≤ ms ∧ a = 0 ∧ b = 0 := ⟨0, 0, by omega, by omega, rfl, rfl⟩
  show W p l e ({ frames := 16, cells := mc, slots := ms, locals := 329 } : Room) s m args below meth c H locs 0 0 (vx_MQ below (va_Qi post (ga_E g) (ga_A g)) (ga_X g xp) args s mc ms (ga_A g)) (F0 m 0 ls [])
  suffices hgoal : W p l e ({ frames := 16, cells := mc, slots := ms, locals := 329 } : Room) s m args below meth c H locs cells slots (vx_MQ below (va_Qi post (ga_E g) (ga_A g)) (ga_X g xp) args s mc ms (ga_A g)) (F0 m 0 ls []) by rw [e0, e1] at hgoal; exact hgoal
  refine ga_aload_n hx hb dX0_ranked_0 rfl (lv_at hl 2 rfl) ?_
  refine lv_iconst (v := 0) hx hb dX0_ranked_1 (by decide) ?_
  refine ga_aload_n hx hb dX0_ranked_2 rfl (lv_at hl 0 rfl) ?_
  refine lv_iload_n hx hb dX0_ranked_3 rfl (lv_at hl 1 rfl) ?_
  obtain ⟨a_1, ea_1, hw⟩ := hw
  rewrite [ea_1]
  obtain ⟨kc_2, ks_3, hk1, hk2, hw⟩ := hw
  obtain ⟨fs_4, hq, hw⟩ := hw
  refine ga_xcalli (vx_runV (As := [.int p1]) (rest := [.int (0 : Int32), va_rf p2]) ⟨hx, hb, hml, hown, hts⟩ (gm_X1_ranked l hst g a_1 p1 h kc_2 ks_3 _ _ hw) (cwV 1 hts (lw_V q2392 q2393 q2394 q100 q2395) rfl rfl rfl ⟨rfl, hdG_X1_ranked⟩ ⟨Nat.le_of_ble_eq_true rfl, Nat.le_of_ble_eq_true rfl⟩) (ga_preV hI hq rfl rfl) rfl rfl hl.1 rfl (ga_room (Nat.le_of_ble_eq_true rfl)) dX0_ranked_4 ⟨Nat.le_trans (Nat.add_le_add_left hk1 _) hbc, Nat.le_trans (Nat.add_le_add_left hk2 _) hbs⟩) hI hbc hbs hk1 hk2 (fun E_7 q_8 h_9 ce H locs cells slots hw hI hce hbc hbs => ?_) (fun r_6 h_5 H locs cells slots hw hI hbc hbs => ?_)
  · obtain ⟨rfl, hw⟩ := hw
    refine ga_catch hown hts hI ([]) (⟨0, 9, 12, 37⟩) ([]) (by rw [htab]; rfl) (fun _ h => absurd h List.not_mem_nil) rfl (by decide) q2256 q732 hce ?_
    refine W.eq (g2 := F0 m 12 ls [.ref q_8]) rfl ?_
    refine lv_astore_n (i := 3) (lv' := [(3, .ref q_8), (0, va_rf p0), (1, .int p1), (2, va_rf p2)]) hx hb dX0_ranked_12 rfl hl (by decide) (by simp [ga_rcat, ga_cat_r, ga_cat_i, ga_cat_f, ga_cat_l, ga_cat_d]) (fun ls hl => ?_)
    refine lv_iconst (v := 1) hx hb dX0_ranked_13 (by decide) ?_
    exact ga_iretx hx hb hr rfl hlk hI hw (Nat.le_trans (Nat.le_add_right _ _) hbc) (Nat.le_trans (Nat.le_add_right _ _) hbs) dX0_ranked_14
  · skip
    refine lv_i2l (v := r_6.toInt64) hx hb dX0_ranked_7 rfl ?_
    obtain ⟨a_10, ea_10, hw⟩ := hw
    rewrite [ea_10]
    obtain ⟨n_11, f_12, hq, hi, hw⟩ := hw
    refine ga_stl hx hb hI hq hi dX0_ranked_8 (fun H locs hI => ?_)
    obtain ⟨h_13, eh_13⟩ : ∃ z, z = ga_set h_5 a_10 (ga_Al n_11 (vp_updL f_12 (0 : Int32).toNatClampNeg r_6.toInt64)) := ⟨_, rfl⟩
    rw [← eh_13] at hI
    have hw := hw h_13 eh_13
    refine lv_goto (tgt := 15) hx hb dX0_ranked_9 (by decide) ?_
    refine lv_iconst (v := 0) hx hb dX0_ranked_15 (by decide) ?_
    exact ga_iretx hx hb hr rfl hlk hI hw (Nat.le_trans (Nat.le_add_right _ _) hbc) (Nat.le_trans (Nat.le_add_right _ _) hbs) dX0_ranked_16
theorem hdG_X0_ranked : yX0_ranked.cls ≠ "java/lang/invoke/MethodHandle" ∧ yX0_ranked.cls ≠ "java/lang/invoke/VarHandle" ∧ (parseMethodDescriptor yX0_ranked.desc).map (fun d => d.parameters.length) = some 3 := by decide +kernel
def gw_X2_addOrder_17 (K : ga_K) (post : Int32 → ga_H → Prop) (xp : String → Nat → ga_H → Prop) (p0 : Nat) (t0 : Int32) (v1 : Option Nat) (v2 : Int32) (h : ga_H) (bc bs : Nat) : Prop :=
  ∃ kc_8 ks_9 : Nat, kc_8 ≤ bc ∧ ks_9 ≤ bs ∧ gw_X1_refuse K t0 (1 : Int32) (20 : Int32) h kc_8 ks_9 (fun (h_10 : ga_H) => ∃ (fs_14 : List Value) (v_15 : Option Nat), h_10 p0 = some (ga_O 1 fs_14) ∧ fs_14[2]? = some (va_rf v_15) ∧ (1 ≤ (bc - kc_8) ∧ 5 ≤ (bs - ks_9) ∧ ∀ q_16 : Nat, h_10 q_16 = none → ∀ h_17 : ga_H, h_17 = ga_set h_10 q_16 (ga_O 6 [va_rf none, .int 0, .int 0, .int 0, .int 0]) → (gw_X8_init K q_16 v1 v2 h_17 (fun (h_18 : ga_H) => ∃ a_19 : Nat, v_15 = some a_19 ∧ ∃ kc_20 ks_21 : Nat, kc_20 ≤ ((bc - kc_8) - 1) ∧ ks_21 ≤ ((bs - ks_9) - 5) ∧ ∃ fs_22 : List Value, ga_at K h_18 a_19 (ga_O 13 fs_22) ∧ gw_J2_add K a_19 (some q_16) h_18 kc_20 ks_21 (fun (r_24 : Int32) (h_23 : ga_H) => ∃ (fs_25 : List Value) (v_26 : Option Nat), h_23 p0 = some (ga_O 1 fs_25) ∧ fs_25[2]? = some (va_rf v_26) ∧ (∃ a_27 : Nat, v_26 = some a_27 ∧ ∃ fs_28 : List Value, ga_at K h_23 a_27 (ga_O 13 fs_28) ∧ gw_J2_size K a_27 h_23 (fun (r_30 : Int32) (h_29 : ga_H) => post (r_30 - (1 : Int32)) h_29))))))) (fun (E_11 : String) (q_12 : Nat) (h_13 : ga_H) => xp E_11 q_12 h_13)
set_option maxHeartbeats 4000000 in
theorem gj_X2_addOrder_17 {p : Program} {l : Launch} {e : Env} {s : State} {m : MethodId} {args : Array Value} {below : List Frame} {meth : Method} {c : Code} {mc ms : Nat} {H : Heap} {locs : List Loc} {cells slots : Nat} {ls : Array Slot} (hst : l.stackTraces = false) (htab : c.exceptionTable.toList = []) (g : ga_G) (post : Int32 → ga_H → Prop) (xp : String → Nat → ga_H → Prop) (p0 : Nat) (t0 : Int32) (v1 : Option Nat) (v2 : Int32) (h : ga_H) (bc bs : Nat) (hC : ga_Cx p s m args meth c cX2_addOrder 3 (some .int) "PaperStore$Store" "addOrder") (hw : gw_X2_addOrder_17 g.2.2 post xp p0 t0 v1 v2 h bc bs) (hI : ga_I g h s H locs) (hbc : cells + bc ≤ mc) (hbs : slots + bs ≤ ms) (hl : lv_has ls 3 [(0, .ref p0), (1, va_rf v1), (2, .int v2)]) : W p l e ({ frames := 14, cells := mc, slots := ms, locals := 271 } : Room) s m args below meth c H locs cells slots (vx_MQ below (va_Qi post (ga_E g) (ga_A g)) (ga_X g xp) args s mc ms (ga_A g)) (F0 m 17 ls [.int t0]) := by
  obtain ⟨hx, hb, hml, hown, hts, hr, hlk, hnm⟩ := hC
  unfold gw_X2_addOrder_17 at hw
  refine lv_iconst (v := 1) hx hb dX2_addOrder_17 (by decide) ?_
  refine lv_bipush (v := 20) hx hb dX2_addOrder_18 (by decide) ?_
  obtain ⟨kc_8, ks_9, hk1, hk2, hw⟩ := hw
  refine ga_xcallv (vx_runSN (As := [.int t0, .int (1 : Int32), .int (20 : Int32)]) (rest := []) ⟨hx, hb, hml, hown, hts⟩ (gm_X1_refuse l hst g t0 (1 : Int32) (20 : Int32) h kc_8 ks_9 _ _ hw) ⟨va_cnB 3 hts (lw_meth q2042) rfl rfl rfl (hI.2.1.1.2.1 _ (ga_nin q2040 rfl)) (hts _ q100) hdG_X1_refuse ⟨Nat.le_of_ble_eq_true rfl, Nat.le_of_ble_eq_true rfl⟩, hts _ q2041, trivial⟩ (ga_preS hI rfl) rfl rfl hl.1 rfl (ga_room (Nat.le_of_ble_eq_true rfl)) dX2_addOrder_20 ⟨Nat.le_trans (Nat.add_le_add_left hk1 _) hbc, Nat.le_trans (Nat.add_le_add_left hk2 _) hbs⟩) hI hbc hbs hk1 hk2 (fun E_11 q_12 h_13 ce H locs cells slots hw hI hce hbc hbs => ?_) (fun h_10 H locs cells slots hw hI hbc hbs => ?_)
  · exact ga_out hown hlk hI hw (by rw [htab]; intro z hz; cases hz) hce (Nat.le_trans (Nat.le_add_right _ _) hbc) (Nat.le_trans (Nat.le_add_right _ _) hbs)
  · skip
    refine lv_aload_n hx hb dX2_addOrder_23 rfl (lv_at hl 0 rfl) ?_
    obtain ⟨fs_14, v_15, hq, hv, hw⟩ := hw
    refine ga_get (ci := 1) (T := TX2) (v := va_rf v_15) hx hb hts hown hI in_X2 rfl 2 (by decide) q314 (fun _ z => z) (ga_at.h hq) hv dX2_addOrder_24 ?_
    refine ga_new (ci := 6) (T := TX8) hx hb hts hown hI in_X8 rfl tyX8 tyX8_ok q1357 q1363 q139 [va_rf none, .int 0, .int 0, .int 0, .int 0] ga_df_X8 hbc hbs hw.1 hw.2.1 dX2_addOrder_27 (fun q_16 H cells slots hn_q_16 hI hbc hbs => ?_)
    obtain ⟨h_17, eh_17⟩ : ∃ z, z = ga_set h_10 q_16 (ga_O 6 [va_rf none, .int 0, .int 0, .int 0, .int 0]) := ⟨_, rfl⟩
    rw [← eh_17] at hI
    have hw := hw.2.2 q_16 hn_q_16 h_17 eh_17
    refine lv_dup hx hb dX2_addOrder_30 rfl ?_
    refine ga_aload_n hx hb dX2_addOrder_31 rfl (lv_at hl 1 rfl) ?_
    refine lv_iload_n hx hb dX2_addOrder_32 rfl (lv_at hl 2 rfl) ?_
    refine ga_callv (va_runI (As := [va_rf v1, .int v2]) (rest := [.ref q_16, va_rf v_15]) ⟨hx, hb, hml, hown, hts⟩ (gm_X8_init l g q_16 v1 v2 h_17 _ hw) (cwI 2 hts (lw_meth q1366) rfl rfl rfl (hts _ q139) (hts _ q2412) (hts _ q1365) rfl hdG_X8_init ⟨Nat.le_of_ble_eq_true rfl, Nat.le_of_ble_eq_true rfl⟩) (ga_preS hI rfl) rfl rfl hl.1 rfl (ga_room (Nat.le_of_ble_eq_true rfl)) dX2_addOrder_33 ⟨Nat.le_trans (Nat.add_le_add_left (Nat.zero_le _) _) hbc, Nat.le_trans (Nat.add_le_add_left (Nat.zero_le _) _) hbs⟩) hI hbc hbs (Nat.zero_le _) (Nat.zero_le _) (fun h_18 H locs cells slots hw hI hbc hbs => ?_)
    obtain ⟨a_19, ea_19, hw⟩ := hw
    rewrite [ea_19]
    obtain ⟨kc_20, ks_21, hk1, hk2, hw⟩ := hw
    obtain ⟨fs_22, hq, hw⟩ := hw
    refine ga_calli (va_runV (As := [va_rf (some q_16)]) (rest := []) ⟨hx, hb, hml, hown, hts⟩ (gm_J2_add l g a_19 (some q_16) h_18 kc_20 ks_21 _ hw) (cwV 1 hts (lw_V q1356 q1321 q1322 q104 q1323) rfl rfl rfl ⟨rfl, hdG_J2_add⟩ ⟨Nat.le_of_ble_eq_true rfl, Nat.le_of_ble_eq_true rfl⟩) (ga_preV hI hq rfl rfl) rfl rfl hl.1 rfl (ga_room (Nat.le_of_ble_eq_true rfl)) dX2_addOrder_36 ⟨Nat.le_trans (Nat.add_le_add_left hk1 _) hbc, Nat.le_trans (Nat.add_le_add_left hk2 _) hbs⟩) hI hbc hbs hk1 hk2 (fun r_24 h_23 H locs cells slots hw hI hbc hbs => ?_)
    refine lv_pop hx hb dX2_addOrder_39 rfl ?_
    refine lv_aload_n hx hb dX2_addOrder_40 rfl (lv_at hl 0 rfl) ?_
    obtain ⟨fs_25, v_26, hq, hv, hw⟩ := hw
    refine ga_get (ci := 1) (T := TX2) (v := va_rf v_26) hx hb hts hown hI in_X2 rfl 2 (by decide) q314 (fun _ z => z) (ga_at.h hq) hv dX2_addOrder_41 ?_
    obtain ⟨a_27, ea_27, hw⟩ := hw
    rewrite [ea_27]
    obtain ⟨fs_28, hq, hw⟩ := hw
    refine ga_calli (va_runV (As := []) (rest := []) ⟨hx, hb, hml, hown, hts⟩ (gm_J2_size l g a_27 h_23 _ hw) (cwV 0 hts (lw_V q2039 q536 q4117 q104 q537) rfl rfl rfl ⟨rfl, hdG_J2_size⟩ ⟨Nat.le_of_ble_eq_true rfl, Nat.le_of_ble_eq_true rfl⟩) (ga_preV hI hq rfl rfl) rfl rfl hl.1 rfl (ga_room (Nat.le_of_ble_eq_true rfl)) dX2_addOrder_44 ⟨Nat.le_trans (Nat.add_le_add_left (Nat.zero_le _) _) hbc, Nat.le_trans (Nat.add_le_add_left (Nat.zero_le _) _) hbs⟩) hI hbc hbs (Nat.zero_le _) (Nat.zero_le _) (fun r_30 h_29 H locs cells slots hw hI hbc hbs => ?_)
    refine lv_iconst (v := 1) hx hb dX2_addOrder_47 (by decide) ?_
    refine lv_isub hx hb dX2_addOrder_48 ?_
    exact ga_iretx hx hb hr rfl hlk hI hw (Nat.le_trans (Nat.le_add_right _ _) hbc) (Nat.le_trans (Nat.le_add_right _ _) hbs) dX2_addOrder_49
def gw_X2_addOrder (K : ga_K) (p0 : Nat) (p1 : Option Nat) (p2 : Int32) (h : ga_H) (mc ms : Nat) (post : Int32 → ga_H → Prop) (xp : String → Nat → ga_H → Prop) : Prop :=
  ∃ (fs_1 : List Value) (v_2 : Option Nat), h p0 = some (ga_O 1 fs_1) ∧ fs_1[2]? = some (va_rf v_2) ∧ (∃ a_3 : Nat, v_2 = some a_3 ∧ ∃ fs_4 : List Value, ga_at K h a_3 (ga_O 13 fs_4) ∧ gw_J2_size K a_3 h (fun (r_6 : Int32) (h_5 : ga_H) => (¬ r_6 = (20 : Int32) → (gw_X2_addOrder_17 K post xp p0 (0 : Int32) p1 p2 h_5 mc ms)) ∧ (r_6 = (20 : Int32) → (gw_X2_addOrder_17 K post xp p0 (1 : Int32) p1 p2 h_5 mc ms))))
set_option maxHeartbeats 4000000 in
theorem gm_X2_addOrder (l : Launch) (hst : l.stackTraces = false) (g : ga_G) (p0 : Nat) (p1 : Option Nat) (p2 : Int32) (h : ga_H) (mc ms : Nat) (post : Int32 → ga_H → Prop) (xp : String → Nat → ga_H → Prop) (hw : gw_X2_addOrder g.2.2 p0 p1 p2 h mc ms post xp) : vx_Met l yX2_addOrder (ws_ yX2_addOrder cX2_addOrder 3 (some .int)) ({ frames := 14, cells := mc, slots := ms, locals := 271 } : Room) (va_Pc [.ref p0, va_rf p1, .int p2] (ga_B g h)) (va_Qi post (ga_E g) (ga_A g)) (ga_X g xp) mc ms (ga_A g) := by
  refine ga_metx (own := "PaperStore$Store") (nm := "addOrder") (by decide) rfl rfl (by cases p1 <;> exact Nat.le_of_ble_eq_true rfl) (fun p e s m below meth c ls hC htab hI hl => ?_)
  have hl : lv_has ls 3 [(0, .ref p0), (1, va_rf p1), (2, .int p2)] := (by cases p1 <;> exact hl)
  generalize ([.ref p0, va_rf p1, .int p2] : List Value).toArray = args at hC ⊢
  obtain ⟨hx, hb, hml, hown, hts, hr, hlk, hnm⟩ := hC
  unfold gw_X2_addOrder at hw
  obtain ⟨H, eH⟩ : ∃ z, z = s.heap := ⟨_, rfl⟩
  obtain ⟨locs, elo⟩ : ∃ z : List Loc, z = [] := ⟨_, rfl⟩
  rw [← eH, ← elo] at hI ⊢
  obtain ⟨cells, slots, hbc, hbs, e0, e1⟩ : ∃ a b : Nat, a + mc ≤ mc ∧ b + ms ≤ ms ∧ a = 0 ∧ b = 0 := ⟨0, 0, by omega, by omega, rfl, rfl⟩
  show W p l e ({ frames := 14, cells := mc, slots := ms, locals := 271 } : Room) s m args below meth c H locs 0 0 (vx_MQ below (va_Qi post (ga_E g) (ga_A g)) (ga_X g xp) args s mc ms (ga_A g)) (F0 m 0 ls [])
  suffices hgoal : W p l e ({ frames := 14, cells := mc, slots := ms, locals := 271 } : Room) s m args below meth c H locs cells slots (vx_MQ below (va_Qi post (ga_E g) (ga_A g)) (ga_X g xp) args s mc ms (ga_A g)) (F0 m 0 ls []) by rw [e0, e1] at hgoal; exact hgoal
  refine lv_aload_n hx hb dX2_addOrder_0 rfl (lv_at hl 0 rfl) ?_
  obtain ⟨fs_1, v_2, hq, hv, hw⟩ := hw
  refine ga_get (ci := 1) (T := TX2) (v := va_rf v_2) hx hb hts hown hI in_X2 rfl 2 (by decide) q314 (fun _ z => z) (ga_at.h hq) hv dX2_addOrder_1 ?_
  obtain ⟨a_3, ea_3, hw⟩ := hw
  rewrite [ea_3]
  obtain ⟨fs_4, hq, hw⟩ := hw
  refine ga_calli (va_runV (As := []) (rest := []) ⟨hx, hb, hml, hown, hts⟩ (gm_J2_size l g a_3 h _ hw) (cwV 0 hts (lw_V q2039 q536 q4117 q104 q537) rfl rfl rfl ⟨rfl, hdG_J2_size⟩ ⟨Nat.le_of_ble_eq_true rfl, Nat.le_of_ble_eq_true rfl⟩) (ga_preV hI hq rfl rfl) rfl rfl hl.1 rfl (ga_room (Nat.le_of_ble_eq_true rfl)) dX2_addOrder_4 ⟨Nat.le_trans (Nat.add_le_add_left (Nat.zero_le _) _) hbc, Nat.le_trans (Nat.add_le_add_left (Nat.zero_le _) _) hbs⟩) hI hbc hbs (Nat.zero_le _) (Nat.zero_le _) (fun r_6 h_5 H locs cells slots hw hI hbc hbs => ?_)
  refine lv_bipush (v := 20) hx hb dX2_addOrder_7 (by decide) ?_
  refine lv_icmp_ne (tgt := 16) hx hb dX2_addOrder_9 (by decide) (fun hc_7 => ?_) (fun hc_7 => ?_)
  · have hw := hw.1 hc_7
    refine lv_iconst (v := 0) hx hb dX2_addOrder_16 (by decide) ?_
    exact gj_X2_addOrder_17 hst htab g post xp p0 (0 : Int32) p1 p2 h_5 mc ms ⟨hx, hb, hml, hown, hts, hr, hlk, hnm⟩ hw hI hbc hbs (lv_sub hl [0, 1, 2] rfl)
  · have hw := hw.2 hc_7
    refine lv_iconst (v := 1) hx hb dX2_addOrder_12 (by decide) ?_
    refine lv_goto (tgt := 17) hx hb dX2_addOrder_13 (by decide) ?_
    exact gj_X2_addOrder_17 hst htab g post xp p0 (1 : Int32) p1 p2 h_5 mc ms ⟨hx, hb, hml, hown, hts, hr, hlk, hnm⟩ hw hI hbc hbs (lv_sub hl [0, 1, 2] rfl)
theorem hdG_X2_addOrder : yX2_addOrder.cls ≠ "java/lang/invoke/MethodHandle" ∧ yX2_addOrder.cls ≠ "java/lang/invoke/VarHandle" ∧ (parseMethodDescriptor yX2_addOrder.desc).map (fun d => d.parameters.length) = some 2 := by decide +kernel
def gw_X1_order_23 (K : ga_K) (post : Int32 → ga_H → Prop) (xp : String → Nat → ga_H → Prop) (p0 : Nat) (t0 : Int32) (v1 : Int32) (v2 : Int32) (v3 : Int32) (h : ga_H) (bc bs : Nat) : Prop :=
  ∃ kc_3 ks_4 : Nat, kc_3 ≤ bc ∧ ks_4 ≤ bs ∧ gw_X1_checkArgument K t0 h kc_3 ks_4 (fun (h_5 : ga_H) => ∃ (fs_9 : List Value) (v_10 : Option Nat), h_5 p0 = some (ga_O 0 fs_9) ∧ fs_9[0]? = some (va_rf v_10) ∧ (∃ a_11 : Nat, v_10 = some a_11 ∧ ∃ kc_12 ks_13 : Nat, kc_12 ≤ (bc - kc_3) ∧ ks_13 ≤ (bs - ks_4) ∧ ∃ fs_14 : List Value, ga_at K h_5 a_11 (ga_O 1 fs_14) ∧ gw_X2_copy K a_11 h_5 kc_12 ks_13 (fun (r_16 : Option Nat) (h_15 : ga_H) => 1 ≤ ((bc - kc_3) - kc_12) ∧ 2 ≤ ((bs - ks_4) - ks_13) ∧ ∀ q_17 : Nat, h_15 q_17 = none → ∀ h_18 : ga_H, h_18 = ga_set h_15 q_17 (ga_O 9 [.int 0, .int 0]) → (gw_X11_init K q_17 v1 v2 h_18 (fun (h_19 : ga_H) => ∃ a_20 : Nat, r_16 = some a_20 ∧ ∃ kc_21 ks_22 : Nat, kc_21 ≤ (((bc - kc_3) - kc_12) - 1) ∧ ks_22 ≤ (((bs - ks_4) - ks_13) - 2) ∧ ∃ fs_23 : List Value, ga_at K h_19 a_20 (ga_O 1 fs_23) ∧ gw_X2_addOrder K a_20 (some q_17) v3 h_19 kc_21 ks_22 (fun (r_25 : Int32) (h_24 : ga_H) => ∃ kc_39 ks_40 : Nat, kc_39 ≤ ((((bc - kc_3) - kc_12) - 1) - kc_21) ∧ ks_40 ≤ ((((bs - ks_4) - ks_13) - 2) - ks_22) ∧ ∃ fs_41 : List Value, ga_at K h_24 p0 (ga_O 0 fs_41) ∧ gw_X1_become K p0 r_16 r_25 h_24 kc_39 ks_40 (fun (r_43 : Int32) (h_42 : ga_H) => post r_43 h_42)) (fun (E_26 : String) (q_27 : Nat) (h_28 : ga_H) => (E_26 = "PaperStore$Refusal" ∧ (∃ kc_29 ks_30 : Nat, kc_29 ≤ ((((bc - kc_3) - kc_12) - 1) - kc_21) ∧ ks_30 ≤ ((((bs - ks_4) - ks_13) - 2) - ks_22) ∧ ∃ fs_31 : List Value, ga_at K h_28 p0 (ga_O 0 fs_31) ∧ gw_X1_kept K p0 (some q_27) h_28 kc_29 ks_30 (fun (r_33 : Option Nat) (h_32 : ga_H) => ∃ a_37 : Nat, r_33 = some a_37 ∧ ∃ fs_38 : List Value, h_32 a_37 = some (ga_O 28 fs_38) ∧ (xp "java/lang/UnsupportedOperationException" a_37 h_32)) (fun (E_34 : String) (q_35 : Nat) (h_36 : ga_H) => False))))))))) (fun (E_6 : String) (q_7 : Nat) (h_8 : ga_H) => (E_6 = "java/lang/IllegalArgumentException" ∧ (xp "java/lang/IllegalArgumentException" q_7 h_8)))
set_option maxHeartbeats 4000000 in
theorem gj_X1_order_23 {p : Program} {l : Launch} {e : Env} {s : State} {m : MethodId} {args : Array Value} {below : List Frame} {meth : Method} {c : Code} {mc ms : Nat} {H : Heap} {locs : List Loc} {cells slots : Nat} {ls : Array Slot} (hst : l.stackTraces = false) (htab : c.exceptionTable.toList = (tableOf [(35, 60, 61, 25)])) (g : ga_G) (post : Int32 → ga_H → Prop) (xp : String → Nat → ga_H → Prop) (p0 : Nat) (t0 : Int32) (v1 : Int32) (v2 : Int32) (v3 : Int32) (h : ga_H) (bc bs : Nat) (hC : ga_Cx p s m args meth c cX1_order 6 (some .int) "PaperStore" "order") (hw : gw_X1_order_23 g.2.2 post xp p0 t0 v1 v2 v3 h bc bs) (hI : ga_I g h s H locs) (hbc : cells + bc ≤ mc) (hbs : slots + bs ≤ ms) (hl : lv_has ls 6 [(0, .ref p0), (1, .int v1), (2, .int v2), (3, .int v3)]) : W p l e ({ frames := 17, cells := mc, slots := ms, locals := 1389 } : Room) s m args below meth c H locs cells slots (vx_MQ below (va_Qi post (ga_E g) (ga_A g)) (ga_X g xp) args s mc ms (ga_A g)) (F0 m 23 ls [.int t0]) := by
  obtain ⟨hx, hb, hml, hown, hts, hr, hlk, hnm⟩ := hC
  unfold gw_X1_order_23 at hw
  obtain ⟨kc_3, ks_4, hk1, hk2, hw⟩ := hw
  refine ga_xcallv (vx_runS (As := [.int t0]) (rest := []) ⟨hx, hb, hml, hown, hts⟩ (gm_X1_checkArgument l hst g t0 h kc_3 ks_4 _ _ hw) (va_cwS 1 hts (lw_S q2027 q2028 q100 q2029) rfl rfl rfl hdG_X1_checkArgument ⟨Nat.le_of_ble_eq_true rfl, Nat.le_of_ble_eq_true rfl⟩) (ga_preS hI rfl) rfl rfl hl.1 rfl (ga_room (Nat.le_of_ble_eq_true rfl)) dX1_order_23 ⟨Nat.le_trans (Nat.add_le_add_left hk1 _) hbc, Nat.le_trans (Nat.add_le_add_left hk2 _) hbs⟩) hI hbc hbs hk1 hk2 (fun E_6 q_7 h_8 ce H locs cells slots hw hI hce hbc hbs => ?_) (fun h_5 H locs cells slots hw hI hbc hbs => ?_)
  · obtain ⟨rfl, hw⟩ := hw
    exact ga_out hown hlk hI hw (by rw [htab]; exact (List.forall_mem_cons.mpr ⟨Or.inl rfl, fun _ h => absurd h List.not_mem_nil⟩)) hce (Nat.le_trans (Nat.le_add_right _ _) hbc) (Nat.le_trans (Nat.le_add_right _ _) hbs)
  · skip
    refine lv_aload_n hx hb dX1_order_26 rfl (lv_at hl 0 rfl) ?_
    obtain ⟨fs_9, v_10, hq, hv, hw⟩ := hw
    refine ga_get (ci := 0) (T := TX1) (v := va_rf v_10) hx hb hts hown hI in_X1 rfl 0 (by decide) q387 (fun _ z => z) (ga_at.h hq) hv dX1_order_27 ?_
    obtain ⟨a_11, ea_11, hw⟩ := hw
    rewrite [ea_11]
    obtain ⟨kc_12, ks_13, hk1, hk2, hw⟩ := hw
    obtain ⟨fs_14, hq, hw⟩ := hw
    refine ga_callq (va_runV (As := []) (rest := []) ⟨hx, hb, hml, hown, hts⟩ (gm_X2_copy l g a_11 h_5 kc_12 ks_13 _ hw) (cwV 0 hts (lw_V q1259 q1260 q1261 q101 q1262) rfl rfl rfl ⟨rfl, hdG_X2_copy⟩ ⟨Nat.le_of_ble_eq_true rfl, Nat.le_of_ble_eq_true rfl⟩) (ga_preV hI hq rfl rfl) rfl rfl hl.1 rfl (ga_room (Nat.le_of_ble_eq_true rfl)) dX1_order_30 ⟨Nat.le_trans (Nat.add_le_add_left hk1 _) hbc, Nat.le_trans (Nat.add_le_add_left hk2 _) hbs⟩) hI hbc hbs hk1 hk2 (fun r_16 h_15 H locs cells slots hw hI hbc hbs => ?_)
    refine ga_astore (x := r_16) (lv' := [(4, va_rf r_16), (0, .ref p0), (1, .int v1), (2, .int v2), (3, .int v3)]) hx hb dX1_order_33 hl (by decide) rfl (fun ls hl => ?_)
    refine ga_aload hx hb dX1_order_35 (lv_at hl 0 rfl) ?_
    refine ga_new (ci := 9) (T := TX11) hx hb hts hown hI in_X11 rfl tyX11 tyX11_ok q2164 q2165 q153 [.int 0, .int 0] ga_df_X11 hbc hbs hw.1 hw.2.1 dX1_order_37 (fun q_17 H cells slots hn_q_17 hI hbc hbs => ?_)
    obtain ⟨h_18, eh_18⟩ : ∃ z, z = ga_set h_15 q_17 (ga_O 9 [.int 0, .int 0]) := ⟨_, rfl⟩
    rw [← eh_18] at hI
    have hw := hw.2.2 q_17 hn_q_17 h_18 eh_18
    refine lv_dup hx hb dX1_order_40 rfl ?_
    refine lv_iload_n hx hb dX1_order_41 rfl (lv_at hl 2 rfl) ?_
    refine lv_iload_n hx hb dX1_order_42 rfl (lv_at hl 3 rfl) ?_
    refine ga_callv (va_runI (As := [.int v1, .int v2]) (rest := [.ref q_17, va_rf r_16]) ⟨hx, hb, hml, hown, hts⟩ (gm_X11_init l g q_17 v1 v2 h_18 _ hw) (cwI 2 hts (lw_meth q2168) rfl rfl rfl (hts _ q153) (hts _ q2166) (hts _ q2167) rfl hdG_X11_init ⟨Nat.le_of_ble_eq_true rfl, Nat.le_of_ble_eq_true rfl⟩) (ga_preS hI rfl) rfl rfl hl.1 rfl (ga_room (Nat.le_of_ble_eq_true rfl)) dX1_order_43 ⟨Nat.le_trans (Nat.add_le_add_left (Nat.zero_le _) _) hbc, Nat.le_trans (Nat.add_le_add_left (Nat.zero_le _) _) hbs⟩) hI hbc hbs (Nat.zero_le _) (Nat.zero_le _) (fun h_19 H locs cells slots hw hI hbc hbs => ?_)
    refine lv_iload_n hx hb dX1_order_46 rfl (lv_at hl 4 rfl) ?_
    obtain ⟨a_20, ea_20, hw⟩ := hw
    rewrite [ea_20]
    obtain ⟨kc_21, ks_22, hk1, hk2, hw⟩ := hw
    obtain ⟨fs_23, hq, hw⟩ := hw
    refine ga_xcalli (vx_runV (As := [va_rf (some q_17), .int v3]) (rest := []) ⟨hx, hb, hml, hown, hts⟩ (gm_X2_addOrder l hst g a_20 (some q_17) v3 h_19 kc_21 ks_22 _ _ hw) (cwV 2 hts (lw_V q2408 q2409 q2410 q101 q2411) rfl rfl rfl ⟨rfl, hdG_X2_addOrder⟩ ⟨Nat.le_of_ble_eq_true rfl, Nat.le_of_ble_eq_true rfl⟩) (ga_preV hI hq rfl rfl) rfl rfl hl.1 rfl (ga_room (Nat.le_of_ble_eq_true rfl)) dX1_order_47 ⟨Nat.le_trans (Nat.add_le_add_left hk1 _) hbc, Nat.le_trans (Nat.add_le_add_left hk2 _) hbs⟩) hI hbc hbs hk1 hk2 (fun E_26 q_27 h_28 ce H locs cells slots hw hI hce hbc hbs => ?_) (fun r_25 h_24 H locs cells slots hw hI hbc hbs => ?_)
    · obtain ⟨rfl, hw⟩ := hw
      refine ga_catch hown hts hI ([]) (⟨35, 60, 61, 25⟩) ([]) (by rw [htab]; rfl) (fun _ h => absurd h List.not_mem_nil) rfl (by decide) q2023 q2044 hce ?_
      refine W.eq (g2 := F0 m 61 ls [.ref q_27]) rfl ?_
      refine lv_astore (lv' := [(5, .ref q_27), (4, va_rf r_16), (0, .ref p0), (1, .int v1), (2, .int v2), (3, .int v3)]) hx hb dX1_order_61 hl (by decide) (by simp [ga_rcat, ga_cat_r, ga_cat_i, ga_cat_f, ga_cat_l, ga_cat_d]) (fun ls hl => ?_)
      refine lv_aload_n hx hb dX1_order_63 rfl (lv_at hl 2 rfl) ?_
      refine lv_aload hx hb dX1_order_64 (lv_at hl 0 rfl) ?_
      obtain ⟨kc_29, ks_30, hk1, hk2, hw⟩ := hw
      obtain ⟨fs_31, hq, hw⟩ := hw
      refine ga_xcallq (vx_runV (As := [va_rf (some q_27)]) (rest := []) ⟨hx, hb, hml, hown, hts⟩ (gm_X1_kept l hst g p0 (some q_27) h_28 kc_29 ks_30 _ _ hw) (cwV 1 hts (lw_V q2083 q2085 qs10 q100 q2086) rfl rfl rfl ⟨rfl, hdG_X1_kept⟩ ⟨Nat.le_of_ble_eq_true rfl, Nat.le_of_ble_eq_true rfl⟩) (ga_preV hI hq rfl rfl) rfl rfl hl.1 rfl (ga_room (Nat.le_of_ble_eq_true rfl)) dX1_order_66 ⟨Nat.le_trans (Nat.add_le_add_left hk1 _) hbc, Nat.le_trans (Nat.add_le_add_left hk2 _) hbs⟩) hI hbc hbs hk1 hk2 (fun E_34 q_35 h_36 ce H locs cells slots hw hI hce hbc hbs => ?_) (fun r_33 h_32 H locs cells slots hw hI hbc hbs => ?_)
      · exact hw.elim
      · skip
        obtain ⟨a_37, ea_37, hw⟩ := hw
        rewrite [ea_37]
        obtain ⟨fs_38, hq, hw⟩ := hw
        refine ga_athrow (ci := 28) hx hb hI (ga_at.h hq) rfl dX1_order_69 (fun ce hce => ?_)
        exact ga_out hown hlk hI hw (by rw [htab]; exact (List.forall_mem_cons.mpr ⟨Or.inl rfl, fun _ h => absurd h List.not_mem_nil⟩)) hce (Nat.le_trans (Nat.le_add_right _ _) hbc) (Nat.le_trans (Nat.le_add_right _ _) hbs)
    · skip
      refine lv_istore (lv' := [(5, .int r_25), (4, va_rf r_16), (0, .ref p0), (1, .int v1), (2, .int v2), (3, .int v3)]) hx hb dX1_order_50 hl (by decide) (by simp [ga_rcat, ga_cat_r, ga_cat_i, ga_cat_f, ga_cat_l, ga_cat_d]) (fun ls hl => ?_)
      refine lv_aload_n hx hb dX1_order_52 rfl (lv_at hl 2 rfl) ?_
      refine ga_aload hx hb dX1_order_53 (lv_at hl 1 rfl) ?_
      refine lv_iload hx hb dX1_order_55 (lv_at hl 0 rfl) ?_
      obtain ⟨kc_39, ks_40, hk1, hk2, hw⟩ := hw
      obtain ⟨fs_41, hq, hw⟩ := hw
      refine ga_calli (va_runV (As := [va_rf r_16, .int r_25]) (rest := []) ⟨hx, hb, hml, hown, hts⟩ (gm_X1_become l g p0 r_16 r_25 h_24 kc_39 ks_40 _ hw) (cwV 2 hts (lw_V q2070 q2072 qs8 q100 q2073) rfl rfl rfl ⟨rfl, hdG_X1_become⟩ ⟨Nat.le_of_ble_eq_true rfl, Nat.le_of_ble_eq_true rfl⟩) (ga_preV hI hq rfl rfl) rfl rfl hl.1 rfl (ga_room (Nat.le_of_ble_eq_true rfl)) dX1_order_57 ⟨Nat.le_trans (Nat.add_le_add_left hk1 _) hbc, Nat.le_trans (Nat.add_le_add_left hk2 _) hbs⟩) hI hbc hbs hk1 hk2 (fun r_43 h_42 H locs cells slots hw hI hbc hbs => ?_)
      exact ga_iretx hx hb hr rfl hlk hI hw (Nat.le_trans (Nat.le_add_right _ _) hbc) (Nat.le_trans (Nat.le_add_right _ _) hbs) dX1_order_60
def gw_X1_order_22 (K : ga_K) (post : Int32 → ga_H → Prop) (xp : String → Nat → ga_H → Prop) (p0 : Nat) (v1 : Int32) (v2 : Int32) (v3 : Int32) (h : ga_H) (bc bs : Nat) : Prop :=
  gw_X1_order_23 K post xp p0 (0 : Int32) v1 v2 v3 h bc bs
set_option maxHeartbeats 4000000 in
theorem gj_X1_order_22 {p : Program} {l : Launch} {e : Env} {s : State} {m : MethodId} {args : Array Value} {below : List Frame} {meth : Method} {c : Code} {mc ms : Nat} {H : Heap} {locs : List Loc} {cells slots : Nat} {ls : Array Slot} (hst : l.stackTraces = false) (htab : c.exceptionTable.toList = (tableOf [(35, 60, 61, 25)])) (g : ga_G) (post : Int32 → ga_H → Prop) (xp : String → Nat → ga_H → Prop) (p0 : Nat) (v1 : Int32) (v2 : Int32) (v3 : Int32) (h : ga_H) (bc bs : Nat) (hC : ga_Cx p s m args meth c cX1_order 6 (some .int) "PaperStore" "order") (hw : gw_X1_order_22 g.2.2 post xp p0 v1 v2 v3 h bc bs) (hI : ga_I g h s H locs) (hbc : cells + bc ≤ mc) (hbs : slots + bs ≤ ms) (hl : lv_has ls 6 [(0, .ref p0), (1, .int v1), (2, .int v2), (3, .int v3)]) : W p l e ({ frames := 17, cells := mc, slots := ms, locals := 1389 } : Room) s m args below meth c H locs cells slots (vx_MQ below (va_Qi post (ga_E g) (ga_A g)) (ga_X g xp) args s mc ms (ga_A g)) (F0 m 22 ls []) := by
  obtain ⟨hx, hb, hml, hown, hts, hr, hlk, hnm⟩ := hC
  unfold gw_X1_order_22 at hw
  refine lv_iconst (v := 0) hx hb dX1_order_22 (by decide) ?_
  exact gj_X1_order_23 hst htab g post xp p0 (0 : Int32) v1 v2 v3 h bc bs ⟨hx, hb, hml, hown, hts, hr, hlk, hnm⟩ hw hI hbc hbs (lv_sub hl [0, 1, 2, 3] rfl)
def gw_X1_order (K : ga_K) (p0 : Nat) (p1 : Int32) (p2 : Int32) (p3 : Int32) (h : ga_H) (mc ms : Nat) (post : Int32 → ga_H → Prop) (xp : String → Nat → ga_H → Prop) : Prop :=
  gw_X1_isPaper p1 p2 (fun (r_1 : Int32) => (r_1 = (0 : Int32) → (gw_X1_order_22 K post xp p0 p1 p2 p3 h mc ms)) ∧ (¬ r_1 = (0 : Int32) → (gw_X1_isIn p3 (1 : Int32) (60 : Int32) (fun (r_44 : Int32) => (r_44 = (0 : Int32) → (gw_X1_order_22 K post xp p0 p1 p2 p3 h mc ms)) ∧ (¬ r_44 = (0 : Int32) → (gw_X1_order_23 K post xp p0 (1 : Int32) p1 p2 p3 h mc ms))))))
set_option maxHeartbeats 4000000 in
theorem gm_X1_order (l : Launch) (hst : l.stackTraces = false) (g : ga_G) (p0 : Nat) (p1 : Int32) (p2 : Int32) (p3 : Int32) (h : ga_H) (mc ms : Nat) (post : Int32 → ga_H → Prop) (xp : String → Nat → ga_H → Prop) (hw : gw_X1_order g.2.2 p0 p1 p2 p3 h mc ms post xp) : vx_Met l yX1_order (wsW_ yX1_order cX1_order 6 (some .int) [(35, 60, 61, 25)]) ({ frames := 17, cells := mc, slots := ms, locals := 1389 } : Room) (va_Pc [.ref p0, .int p1, .int p2, .int p3] (ga_B g h)) (va_Qi post (ga_E g) (ga_A g)) (ga_X g xp) mc ms (ga_A g) := by
  refine ga_metxW (own := "PaperStore") (nm := "order") (by decide) rfl rfl (by exact Nat.le_of_ble_eq_true rfl) (fun p e s m below meth c ls hC htab hI hl => ?_)
  have hl : lv_has ls 6 [(0, .ref p0), (1, .int p1), (2, .int p2), (3, .int p3)] := hl
  generalize ([.ref p0, .int p1, .int p2, .int p3] : List Value).toArray = args at hC ⊢
  obtain ⟨hx, hb, hml, hown, hts, hr, hlk, hnm⟩ := hC
  unfold gw_X1_order at hw
  obtain ⟨H, eH⟩ : ∃ z, z = s.heap := ⟨_, rfl⟩
  obtain ⟨locs, elo⟩ : ∃ z : List Loc, z = [] := ⟨_, rfl⟩
  rw [← eH, ← elo] at hI ⊢
  obtain ⟨cells, slots, hbc, hbs, e0, e1⟩ : ∃ a b : Nat, a + mc ≤ mc ∧ b + ms ≤ ms ∧ a = 0 ∧ b = 0 := ⟨0, 0, by omega, by omega, rfl, rfl⟩
  show W p l e ({ frames := 17, cells := mc, slots := ms, locals := 1389 } : Room) s m args below meth c H locs 0 0 (vx_MQ below (va_Qi post (ga_E g) (ga_A g)) (ga_X g xp) args s mc ms (ga_A g)) (F0 m 0 ls [])
  suffices hgoal : W p l e ({ frames := 17, cells := mc, slots := ms, locals := 1389 } : Room) s m args below meth c H locs cells slots (vx_MQ below (va_Qi post (ga_E g) (ga_A g)) (ga_X g xp) args s mc ms (ga_A g)) (F0 m 0 ls []) by rw [e0, e1] at hgoal; exact hgoal
  refine lv_iload_n hx hb dX1_order_0 rfl (lv_at hl 1 rfl) ?_
  refine lv_iload_n hx hb dX1_order_1 rfl (lv_at hl 2 rfl) ?_
  refine ga_callS (As := [.int p1, .int p2]) (rest := []) ⟨hx, hb, hml, hown, hts⟩ (gm_X1_isPaper l p1 p2 _ hw) (va_cwS 2 hts (lw_S q2161 q2162 q100 q2163) rfl rfl rfl hdG_X1_isPaper ⟨Nat.le_of_ble_eq_true rfl, Nat.le_of_ble_eq_true rfl⟩) rfl hl.1 rfl (ga_room (Nat.le_of_ble_eq_true rfl)) dX1_order_2 hbc hbs (fun r_1 hw => ?_)
  refine lv_if_eq (tgt := 22) hx hb dX1_order_5 (by decide) (fun hc_2 => ?_) (fun hc_2 => ?_)
  · have hw := hw.1 hc_2
    exact gj_X1_order_22 hst htab g post xp p0 p1 p2 p3 h mc ms ⟨hx, hb, hml, hown, hts, hr, hlk, hnm⟩ hw hI hbc hbs (lv_sub hl [0, 1, 2, 3] rfl)
  · have hw := hw.2 hc_2
    refine lv_iload_n hx hb dX1_order_8 rfl (lv_at hl 3 rfl) ?_
    refine lv_iconst (v := 1) hx hb dX1_order_9 (by decide) ?_
    refine lv_bipush (v := 60) hx hb dX1_order_10 (by decide) ?_
    refine ga_callS (As := [.int p3, .int (1 : Int32), .int (60 : Int32)]) (rest := []) ⟨hx, hb, hml, hown, hts⟩ (gm_X1_isIn l p3 (1 : Int32) (60 : Int32) _ hw) (va_cwS 3 hts (lw_S q2024 q2025 q100 q2026) rfl rfl rfl hdG_X1_isIn ⟨Nat.le_of_ble_eq_true rfl, Nat.le_of_ble_eq_true rfl⟩) rfl hl.1 rfl (ga_room (Nat.le_of_ble_eq_true rfl)) dX1_order_12 hbc hbs (fun r_44 hw => ?_)
    refine lv_if_eq (tgt := 22) hx hb dX1_order_15 (by decide) (fun hc_45 => ?_) (fun hc_45 => ?_)
    · have hw := hw.1 hc_45
      exact gj_X1_order_22 hst htab g post xp p0 p1 p2 p3 h mc ms ⟨hx, hb, hml, hown, hts, hr, hlk, hnm⟩ hw hI hbc hbs (lv_sub hl [0, 1, 2, 3] rfl)
    · have hw := hw.2 hc_45
      refine lv_iconst (v := 1) hx hb dX1_order_18 (by decide) ?_
      refine lv_goto (tgt := 23) hx hb dX1_order_19 (by decide) ?_
      exact gj_X1_order_23 hst htab g post xp p0 (1 : Int32) p1 p2 p3 h mc ms ⟨hx, hb, hml, hown, hts, hr, hlk, hnm⟩ hw hI hbc hbs (lv_sub hl [0, 1, 2, 3] rfl)
theorem hdG_X1_order : yX1_order.cls ≠ "java/lang/invoke/MethodHandle" ∧ yX1_order.cls ≠ "java/lang/invoke/VarHandle" ∧ (parseMethodDescriptor yX1_order.desc).map (fun d => d.parameters.length) = some 3 := by decide +kernel
def gw_X0_order (K : ga_K) (p0 : Option Nat) (p1 : Int32) (p2 : Int32) (p3 : Int32) (p4 : Option Nat) (h : ga_H) (mc ms : Nat) (post : Int32 → ga_H → Prop) (xp : String → Nat → ga_H → Prop) : Prop :=
  ∃ a_1 : Nat, p0 = some a_1 ∧ ∃ kc_2 ks_3 : Nat, kc_2 ≤ mc ∧ ks_3 ≤ ms ∧ ∃ fs_4 : List Value, ga_at K h a_1 (ga_O 0 fs_4) ∧ gw_X1_order K a_1 p1 p2 p3 h kc_2 ks_3 (fun (r_6 : Int32) (h_5 : ga_H) => ∃ a_10 : Nat, p4 = some a_10 ∧ ∃ (n_11 : Nat) (f_12 : Nat → Int64), h_5 a_10 = some (ga_Al n_11 f_12) ∧ vp_in (0 : Int32) n_11 ∧ ∀ h_13 : ga_H, h_13 = ga_set h_5 a_10 (ga_Al n_11 (vp_updL f_12 (0 : Int32).toNatClampNeg r_6.toInt64)) → (post (0 : Int32) h_13)) (fun (E_7 : String) (q_8 : Nat) (h_9 : ga_H) => (E_7 = "java/lang/IllegalArgumentException" ∧ (post (1 : Int32) h_9)) ∨ (E_7 = "java/lang/UnsupportedOperationException" ∧ (post (2 : Int32) h_9)))
set_option maxHeartbeats 4000000 in
theorem gm_X0_order (l : Launch) (hst : l.stackTraces = false) (g : ga_G) (p0 : Option Nat) (p1 : Int32) (p2 : Int32) (p3 : Int32) (p4 : Option Nat) (h : ga_H) (mc ms : Nat) (post : Int32 → ga_H → Prop) (xp : String → Nat → ga_H → Prop) (hw : gw_X0_order g.2.2 p0 p1 p2 p3 p4 h mc ms post xp) : vx_Met l yX0_order (wsW_ yX0_order cX0_order 6 (some .int) [(0, 12, 15, 13), (0, 12, 19, 15)]) ({ frames := 18, cells := mc, slots := ms, locals := 1414 } : Room) (va_Pc [va_rf p0, .int p1, .int p2, .int p3, va_rf p4] (ga_B g h)) (va_Qi post (ga_E g) (ga_A g)) (ga_X g xp) mc ms (ga_A g) := by
  refine ga_metxW (own := "PaperStoreLaw") (nm := "order") (by decide) rfl rfl (by cases p0 <;> cases p4 <;> exact Nat.le_of_ble_eq_true rfl) (fun p e s m below meth c ls hC htab hI hl => ?_)
  have hl : lv_has ls 6 [(0, va_rf p0), (1, .int p1), (2, .int p2), (3, .int p3), (4, va_rf p4)] := (by cases p0 <;> cases p4 <;> exact hl)
  generalize ([va_rf p0, .int p1, .int p2, .int p3, va_rf p4] : List Value).toArray = args at hC ⊢
  obtain ⟨hx, hb, hml, hown, hts, hr, hlk, hnm⟩ := hC
  unfold gw_X0_order at hw
  obtain ⟨H, eH⟩ : ∃ z, z = s.heap := ⟨_, rfl⟩
  obtain ⟨locs, elo⟩ : ∃ z : List Loc, z = [] := ⟨_, rfl⟩
  rw [← eH, ← elo] at hI ⊢
  obtain ⟨cells, slots, hbc, hbs, e0, e1⟩ : ∃ a b : Nat, a + mc ≤ mc ∧ b + ms ≤ ms ∧ a = 0 ∧ b = 0 := ⟨0, 0, by omega, by omega, rfl, rfl⟩
  show W p l e ({ frames := 18, cells := mc, slots := ms, locals := 1414 } : Room) s m args below meth c H locs 0 0 (vx_MQ below (va_Qi post (ga_E g) (ga_A g)) (ga_X g xp) args s mc ms (ga_A g)) (F0 m 0 ls [])
  suffices hgoal : W p l e ({ frames := 18, cells := mc, slots := ms, locals := 1414 } : Room) s m args below meth c H locs cells slots (vx_MQ below (va_Qi post (ga_E g) (ga_A g)) (ga_X g xp) args s mc ms (ga_A g)) (F0 m 0 ls []) by rw [e0, e1] at hgoal; exact hgoal
  refine ga_aload hx hb dX0_order_0 (lv_at hl 4 rfl) ?_
  refine lv_iconst (v := 0) hx hb dX0_order_2 (by decide) ?_
  refine ga_aload_n hx hb dX0_order_3 rfl (lv_at hl 0 rfl) ?_
  refine lv_iload_n hx hb dX0_order_4 rfl (lv_at hl 1 rfl) ?_
  refine lv_iload_n hx hb dX0_order_5 rfl (lv_at hl 2 rfl) ?_
  refine lv_iload_n hx hb dX0_order_6 rfl (lv_at hl 3 rfl) ?_
  obtain ⟨a_1, ea_1, hw⟩ := hw
  rewrite [ea_1]
  obtain ⟨kc_2, ks_3, hk1, hk2, hw⟩ := hw
  obtain ⟨fs_4, hq, hw⟩ := hw
  refine ga_xcalli (vx_runVX (As := [.int p1, .int p2, .int p3]) (rest := [.int (0 : Int32), va_rf p4]) ⟨hx, hb, hml, hown, hts⟩ (gm_X1_order l hst g a_1 p1 p2 p3 h kc_2 ks_3 _ _ hw) (vx_cwVW 3 hts (lw_VW q2404 q2405 q2406 q100 q2407) rfl rfl rfl ⟨rfl, hdG_X1_order⟩ ⟨Nat.le_of_ble_eq_true rfl, Nat.le_of_ble_eq_true rfl⟩) (ga_preV hI hq rfl rfl) rfl rfl hl.1 rfl (ga_room (Nat.le_of_ble_eq_true rfl)) dX0_order_7 ⟨Nat.le_trans (Nat.add_le_add_left hk1 _) hbc, Nat.le_trans (Nat.add_le_add_left hk2 _) hbs⟩) hI hbc hbs hk1 hk2 (fun E_7 q_8 h_9 ce H locs cells slots hw hI hce hbc hbs => ?_) (fun r_6 h_5 H locs cells slots hw hI hbc hbs => ?_)
  · rcases hw with ⟨rfl, hw⟩ | ⟨rfl, hw⟩
    · skip
      refine ga_catch hown hts hI ([]) (⟨0, 12, 15, 13⟩) ([⟨0, 12, 19, 15⟩]) (by rw [htab]; rfl) (fun _ h => absurd h List.not_mem_nil) rfl (by decide) q2017 q1054 hce ?_
      refine W.eq (g2 := F0 m 15 ls [.ref q_8]) rfl ?_
      refine lv_astore (lv' := [(5, .ref q_8), (0, va_rf p0), (1, .int p1), (2, .int p2), (3, .int p3), (4, va_rf p4)]) hx hb dX0_order_15 hl (by decide) (by simp [ga_rcat, ga_cat_r, ga_cat_i, ga_cat_f, ga_cat_l, ga_cat_d]) (fun ls hl => ?_)
      refine lv_iconst (v := 1) hx hb dX0_order_17 (by decide) ?_
      exact ga_iretx hx hb hr rfl hlk hI hw (Nat.le_trans (Nat.le_add_right _ _) hbc) (Nat.le_trans (Nat.le_add_right _ _) hbs) dX0_order_18
    · skip
      refine ga_catch hown hts hI ([⟨0, 12, 15, 13⟩]) (⟨0, 12, 19, 15⟩) ([]) (by rw [htab]; rfl) (List.forall_mem_cons.mpr ⟨Or.inr ⟨by decide, ga_ncs hts hI q2017 (List.mem_of_getElem? (i := 3) rfl)⟩, fun _ h => absurd h List.not_mem_nil⟩) rfl (by decide) q2018 q2089 hce ?_
      refine W.eq (g2 := F0 m 19 ls [.ref q_8]) rfl ?_
      refine lv_astore (lv' := [(5, .ref q_8), (0, va_rf p0), (1, .int p1), (2, .int p2), (3, .int p3), (4, va_rf p4)]) hx hb dX0_order_19 hl (by decide) (by simp [ga_rcat, ga_cat_r, ga_cat_i, ga_cat_f, ga_cat_l, ga_cat_d]) (fun ls hl => ?_)
      refine lv_iconst (v := 2) hx hb dX0_order_21 (by decide) ?_
      exact ga_iretx hx hb hr rfl hlk hI hw (Nat.le_trans (Nat.le_add_right _ _) hbc) (Nat.le_trans (Nat.le_add_right _ _) hbs) dX0_order_22
  · skip
    refine lv_i2l (v := r_6.toInt64) hx hb dX0_order_10 rfl ?_
    obtain ⟨a_10, ea_10, hw⟩ := hw
    rewrite [ea_10]
    obtain ⟨n_11, f_12, hq, hi, hw⟩ := hw
    refine ga_stl hx hb hI hq hi dX0_order_11 (fun H locs hI => ?_)
    obtain ⟨h_13, eh_13⟩ : ∃ z, z = ga_set h_5 a_10 (ga_Al n_11 (vp_updL f_12 (0 : Int32).toNatClampNeg r_6.toInt64)) := ⟨_, rfl⟩
    rw [← eh_13] at hI
    have hw := hw h_13 eh_13
    refine lv_goto (tgt := 23) hx hb dX0_order_12 (by decide) ?_
    refine lv_iconst (v := 0) hx hb dX0_order_23 (by decide) ?_
    exact ga_iretx hx hb hr rfl hlk hI hw (Nat.le_trans (Nat.le_add_right _ _) hbc) (Nat.le_trans (Nat.le_add_right _ _) hbs) dX0_order_24
theorem hdG_X0_order : yX0_order.cls ≠ "java/lang/invoke/MethodHandle" ∧ yX0_order.cls ≠ "java/lang/invoke/VarHandle" ∧ (parseMethodDescriptor yX0_order.desc).map (fun d => d.parameters.length) = some 5 := by decide +kernel
def gw_X2_isOrder (K : ga_K) (p0 : Nat) (p1 : Int32) (h : ga_H) (post : Int32 → ga_H → Prop) : Prop :=
  ∃ (fs_1 : List Value) (v_2 : Option Nat), h p0 = some (ga_O 1 fs_1) ∧ fs_1[2]? = some (va_rf v_2) ∧ (∃ a_3 : Nat, v_2 = some a_3 ∧ ∃ fs_4 : List Value, ga_at K h a_3 (ga_O 13 fs_4) ∧ gw_J2_size K a_3 h (fun (r_6 : Int32) (h_5 : ga_H) => gw_X1_isIn p1 (0 : Int32) (r_6 - (1 : Int32)) (fun (r_7 : Int32) => zt_nar .boolean r_7 ∧ post r_7 h_5)))
set_option maxHeartbeats 4000000 in
theorem gm_X2_isOrder (l : Launch) (g : ga_G) (p0 : Nat) (p1 : Int32) (h : ga_H) (post : Int32 → ga_H → Prop) (hw : gw_X2_isOrder g.2.2 p0 p1 h post) : Met l yX2_isOrder (ws_ yX2_isOrder cX2_isOrder 2 (some .boolean)) ({ frames := 9, cells := 0, slots := 0, locals := 162 } : Room) (va_Pc [.ref p0, .int p1] (ga_B g h)) (va_Qi post (ga_E g) (ga_A g)) 0 0 (ga_A g) := by
  refine ga_met (own := "PaperStore$Store") (nm := "isOrder") (by decide) rfl rfl (by exact Nat.le_of_ble_eq_true rfl) (fun p e s m below meth c ls hC hI hl => ?_)
  have hl : lv_has ls 2 [(0, .ref p0), (1, .int p1)] := hl
  generalize ([.ref p0, .int p1] : List Value).toArray = args at hC ⊢
  obtain ⟨hx, hb, hml, hown, hts, hr, hlk, hnm⟩ := hC
  unfold gw_X2_isOrder at hw
  obtain ⟨H, eH⟩ : ∃ z, z = s.heap := ⟨_, rfl⟩
  obtain ⟨locs, elo⟩ : ∃ z : List Loc, z = [] := ⟨_, rfl⟩
  rw [← eH, ← elo] at hI ⊢
  obtain ⟨cells, slots, hbc, hbs, e0, e1⟩ : ∃ a b : Nat, a ≤ 0 ∧ b ≤ 0 ∧ a = 0 ∧ b = 0 := ⟨0, 0, by omega, by omega, rfl, rfl⟩
  show W p l e ({ frames := 9, cells := 0, slots := 0, locals := 162 } : Room) s m args below meth c H locs 0 0 (MQ below (va_Qi post (ga_E g) (ga_A g)) args s 0 0 (ga_A g)) (F0 m 0 ls [])
  suffices hgoal : W p l e ({ frames := 9, cells := 0, slots := 0, locals := 162 } : Room) s m args below meth c H locs cells slots (MQ below (va_Qi post (ga_E g) (ga_A g)) args s 0 0 (ga_A g)) (F0 m 0 ls []) by rw [e0, e1] at hgoal; exact hgoal
  refine lv_iload_n hx hb dX2_isOrder_0 rfl (lv_at hl 1 rfl) ?_
  refine lv_iconst (v := 0) hx hb dX2_isOrder_1 (by decide) ?_
  refine lv_aload_n hx hb dX2_isOrder_2 rfl (lv_at hl 0 rfl) ?_
  obtain ⟨fs_1, v_2, hq, hv, hw⟩ := hw
  refine ga_get (ci := 1) (T := TX2) (v := va_rf v_2) hx hb hts hown hI in_X2 rfl 2 (by decide) q314 (fun _ z => z) (ga_at.h hq) hv dX2_isOrder_3 ?_
  obtain ⟨a_3, ea_3, hw⟩ := hw
  rewrite [ea_3]
  obtain ⟨fs_4, hq, hw⟩ := hw
  refine ga_calli (va_runV (As := []) (rest := [.int (0 : Int32), .int p1]) ⟨hx, hb, hml, hown, hts⟩ (gm_J2_size l g a_3 h _ hw) (cwV 0 hts (lw_V q2039 q536 q4117 q104 q537) rfl rfl rfl ⟨rfl, hdG_J2_size⟩ ⟨Nat.le_of_ble_eq_true rfl, Nat.le_of_ble_eq_true rfl⟩) (ga_preV hI hq rfl rfl) rfl rfl hl.1 rfl (ga_room (Nat.le_of_ble_eq_true rfl)) dX2_isOrder_6 ⟨hbc, hbs⟩) hI (bc := 0) (bs := 0) hbc hbs (Nat.zero_le _) (Nat.zero_le _) (fun r_6 h_5 H locs cells slots hw hI hbc hbs => ?_)
  refine lv_iconst (v := 1) hx hb dX2_isOrder_9 (by decide) ?_
  refine lv_isub hx hb dX2_isOrder_10 ?_
  refine ga_callSN (As := [.int p1, .int (0 : Int32), .int (r_6 - (1 : Int32))]) (rest := []) ⟨hx, hb, hml, hown, hts⟩ (gm_X1_isIn l p1 (0 : Int32) (r_6 - (1 : Int32)) _ hw) (⟨va_cnB 3 hts (lw_meth q2026) rfl rfl rfl (hI.2.1.1.2.1 _ (ga_nin q2133 rfl)) (hts _ q100) hdG_X1_isIn ⟨Nat.le_of_ble_eq_true rfl, Nat.le_of_ble_eq_true rfl⟩, hts _ q2025, trivial⟩) rfl hl.1 rfl (ga_room (Nat.le_of_ble_eq_true rfl)) dX2_isOrder_11 (bc := 0) (bs := 0) hbc hbs (fun r_7 hw => ?_)
  exact ga_iret hx hb hr hw.1 hlk hI hw.2 hbc hbs dX2_isOrder_14
theorem hdG_X2_isOrder : yX2_isOrder.cls ≠ "java/lang/invoke/MethodHandle" ∧ yX2_isOrder.cls ≠ "java/lang/invoke/VarHandle" ∧ (parseMethodDescriptor yX2_isOrder.desc).map (fun d => d.parameters.length) = some 1 := by decide +kernel
def gw_X1_orderAt (K : ga_K) (p0 : Nat) (p1 : Int32) (h : ga_H) (mc ms : Nat) (post : Option Nat → ga_H → Prop) (xp : String → Nat → ga_H → Prop) : Prop :=
  ∃ (fs_1 : List Value) (v_2 : Option Nat), h p0 = some (ga_O 0 fs_1) ∧ fs_1[0]? = some (va_rf v_2) ∧ (∃ a_3 : Nat, v_2 = some a_3 ∧ ∃ fs_4 : List Value, ga_at K h a_3 (ga_O 1 fs_4) ∧ gw_X2_isOrder K a_3 p1 h (fun (r_6 : Int32) (h_5 : ga_H) => ∃ kc_7 ks_8 : Nat, kc_7 ≤ mc ∧ ks_8 ≤ ms ∧ gw_X1_checkIndex K r_6 h_5 kc_7 ks_8 (fun (h_9 : ga_H) => ∃ (fs_13 : List Value) (v_14 : Option Nat), h_9 p0 = some (ga_O 0 fs_13) ∧ fs_13[0]? = some (va_rf v_14) ∧ (∃ a_15 : Nat, v_14 = some a_15 ∧ ∃ (fs_16 : List Value) (v_17 : Option Nat), h_9 a_15 = some (ga_O 1 fs_16) ∧ fs_16[2]? = some (va_rf v_17) ∧ (∃ a_18 : Nat, v_17 = some a_18 ∧ ∃ fs_19 : List Value, ga_at K h_9 a_18 (ga_O 13 fs_19) ∧ gw_J2_get K a_18 p1 h_9 (fun (r_21 : Option Nat) (h_20 : ga_H) => ga_ok K h_20 "PaperStore$Order" r_21 ∧ (post r_21 h_20))))) (fun (E_10 : String) (q_11 : Nat) (h_12 : ga_H) => xp E_10 q_11 h_12)))
set_option maxHeartbeats 4000000 in
theorem gm_X1_orderAt (l : Launch) (hst : l.stackTraces = false) (g : ga_G) (p0 : Nat) (p1 : Int32) (h : ga_H) (mc ms : Nat) (post : Option Nat → ga_H → Prop) (xp : String → Nat → ga_H → Prop) (hw : gw_X1_orderAt g.2.2 p0 p1 h mc ms post xp) : vx_Met l yX1_orderAt (ws_ yX1_orderAt cX1_orderAt 2 (some (.object "PaperStore$Order"))) ({ frames := 11, cells := mc, slots := ms, locals := 204 } : Room) (va_Pc [.ref p0, .int p1] (ga_B g h)) (va_Qq post (ga_E g) (ga_A g)) (ga_X g xp) mc ms (ga_A g) := by
  refine ga_metx (own := "PaperStore") (nm := "orderAt") (by decide) rfl rfl (by exact Nat.le_of_ble_eq_true rfl) (fun p e s m below meth c ls hC htab hI hl => ?_)
  have hl : lv_has ls 2 [(0, .ref p0), (1, .int p1)] := hl
  generalize ([.ref p0, .int p1] : List Value).toArray = args at hC ⊢
  obtain ⟨hx, hb, hml, hown, hts, hr, hlk, hnm⟩ := hC
  unfold gw_X1_orderAt at hw
  obtain ⟨H, eH⟩ : ∃ z, z = s.heap := ⟨_, rfl⟩
  obtain ⟨locs, elo⟩ : ∃ z : List Loc, z = [] := ⟨_, rfl⟩
  rw [← eH, ← elo] at hI ⊢
  obtain ⟨cells, slots, hbc, hbs, e0, e1⟩ : ∃ a b : Nat, a + mc ≤ mc ∧ b + ms ≤ ms ∧ a = 0 ∧ b = 0 := ⟨0, 0, by omega, by omega, rfl, rfl⟩
  show W p l e ({ frames := 11, cells := mc, slots := ms, locals := 204 } : Room) s m args below meth c H locs 0 0 (vx_MQ below (va_Qq post (ga_E g) (ga_A g)) (ga_X g xp) args s mc ms (ga_A g)) (F0 m 0 ls [])
  suffices hgoal : W p l e ({ frames := 11, cells := mc, slots := ms, locals := 204 } : Room) s m args below meth c H locs cells slots (vx_MQ below (va_Qq post (ga_E g) (ga_A g)) (ga_X g xp) args s mc ms (ga_A g)) (F0 m 0 ls []) by rw [e0, e1] at hgoal; exact hgoal
  refine lv_aload_n hx hb dX1_orderAt_0 rfl (lv_at hl 0 rfl) ?_
  obtain ⟨fs_1, v_2, hq, hv, hw⟩ := hw
  refine ga_get (ci := 0) (T := TX1) (v := va_rf v_2) hx hb hts hown hI in_X1 rfl 0 (by decide) q387 (fun _ z => z) (ga_at.h hq) hv dX1_orderAt_1 ?_
  refine lv_iload_n hx hb dX1_orderAt_4 rfl (lv_at hl 1 rfl) ?_
  obtain ⟨a_3, ea_3, hw⟩ := hw
  rewrite [ea_3]
  obtain ⟨fs_4, hq, hw⟩ := hw
  refine ga_calli (va_runV (As := [.int p1]) (rest := []) ⟨hx, hb, hml, hown, hts⟩ (gm_X2_isOrder l g a_3 p1 h _ hw) (cwV 1 hts (lw_V q2424 q2425 q2426 q101 q2427) rfl rfl rfl ⟨rfl, hdG_X2_isOrder⟩ ⟨Nat.le_of_ble_eq_true rfl, Nat.le_of_ble_eq_true rfl⟩) (ga_preV hI hq rfl rfl) rfl rfl hl.1 rfl (ga_room (Nat.le_of_ble_eq_true rfl)) dX1_orderAt_5 ⟨Nat.le_trans (Nat.add_le_add_left (Nat.zero_le _) _) hbc, Nat.le_trans (Nat.add_le_add_left (Nat.zero_le _) _) hbs⟩) hI hbc hbs (Nat.zero_le _) (Nat.zero_le _) (fun r_6 h_5 H locs cells slots hw hI hbc hbs => ?_)
  obtain ⟨kc_7, ks_8, hk1, hk2, hw⟩ := hw
  refine ga_xcallv (vx_runS (As := [.int r_6]) (rest := []) ⟨hx, hb, hml, hown, hts⟩ (gm_X1_checkIndex l hst g r_6 h_5 kc_7 ks_8 _ _ hw) (va_cwS 1 hts (lw_S q2134 q2135 q100 q2136) rfl rfl rfl hdG_X1_checkIndex ⟨Nat.le_of_ble_eq_true rfl, Nat.le_of_ble_eq_true rfl⟩) (ga_preS hI rfl) rfl rfl hl.1 rfl (ga_room (Nat.le_of_ble_eq_true rfl)) dX1_orderAt_8 ⟨Nat.le_trans (Nat.add_le_add_left hk1 _) hbc, Nat.le_trans (Nat.add_le_add_left hk2 _) hbs⟩) hI hbc hbs hk1 hk2 (fun E_10 q_11 h_12 ce H locs cells slots hw hI hce hbc hbs => ?_) (fun h_9 H locs cells slots hw hI hbc hbs => ?_)
  · exact ga_out hown hlk hI hw (by rw [htab]; intro z hz; cases hz) hce (Nat.le_trans (Nat.le_add_right _ _) hbc) (Nat.le_trans (Nat.le_add_right _ _) hbs)
  · skip
    refine lv_aload_n hx hb dX1_orderAt_11 rfl (lv_at hl 0 rfl) ?_
    obtain ⟨fs_13, v_14, hq, hv, hw⟩ := hw
    refine ga_get (ci := 0) (T := TX1) (v := va_rf v_14) hx hb hts hown hI in_X1 rfl 0 (by decide) q387 (fun _ z => z) (ga_at.h hq) hv dX1_orderAt_12 ?_
    obtain ⟨a_15, ea_15, hw⟩ := hw
    rewrite [ea_15]
    obtain ⟨fs_16, v_17, hq, hv, hw⟩ := hw
    refine ga_getN (ci := 1) (T := TX2) (v := va_rf v_17) hx hb hts hown hI in_X2 rfl 2 (by decide) q315 (fun _ z => z) (ga_at.h hq) hv dX1_orderAt_15 ?_
    refine lv_iload_n hx hb dX1_orderAt_18 rfl (lv_at hl 1 rfl) ?_
    obtain ⟨a_18, ea_18, hw⟩ := hw
    rewrite [ea_18]
    obtain ⟨fs_19, hq, hw⟩ := hw
    refine ga_callq (va_runV (As := [.int p1]) (rest := []) ⟨hx, hb, hml, hown, hts⟩ (gm_J2_get l g a_18 p1 h_9 _ hw) (cwV 1 hts (lw_V q2142 q839 q4120 q104 q841) rfl rfl rfl ⟨rfl, hdG_J2_get⟩ ⟨Nat.le_of_ble_eq_true rfl, Nat.le_of_ble_eq_true rfl⟩) (ga_preV hI hq rfl rfl) rfl rfl hl.1 rfl (ga_room (Nat.le_of_ble_eq_true rfl)) dX1_orderAt_19 ⟨Nat.le_trans (Nat.add_le_add_left (Nat.zero_le _) _) hbc, Nat.le_trans (Nat.add_le_add_left (Nat.zero_le _) _) hbs⟩) hI hbc hbs (Nat.zero_le _) (Nat.zero_le _) (fun r_21 h_20 H locs cells slots hw hI hbc hbs => ?_)
    refine ga_cast (x := r_21) hx hb hts hown hI q2428 hw.1 dX1_orderAt_22 ?_
    have hw := hw.2
    exact ga_qretx (v := r_21) hx hb hr (Or.inl ⟨_, rfl⟩) hlk hI hw (Nat.le_trans (Nat.le_add_right _ _) hbc) (Nat.le_trans (Nat.le_add_right _ _) hbs) dX1_orderAt_25
theorem hdG_X1_orderAt : yX1_orderAt.cls ≠ "java/lang/invoke/MethodHandle" ∧ yX1_orderAt.cls ≠ "java/lang/invoke/VarHandle" ∧ (parseMethodDescriptor yX1_orderAt.desc).map (fun d => d.parameters.length) = some 1 := by decide +kernel
def gw_X2_waiting_24 (K : ga_K) (post : Option Nat → ga_H → Prop) (xp : String → Nat → ga_H → Prop) (p0 : Nat) (t0 : Int32) (v2 : Option Nat) (h : ga_H) (bc bs : Nat) : Prop :=
  ∃ a_12 : Nat, v2 = some a_12 ∧ ∃ (fs_13 : List Value) (v_14 : Int32), h a_12 = some (ga_O 6 fs_13) ∧ fs_13[2]? = some (.int v_14) ∧ (∃ kc_15 ks_16 : Nat, kc_15 ≤ bc ∧ ks_16 ≤ bs ∧ gw_X1_refuse K t0 (5 : Int32) v_14 h kc_15 ks_16 (fun (h_17 : ga_H) => post v2 h_17) (fun (E_18 : String) (q_19 : Nat) (h_20 : ga_H) => xp E_18 q_19 h_20))
set_option maxHeartbeats 4000000 in
theorem gj_X2_waiting_24 {p : Program} {l : Launch} {e : Env} {s : State} {m : MethodId} {args : Array Value} {below : List Frame} {meth : Method} {c : Code} {mc ms : Nat} {H : Heap} {locs : List Loc} {cells slots : Nat} {ls : Array Slot} (hst : l.stackTraces = false) (htab : c.exceptionTable.toList = []) (g : ga_G) (post : Option Nat → ga_H → Prop) (xp : String → Nat → ga_H → Prop) (p0 : Nat) (t0 : Int32) (v2 : Option Nat) (h : ga_H) (bc bs : Nat) (hC : ga_Cx p s m args meth c cX2_waiting 3 (some (.object "PaperStore$Order")) "PaperStore$Store" "waiting") (hw : gw_X2_waiting_24 g.2.2 post xp p0 t0 v2 h bc bs) (hI : ga_I g h s H locs) (hbc : cells + bc ≤ mc) (hbs : slots + bs ≤ ms) (hl : lv_has ls 3 [(2, va_rf v2)]) : W p l e ({ frames := 11, cells := mc, slots := ms, locals := 204 } : Room) s m args below meth c H locs cells slots (vx_MQ below (va_Qq post (ga_E g) (ga_A g)) (ga_X g xp) args s mc ms (ga_A g)) (F0 m 24 ls [.int t0]) := by
  obtain ⟨hx, hb, hml, hown, hts, hr, hlk, hnm⟩ := hC
  unfold gw_X2_waiting_24 at hw
  refine lv_iconst (v := 5) hx hb dX2_waiting_24 (by decide) ?_
  refine ga_aload_n hx hb dX2_waiting_25 rfl (lv_at hl 0 rfl) ?_
  obtain ⟨a_12, ea_12, hw⟩ := hw
  rewrite [ea_12]
  obtain ⟨fs_13, v_14, hq, hv, hw⟩ := hw
  refine ga_getN (ci := 6) (T := TX8) (v := .int v_14) hx hb hts hown hI in_X8 rfl 2 (by decide) q1375 (fun _ z => z) (ga_at.h hq) hv dX2_waiting_26 ?_
  obtain ⟨kc_15, ks_16, hk1, hk2, hw⟩ := hw
  refine ga_xcallv (vx_runSN (As := [.int t0, .int (5 : Int32), .int v_14]) (rest := []) ⟨hx, hb, hml, hown, hts⟩ (gm_X1_refuse l hst g t0 (5 : Int32) v_14 h kc_15 ks_16 _ _ hw) ⟨va_cnB 3 hts (lw_meth q2042) rfl rfl rfl (hI.2.1.1.2.1 _ (ga_nin q2040 rfl)) (hts _ q100) hdG_X1_refuse ⟨Nat.le_of_ble_eq_true rfl, Nat.le_of_ble_eq_true rfl⟩, hts _ q2041, trivial⟩ (ga_preS hI rfl) rfl rfl hl.1 rfl (ga_room (Nat.le_of_ble_eq_true rfl)) dX2_waiting_29 ⟨Nat.le_trans (Nat.add_le_add_left hk1 _) hbc, Nat.le_trans (Nat.add_le_add_left hk2 _) hbs⟩) hI hbc hbs hk1 hk2 (fun E_18 q_19 h_20 ce H locs cells slots hw hI hce hbc hbs => ?_) (fun h_17 H locs cells slots hw hI hbc hbs => ?_)
  · exact ga_out hown hlk hI hw (by rw [htab]; intro z hz; cases hz) hce (Nat.le_trans (Nat.le_add_right _ _) hbc) (Nat.le_trans (Nat.le_add_right _ _) hbs)
  · skip
    refine ga_aload_n hx hb dX2_waiting_32 rfl (lv_at hl 0 rfl) ?_
    exact ga_qretx (v := v2) hx hb hr (Or.inl ⟨_, rfl⟩) hlk hI hw (Nat.le_trans (Nat.le_add_right _ _) hbc) (Nat.le_trans (Nat.le_add_right _ _) hbs) dX2_waiting_33
def gw_X2_waiting (K : ga_K) (p0 : Nat) (p1 : Int32) (h : ga_H) (mc ms : Nat) (post : Option Nat → ga_H → Prop) (xp : String → Nat → ga_H → Prop) : Prop :=
  ∃ (fs_1 : List Value) (v_2 : Option Nat), h p0 = some (ga_O 1 fs_1) ∧ fs_1[2]? = some (va_rf v_2) ∧ (∃ a_3 : Nat, v_2 = some a_3 ∧ ∃ fs_4 : List Value, ga_at K h a_3 (ga_O 13 fs_4) ∧ gw_J2_get K a_3 p1 h (fun (r_6 : Option Nat) (h_5 : ga_H) => ga_ok K h_5 "PaperStore$Order" r_6 ∧ (∃ a_7 : Nat, r_6 = some a_7 ∧ ∃ fs_8 : List Value, ga_at K h_5 a_7 (ga_O 6 fs_8) ∧ gw_X8_waits K a_7 h_5 (fun (r_10 : Int32) (h_9 : ga_H) => (¬ r_10 = (0 : Int32) → (gw_X2_waiting_24 K post xp p0 (0 : Int32) r_6 h_9 mc ms)) ∧ (r_10 = (0 : Int32) → (gw_X2_waiting_24 K post xp p0 (1 : Int32) r_6 h_9 mc ms))))))
set_option maxHeartbeats 4000000 in
theorem gm_X2_waiting (l : Launch) (hst : l.stackTraces = false) (g : ga_G) (p0 : Nat) (p1 : Int32) (h : ga_H) (mc ms : Nat) (post : Option Nat → ga_H → Prop) (xp : String → Nat → ga_H → Prop) (hw : gw_X2_waiting g.2.2 p0 p1 h mc ms post xp) : vx_Met l yX2_waiting (ws_ yX2_waiting cX2_waiting 3 (some (.object "PaperStore$Order"))) ({ frames := 11, cells := mc, slots := ms, locals := 204 } : Room) (va_Pc [.ref p0, .int p1] (ga_B g h)) (va_Qq post (ga_E g) (ga_A g)) (ga_X g xp) mc ms (ga_A g) := by
  refine ga_metx (own := "PaperStore$Store") (nm := "waiting") (by decide) rfl rfl (by exact Nat.le_of_ble_eq_true rfl) (fun p e s m below meth c ls hC htab hI hl => ?_)
  have hl : lv_has ls 3 [(0, .ref p0), (1, .int p1)] := hl
  generalize ([.ref p0, .int p1] : List Value).toArray = args at hC ⊢
  obtain ⟨hx, hb, hml, hown, hts, hr, hlk, hnm⟩ := hC
  unfold gw_X2_waiting at hw
  obtain ⟨H, eH⟩ : ∃ z, z = s.heap := ⟨_, rfl⟩
  obtain ⟨locs, elo⟩ : ∃ z : List Loc, z = [] := ⟨_, rfl⟩
  rw [← eH, ← elo] at hI ⊢
  obtain ⟨cells, slots, hbc, hbs, e0, e1⟩ : ∃ a b : Nat, a + mc ≤ mc ∧ b + ms ≤ ms ∧ a = 0 ∧ b = 0 := ⟨0, 0, by omega, by omega, rfl, rfl⟩
  show W p l e ({ frames := 11, cells := mc, slots := ms, locals := 204 } : Room) s m args below meth c H locs 0 0 (vx_MQ below (va_Qq post (ga_E g) (ga_A g)) (ga_X g xp) args s mc ms (ga_A g)) (F0 m 0 ls [])
  suffices hgoal : W p l e ({ frames := 11, cells := mc, slots := ms, locals := 204 } : Room) s m args below meth c H locs cells slots (vx_MQ below (va_Qq post (ga_E g) (ga_A g)) (ga_X g xp) args s mc ms (ga_A g)) (F0 m 0 ls []) by rw [e0, e1] at hgoal; exact hgoal
  refine lv_aload_n hx hb dX2_waiting_0 rfl (lv_at hl 0 rfl) ?_
  obtain ⟨fs_1, v_2, hq, hv, hw⟩ := hw
  refine ga_get (ci := 1) (T := TX2) (v := va_rf v_2) hx hb hts hown hI in_X2 rfl 2 (by decide) q314 (fun _ z => z) (ga_at.h hq) hv dX2_waiting_1 ?_
  refine lv_iload_n hx hb dX2_waiting_4 rfl (lv_at hl 1 rfl) ?_
  obtain ⟨a_3, ea_3, hw⟩ := hw
  rewrite [ea_3]
  obtain ⟨fs_4, hq, hw⟩ := hw
  refine ga_callq (va_runV (As := [.int p1]) (rest := []) ⟨hx, hb, hml, hown, hts⟩ (gm_J2_get l g a_3 p1 h _ hw) (cwV 1 hts (lw_V q2069 q839 q4120 q104 q841) rfl rfl rfl ⟨rfl, hdG_J2_get⟩ ⟨Nat.le_of_ble_eq_true rfl, Nat.le_of_ble_eq_true rfl⟩) (ga_preV hI hq rfl rfl) rfl rfl hl.1 rfl (ga_room (Nat.le_of_ble_eq_true rfl)) dX2_waiting_5 ⟨Nat.le_trans (Nat.add_le_add_left (Nat.zero_le _) _) hbc, Nat.le_trans (Nat.add_le_add_left (Nat.zero_le _) _) hbs⟩) hI hbc hbs (Nat.zero_le _) (Nat.zero_le _) (fun r_6 h_5 H locs cells slots hw hI hbc hbs => ?_)
  refine ga_cast (x := r_6) hx hb hts hown hI q1357 hw.1 dX2_waiting_8 ?_
  have hw := hw.2
  refine ga_astore_n (i := 2) (x := r_6) (lv' := [(2, va_rf r_6), (0, .ref p0), (1, .int p1)]) hx hb dX2_waiting_11 rfl hl (by decide) rfl (fun ls hl => ?_)
  refine ga_aload_n hx hb dX2_waiting_12 rfl (lv_at hl 0 rfl) ?_
  obtain ⟨a_7, ea_7, hw⟩ := hw
  rewrite [ea_7]
  obtain ⟨fs_8, hq, hw⟩ := hw
  refine ga_calli (va_runV (As := []) (rest := []) ⟨hx, hb, hml, hown, hts⟩ (gm_X8_waits l g a_7 h_5 _ hw) (cwV 0 hts (lw_V q2437 q2438 q2439 q139 q2440) rfl rfl rfl ⟨rfl, hdG_X8_waits⟩ ⟨Nat.le_of_ble_eq_true rfl, Nat.le_of_ble_eq_true rfl⟩) (ga_preV hI hq rfl rfl) rfl rfl hl.1 rfl (ga_room (Nat.le_of_ble_eq_true rfl)) dX2_waiting_13 ⟨Nat.le_trans (Nat.add_le_add_left (Nat.zero_le _) _) hbc, Nat.le_trans (Nat.add_le_add_left (Nat.zero_le _) _) hbs⟩) hI hbc hbs (Nat.zero_le _) (Nat.zero_le _) (fun r_10 h_9 H locs cells slots hw hI hbc hbs => ?_)
  refine lv_if_ne (tgt := 23) hx hb dX2_waiting_16 (by decide) (fun hc_11 => ?_) (fun hc_11 => ?_)
  · have hw := hw.1 hc_11
    refine lv_iconst (v := 0) hx hb dX2_waiting_23 (by decide) ?_
    exact gj_X2_waiting_24 hst htab g post xp p0 (0 : Int32) r_6 h_9 mc ms ⟨hx, hb, hml, hown, hts, hr, hlk, hnm⟩ hw hI hbc hbs (lv_sub hl [0] rfl)
  · have hw := hw.2 hc_11
    refine lv_iconst (v := 1) hx hb dX2_waiting_19 (by decide) ?_
    refine lv_goto (tgt := 24) hx hb dX2_waiting_20 (by decide) ?_
    exact gj_X2_waiting_24 hst htab g post xp p0 (1 : Int32) r_6 h_9 mc ms ⟨hx, hb, hml, hown, hts, hr, hlk, hnm⟩ hw hI hbc hbs (lv_sub hl [0] rfl)
theorem hdG_X2_waiting : yX2_waiting.cls ≠ "java/lang/invoke/MethodHandle" ∧ yX2_waiting.cls ≠ "java/lang/invoke/VarHandle" ∧ (parseMethodDescriptor yX2_waiting.desc).map (fun d => d.parameters.length) = some 1 := by decide +kernel
def gw_X2_cancel_36 (K : ga_K) (post : Int32 → ga_H → Prop) (xp : String → Nat → ga_H → Prop) (p0 : Nat) (v2 : Option Nat) (v3 : Int32) (h : ga_H) (bc bs : Nat) : Prop :=
  ∃ a_16 : Nat, v2 = some a_16 ∧ ∃ fs_17 : List Value, ga_at K h a_16 (ga_O 6 fs_17) ∧ gw_X8_ends K a_16 (2 : Int32) h (fun (h_18 : ga_H) => ∃ (fs_19 : List Value) (v_20 : Int32), h_18 p0 = some (ga_O 1 fs_19) ∧ fs_19[7]? = some (.int v_20) ∧ (∃ fs_21 : List Value, h_18 p0 = some (ga_O 1 fs_21) ∧ 7 < fs_21.length ∧ ∀ h_22 : ga_H, h_22 = ga_set h_18 p0 (ga_O 1 (fs_21.set 7 (.int (v_20 + v3)))) → (post v3 h_22)))
set_option maxHeartbeats 4000000 in
theorem gj_X2_cancel_36 {p : Program} {l : Launch} {e : Env} {s : State} {m : MethodId} {args : Array Value} {below : List Frame} {meth : Method} {c : Code} {mc ms : Nat} {H : Heap} {locs : List Loc} {cells slots : Nat} {ls : Array Slot} (hst : l.stackTraces = false) (htab : c.exceptionTable.toList = []) (g : ga_G) (post : Int32 → ga_H → Prop) (xp : String → Nat → ga_H → Prop) (p0 : Nat) (v2 : Option Nat) (v3 : Int32) (h : ga_H) (bc bs : Nat) (hC : ga_Cx p s m args meth c cX2_cancel 4 (some .int) "PaperStore$Store" "cancel") (hw : gw_X2_cancel_36 g.2.2 post xp p0 v2 v3 h bc bs) (hI : ga_I g h s H locs) (hbc : cells + bc ≤ mc) (hbs : slots + bs ≤ ms) (hl : lv_has ls 4 [(0, .ref p0), (2, va_rf v2), (3, .int v3)]) : W p l e ({ frames := 12, cells := mc, slots := ms, locals := 226 } : Room) s m args below meth c H locs cells slots (vx_MQ below (va_Qi post (ga_E g) (ga_A g)) (ga_X g xp) args s mc ms (ga_A g)) (F0 m 36 ls []) := by
  obtain ⟨hx, hb, hml, hown, hts, hr, hlk, hnm⟩ := hC
  unfold gw_X2_cancel_36 at hw
  refine ga_aload_n hx hb dX2_cancel_36 rfl (lv_at hl 1 rfl) ?_
  refine lv_iconst (v := 2) hx hb dX2_cancel_37 (by decide) ?_
  obtain ⟨a_16, ea_16, hw⟩ := hw
  rewrite [ea_16]
  obtain ⟨fs_17, hq, hw⟩ := hw
  refine ga_callv (va_runV (As := [.int (2 : Int32)]) (rest := []) ⟨hx, hb, hml, hown, hts⟩ (gm_X8_ends l g a_16 (2 : Int32) h _ hw) (cwV 1 hts (lw_V q2445 q2446 q2447 q139 q2448) rfl rfl rfl ⟨rfl, hdG_X8_ends⟩ ⟨Nat.le_of_ble_eq_true rfl, Nat.le_of_ble_eq_true rfl⟩) (ga_preV hI hq rfl rfl) rfl rfl hl.1 rfl (ga_room (Nat.le_of_ble_eq_true rfl)) dX2_cancel_38 ⟨Nat.le_trans (Nat.add_le_add_left (Nat.zero_le _) _) hbc, Nat.le_trans (Nat.add_le_add_left (Nat.zero_le _) _) hbs⟩) hI hbc hbs (Nat.zero_le _) (Nat.zero_le _) (fun h_18 H locs cells slots hw hI hbc hbs => ?_)
  refine lv_aload_n hx hb dX2_cancel_41 rfl (lv_at hl 0 rfl) ?_
  refine lv_dup hx hb dX2_cancel_42 rfl ?_
  obtain ⟨fs_19, v_20, hq, hv, hw⟩ := hw
  refine ga_get (ci := 1) (T := TX2) (v := .int v_20) hx hb hts hown hI in_X2 rfl 7 (by decide) q324 (fun _ z => z) (ga_at.h hq) hv dX2_cancel_43 ?_
  refine lv_iload_n hx hb dX2_cancel_46 rfl (lv_at hl 2 rfl) ?_
  refine lv_iadd hx hb dX2_cancel_47 ?_
  obtain ⟨fs_21, hq, hk, hw⟩ := hw
  refine ga_put (ci := 1) (T := TX2) (v := .int (v_20 + v3)) (ty := tyX2 7) hx hb hts hown hI in_X2 rfl tyX2 tyX2_ok nmX2 7 (by decide) q324 (fun _ z => z) rfl (tyX2_ok 7 (by decide)) rfl rfl hq hk dX2_cancel_48 (fun H locs hI => ?_)
  obtain ⟨h_22, eh_22⟩ : ∃ z, z = ga_set h_18 p0 (ga_O 1 (fs_21.set 7 (.int (v_20 + v3)))) := ⟨_, rfl⟩
  rw [← eh_22] at hI
  have hw := hw h_22 eh_22
  refine lv_iload_n hx hb dX2_cancel_51 rfl (lv_at hl 2 rfl) ?_
  exact ga_iretx hx hb hr rfl hlk hI hw (Nat.le_trans (Nat.le_add_right _ _) hbc) (Nat.le_trans (Nat.le_add_right _ _) hbs) dX2_cancel_52
def gw_X2_cancel (K : ga_K) (p0 : Nat) (p1 : Int32) (h : ga_H) (mc ms : Nat) (post : Int32 → ga_H → Prop) (xp : String → Nat → ga_H → Prop) : Prop :=
  ∃ kc_1 ks_2 : Nat, kc_1 ≤ mc ∧ ks_2 ≤ ms ∧ ∃ fs_3 : List Value, ga_at K h p0 (ga_O 1 fs_3) ∧ gw_X2_waiting K p0 p1 h kc_1 ks_2 (fun (r_5 : Option Nat) (h_4 : ga_H) => ∃ a_9 : Nat, r_5 = some a_9 ∧ ∃ (fs_10 : List Value) (v_11 : Int32), h_4 a_9 = some (ga_O 6 fs_10) ∧ fs_10[3]? = some (.int v_11) ∧ (∃ a_12 : Nat, r_5 = some a_12 ∧ ∃ (fs_13 : List Value) (v_14 : Int32), h_4 a_12 = some (ga_O 6 fs_13) ∧ fs_13[4]? = some (.int v_14) ∧ ((v_14 = (-1 : Int32) → (gw_X2_cancel_36 K post xp p0 r_5 v_11 h_4 (mc - kc_1) (ms - ks_2))) ∧ (¬ v_14 = (-1 : Int32) → (∃ (fs_23 : List Value) (v_24 : Option Nat), h_4 p0 = some (ga_O 1 fs_23) ∧ fs_23[3]? = some (va_rf v_24) ∧ (∃ a_25 : Nat, r_5 = some a_25 ∧ ∃ (fs_26 : List Value) (v_27 : Int32), h_4 a_25 = some (ga_O 6 fs_26) ∧ fs_26[4]? = some (.int v_27) ∧ (∃ a_28 : Nat, v_24 = some a_28 ∧ ∃ fs_29 : List Value, ga_at K h_4 a_28 (ga_O 13 fs_29) ∧ gw_J2_get K a_28 v_27 h_4 (fun (r_31 : Option Nat) (h_30 : ga_H) => ga_ok K h_30 "PaperStore$Cart" r_31 ∧ (∃ a_32 : Nat, r_31 = some a_32 ∧ ∃ fs_33 : List Value, ga_at K h_30 a_32 (ga_O 7 fs_33) ∧ gw_X9_empties K a_32 h_30 (fun (h_34 : ga_H) => gw_X2_cancel_36 K post xp p0 r_5 v_11 h_34 (mc - kc_1) (ms - ks_2))))))))))) (fun (E_6 : String) (q_7 : Nat) (h_8 : ga_H) => xp E_6 q_7 h_8)
set_option maxHeartbeats 4000000 in
theorem gm_X2_cancel (l : Launch) (hst : l.stackTraces = false) (g : ga_G) (p0 : Nat) (p1 : Int32) (h : ga_H) (mc ms : Nat) (post : Int32 → ga_H → Prop) (xp : String → Nat → ga_H → Prop) (hw : gw_X2_cancel g.2.2 p0 p1 h mc ms post xp) : vx_Met l yX2_cancel (ws_ yX2_cancel cX2_cancel 4 (some .int)) ({ frames := 12, cells := mc, slots := ms, locals := 226 } : Room) (va_Pc [.ref p0, .int p1] (ga_B g h)) (va_Qi post (ga_E g) (ga_A g)) (ga_X g xp) mc ms (ga_A g) := by
  refine ga_metx (own := "PaperStore$Store") (nm := "cancel") (by decide) rfl rfl (by exact Nat.le_of_ble_eq_true rfl) (fun p e s m below meth c ls hC htab hI hl => ?_)
  have hl : lv_has ls 4 [(0, .ref p0), (1, .int p1)] := hl
  generalize ([.ref p0, .int p1] : List Value).toArray = args at hC ⊢
  obtain ⟨hx, hb, hml, hown, hts, hr, hlk, hnm⟩ := hC
  unfold gw_X2_cancel at hw
  obtain ⟨H, eH⟩ : ∃ z, z = s.heap := ⟨_, rfl⟩
  obtain ⟨locs, elo⟩ : ∃ z : List Loc, z = [] := ⟨_, rfl⟩
  rw [← eH, ← elo] at hI ⊢
  obtain ⟨cells, slots, hbc, hbs, e0, e1⟩ : ∃ a b : Nat, a + mc ≤ mc ∧ b + ms ≤ ms ∧ a = 0 ∧ b = 0 := ⟨0, 0, by omega, by omega, rfl, rfl⟩
  show W p l e ({ frames := 12, cells := mc, slots := ms, locals := 226 } : Room) s m args below meth c H locs 0 0 (vx_MQ below (va_Qi post (ga_E g) (ga_A g)) (ga_X g xp) args s mc ms (ga_A g)) (F0 m 0 ls [])
  suffices hgoal : W p l e ({ frames := 12, cells := mc, slots := ms, locals := 226 } : Room) s m args below meth c H locs cells slots (vx_MQ below (va_Qi post (ga_E g) (ga_A g)) (ga_X g xp) args s mc ms (ga_A g)) (F0 m 0 ls []) by rw [e0, e1] at hgoal; exact hgoal
  refine lv_aload_n hx hb dX2_cancel_0 rfl (lv_at hl 0 rfl) ?_
  refine lv_iload_n hx hb dX2_cancel_1 rfl (lv_at hl 1 rfl) ?_
  obtain ⟨kc_1, ks_2, hk1, hk2, hw⟩ := hw
  obtain ⟨fs_3, hq, hw⟩ := hw
  refine ga_xcallq (vx_runV (As := [.int p1]) (rest := []) ⟨hx, hb, hml, hown, hts⟩ (gm_X2_waiting l hst g p0 p1 h kc_1 ks_2 _ _ hw) (cwV 1 hts (lw_V q2433 q2435 qs15 q101 q2436) rfl rfl rfl ⟨rfl, hdG_X2_waiting⟩ ⟨Nat.le_of_ble_eq_true rfl, Nat.le_of_ble_eq_true rfl⟩) (ga_preV hI hq rfl rfl) rfl rfl hl.1 rfl (ga_room (Nat.le_of_ble_eq_true rfl)) dX2_cancel_2 ⟨Nat.le_trans (Nat.add_le_add_left hk1 _) hbc, Nat.le_trans (Nat.add_le_add_left hk2 _) hbs⟩) hI hbc hbs hk1 hk2 (fun E_6 q_7 h_8 ce H locs cells slots hw hI hce hbc hbs => ?_) (fun r_5 h_4 H locs cells slots hw hI hbc hbs => ?_)
  · exact ga_out hown hlk hI hw (by rw [htab]; intro z hz; cases hz) hce (Nat.le_trans (Nat.le_add_right _ _) hbc) (Nat.le_trans (Nat.le_add_right _ _) hbs)
  · skip
    refine ga_astore_n (i := 2) (x := r_5) (lv' := [(2, va_rf r_5), (0, .ref p0), (1, .int p1)]) hx hb dX2_cancel_5 rfl hl (by decide) rfl (fun ls hl => ?_)
    refine ga_aload_n hx hb dX2_cancel_6 rfl (lv_at hl 0 rfl) ?_
    obtain ⟨a_9, ea_9, hw⟩ := hw
    rewrite [ea_9]
    obtain ⟨fs_10, v_11, hq, hv, hw⟩ := hw
    refine ga_getN (ci := 6) (T := TX8) (v := .int v_11) hx hb hts hown hI in_X8 rfl 3 (by decide) q1378 (fun _ z => z) (ga_at.h hq) hv dX2_cancel_7 ?_
    refine lv_istore_n (i := 3) (lv' := [(3, .int v_11), (2, va_rf r_5), (0, .ref p0), (1, .int p1)]) hx hb dX2_cancel_10 rfl hl (by decide) (by simp [ga_rcat, ga_cat_r, ga_cat_i, ga_cat_f, ga_cat_l, ga_cat_d]) (fun ls hl => ?_)
    refine ga_aload_n hx hb dX2_cancel_11 rfl (lv_at hl 1 rfl) ?_
    obtain ⟨a_12, ea_12, hw⟩ := hw
    rewrite [ea_12]
    obtain ⟨fs_13, v_14, hq, hv, hw⟩ := hw
    refine ga_getN (ci := 6) (T := TX8) (v := .int v_14) hx hb hts hown hI in_X8 rfl 4 (by decide) q1381 (fun _ z => z) (ga_at.h hq) hv dX2_cancel_12 ?_
    refine lv_iconst (v := -1) hx hb dX2_cancel_15 (by decide) ?_
    refine lv_icmp_eq (tgt := 36) hx hb dX2_cancel_16 (by decide) (fun hc_15 => ?_) (fun hc_15 => ?_)
    · have hw := hw.1 hc_15
      exact gj_X2_cancel_36 hst htab g post xp p0 r_5 v_11 h_4 (mc - kc_1) (ms - ks_2) ⟨hx, hb, hml, hown, hts, hr, hlk, hnm⟩ hw hI hbc hbs (lv_sub hl [2, 1, 0] rfl)
    · have hw := hw.2 hc_15
      refine lv_aload_n hx hb dX2_cancel_19 rfl (lv_at hl 2 rfl) ?_
      obtain ⟨fs_23, v_24, hq, hv, hw⟩ := hw
      refine ga_get (ci := 1) (T := TX2) (v := va_rf v_24) hx hb hts hown hI in_X2 rfl 3 (by decide) q316 (fun _ z => z) (ga_at.h hq) hv dX2_cancel_20 ?_
      refine ga_aload_n hx hb dX2_cancel_23 rfl (lv_at hl 1 rfl) ?_
      obtain ⟨a_25, ea_25, hw⟩ := hw
      rewrite [ea_25]
      obtain ⟨fs_26, v_27, hq, hv, hw⟩ := hw
      refine ga_getN (ci := 6) (T := TX8) (v := .int v_27) hx hb hts hown hI in_X8 rfl 4 (by decide) q1381 (fun _ z => z) (ga_at.h hq) hv dX2_cancel_24 ?_
      obtain ⟨a_28, ea_28, hw⟩ := hw
      rewrite [ea_28]
      obtain ⟨fs_29, hq, hw⟩ := hw
      refine ga_callq (va_runV (As := [.int v_27]) (rest := []) ⟨hx, hb, hml, hown, hts⟩ (gm_J2_get l g a_28 v_27 h_4 _ hw) (cwV 1 hts (lw_V q2069 q839 q4120 q104 q841) rfl rfl rfl ⟨rfl, hdG_J2_get⟩ ⟨Nat.le_of_ble_eq_true rfl, Nat.le_of_ble_eq_true rfl⟩) (ga_preV hI hq rfl rfl) rfl rfl hl.1 rfl (ga_room (Nat.le_of_ble_eq_true rfl)) dX2_cancel_27 ⟨Nat.le_trans (Nat.add_le_add_left (Nat.zero_le _) _) hbc, Nat.le_trans (Nat.add_le_add_left (Nat.zero_le _) _) hbs⟩) hI hbc hbs (Nat.zero_le _) (Nat.zero_le _) (fun r_31 h_30 H locs cells slots hw hI hbc hbs => ?_)
      refine ga_cast (x := r_31) hx hb hts hown hI q1250 hw.1 dX2_cancel_30 ?_
      have hw := hw.2
      obtain ⟨a_32, ea_32, hw⟩ := hw
      rewrite [ea_32]
      obtain ⟨fs_33, hq, hw⟩ := hw
      refine ga_callv (va_runV (As := []) (rest := []) ⟨hx, hb, hml, hown, hts⟩ (gm_X9_empties l g a_32 h_30 _ hw) (cwV 0 hts (lw_V q2441 q2442 q2443 q140 q2444) rfl rfl rfl ⟨rfl, hdG_X9_empties⟩ ⟨Nat.le_of_ble_eq_true rfl, Nat.le_of_ble_eq_true rfl⟩) (ga_preV hI hq rfl rfl) rfl rfl hl.1 rfl (ga_room (Nat.le_of_ble_eq_true rfl)) dX2_cancel_33 ⟨Nat.le_trans (Nat.add_le_add_left (Nat.zero_le _) _) hbc, Nat.le_trans (Nat.add_le_add_left (Nat.zero_le _) _) hbs⟩) hI hbc hbs (Nat.zero_le _) (Nat.zero_le _) (fun h_34 H locs cells slots hw hI hbc hbs => ?_)
      exact gj_X2_cancel_36 hst htab g post xp p0 r_5 v_11 h_34 (mc - kc_1) (ms - ks_2) ⟨hx, hb, hml, hown, hts, hr, hlk, hnm⟩ hw hI hbc hbs (lv_sub hl [2, 1, 0] rfl)
theorem hdG_X2_cancel : yX2_cancel.cls ≠ "java/lang/invoke/MethodHandle" ∧ yX2_cancel.cls ≠ "java/lang/invoke/VarHandle" ∧ (parseMethodDescriptor yX2_cancel.desc).map (fun d => d.parameters.length) = some 1 := by decide +kernel
def gw_X1_cancel (K : ga_K) (p0 : Nat) (p1 : Int32) (h : ga_H) (mc ms : Nat) (post : Int32 → ga_H → Prop) (xp : String → Nat → ga_H → Prop) : Prop :=
  ∃ kc_1 ks_2 : Nat, kc_1 ≤ mc ∧ ks_2 ≤ ms ∧ ∃ fs_3 : List Value, ga_at K h p0 (ga_O 0 fs_3) ∧ gw_X1_orderAt K p0 p1 h kc_1 ks_2 (fun (r_5 : Option Nat) (h_4 : ga_H) => ∃ (fs_9 : List Value) (v_10 : Option Nat), h_4 p0 = some (ga_O 0 fs_9) ∧ fs_9[0]? = some (va_rf v_10) ∧ (∃ a_11 : Nat, v_10 = some a_11 ∧ ∃ kc_12 ks_13 : Nat, kc_12 ≤ (mc - kc_1) ∧ ks_13 ≤ (ms - ks_2) ∧ ∃ fs_14 : List Value, ga_at K h_4 a_11 (ga_O 1 fs_14) ∧ gw_X2_copy K a_11 h_4 kc_12 ks_13 (fun (r_16 : Option Nat) (h_15 : ga_H) => ∃ a_17 : Nat, r_16 = some a_17 ∧ ∃ kc_18 ks_19 : Nat, kc_18 ≤ ((mc - kc_1) - kc_12) ∧ ks_19 ≤ ((ms - ks_2) - ks_13) ∧ ∃ fs_20 : List Value, ga_at K h_15 a_17 (ga_O 1 fs_20) ∧ gw_X2_cancel K a_17 p1 h_15 kc_18 ks_19 (fun (r_22 : Int32) (h_21 : ga_H) => ∃ kc_36 ks_37 : Nat, kc_36 ≤ (((mc - kc_1) - kc_12) - kc_18) ∧ ks_37 ≤ (((ms - ks_2) - ks_13) - ks_19) ∧ ∃ fs_38 : List Value, ga_at K h_21 p0 (ga_O 0 fs_38) ∧ gw_X1_become K p0 r_16 r_22 h_21 kc_36 ks_37 (fun (r_40 : Int32) (h_39 : ga_H) => post r_40 h_39)) (fun (E_23 : String) (q_24 : Nat) (h_25 : ga_H) => (E_23 = "PaperStore$Refusal" ∧ (∃ kc_26 ks_27 : Nat, kc_26 ≤ (((mc - kc_1) - kc_12) - kc_18) ∧ ks_27 ≤ (((ms - ks_2) - ks_13) - ks_19) ∧ ∃ fs_28 : List Value, ga_at K h_25 p0 (ga_O 0 fs_28) ∧ gw_X1_kept K p0 (some q_24) h_25 kc_26 ks_27 (fun (r_30 : Option Nat) (h_29 : ga_H) => ∃ a_34 : Nat, r_30 = some a_34 ∧ ∃ fs_35 : List Value, h_29 a_34 = some (ga_O 28 fs_35) ∧ (xp "java/lang/UnsupportedOperationException" a_34 h_29)) (fun (E_31 : String) (q_32 : Nat) (h_33 : ga_H) => False))))))) (fun (E_6 : String) (q_7 : Nat) (h_8 : ga_H) => (E_6 = "java/lang/IndexOutOfBoundsException" ∧ (xp "java/lang/IndexOutOfBoundsException" q_7 h_8)))
set_option maxHeartbeats 4000000 in
theorem gm_X1_cancel (l : Launch) (hst : l.stackTraces = false) (g : ga_G) (p0 : Nat) (p1 : Int32) (h : ga_H) (mc ms : Nat) (post : Int32 → ga_H → Prop) (xp : String → Nat → ga_H → Prop) (hw : gw_X1_cancel g.2.2 p0 p1 h mc ms post xp) : vx_Met l yX1_cancel (wsW_ yX1_cancel cX1_cancel 5 (some .int) [(14, 28, 29, 25)]) ({ frames := 17, cells := mc, slots := ms, locals := 1389 } : Room) (va_Pc [.ref p0, .int p1] (ga_B g h)) (va_Qi post (ga_E g) (ga_A g)) (ga_X g xp) mc ms (ga_A g) := by
  refine ga_metxW (own := "PaperStore") (nm := "cancel") (by decide) rfl rfl (by exact Nat.le_of_ble_eq_true rfl) (fun p e s m below meth c ls hC htab hI hl => ?_)
  have hl : lv_has ls 5 [(0, .ref p0), (1, .int p1)] := hl
  generalize ([.ref p0, .int p1] : List Value).toArray = args at hC ⊢
  obtain ⟨hx, hb, hml, hown, hts, hr, hlk, hnm⟩ := hC
  unfold gw_X1_cancel at hw
  obtain ⟨H, eH⟩ : ∃ z, z = s.heap := ⟨_, rfl⟩
  obtain ⟨locs, elo⟩ : ∃ z : List Loc, z = [] := ⟨_, rfl⟩
  rw [← eH, ← elo] at hI ⊢
  obtain ⟨cells, slots, hbc, hbs, e0, e1⟩ : ∃ a b : Nat, a + mc ≤ mc ∧ b + ms ≤ ms ∧ a = 0 ∧ b = 0 := ⟨0, 0, by omega, by omega, rfl, rfl⟩
  show W p l e ({ frames := 17, cells := mc, slots := ms, locals := 1389 } : Room) s m args below meth c H locs 0 0 (vx_MQ below (va_Qi post (ga_E g) (ga_A g)) (ga_X g xp) args s mc ms (ga_A g)) (F0 m 0 ls [])
  suffices hgoal : W p l e ({ frames := 17, cells := mc, slots := ms, locals := 1389 } : Room) s m args below meth c H locs cells slots (vx_MQ below (va_Qi post (ga_E g) (ga_A g)) (ga_X g xp) args s mc ms (ga_A g)) (F0 m 0 ls []) by rw [e0, e1] at hgoal; exact hgoal
  refine lv_aload_n hx hb dX1_cancel_0 rfl (lv_at hl 0 rfl) ?_
  refine lv_iload_n hx hb dX1_cancel_1 rfl (lv_at hl 1 rfl) ?_
  obtain ⟨kc_1, ks_2, hk1, hk2, hw⟩ := hw
  obtain ⟨fs_3, hq, hw⟩ := hw
  refine ga_xcallq (vx_runV (As := [.int p1]) (rest := []) ⟨hx, hb, hml, hown, hts⟩ (gm_X1_orderAt l hst g p0 p1 h kc_1 ks_2 _ _ hw) (cwV 1 hts (lw_V q2420 q2422 qs14 q100 q2423) rfl rfl rfl ⟨rfl, hdG_X1_orderAt⟩ ⟨Nat.le_of_ble_eq_true rfl, Nat.le_of_ble_eq_true rfl⟩) (ga_preV hI hq rfl rfl) rfl rfl hl.1 rfl (ga_room (Nat.le_of_ble_eq_true rfl)) dX1_cancel_2 ⟨Nat.le_trans (Nat.add_le_add_left hk1 _) hbc, Nat.le_trans (Nat.add_le_add_left hk2 _) hbs⟩) hI hbc hbs hk1 hk2 (fun E_6 q_7 h_8 ce H locs cells slots hw hI hce hbc hbs => ?_) (fun r_5 h_4 H locs cells slots hw hI hbc hbs => ?_)
  · obtain ⟨rfl, hw⟩ := hw
    exact ga_out hown hlk hI hw (by rw [htab]; exact (List.forall_mem_cons.mpr ⟨Or.inl rfl, fun _ h => absurd h List.not_mem_nil⟩)) hce (Nat.le_trans (Nat.le_add_right _ _) hbc) (Nat.le_trans (Nat.le_add_right _ _) hbs)
  · skip
    refine ga_astore_n (i := 2) (x := r_5) (lv' := [(2, va_rf r_5), (0, .ref p0), (1, .int p1)]) hx hb dX1_cancel_5 rfl hl (by decide) rfl (fun ls hl => ?_)
    refine lv_aload_n hx hb dX1_cancel_6 rfl (lv_at hl 1 rfl) ?_
    obtain ⟨fs_9, v_10, hq, hv, hw⟩ := hw
    refine ga_get (ci := 0) (T := TX1) (v := va_rf v_10) hx hb hts hown hI in_X1 rfl 0 (by decide) q387 (fun _ z => z) (ga_at.h hq) hv dX1_cancel_7 ?_
    obtain ⟨a_11, ea_11, hw⟩ := hw
    rewrite [ea_11]
    obtain ⟨kc_12, ks_13, hk1, hk2, hw⟩ := hw
    obtain ⟨fs_14, hq, hw⟩ := hw
    refine ga_callq (va_runV (As := []) (rest := []) ⟨hx, hb, hml, hown, hts⟩ (gm_X2_copy l g a_11 h_4 kc_12 ks_13 _ hw) (cwV 0 hts (lw_V q1259 q1260 q1261 q101 q1262) rfl rfl rfl ⟨rfl, hdG_X2_copy⟩ ⟨Nat.le_of_ble_eq_true rfl, Nat.le_of_ble_eq_true rfl⟩) (ga_preV hI hq rfl rfl) rfl rfl hl.1 rfl (ga_room (Nat.le_of_ble_eq_true rfl)) dX1_cancel_10 ⟨Nat.le_trans (Nat.add_le_add_left hk1 _) hbc, Nat.le_trans (Nat.add_le_add_left hk2 _) hbs⟩) hI hbc hbs hk1 hk2 (fun r_16 h_15 H locs cells slots hw hI hbc hbs => ?_)
    refine ga_astore_n (i := 3) (x := r_16) (lv' := [(3, va_rf r_16), (2, va_rf r_5), (0, .ref p0), (1, .int p1)]) hx hb dX1_cancel_13 rfl hl (by decide) (by simp [ga_rcat, ga_cat_r, ga_cat_i, ga_cat_f, ga_cat_l, ga_cat_d]) (fun ls hl => ?_)
    refine ga_aload_n hx hb dX1_cancel_14 rfl (lv_at hl 0 rfl) ?_
    refine lv_iload_n hx hb dX1_cancel_15 rfl (lv_at hl 3 rfl) ?_
    obtain ⟨a_17, ea_17, hw⟩ := hw
    rewrite [ea_17]
    obtain ⟨kc_18, ks_19, hk1, hk2, hw⟩ := hw
    obtain ⟨fs_20, hq, hw⟩ := hw
    refine ga_xcalli (vx_runV (As := [.int p1]) (rest := []) ⟨hx, hb, hml, hown, hts⟩ (gm_X2_cancel l hst g a_17 p1 h_15 kc_18 ks_19 _ _ hw) (cwV 1 hts (lw_V q2429 q2430 q2431 q101 q2432) rfl rfl rfl ⟨rfl, hdG_X2_cancel⟩ ⟨Nat.le_of_ble_eq_true rfl, Nat.le_of_ble_eq_true rfl⟩) (ga_preV hI hq rfl rfl) rfl rfl hl.1 rfl (ga_room (Nat.le_of_ble_eq_true rfl)) dX1_cancel_16 ⟨Nat.le_trans (Nat.add_le_add_left hk1 _) hbc, Nat.le_trans (Nat.add_le_add_left hk2 _) hbs⟩) hI hbc hbs hk1 hk2 (fun E_23 q_24 h_25 ce H locs cells slots hw hI hce hbc hbs => ?_) (fun r_22 h_21 H locs cells slots hw hI hbc hbs => ?_)
    · obtain ⟨rfl, hw⟩ := hw
      refine ga_catch hown hts hI ([]) (⟨14, 28, 29, 25⟩) ([]) (by rw [htab]; rfl) (fun _ h => absurd h List.not_mem_nil) rfl (by decide) q2023 q2044 hce ?_
      refine W.eq (g2 := F0 m 29 ls [.ref q_24]) rfl ?_
      refine lv_astore (lv' := [(4, .ref q_24), (3, va_rf r_16), (2, va_rf r_5), (0, .ref p0), (1, .int p1)]) hx hb dX1_cancel_29 hl (by decide) (by simp [ga_rcat, ga_cat_r, ga_cat_i, ga_cat_f, ga_cat_l, ga_cat_d]) (fun ls hl => ?_)
      refine lv_aload_n hx hb dX1_cancel_31 rfl (lv_at hl 3 rfl) ?_
      refine lv_aload hx hb dX1_cancel_32 (lv_at hl 0 rfl) ?_
      obtain ⟨kc_26, ks_27, hk1, hk2, hw⟩ := hw
      obtain ⟨fs_28, hq, hw⟩ := hw
      refine ga_xcallq (vx_runV (As := [va_rf (some q_24)]) (rest := []) ⟨hx, hb, hml, hown, hts⟩ (gm_X1_kept l hst g p0 (some q_24) h_25 kc_26 ks_27 _ _ hw) (cwV 1 hts (lw_V q2083 q2085 qs10 q100 q2086) rfl rfl rfl ⟨rfl, hdG_X1_kept⟩ ⟨Nat.le_of_ble_eq_true rfl, Nat.le_of_ble_eq_true rfl⟩) (ga_preV hI hq rfl rfl) rfl rfl hl.1 rfl (ga_room (Nat.le_of_ble_eq_true rfl)) dX1_cancel_34 ⟨Nat.le_trans (Nat.add_le_add_left hk1 _) hbc, Nat.le_trans (Nat.add_le_add_left hk2 _) hbs⟩) hI hbc hbs hk1 hk2 (fun E_31 q_32 h_33 ce H locs cells slots hw hI hce hbc hbs => ?_) (fun r_30 h_29 H locs cells slots hw hI hbc hbs => ?_)
      · exact hw.elim
      · skip
        obtain ⟨a_34, ea_34, hw⟩ := hw
        rewrite [ea_34]
        obtain ⟨fs_35, hq, hw⟩ := hw
        refine ga_athrow (ci := 28) hx hb hI (ga_at.h hq) rfl dX1_cancel_37 (fun ce hce => ?_)
        exact ga_out hown hlk hI hw (by rw [htab]; exact (List.forall_mem_cons.mpr ⟨Or.inl rfl, fun _ h => absurd h List.not_mem_nil⟩)) hce (Nat.le_trans (Nat.le_add_right _ _) hbc) (Nat.le_trans (Nat.le_add_right _ _) hbs)
    · skip
      refine lv_istore (lv' := [(4, .int r_22), (3, va_rf r_16), (2, va_rf r_5), (0, .ref p0), (1, .int p1)]) hx hb dX1_cancel_19 hl (by decide) (by simp [ga_rcat, ga_cat_r, ga_cat_i, ga_cat_f, ga_cat_l, ga_cat_d]) (fun ls hl => ?_)
      refine lv_aload_n hx hb dX1_cancel_21 rfl (lv_at hl 3 rfl) ?_
      refine ga_aload_n hx hb dX1_cancel_22 rfl (lv_at hl 1 rfl) ?_
      refine lv_iload hx hb dX1_cancel_23 (lv_at hl 0 rfl) ?_
      obtain ⟨kc_36, ks_37, hk1, hk2, hw⟩ := hw
      obtain ⟨fs_38, hq, hw⟩ := hw
      refine ga_calli (va_runV (As := [va_rf r_16, .int r_22]) (rest := []) ⟨hx, hb, hml, hown, hts⟩ (gm_X1_become l g p0 r_16 r_22 h_21 kc_36 ks_37 _ hw) (cwV 2 hts (lw_V q2070 q2072 qs8 q100 q2073) rfl rfl rfl ⟨rfl, hdG_X1_become⟩ ⟨Nat.le_of_ble_eq_true rfl, Nat.le_of_ble_eq_true rfl⟩) (ga_preV hI hq rfl rfl) rfl rfl hl.1 rfl (ga_room (Nat.le_of_ble_eq_true rfl)) dX1_cancel_25 ⟨Nat.le_trans (Nat.add_le_add_left hk1 _) hbc, Nat.le_trans (Nat.add_le_add_left hk2 _) hbs⟩) hI hbc hbs hk1 hk2 (fun r_40 h_39 H locs cells slots hw hI hbc hbs => ?_)
      exact ga_iretx hx hb hr rfl hlk hI hw (Nat.le_trans (Nat.le_add_right _ _) hbc) (Nat.le_trans (Nat.le_add_right _ _) hbs) dX1_cancel_28
theorem hdG_X1_cancel : yX1_cancel.cls ≠ "java/lang/invoke/MethodHandle" ∧ yX1_cancel.cls ≠ "java/lang/invoke/VarHandle" ∧ (parseMethodDescriptor yX1_cancel.desc).map (fun d => d.parameters.length) = some 1 := by decide +kernel
def gw_X0_cancel (K : ga_K) (p0 : Option Nat) (p1 : Int32) (p2 : Option Nat) (h : ga_H) (mc ms : Nat) (post : Int32 → ga_H → Prop) (xp : String → Nat → ga_H → Prop) : Prop :=
  ∃ a_1 : Nat, p0 = some a_1 ∧ ∃ kc_2 ks_3 : Nat, kc_2 ≤ mc ∧ ks_3 ≤ ms ∧ ∃ fs_4 : List Value, ga_at K h a_1 (ga_O 0 fs_4) ∧ gw_X1_cancel K a_1 p1 h kc_2 ks_3 (fun (r_6 : Int32) (h_5 : ga_H) => ∃ a_10 : Nat, p2 = some a_10 ∧ ∃ (n_11 : Nat) (f_12 : Nat → Int64), h_5 a_10 = some (ga_Al n_11 f_12) ∧ vp_in (0 : Int32) n_11 ∧ ∀ h_13 : ga_H, h_13 = ga_set h_5 a_10 (ga_Al n_11 (vp_updL f_12 (0 : Int32).toNatClampNeg r_6.toInt64)) → (post (0 : Int32) h_13)) (fun (E_7 : String) (q_8 : Nat) (h_9 : ga_H) => (E_7 = "java/lang/IndexOutOfBoundsException" ∧ (post (1 : Int32) h_9)) ∨ (E_7 = "java/lang/UnsupportedOperationException" ∧ (post (2 : Int32) h_9)))
set_option maxHeartbeats 4000000 in
theorem gm_X0_cancel (l : Launch) (hst : l.stackTraces = false) (g : ga_G) (p0 : Option Nat) (p1 : Int32) (p2 : Option Nat) (h : ga_H) (mc ms : Nat) (post : Int32 → ga_H → Prop) (xp : String → Nat → ga_H → Prop) (hw : gw_X0_cancel g.2.2 p0 p1 p2 h mc ms post xp) : vx_Met l yX0_cancel (wsW_ yX0_cancel cX0_cancel 4 (some .int) [(0, 9, 12, 21), (0, 9, 15, 15)]) ({ frames := 18, cells := mc, slots := ms, locals := 1413 } : Room) (va_Pc [va_rf p0, .int p1, va_rf p2] (ga_B g h)) (va_Qi post (ga_E g) (ga_A g)) (ga_X g xp) mc ms (ga_A g) := by
  refine ga_metxW (own := "PaperStoreLaw") (nm := "cancel") (by decide) rfl rfl (by cases p0 <;> cases p2 <;> exact Nat.le_of_ble_eq_true rfl) (fun p e s m below meth c ls hC htab hI hl => ?_)
  have hl : lv_has ls 4 [(0, va_rf p0), (1, .int p1), (2, va_rf p2)] := (by cases p0 <;> cases p2 <;> exact hl)
  generalize ([va_rf p0, .int p1, va_rf p2] : List Value).toArray = args at hC ⊢
  obtain ⟨hx, hb, hml, hown, hts, hr, hlk, hnm⟩ := hC
  unfold gw_X0_cancel at hw
  obtain ⟨H, eH⟩ : ∃ z, z = s.heap := ⟨_, rfl⟩
  obtain ⟨locs, elo⟩ : ∃ z : List Loc, z = [] := ⟨_, rfl⟩
  rw [← eH, ← elo] at hI ⊢
  obtain ⟨cells, slots, hbc, hbs, e0, e1⟩ : ∃ a b : Nat, a + mc ≤ mc ∧ b + ms ≤ ms ∧ a = 0 ∧ b = 0 := ⟨0, 0, by omega, by omega, rfl, rfl⟩
  show W p l e ({ frames := 18, cells := mc, slots := ms, locals := 1413 } : Room) s m args below meth c H locs 0 0 (vx_MQ below (va_Qi post (ga_E g) (ga_A g)) (ga_X g xp) args s mc ms (ga_A g)) (F0 m 0 ls [])
  suffices hgoal : W p l e ({ frames := 18, cells := mc, slots := ms, locals := 1413 } : Room) s m args below meth c H locs cells slots (vx_MQ below (va_Qi post (ga_E g) (ga_A g)) (ga_X g xp) args s mc ms (ga_A g)) (F0 m 0 ls []) by rw [e0, e1] at hgoal; exact hgoal
  refine ga_aload_n hx hb dX0_cancel_0 rfl (lv_at hl 2 rfl) ?_
  refine lv_iconst (v := 0) hx hb dX0_cancel_1 (by decide) ?_
  refine ga_aload_n hx hb dX0_cancel_2 rfl (lv_at hl 0 rfl) ?_
  refine lv_iload_n hx hb dX0_cancel_3 rfl (lv_at hl 1 rfl) ?_
  obtain ⟨a_1, ea_1, hw⟩ := hw
  rewrite [ea_1]
  obtain ⟨kc_2, ks_3, hk1, hk2, hw⟩ := hw
  obtain ⟨fs_4, hq, hw⟩ := hw
  refine ga_xcalli (vx_runVX (As := [.int p1]) (rest := [.int (0 : Int32), va_rf p2]) ⟨hx, hb, hml, hown, hts⟩ (gm_X1_cancel l hst g a_1 p1 h kc_2 ks_3 _ _ hw) (vx_cwVW 1 hts (lw_VW q2416 q2417 q2418 q100 q2419) rfl rfl rfl ⟨rfl, hdG_X1_cancel⟩ ⟨Nat.le_of_ble_eq_true rfl, Nat.le_of_ble_eq_true rfl⟩) (ga_preV hI hq rfl rfl) rfl rfl hl.1 rfl (ga_room (Nat.le_of_ble_eq_true rfl)) dX0_cancel_4 ⟨Nat.le_trans (Nat.add_le_add_left hk1 _) hbc, Nat.le_trans (Nat.add_le_add_left hk2 _) hbs⟩) hI hbc hbs hk1 hk2 (fun E_7 q_8 h_9 ce H locs cells slots hw hI hce hbc hbs => ?_) (fun r_6 h_5 H locs cells slots hw hI hbc hbs => ?_)
  · rcases hw with ⟨rfl, hw⟩ | ⟨rfl, hw⟩
    · skip
      refine ga_catch hown hts hI ([]) (⟨0, 9, 12, 21⟩) ([⟨0, 9, 15, 15⟩]) (by rw [htab]; rfl) (fun _ h => absurd h List.not_mem_nil) rfl (by decide) q2105 q866 hce ?_
      refine W.eq (g2 := F0 m 12 ls [.ref q_8]) rfl ?_
      refine lv_astore_n (i := 3) (lv' := [(3, .ref q_8), (0, va_rf p0), (1, .int p1), (2, va_rf p2)]) hx hb dX0_cancel_12 rfl hl (by decide) (by simp [ga_rcat, ga_cat_r, ga_cat_i, ga_cat_f, ga_cat_l, ga_cat_d]) (fun ls hl => ?_)
      refine lv_iconst (v := 1) hx hb dX0_cancel_13 (by decide) ?_
      exact ga_iretx hx hb hr rfl hlk hI hw (Nat.le_trans (Nat.le_add_right _ _) hbc) (Nat.le_trans (Nat.le_add_right _ _) hbs) dX0_cancel_14
    · skip
      refine ga_catch hown hts hI ([⟨0, 9, 12, 21⟩]) (⟨0, 9, 15, 15⟩) ([]) (by rw [htab]; rfl) (List.forall_mem_cons.mpr ⟨Or.inr ⟨by decide, ga_ncs hts hI q2105 (List.mem_of_getElem? (i := 2) rfl)⟩, fun _ h => absurd h List.not_mem_nil⟩) rfl (by decide) q2018 q2089 hce ?_
      refine W.eq (g2 := F0 m 15 ls [.ref q_8]) rfl ?_
      refine lv_astore_n (i := 3) (lv' := [(3, .ref q_8), (0, va_rf p0), (1, .int p1), (2, va_rf p2)]) hx hb dX0_cancel_15 rfl hl (by decide) (by simp [ga_rcat, ga_cat_r, ga_cat_i, ga_cat_f, ga_cat_l, ga_cat_d]) (fun ls hl => ?_)
      refine lv_iconst (v := 2) hx hb dX0_cancel_16 (by decide) ?_
      exact ga_iretx hx hb hr rfl hlk hI hw (Nat.le_trans (Nat.le_add_right _ _) hbc) (Nat.le_trans (Nat.le_add_right _ _) hbs) dX0_cancel_17
  · skip
    refine lv_i2l (v := r_6.toInt64) hx hb dX0_cancel_7 rfl ?_
    obtain ⟨a_10, ea_10, hw⟩ := hw
    rewrite [ea_10]
    obtain ⟨n_11, f_12, hq, hi, hw⟩ := hw
    refine ga_stl hx hb hI hq hi dX0_cancel_8 (fun H locs hI => ?_)
    obtain ⟨h_13, eh_13⟩ : ∃ z, z = ga_set h_5 a_10 (ga_Al n_11 (vp_updL f_12 (0 : Int32).toNatClampNeg r_6.toInt64)) := ⟨_, rfl⟩
    rw [← eh_13] at hI
    have hw := hw h_13 eh_13
    refine lv_goto (tgt := 18) hx hb dX0_cancel_9 (by decide) ?_
    refine lv_iconst (v := 0) hx hb dX0_cancel_18 (by decide) ?_
    exact ga_iretx hx hb hr rfl hlk hI hw (Nat.le_trans (Nat.le_add_right _ _) hbc) (Nat.le_trans (Nat.le_add_right _ _) hbs) dX0_cancel_19
theorem hdG_X0_cancel : yX0_cancel.cls ≠ "java/lang/invoke/MethodHandle" ∧ yX0_cancel.cls ≠ "java/lang/invoke/VarHandle" ∧ (parseMethodDescriptor yX0_cancel.desc).map (fun d => d.parameters.length) = some 3 := by decide +kernel
def gw_X2_addCart_16 (K : ga_K) (post : Int32 → ga_H → Prop) (xp : String → Nat → ga_H → Prop) (p0 : Nat) (t0 : Int32) (v1 : Int32) (h : ga_H) (bc bs : Nat) : Prop :=
  ∃ kc_8 ks_9 : Nat, kc_8 ≤ bc ∧ ks_9 ≤ bs ∧ gw_X1_refuse K t0 (1 : Int32) (3 : Int32) h kc_8 ks_9 (fun (h_10 : ga_H) => ∃ (fs_14 : List Value) (v_15 : Option Nat), h_10 p0 = some (ga_O 1 fs_14) ∧ fs_14[3]? = some (va_rf v_15) ∧ (1 ≤ (bc - kc_8) ∧ 3 ≤ (bs - ks_9) ∧ ∀ q_16 : Nat, h_10 q_16 = none → ∀ h_17 : ga_H, h_17 = ga_set h_10 q_16 (ga_O 7 [.int 0, .int 0, .int 0]) → (gw_X9_init K q_16 v1 h_17 (fun (h_18 : ga_H) => ∃ a_19 : Nat, v_15 = some a_19 ∧ ∃ kc_20 ks_21 : Nat, kc_20 ≤ ((bc - kc_8) - 1) ∧ ks_21 ≤ ((bs - ks_9) - 3) ∧ ∃ fs_22 : List Value, ga_at K h_18 a_19 (ga_O 13 fs_22) ∧ gw_J2_add K a_19 (some q_16) h_18 kc_20 ks_21 (fun (r_24 : Int32) (h_23 : ga_H) => ∃ (fs_25 : List Value) (v_26 : Option Nat), h_23 p0 = some (ga_O 1 fs_25) ∧ fs_25[3]? = some (va_rf v_26) ∧ (∃ a_27 : Nat, v_26 = some a_27 ∧ ∃ fs_28 : List Value, ga_at K h_23 a_27 (ga_O 13 fs_28) ∧ gw_J2_size K a_27 h_23 (fun (r_30 : Int32) (h_29 : ga_H) => post (r_30 - (1 : Int32)) h_29))))))) (fun (E_11 : String) (q_12 : Nat) (h_13 : ga_H) => xp E_11 q_12 h_13)
set_option maxHeartbeats 4000000 in
theorem gj_X2_addCart_16 {p : Program} {l : Launch} {e : Env} {s : State} {m : MethodId} {args : Array Value} {below : List Frame} {meth : Method} {c : Code} {mc ms : Nat} {H : Heap} {locs : List Loc} {cells slots : Nat} {ls : Array Slot} (hst : l.stackTraces = false) (htab : c.exceptionTable.toList = []) (g : ga_G) (post : Int32 → ga_H → Prop) (xp : String → Nat → ga_H → Prop) (p0 : Nat) (t0 : Int32) (v1 : Int32) (h : ga_H) (bc bs : Nat) (hC : ga_Cx p s m args meth c cX2_addCart 2 (some .int) "PaperStore$Store" "addCart") (hw : gw_X2_addCart_16 g.2.2 post xp p0 t0 v1 h bc bs) (hI : ga_I g h s H locs) (hbc : cells + bc ≤ mc) (hbs : slots + bs ≤ ms) (hl : lv_has ls 2 [(0, .ref p0), (1, .int v1)]) : W p l e ({ frames := 14, cells := mc, slots := ms, locals := 271 } : Room) s m args below meth c H locs cells slots (vx_MQ below (va_Qi post (ga_E g) (ga_A g)) (ga_X g xp) args s mc ms (ga_A g)) (F0 m 16 ls [.int t0]) := by
  obtain ⟨hx, hb, hml, hown, hts, hr, hlk, hnm⟩ := hC
  unfold gw_X2_addCart_16 at hw
  refine lv_iconst (v := 1) hx hb dX2_addCart_16 (by decide) ?_
  refine lv_iconst (v := 3) hx hb dX2_addCart_17 (by decide) ?_
  obtain ⟨kc_8, ks_9, hk1, hk2, hw⟩ := hw
  refine ga_xcallv (vx_runSN (As := [.int t0, .int (1 : Int32), .int (3 : Int32)]) (rest := []) ⟨hx, hb, hml, hown, hts⟩ (gm_X1_refuse l hst g t0 (1 : Int32) (3 : Int32) h kc_8 ks_9 _ _ hw) ⟨va_cnB 3 hts (lw_meth q2042) rfl rfl rfl (hI.2.1.1.2.1 _ (ga_nin q2040 rfl)) (hts _ q100) hdG_X1_refuse ⟨Nat.le_of_ble_eq_true rfl, Nat.le_of_ble_eq_true rfl⟩, hts _ q2041, trivial⟩ (ga_preS hI rfl) rfl rfl hl.1 rfl (ga_room (Nat.le_of_ble_eq_true rfl)) dX2_addCart_18 ⟨Nat.le_trans (Nat.add_le_add_left hk1 _) hbc, Nat.le_trans (Nat.add_le_add_left hk2 _) hbs⟩) hI hbc hbs hk1 hk2 (fun E_11 q_12 h_13 ce H locs cells slots hw hI hce hbc hbs => ?_) (fun h_10 H locs cells slots hw hI hbc hbs => ?_)
  · exact ga_out hown hlk hI hw (by rw [htab]; intro z hz; cases hz) hce (Nat.le_trans (Nat.le_add_right _ _) hbc) (Nat.le_trans (Nat.le_add_right _ _) hbs)
  · skip
    refine lv_aload_n hx hb dX2_addCart_21 rfl (lv_at hl 0 rfl) ?_
    obtain ⟨fs_14, v_15, hq, hv, hw⟩ := hw
    refine ga_get (ci := 1) (T := TX2) (v := va_rf v_15) hx hb hts hown hI in_X2 rfl 3 (by decide) q316 (fun _ z => z) (ga_at.h hq) hv dX2_addCart_22 ?_
    refine ga_new (ci := 7) (T := TX9) hx hb hts hown hI in_X9 rfl tyX9 tyX9_ok q1250 q1399 q140 [.int 0, .int 0, .int 0] ga_df_X9 hbc hbs hw.1 hw.2.1 dX2_addCart_25 (fun q_16 H cells slots hn_q_16 hI hbc hbs => ?_)
    obtain ⟨h_17, eh_17⟩ : ∃ z, z = ga_set h_10 q_16 (ga_O 7 [.int 0, .int 0, .int 0]) := ⟨_, rfl⟩
    rw [← eh_17] at hI
    have hw := hw.2.2 q_16 hn_q_16 h_17 eh_17
    refine lv_dup hx hb dX2_addCart_28 rfl ?_
    refine lv_iload_n hx hb dX2_addCart_29 rfl (lv_at hl 1 rfl) ?_
    refine ga_callv (va_runI (As := [.int v1]) (rest := [.ref q_16, va_rf v_15]) ⟨hx, hb, hml, hown, hts⟩ (gm_X9_init l g q_16 v1 h_17 _ hw) (cwI 1 hts (lw_meth q1402) rfl rfl rfl (hts _ q140) (hts _ q2460) (hts _ q1401) rfl hdG_X9_init ⟨Nat.le_of_ble_eq_true rfl, Nat.le_of_ble_eq_true rfl⟩) (ga_preS hI rfl) rfl rfl hl.1 rfl (ga_room (Nat.le_of_ble_eq_true rfl)) dX2_addCart_30 ⟨Nat.le_trans (Nat.add_le_add_left (Nat.zero_le _) _) hbc, Nat.le_trans (Nat.add_le_add_left (Nat.zero_le _) _) hbs⟩) hI hbc hbs (Nat.zero_le _) (Nat.zero_le _) (fun h_18 H locs cells slots hw hI hbc hbs => ?_)
    obtain ⟨a_19, ea_19, hw⟩ := hw
    rewrite [ea_19]
    obtain ⟨kc_20, ks_21, hk1, hk2, hw⟩ := hw
    obtain ⟨fs_22, hq, hw⟩ := hw
    refine ga_calli (va_runV (As := [va_rf (some q_16)]) (rest := []) ⟨hx, hb, hml, hown, hts⟩ (gm_J2_add l g a_19 (some q_16) h_18 kc_20 ks_21 _ hw) (cwV 1 hts (lw_V q1356 q1321 q1322 q104 q1323) rfl rfl rfl ⟨rfl, hdG_J2_add⟩ ⟨Nat.le_of_ble_eq_true rfl, Nat.le_of_ble_eq_true rfl⟩) (ga_preV hI hq rfl rfl) rfl rfl hl.1 rfl (ga_room (Nat.le_of_ble_eq_true rfl)) dX2_addCart_33 ⟨Nat.le_trans (Nat.add_le_add_left hk1 _) hbc, Nat.le_trans (Nat.add_le_add_left hk2 _) hbs⟩) hI hbc hbs hk1 hk2 (fun r_24 h_23 H locs cells slots hw hI hbc hbs => ?_)
    refine lv_pop hx hb dX2_addCart_36 rfl ?_
    refine lv_aload_n hx hb dX2_addCart_37 rfl (lv_at hl 0 rfl) ?_
    obtain ⟨fs_25, v_26, hq, hv, hw⟩ := hw
    refine ga_get (ci := 1) (T := TX2) (v := va_rf v_26) hx hb hts hown hI in_X2 rfl 3 (by decide) q316 (fun _ z => z) (ga_at.h hq) hv dX2_addCart_38 ?_
    obtain ⟨a_27, ea_27, hw⟩ := hw
    rewrite [ea_27]
    obtain ⟨fs_28, hq, hw⟩ := hw
    refine ga_calli (va_runV (As := []) (rest := []) ⟨hx, hb, hml, hown, hts⟩ (gm_J2_size l g a_27 h_23 _ hw) (cwV 0 hts (lw_V q2039 q536 q4117 q104 q537) rfl rfl rfl ⟨rfl, hdG_J2_size⟩ ⟨Nat.le_of_ble_eq_true rfl, Nat.le_of_ble_eq_true rfl⟩) (ga_preV hI hq rfl rfl) rfl rfl hl.1 rfl (ga_room (Nat.le_of_ble_eq_true rfl)) dX2_addCart_41 ⟨Nat.le_trans (Nat.add_le_add_left (Nat.zero_le _) _) hbc, Nat.le_trans (Nat.add_le_add_left (Nat.zero_le _) _) hbs⟩) hI hbc hbs (Nat.zero_le _) (Nat.zero_le _) (fun r_30 h_29 H locs cells slots hw hI hbc hbs => ?_)
    refine lv_iconst (v := 1) hx hb dX2_addCart_44 (by decide) ?_
    refine lv_isub hx hb dX2_addCart_45 ?_
    exact ga_iretx hx hb hr rfl hlk hI hw (Nat.le_trans (Nat.le_add_right _ _) hbc) (Nat.le_trans (Nat.le_add_right _ _) hbs) dX2_addCart_46
def gw_X2_addCart (K : ga_K) (p0 : Nat) (p1 : Int32) (h : ga_H) (mc ms : Nat) (post : Int32 → ga_H → Prop) (xp : String → Nat → ga_H → Prop) : Prop :=
  ∃ (fs_1 : List Value) (v_2 : Option Nat), h p0 = some (ga_O 1 fs_1) ∧ fs_1[3]? = some (va_rf v_2) ∧ (∃ a_3 : Nat, v_2 = some a_3 ∧ ∃ fs_4 : List Value, ga_at K h a_3 (ga_O 13 fs_4) ∧ gw_J2_size K a_3 h (fun (r_6 : Int32) (h_5 : ga_H) => (¬ r_6 = (3 : Int32) → (gw_X2_addCart_16 K post xp p0 (0 : Int32) p1 h_5 mc ms)) ∧ (r_6 = (3 : Int32) → (gw_X2_addCart_16 K post xp p0 (1 : Int32) p1 h_5 mc ms))))
set_option maxHeartbeats 4000000 in
theorem gm_X2_addCart (l : Launch) (hst : l.stackTraces = false) (g : ga_G) (p0 : Nat) (p1 : Int32) (h : ga_H) (mc ms : Nat) (post : Int32 → ga_H → Prop) (xp : String → Nat → ga_H → Prop) (hw : gw_X2_addCart g.2.2 p0 p1 h mc ms post xp) : vx_Met l yX2_addCart (ws_ yX2_addCart cX2_addCart 2 (some .int)) ({ frames := 14, cells := mc, slots := ms, locals := 271 } : Room) (va_Pc [.ref p0, .int p1] (ga_B g h)) (va_Qi post (ga_E g) (ga_A g)) (ga_X g xp) mc ms (ga_A g) := by
  refine ga_metx (own := "PaperStore$Store") (nm := "addCart") (by decide) rfl rfl (by exact Nat.le_of_ble_eq_true rfl) (fun p e s m below meth c ls hC htab hI hl => ?_)
  have hl : lv_has ls 2 [(0, .ref p0), (1, .int p1)] := hl
  generalize ([.ref p0, .int p1] : List Value).toArray = args at hC ⊢
  obtain ⟨hx, hb, hml, hown, hts, hr, hlk, hnm⟩ := hC
  unfold gw_X2_addCart at hw
  obtain ⟨H, eH⟩ : ∃ z, z = s.heap := ⟨_, rfl⟩
  obtain ⟨locs, elo⟩ : ∃ z : List Loc, z = [] := ⟨_, rfl⟩
  rw [← eH, ← elo] at hI ⊢
  obtain ⟨cells, slots, hbc, hbs, e0, e1⟩ : ∃ a b : Nat, a + mc ≤ mc ∧ b + ms ≤ ms ∧ a = 0 ∧ b = 0 := ⟨0, 0, by omega, by omega, rfl, rfl⟩
  show W p l e ({ frames := 14, cells := mc, slots := ms, locals := 271 } : Room) s m args below meth c H locs 0 0 (vx_MQ below (va_Qi post (ga_E g) (ga_A g)) (ga_X g xp) args s mc ms (ga_A g)) (F0 m 0 ls [])
  suffices hgoal : W p l e ({ frames := 14, cells := mc, slots := ms, locals := 271 } : Room) s m args below meth c H locs cells slots (vx_MQ below (va_Qi post (ga_E g) (ga_A g)) (ga_X g xp) args s mc ms (ga_A g)) (F0 m 0 ls []) by rw [e0, e1] at hgoal; exact hgoal
  refine lv_aload_n hx hb dX2_addCart_0 rfl (lv_at hl 0 rfl) ?_
  obtain ⟨fs_1, v_2, hq, hv, hw⟩ := hw
  refine ga_get (ci := 1) (T := TX2) (v := va_rf v_2) hx hb hts hown hI in_X2 rfl 3 (by decide) q316 (fun _ z => z) (ga_at.h hq) hv dX2_addCart_1 ?_
  obtain ⟨a_3, ea_3, hw⟩ := hw
  rewrite [ea_3]
  obtain ⟨fs_4, hq, hw⟩ := hw
  refine ga_calli (va_runV (As := []) (rest := []) ⟨hx, hb, hml, hown, hts⟩ (gm_J2_size l g a_3 h _ hw) (cwV 0 hts (lw_V q2039 q536 q4117 q104 q537) rfl rfl rfl ⟨rfl, hdG_J2_size⟩ ⟨Nat.le_of_ble_eq_true rfl, Nat.le_of_ble_eq_true rfl⟩) (ga_preV hI hq rfl rfl) rfl rfl hl.1 rfl (ga_room (Nat.le_of_ble_eq_true rfl)) dX2_addCart_4 ⟨Nat.le_trans (Nat.add_le_add_left (Nat.zero_le _) _) hbc, Nat.le_trans (Nat.add_le_add_left (Nat.zero_le _) _) hbs⟩) hI hbc hbs (Nat.zero_le _) (Nat.zero_le _) (fun r_6 h_5 H locs cells slots hw hI hbc hbs => ?_)
  refine lv_iconst (v := 3) hx hb dX2_addCart_7 (by decide) ?_
  refine lv_icmp_ne (tgt := 15) hx hb dX2_addCart_8 (by decide) (fun hc_7 => ?_) (fun hc_7 => ?_)
  · have hw := hw.1 hc_7
    refine lv_iconst (v := 0) hx hb dX2_addCart_15 (by decide) ?_
    exact gj_X2_addCart_16 hst htab g post xp p0 (0 : Int32) p1 h_5 mc ms ⟨hx, hb, hml, hown, hts, hr, hlk, hnm⟩ hw hI hbc hbs (lv_sub hl [0, 1] rfl)
  · have hw := hw.2 hc_7
    refine lv_iconst (v := 1) hx hb dX2_addCart_11 (by decide) ?_
    refine lv_goto (tgt := 16) hx hb dX2_addCart_12 (by decide) ?_
    exact gj_X2_addCart_16 hst htab g post xp p0 (1 : Int32) p1 h_5 mc ms ⟨hx, hb, hml, hown, hts, hr, hlk, hnm⟩ hw hI hbc hbs (lv_sub hl [0, 1] rfl)
theorem hdG_X2_addCart : yX2_addCart.cls ≠ "java/lang/invoke/MethodHandle" ∧ yX2_addCart.cls ≠ "java/lang/invoke/VarHandle" ∧ (parseMethodDescriptor yX2_addCart.desc).map (fun d => d.parameters.length) = some 1 := by decide +kernel
def gw_X1_cart (K : ga_K) (p0 : Nat) (p1 : Int32) (h : ga_H) (mc ms : Nat) (post : Int32 → ga_H → Prop) (xp : String → Nat → ga_H → Prop) : Prop :=
  gw_X1_isIn p1 (10 : Int32) (60 : Int32) (fun (r_1 : Int32) => ∃ kc_2 ks_3 : Nat, kc_2 ≤ mc ∧ ks_3 ≤ ms ∧ gw_X1_checkArgument K r_1 h kc_2 ks_3 (fun (h_4 : ga_H) => ∃ (fs_8 : List Value) (v_9 : Option Nat), h_4 p0 = some (ga_O 0 fs_8) ∧ fs_8[0]? = some (va_rf v_9) ∧ (∃ a_10 : Nat, v_9 = some a_10 ∧ ∃ kc_11 ks_12 : Nat, kc_11 ≤ (mc - kc_2) ∧ ks_12 ≤ (ms - ks_3) ∧ ∃ fs_13 : List Value, ga_at K h_4 a_10 (ga_O 1 fs_13) ∧ gw_X2_copy K a_10 h_4 kc_11 ks_12 (fun (r_15 : Option Nat) (h_14 : ga_H) => ∃ a_16 : Nat, r_15 = some a_16 ∧ ∃ kc_17 ks_18 : Nat, kc_17 ≤ ((mc - kc_2) - kc_11) ∧ ks_18 ≤ ((ms - ks_3) - ks_12) ∧ ∃ fs_19 : List Value, ga_at K h_14 a_16 (ga_O 1 fs_19) ∧ gw_X2_addCart K a_16 p1 h_14 kc_17 ks_18 (fun (r_21 : Int32) (h_20 : ga_H) => ∃ kc_35 ks_36 : Nat, kc_35 ≤ (((mc - kc_2) - kc_11) - kc_17) ∧ ks_36 ≤ (((ms - ks_3) - ks_12) - ks_18) ∧ ∃ fs_37 : List Value, ga_at K h_20 p0 (ga_O 0 fs_37) ∧ gw_X1_become K p0 r_15 r_21 h_20 kc_35 ks_36 (fun (r_39 : Int32) (h_38 : ga_H) => post r_39 h_38)) (fun (E_22 : String) (q_23 : Nat) (h_24 : ga_H) => (E_22 = "PaperStore$Refusal" ∧ (∃ kc_25 ks_26 : Nat, kc_25 ≤ (((mc - kc_2) - kc_11) - kc_17) ∧ ks_26 ≤ (((ms - ks_3) - ks_12) - ks_18) ∧ ∃ fs_27 : List Value, ga_at K h_24 p0 (ga_O 0 fs_27) ∧ gw_X1_kept K p0 (some q_23) h_24 kc_25 ks_26 (fun (r_29 : Option Nat) (h_28 : ga_H) => ∃ a_33 : Nat, r_29 = some a_33 ∧ ∃ fs_34 : List Value, h_28 a_33 = some (ga_O 28 fs_34) ∧ (xp "java/lang/UnsupportedOperationException" a_33 h_28)) (fun (E_30 : String) (q_31 : Nat) (h_32 : ga_H) => False))))))) (fun (E_5 : String) (q_6 : Nat) (h_7 : ga_H) => (E_5 = "java/lang/IllegalArgumentException" ∧ (xp "java/lang/IllegalArgumentException" q_6 h_7))))
set_option maxHeartbeats 4000000 in
theorem gm_X1_cart (l : Launch) (hst : l.stackTraces = false) (g : ga_G) (p0 : Nat) (p1 : Int32) (h : ga_H) (mc ms : Nat) (post : Int32 → ga_H → Prop) (xp : String → Nat → ga_H → Prop) (hw : gw_X1_cart g.2.2 p0 p1 h mc ms post xp) : vx_Met l yX1_cart (wsW_ yX1_cart cX1_cart 4 (some .int) [(19, 31, 32, 25)]) ({ frames := 17, cells := mc, slots := ms, locals := 1389 } : Room) (va_Pc [.ref p0, .int p1] (ga_B g h)) (va_Qi post (ga_E g) (ga_A g)) (ga_X g xp) mc ms (ga_A g) := by
  refine ga_metxW (own := "PaperStore") (nm := "cart") (by decide) rfl rfl (by exact Nat.le_of_ble_eq_true rfl) (fun p e s m below meth c ls hC htab hI hl => ?_)
  have hl : lv_has ls 4 [(0, .ref p0), (1, .int p1)] := hl
  generalize ([.ref p0, .int p1] : List Value).toArray = args at hC ⊢
  obtain ⟨hx, hb, hml, hown, hts, hr, hlk, hnm⟩ := hC
  unfold gw_X1_cart at hw
  obtain ⟨H, eH⟩ : ∃ z, z = s.heap := ⟨_, rfl⟩
  obtain ⟨locs, elo⟩ : ∃ z : List Loc, z = [] := ⟨_, rfl⟩
  rw [← eH, ← elo] at hI ⊢
  obtain ⟨cells, slots, hbc, hbs, e0, e1⟩ : ∃ a b : Nat, a + mc ≤ mc ∧ b + ms ≤ ms ∧ a = 0 ∧ b = 0 := ⟨0, 0, by omega, by omega, rfl, rfl⟩
  show W p l e ({ frames := 17, cells := mc, slots := ms, locals := 1389 } : Room) s m args below meth c H locs 0 0 (vx_MQ below (va_Qi post (ga_E g) (ga_A g)) (ga_X g xp) args s mc ms (ga_A g)) (F0 m 0 ls [])
  suffices hgoal : W p l e ({ frames := 17, cells := mc, slots := ms, locals := 1389 } : Room) s m args below meth c H locs cells slots (vx_MQ below (va_Qi post (ga_E g) (ga_A g)) (ga_X g xp) args s mc ms (ga_A g)) (F0 m 0 ls []) by rw [e0, e1] at hgoal; exact hgoal
  refine lv_iload_n hx hb dX1_cart_0 rfl (lv_at hl 1 rfl) ?_
  refine lv_bipush (v := 10) hx hb dX1_cart_1 (by decide) ?_
  refine lv_bipush (v := 60) hx hb dX1_cart_3 (by decide) ?_
  refine ga_callS (As := [.int p1, .int (10 : Int32), .int (60 : Int32)]) (rest := []) ⟨hx, hb, hml, hown, hts⟩ (gm_X1_isIn l p1 (10 : Int32) (60 : Int32) _ hw) (va_cwS 3 hts (lw_S q2024 q2025 q100 q2026) rfl rfl rfl hdG_X1_isIn ⟨Nat.le_of_ble_eq_true rfl, Nat.le_of_ble_eq_true rfl⟩) rfl hl.1 rfl (ga_room (Nat.le_of_ble_eq_true rfl)) dX1_cart_5 hbc hbs (fun r_1 hw => ?_)
  obtain ⟨kc_2, ks_3, hk1, hk2, hw⟩ := hw
  refine ga_xcallv (vx_runS (As := [.int r_1]) (rest := []) ⟨hx, hb, hml, hown, hts⟩ (gm_X1_checkArgument l hst g r_1 h kc_2 ks_3 _ _ hw) (va_cwS 1 hts (lw_S q2027 q2028 q100 q2029) rfl rfl rfl hdG_X1_checkArgument ⟨Nat.le_of_ble_eq_true rfl, Nat.le_of_ble_eq_true rfl⟩) (ga_preS hI rfl) rfl rfl hl.1 rfl (ga_room (Nat.le_of_ble_eq_true rfl)) dX1_cart_8 ⟨Nat.le_trans (Nat.add_le_add_left hk1 _) hbc, Nat.le_trans (Nat.add_le_add_left hk2 _) hbs⟩) hI hbc hbs hk1 hk2 (fun E_5 q_6 h_7 ce H locs cells slots hw hI hce hbc hbs => ?_) (fun h_4 H locs cells slots hw hI hbc hbs => ?_)
  · obtain ⟨rfl, hw⟩ := hw
    exact ga_out hown hlk hI hw (by rw [htab]; exact (List.forall_mem_cons.mpr ⟨Or.inl rfl, fun _ h => absurd h List.not_mem_nil⟩)) hce (Nat.le_trans (Nat.le_add_right _ _) hbc) (Nat.le_trans (Nat.le_add_right _ _) hbs)
  · skip
    refine lv_aload_n hx hb dX1_cart_11 rfl (lv_at hl 0 rfl) ?_
    obtain ⟨fs_8, v_9, hq, hv, hw⟩ := hw
    refine ga_get (ci := 0) (T := TX1) (v := va_rf v_9) hx hb hts hown hI in_X1 rfl 0 (by decide) q387 (fun _ z => z) (ga_at.h hq) hv dX1_cart_12 ?_
    obtain ⟨a_10, ea_10, hw⟩ := hw
    rewrite [ea_10]
    obtain ⟨kc_11, ks_12, hk1, hk2, hw⟩ := hw
    obtain ⟨fs_13, hq, hw⟩ := hw
    refine ga_callq (va_runV (As := []) (rest := []) ⟨hx, hb, hml, hown, hts⟩ (gm_X2_copy l g a_10 h_4 kc_11 ks_12 _ hw) (cwV 0 hts (lw_V q1259 q1260 q1261 q101 q1262) rfl rfl rfl ⟨rfl, hdG_X2_copy⟩ ⟨Nat.le_of_ble_eq_true rfl, Nat.le_of_ble_eq_true rfl⟩) (ga_preV hI hq rfl rfl) rfl rfl hl.1 rfl (ga_room (Nat.le_of_ble_eq_true rfl)) dX1_cart_15 ⟨Nat.le_trans (Nat.add_le_add_left hk1 _) hbc, Nat.le_trans (Nat.add_le_add_left hk2 _) hbs⟩) hI hbc hbs hk1 hk2 (fun r_15 h_14 H locs cells slots hw hI hbc hbs => ?_)
    refine ga_astore_n (i := 2) (x := r_15) (lv' := [(2, va_rf r_15), (0, .ref p0), (1, .int p1)]) hx hb dX1_cart_18 rfl hl (by decide) rfl (fun ls hl => ?_)
    refine ga_aload_n hx hb dX1_cart_19 rfl (lv_at hl 0 rfl) ?_
    refine lv_iload_n hx hb dX1_cart_20 rfl (lv_at hl 2 rfl) ?_
    obtain ⟨a_16, ea_16, hw⟩ := hw
    rewrite [ea_16]
    obtain ⟨kc_17, ks_18, hk1, hk2, hw⟩ := hw
    obtain ⟨fs_19, hq, hw⟩ := hw
    refine ga_xcalli (vx_runV (As := [.int p1]) (rest := []) ⟨hx, hb, hml, hown, hts⟩ (gm_X2_addCart l hst g a_16 p1 h_14 kc_17 ks_18 _ _ hw) (cwV 1 hts (lw_V q2456 q2457 q2458 q101 q2459) rfl rfl rfl ⟨rfl, hdG_X2_addCart⟩ ⟨Nat.le_of_ble_eq_true rfl, Nat.le_of_ble_eq_true rfl⟩) (ga_preV hI hq rfl rfl) rfl rfl hl.1 rfl (ga_room (Nat.le_of_ble_eq_true rfl)) dX1_cart_21 ⟨Nat.le_trans (Nat.add_le_add_left hk1 _) hbc, Nat.le_trans (Nat.add_le_add_left hk2 _) hbs⟩) hI hbc hbs hk1 hk2 (fun E_22 q_23 h_24 ce H locs cells slots hw hI hce hbc hbs => ?_) (fun r_21 h_20 H locs cells slots hw hI hbc hbs => ?_)
    · obtain ⟨rfl, hw⟩ := hw
      refine ga_catch hown hts hI ([]) (⟨19, 31, 32, 25⟩) ([]) (by rw [htab]; rfl) (fun _ h => absurd h List.not_mem_nil) rfl (by decide) q2023 q2044 hce ?_
      refine W.eq (g2 := F0 m 32 ls [.ref q_23]) rfl ?_
      refine lv_astore_n (i := 3) (lv' := [(3, .ref q_23), (2, va_rf r_15), (0, .ref p0), (1, .int p1)]) hx hb dX1_cart_32 rfl hl (by decide) (by simp [ga_rcat, ga_cat_r, ga_cat_i, ga_cat_f, ga_cat_l, ga_cat_d]) (fun ls hl => ?_)
      refine lv_aload_n hx hb dX1_cart_33 rfl (lv_at hl 2 rfl) ?_
      refine lv_aload_n hx hb dX1_cart_34 rfl (lv_at hl 0 rfl) ?_
      obtain ⟨kc_25, ks_26, hk1, hk2, hw⟩ := hw
      obtain ⟨fs_27, hq, hw⟩ := hw
      refine ga_xcallq (vx_runV (As := [va_rf (some q_23)]) (rest := []) ⟨hx, hb, hml, hown, hts⟩ (gm_X1_kept l hst g p0 (some q_23) h_24 kc_25 ks_26 _ _ hw) (cwV 1 hts (lw_V q2083 q2085 qs10 q100 q2086) rfl rfl rfl ⟨rfl, hdG_X1_kept⟩ ⟨Nat.le_of_ble_eq_true rfl, Nat.le_of_ble_eq_true rfl⟩) (ga_preV hI hq rfl rfl) rfl rfl hl.1 rfl (ga_room (Nat.le_of_ble_eq_true rfl)) dX1_cart_35 ⟨Nat.le_trans (Nat.add_le_add_left hk1 _) hbc, Nat.le_trans (Nat.add_le_add_left hk2 _) hbs⟩) hI hbc hbs hk1 hk2 (fun E_30 q_31 h_32 ce H locs cells slots hw hI hce hbc hbs => ?_) (fun r_29 h_28 H locs cells slots hw hI hbc hbs => ?_)
      · exact hw.elim
      · skip
        obtain ⟨a_33, ea_33, hw⟩ := hw
        rewrite [ea_33]
        obtain ⟨fs_34, hq, hw⟩ := hw
        refine ga_athrow (ci := 28) hx hb hI (ga_at.h hq) rfl dX1_cart_38 (fun ce hce => ?_)
        exact ga_out hown hlk hI hw (by rw [htab]; exact (List.forall_mem_cons.mpr ⟨Or.inl rfl, fun _ h => absurd h List.not_mem_nil⟩)) hce (Nat.le_trans (Nat.le_add_right _ _) hbc) (Nat.le_trans (Nat.le_add_right _ _) hbs)
    · skip
      refine lv_istore_n (i := 3) (lv' := [(3, .int r_21), (2, va_rf r_15), (0, .ref p0), (1, .int p1)]) hx hb dX1_cart_24 rfl hl (by decide) (by simp [ga_rcat, ga_cat_r, ga_cat_i, ga_cat_f, ga_cat_l, ga_cat_d]) (fun ls hl => ?_)
      refine lv_aload_n hx hb dX1_cart_25 rfl (lv_at hl 2 rfl) ?_
      refine ga_aload_n hx hb dX1_cart_26 rfl (lv_at hl 1 rfl) ?_
      refine lv_iload_n hx hb dX1_cart_27 rfl (lv_at hl 0 rfl) ?_
      obtain ⟨kc_35, ks_36, hk1, hk2, hw⟩ := hw
      obtain ⟨fs_37, hq, hw⟩ := hw
      refine ga_calli (va_runV (As := [va_rf r_15, .int r_21]) (rest := []) ⟨hx, hb, hml, hown, hts⟩ (gm_X1_become l g p0 r_15 r_21 h_20 kc_35 ks_36 _ hw) (cwV 2 hts (lw_V q2070 q2072 qs8 q100 q2073) rfl rfl rfl ⟨rfl, hdG_X1_become⟩ ⟨Nat.le_of_ble_eq_true rfl, Nat.le_of_ble_eq_true rfl⟩) (ga_preV hI hq rfl rfl) rfl rfl hl.1 rfl (ga_room (Nat.le_of_ble_eq_true rfl)) dX1_cart_28 ⟨Nat.le_trans (Nat.add_le_add_left hk1 _) hbc, Nat.le_trans (Nat.add_le_add_left hk2 _) hbs⟩) hI hbc hbs hk1 hk2 (fun r_39 h_38 H locs cells slots hw hI hbc hbs => ?_)
      exact ga_iretx hx hb hr rfl hlk hI hw (Nat.le_trans (Nat.le_add_right _ _) hbc) (Nat.le_trans (Nat.le_add_right _ _) hbs) dX1_cart_31
theorem hdG_X1_cart : yX1_cart.cls ≠ "java/lang/invoke/MethodHandle" ∧ yX1_cart.cls ≠ "java/lang/invoke/VarHandle" ∧ (parseMethodDescriptor yX1_cart.desc).map (fun d => d.parameters.length) = some 1 := by decide +kernel
def gw_X0_cart (K : ga_K) (p0 : Option Nat) (p1 : Int32) (p2 : Option Nat) (h : ga_H) (mc ms : Nat) (post : Int32 → ga_H → Prop) (xp : String → Nat → ga_H → Prop) : Prop :=
  ∃ a_1 : Nat, p0 = some a_1 ∧ ∃ kc_2 ks_3 : Nat, kc_2 ≤ mc ∧ ks_3 ≤ ms ∧ ∃ fs_4 : List Value, ga_at K h a_1 (ga_O 0 fs_4) ∧ gw_X1_cart K a_1 p1 h kc_2 ks_3 (fun (r_6 : Int32) (h_5 : ga_H) => ∃ a_10 : Nat, p2 = some a_10 ∧ ∃ (n_11 : Nat) (f_12 : Nat → Int64), h_5 a_10 = some (ga_Al n_11 f_12) ∧ vp_in (0 : Int32) n_11 ∧ ∀ h_13 : ga_H, h_13 = ga_set h_5 a_10 (ga_Al n_11 (vp_updL f_12 (0 : Int32).toNatClampNeg r_6.toInt64)) → (post (0 : Int32) h_13)) (fun (E_7 : String) (q_8 : Nat) (h_9 : ga_H) => (E_7 = "java/lang/IllegalArgumentException" ∧ (post (1 : Int32) h_9)) ∨ (E_7 = "java/lang/UnsupportedOperationException" ∧ (post (2 : Int32) h_9)))
set_option maxHeartbeats 4000000 in
theorem gm_X0_cart (l : Launch) (hst : l.stackTraces = false) (g : ga_G) (p0 : Option Nat) (p1 : Int32) (p2 : Option Nat) (h : ga_H) (mc ms : Nat) (post : Int32 → ga_H → Prop) (xp : String → Nat → ga_H → Prop) (hw : gw_X0_cart g.2.2 p0 p1 p2 h mc ms post xp) : vx_Met l yX0_cart (wsW_ yX0_cart cX0_cart 4 (some .int) [(0, 9, 12, 13), (0, 9, 15, 15)]) ({ frames := 18, cells := mc, slots := ms, locals := 1412 } : Room) (va_Pc [va_rf p0, .int p1, va_rf p2] (ga_B g h)) (va_Qi post (ga_E g) (ga_A g)) (ga_X g xp) mc ms (ga_A g) := by
  refine ga_metxW (own := "PaperStoreLaw") (nm := "cart") (by decide) rfl rfl (by cases p0 <;> cases p2 <;> exact Nat.le_of_ble_eq_true rfl) (fun p e s m below meth c ls hC htab hI hl => ?_)
  have hl : lv_has ls 4 [(0, va_rf p0), (1, .int p1), (2, va_rf p2)] := (by cases p0 <;> cases p2 <;> exact hl)
  generalize ([va_rf p0, .int p1, va_rf p2] : List Value).toArray = args at hC ⊢
  obtain ⟨hx, hb, hml, hown, hts, hr, hlk, hnm⟩ := hC
  unfold gw_X0_cart at hw
  obtain ⟨H, eH⟩ : ∃ z, z = s.heap := ⟨_, rfl⟩
  obtain ⟨locs, elo⟩ : ∃ z : List Loc, z = [] := ⟨_, rfl⟩
  rw [← eH, ← elo] at hI ⊢
  obtain ⟨cells, slots, hbc, hbs, e0, e1⟩ : ∃ a b : Nat, a + mc ≤ mc ∧ b + ms ≤ ms ∧ a = 0 ∧ b = 0 := ⟨0, 0, by omega, by omega, rfl, rfl⟩
  show W p l e ({ frames := 18, cells := mc, slots := ms, locals := 1412 } : Room) s m args below meth c H locs 0 0 (vx_MQ below (va_Qi post (ga_E g) (ga_A g)) (ga_X g xp) args s mc ms (ga_A g)) (F0 m 0 ls [])
  suffices hgoal : W p l e ({ frames := 18, cells := mc, slots := ms, locals := 1412 } : Room) s m args below meth c H locs cells slots (vx_MQ below (va_Qi post (ga_E g) (ga_A g)) (ga_X g xp) args s mc ms (ga_A g)) (F0 m 0 ls []) by rw [e0, e1] at hgoal; exact hgoal
  refine ga_aload_n hx hb dX0_cart_0 rfl (lv_at hl 2 rfl) ?_
  refine lv_iconst (v := 0) hx hb dX0_cart_1 (by decide) ?_
  refine ga_aload_n hx hb dX0_cart_2 rfl (lv_at hl 0 rfl) ?_
  refine lv_iload_n hx hb dX0_cart_3 rfl (lv_at hl 1 rfl) ?_
  obtain ⟨a_1, ea_1, hw⟩ := hw
  rewrite [ea_1]
  obtain ⟨kc_2, ks_3, hk1, hk2, hw⟩ := hw
  obtain ⟨fs_4, hq, hw⟩ := hw
  refine ga_xcalli (vx_runVX (As := [.int p1]) (rest := [.int (0 : Int32), va_rf p2]) ⟨hx, hb, hml, hown, hts⟩ (gm_X1_cart l hst g a_1 p1 h kc_2 ks_3 _ _ hw) (vx_cwVW 1 hts (lw_VW q2452 q2453 q2454 q100 q2455) rfl rfl rfl ⟨rfl, hdG_X1_cart⟩ ⟨Nat.le_of_ble_eq_true rfl, Nat.le_of_ble_eq_true rfl⟩) (ga_preV hI hq rfl rfl) rfl rfl hl.1 rfl (ga_room (Nat.le_of_ble_eq_true rfl)) dX0_cart_4 ⟨Nat.le_trans (Nat.add_le_add_left hk1 _) hbc, Nat.le_trans (Nat.add_le_add_left hk2 _) hbs⟩) hI hbc hbs hk1 hk2 (fun E_7 q_8 h_9 ce H locs cells slots hw hI hce hbc hbs => ?_) (fun r_6 h_5 H locs cells slots hw hI hbc hbs => ?_)
  · rcases hw with ⟨rfl, hw⟩ | ⟨rfl, hw⟩
    · skip
      refine ga_catch hown hts hI ([]) (⟨0, 9, 12, 13⟩) ([⟨0, 9, 15, 15⟩]) (by rw [htab]; rfl) (fun _ h => absurd h List.not_mem_nil) rfl (by decide) q2017 q1054 hce ?_
      refine W.eq (g2 := F0 m 12 ls [.ref q_8]) rfl ?_
      refine lv_astore_n (i := 3) (lv' := [(3, .ref q_8), (0, va_rf p0), (1, .int p1), (2, va_rf p2)]) hx hb dX0_cart_12 rfl hl (by decide) (by simp [ga_rcat, ga_cat_r, ga_cat_i, ga_cat_f, ga_cat_l, ga_cat_d]) (fun ls hl => ?_)
      refine lv_iconst (v := 1) hx hb dX0_cart_13 (by decide) ?_
      exact ga_iretx hx hb hr rfl hlk hI hw (Nat.le_trans (Nat.le_add_right _ _) hbc) (Nat.le_trans (Nat.le_add_right _ _) hbs) dX0_cart_14
    · skip
      refine ga_catch hown hts hI ([⟨0, 9, 12, 13⟩]) (⟨0, 9, 15, 15⟩) ([]) (by rw [htab]; rfl) (List.forall_mem_cons.mpr ⟨Or.inr ⟨by decide, ga_ncs hts hI q2017 (List.mem_of_getElem? (i := 3) rfl)⟩, fun _ h => absurd h List.not_mem_nil⟩) rfl (by decide) q2018 q2089 hce ?_
      refine W.eq (g2 := F0 m 15 ls [.ref q_8]) rfl ?_
      refine lv_astore_n (i := 3) (lv' := [(3, .ref q_8), (0, va_rf p0), (1, .int p1), (2, va_rf p2)]) hx hb dX0_cart_15 rfl hl (by decide) (by simp [ga_rcat, ga_cat_r, ga_cat_i, ga_cat_f, ga_cat_l, ga_cat_d]) (fun ls hl => ?_)
      refine lv_iconst (v := 2) hx hb dX0_cart_16 (by decide) ?_
      exact ga_iretx hx hb hr rfl hlk hI hw (Nat.le_trans (Nat.le_add_right _ _) hbc) (Nat.le_trans (Nat.le_add_right _ _) hbs) dX0_cart_17
  · skip
    refine lv_i2l (v := r_6.toInt64) hx hb dX0_cart_7 rfl ?_
    obtain ⟨a_10, ea_10, hw⟩ := hw
    rewrite [ea_10]
    obtain ⟨n_11, f_12, hq, hi, hw⟩ := hw
    refine ga_stl hx hb hI hq hi dX0_cart_8 (fun H locs hI => ?_)
    obtain ⟨h_13, eh_13⟩ : ∃ z, z = ga_set h_5 a_10 (ga_Al n_11 (vp_updL f_12 (0 : Int32).toNatClampNeg r_6.toInt64)) := ⟨_, rfl⟩
    rw [← eh_13] at hI
    have hw := hw h_13 eh_13
    refine lv_goto (tgt := 18) hx hb dX0_cart_9 (by decide) ?_
    refine lv_iconst (v := 0) hx hb dX0_cart_18 (by decide) ?_
    exact ga_iretx hx hb hr rfl hlk hI hw (Nat.le_trans (Nat.le_add_right _ _) hbc) (Nat.le_trans (Nat.le_add_right _ _) hbs) dX0_cart_19
theorem hdG_X0_cart : yX0_cart.cls ≠ "java/lang/invoke/MethodHandle" ∧ yX0_cart.cls ≠ "java/lang/invoke/VarHandle" ∧ (parseMethodDescriptor yX0_cart.desc).map (fun d => d.parameters.length) = some 3 := by decide +kernel
def gw_X2_isCart (K : ga_K) (p0 : Nat) (p1 : Int32) (h : ga_H) (post : Int32 → ga_H → Prop) : Prop :=
  ∃ (fs_1 : List Value) (v_2 : Option Nat), h p0 = some (ga_O 1 fs_1) ∧ fs_1[3]? = some (va_rf v_2) ∧ (∃ a_3 : Nat, v_2 = some a_3 ∧ ∃ fs_4 : List Value, ga_at K h a_3 (ga_O 13 fs_4) ∧ gw_J2_size K a_3 h (fun (r_6 : Int32) (h_5 : ga_H) => gw_X1_isIn p1 (0 : Int32) (r_6 - (1 : Int32)) (fun (r_7 : Int32) => zt_nar .boolean r_7 ∧ post r_7 h_5)))
set_option maxHeartbeats 4000000 in
theorem gm_X2_isCart (l : Launch) (g : ga_G) (p0 : Nat) (p1 : Int32) (h : ga_H) (post : Int32 → ga_H → Prop) (hw : gw_X2_isCart g.2.2 p0 p1 h post) : Met l yX2_isCart (ws_ yX2_isCart cX2_isCart 2 (some .boolean)) ({ frames := 9, cells := 0, slots := 0, locals := 162 } : Room) (va_Pc [.ref p0, .int p1] (ga_B g h)) (va_Qi post (ga_E g) (ga_A g)) 0 0 (ga_A g) := by
  refine ga_met (own := "PaperStore$Store") (nm := "isCart") (by decide) rfl rfl (by exact Nat.le_of_ble_eq_true rfl) (fun p e s m below meth c ls hC hI hl => ?_)
  have hl : lv_has ls 2 [(0, .ref p0), (1, .int p1)] := hl
  generalize ([.ref p0, .int p1] : List Value).toArray = args at hC ⊢
  obtain ⟨hx, hb, hml, hown, hts, hr, hlk, hnm⟩ := hC
  unfold gw_X2_isCart at hw
  obtain ⟨H, eH⟩ : ∃ z, z = s.heap := ⟨_, rfl⟩
  obtain ⟨locs, elo⟩ : ∃ z : List Loc, z = [] := ⟨_, rfl⟩
  rw [← eH, ← elo] at hI ⊢
  obtain ⟨cells, slots, hbc, hbs, e0, e1⟩ : ∃ a b : Nat, a ≤ 0 ∧ b ≤ 0 ∧ a = 0 ∧ b = 0 := ⟨0, 0, by omega, by omega, rfl, rfl⟩
  show W p l e ({ frames := 9, cells := 0, slots := 0, locals := 162 } : Room) s m args below meth c H locs 0 0 (MQ below (va_Qi post (ga_E g) (ga_A g)) args s 0 0 (ga_A g)) (F0 m 0 ls [])
  suffices hgoal : W p l e ({ frames := 9, cells := 0, slots := 0, locals := 162 } : Room) s m args below meth c H locs cells slots (MQ below (va_Qi post (ga_E g) (ga_A g)) args s 0 0 (ga_A g)) (F0 m 0 ls []) by rw [e0, e1] at hgoal; exact hgoal
  refine lv_iload_n hx hb dX2_isCart_0 rfl (lv_at hl 1 rfl) ?_
  refine lv_iconst (v := 0) hx hb dX2_isCart_1 (by decide) ?_
  refine lv_aload_n hx hb dX2_isCart_2 rfl (lv_at hl 0 rfl) ?_
  obtain ⟨fs_1, v_2, hq, hv, hw⟩ := hw
  refine ga_get (ci := 1) (T := TX2) (v := va_rf v_2) hx hb hts hown hI in_X2 rfl 3 (by decide) q316 (fun _ z => z) (ga_at.h hq) hv dX2_isCart_3 ?_
  obtain ⟨a_3, ea_3, hw⟩ := hw
  rewrite [ea_3]
  obtain ⟨fs_4, hq, hw⟩ := hw
  refine ga_calli (va_runV (As := []) (rest := [.int (0 : Int32), .int p1]) ⟨hx, hb, hml, hown, hts⟩ (gm_J2_size l g a_3 h _ hw) (cwV 0 hts (lw_V q2039 q536 q4117 q104 q537) rfl rfl rfl ⟨rfl, hdG_J2_size⟩ ⟨Nat.le_of_ble_eq_true rfl, Nat.le_of_ble_eq_true rfl⟩) (ga_preV hI hq rfl rfl) rfl rfl hl.1 rfl (ga_room (Nat.le_of_ble_eq_true rfl)) dX2_isCart_6 ⟨hbc, hbs⟩) hI (bc := 0) (bs := 0) hbc hbs (Nat.zero_le _) (Nat.zero_le _) (fun r_6 h_5 H locs cells slots hw hI hbc hbs => ?_)
  refine lv_iconst (v := 1) hx hb dX2_isCart_9 (by decide) ?_
  refine lv_isub hx hb dX2_isCart_10 ?_
  refine ga_callSN (As := [.int p1, .int (0 : Int32), .int (r_6 - (1 : Int32))]) (rest := []) ⟨hx, hb, hml, hown, hts⟩ (gm_X1_isIn l p1 (0 : Int32) (r_6 - (1 : Int32)) _ hw) (⟨va_cnB 3 hts (lw_meth q2026) rfl rfl rfl (hI.2.1.1.2.1 _ (ga_nin q2133 rfl)) (hts _ q100) hdG_X1_isIn ⟨Nat.le_of_ble_eq_true rfl, Nat.le_of_ble_eq_true rfl⟩, hts _ q2025, trivial⟩) rfl hl.1 rfl (ga_room (Nat.le_of_ble_eq_true rfl)) dX2_isCart_11 (bc := 0) (bs := 0) hbc hbs (fun r_7 hw => ?_)
  exact ga_iret hx hb hr hw.1 hlk hI hw.2 hbc hbs dX2_isCart_14
theorem hdG_X2_isCart : yX2_isCart.cls ≠ "java/lang/invoke/MethodHandle" ∧ yX2_isCart.cls ≠ "java/lang/invoke/VarHandle" ∧ (parseMethodDescriptor yX2_isCart.desc).map (fun d => d.parameters.length) = some 1 := by decide +kernel
def gw_X4_offers (K : ga_K) (p0 : Nat) (p1 : Option Nat) (h : ga_H) (post : Int32 → ga_H → Prop) : Prop :=
  ∃ fs_1 : List Value, ga_at K h p0 (ga_O 3 fs_1) ∧ gw_X4_top K p0 h (fun (r_3 : Option Nat) (h_2 : ga_H) => (r_3 = none → (post (0 : Int32) h_2)) ∧ (∀ a_4 : Nat, r_3 = some a_4 → (∃ a_5 : Nat, r_3 = some a_5 ∧ ∃ fs_6 : List Value, ga_at K h_2 a_5 (ga_O 4 fs_6) ∧ gw_X6_isGood K a_5 p1 h_2 (fun (r_8 : Int32) (h_7 : ga_H) => (r_8 = (0 : Int32) → (post (0 : Int32) h_7)) ∧ (¬ r_8 = (0 : Int32) → (∃ a_10 : Nat, r_3 = some a_10 ∧ ∃ (fs_11 : List Value) (v_12 : Int32), h_7 a_10 = some (ga_O 4 fs_11) ∧ fs_11[2]? = some (.int v_12) ∧ (post v_12 h_7)))))))
set_option maxHeartbeats 4000000 in
theorem gm_X4_offers (l : Launch) (g : ga_G) (p0 : Nat) (p1 : Option Nat) (h : ga_H) (post : Int32 → ga_H → Prop) (hw : gw_X4_offers g.2.2 p0 p1 h post) : Met l yX4_offers (ws_ yX4_offers cX4_offers 3 (some .int)) ({ frames := 12, cells := 0, slots := 0, locals := 224 } : Room) (va_Pc [.ref p0, va_rf p1] (ga_B g h)) (va_Qi post (ga_E g) (ga_A g)) 0 0 (ga_A g) := by
  refine ga_met (own := "PaperStore$Shelf") (nm := "offers") (by decide) rfl rfl (by cases p1 <;> exact Nat.le_of_ble_eq_true rfl) (fun p e s m below meth c ls hC hI hl => ?_)
  have hl : lv_has ls 3 [(0, .ref p0), (1, va_rf p1)] := (by cases p1 <;> exact hl)
  generalize ([.ref p0, va_rf p1] : List Value).toArray = args at hC ⊢
  obtain ⟨hx, hb, hml, hown, hts, hr, hlk, hnm⟩ := hC
  unfold gw_X4_offers at hw
  obtain ⟨H, eH⟩ : ∃ z, z = s.heap := ⟨_, rfl⟩
  obtain ⟨locs, elo⟩ : ∃ z : List Loc, z = [] := ⟨_, rfl⟩
  rw [← eH, ← elo] at hI ⊢
  obtain ⟨cells, slots, hbc, hbs, e0, e1⟩ : ∃ a b : Nat, a ≤ 0 ∧ b ≤ 0 ∧ a = 0 ∧ b = 0 := ⟨0, 0, by omega, by omega, rfl, rfl⟩
  show W p l e ({ frames := 12, cells := 0, slots := 0, locals := 224 } : Room) s m args below meth c H locs 0 0 (MQ below (va_Qi post (ga_E g) (ga_A g)) args s 0 0 (ga_A g)) (F0 m 0 ls [])
  suffices hgoal : W p l e ({ frames := 12, cells := 0, slots := 0, locals := 224 } : Room) s m args below meth c H locs cells slots (MQ below (va_Qi post (ga_E g) (ga_A g)) args s 0 0 (ga_A g)) (F0 m 0 ls []) by rw [e0, e1] at hgoal; exact hgoal
  refine lv_aload_n hx hb dX4_offers_0 rfl (lv_at hl 0 rfl) ?_
  obtain ⟨fs_1, hq, hw⟩ := hw
  refine ga_callq (va_runV (As := []) (rest := []) ⟨hx, hb, hml, hown, hts⟩ (gm_X4_top l g p0 h _ hw) (cwV 0 hts (lw_V q2376 q2262 q2263 q108 q2264) rfl rfl rfl ⟨rfl, hdG_X4_top⟩ ⟨Nat.le_of_ble_eq_true rfl, Nat.le_of_ble_eq_true rfl⟩) (ga_preV hI hq rfl rfl) rfl rfl hl.1 rfl (ga_room (Nat.le_of_ble_eq_true rfl)) dX4_offers_1 ⟨hbc, hbs⟩) hI (bc := 0) (bs := 0) hbc hbs (Nat.zero_le _) (Nat.zero_le _) (fun r_3 h_2 H locs cells slots hw hI hbc hbs => ?_)
  refine ga_astore_n (i := 2) (x := r_3) (lv' := [(2, va_rf r_3), (0, .ref p0), (1, va_rf p1)]) hx hb dX4_offers_4 rfl hl (by decide) (by simp [ga_rcat, ga_cat_r, ga_cat_i, ga_cat_f, ga_cat_l, ga_cat_d]) (fun ls hl => ?_)
  refine ga_aload_n hx hb dX4_offers_5 rfl (lv_at hl 0 rfl) ?_
  refine ga_ifnull (tgt := 24) hx hb dX4_offers_6 (by decide) (fun hc_a_4 => ?_) (fun a_4 hc_a_4 => ?_)
  · have hw := hw.1 hc_a_4
    refine lv_iconst (v := 0) hx hb dX4_offers_24 (by decide) ?_
    exact ga_iret hx hb hr rfl hlk hI hw hbc hbs dX4_offers_25
  · have hw := hw.2 a_4 hc_a_4
    skip
    refine ga_aload_n hx hb dX4_offers_9 rfl (lv_at hl 0 rfl) ?_
    refine ga_aload_n hx hb dX4_offers_10 rfl (lv_at hl 2 rfl) ?_
    obtain ⟨a_5, ea_5, hw⟩ := hw
    rewrite [ea_5]
    obtain ⟨fs_6, hq, hw⟩ := hw
    refine ga_calli (va_runV (As := [va_rf p1]) (rest := []) ⟨hx, hb, hml, hown, hts⟩ (gm_X6_isGood l g a_5 p1 h_2 _ hw) (cwV 1 hts (lw_V q2488 q2489 q2490 q137 q2491) rfl rfl rfl ⟨rfl, hdG_X6_isGood⟩ ⟨Nat.le_of_ble_eq_true rfl, Nat.le_of_ble_eq_true rfl⟩) (ga_preV hI hq rfl rfl) rfl rfl hl.1 rfl (ga_room (Nat.le_of_ble_eq_true rfl)) dX4_offers_11 ⟨hbc, hbs⟩) hI (bc := 0) (bs := 0) hbc hbs (Nat.zero_le _) (Nat.zero_le _) (fun r_8 h_7 H locs cells slots hw hI hbc hbs => ?_)
    refine lv_if_eq (tgt := 24) hx hb dX4_offers_14 (by decide) (fun hc_9 => ?_) (fun hc_9 => ?_)
    · have hw := hw.1 hc_9
      refine lv_iconst (v := 0) hx hb dX4_offers_24 (by decide) ?_
      exact ga_iret hx hb hr rfl hlk hI hw hbc hbs dX4_offers_25
    · have hw := hw.2 hc_9
      refine ga_aload_n hx hb dX4_offers_17 rfl (lv_at hl 0 rfl) ?_
      obtain ⟨a_10, ea_10, hw⟩ := hw
      rewrite [ea_10]
      obtain ⟨fs_11, v_12, hq, hv, hw⟩ := hw
      refine ga_getN (ci := 4) (T := TX6) (v := .int v_12) hx hb hts hown hI in_X6 rfl 2 (by decide) q1300 (fun _ z => z) (ga_at.h hq) hv dX4_offers_18 ?_
      refine lv_goto (tgt := 25) hx hb dX4_offers_21 (by decide) ?_
      exact ga_iret hx hb hr rfl hlk hI hw hbc hbs dX4_offers_25
theorem hdG_X4_offers : yX4_offers.cls ≠ "java/lang/invoke/MethodHandle" ∧ yX4_offers.cls ≠ "java/lang/invoke/VarHandle" ∧ (parseMethodDescriptor yX4_offers.desc).map (fun d => d.parameters.length) = some 1 := by decide +kernel
def gw_X3_gathers (K : ga_K) (p0 : Nat) (p1 : Option Nat) (p2 : Int32) (p3 : Int32) (p4 : Int32) (h : ga_H) (post : Int32 → ga_H → Prop) : Prop :=
  ∃ (In_1 : Int32 → Int32 → ga_H → Prop) (mu_1 : Int32 → Int32 → ga_H → Nat), In_1 (0 : Int32) (0 : Int32) h ∧ ∀ (x5_1 : Int32) (x6_1 : Int32) (h_1 : ga_H), In_1 x5_1 x6_1 h_1 → ((p2 ≤ x6_1 → (post x5_1 h_1)) ∧ (¬ p2 ≤ x6_1 → (∃ (fs_3 : List Value) (v_4 : Option Nat), h_1 p0 = some (ga_O 2 fs_3) ∧ fs_3[0]? = some (va_rf v_4) ∧ (∃ a_5 : Nat, v_4 = some a_5 ∧ ∃ (n_6 : Nat) (f_7 : Nat → Option Nat), h_1 a_5 = some (ga_Aq 7 n_6 f_7) ∧ vp_in x6_1 n_6 ∧ ∀ v_8 : Option Nat, v_8 = f_7 x6_1.toNatClampNeg → (∃ a_9 : Nat, v_8 = some a_9 ∧ ∃ fs_10 : List Value, ga_at K h_1 a_9 (ga_O 3 fs_10) ∧ gw_X4_offers K a_9 p1 h_1 (fun (r_12 : Int32) (h_11 : ga_H) => ∀ r_13 : Int32, r_13 = (if r_12 < (p3 - x5_1) then r_12 else (p3 - x5_1)) → ((p4 = (0 : Int32) → (In_1 (x5_1 + r_13) (x6_1 + (1 : Int32)) h_11 ∧ mu_1 (x5_1 + r_13) (x6_1 + (1 : Int32)) h_11 < mu_1 x5_1 x6_1 h_1)) ∧ (¬ p4 = (0 : Int32) → ((r_13 ≤ (0 : Int32) → (In_1 (x5_1 + r_13) (x6_1 + (1 : Int32)) h_11 ∧ mu_1 (x5_1 + r_13) (x6_1 + (1 : Int32)) h_11 < mu_1 x5_1 x6_1 h_1)) ∧ (¬ r_13 ≤ (0 : Int32) → (∃ (fs_16 : List Value) (v_17 : Option Nat), h_11 p0 = some (ga_O 2 fs_16) ∧ fs_16[0]? = some (va_rf v_17) ∧ (∃ a_18 : Nat, v_17 = some a_18 ∧ ∃ (n_19 : Nat) (f_20 : Nat → Option Nat), h_11 a_18 = some (ga_Aq 7 n_19 f_20) ∧ vp_in x6_1 n_19 ∧ ∀ v_21 : Option Nat, v_21 = f_20 x6_1.toNatClampNeg → (∃ (fs_22 : List Value) (v_23 : Option Nat), h_11 p0 = some (ga_O 2 fs_22) ∧ fs_22[0]? = some (va_rf v_23) ∧ (∃ a_24 : Nat, v_23 = some a_24 ∧ ∃ (n_25 : Nat) (f_26 : Nat → Option Nat), h_11 a_24 = some (ga_Aq 7 n_25 f_26) ∧ vp_in x6_1 n_25 ∧ ∀ v_27 : Option Nat, v_27 = f_26 x6_1.toNatClampNeg → (∃ a_28 : Nat, v_27 = some a_28 ∧ ∃ fs_29 : List Value, ga_at K h_11 a_28 (ga_O 3 fs_29) ∧ gw_X4_top K a_28 h_11 (fun (r_31 : Option Nat) (h_30 : ga_H) => ∃ a_32 : Nat, v_21 = some a_32 ∧ ∃ fs_33 : List Value, ga_at K h_30 a_32 (ga_O 3 fs_33) ∧ gw_X4_takes K a_32 r_31 r_13 h_30 (fun (h_34 : ga_H) => In_1 (x5_1 + r_13) (x6_1 + (1 : Int32)) h_34 ∧ mu_1 (x5_1 + r_13) (x6_1 + (1 : Int32)) h_34 < mu_1 x5_1 x6_1 h_1)))))))))))))))))
set_option maxHeartbeats 4000000 in
theorem gm_X3_gathers (l : Launch) (g : ga_G) (p0 : Nat) (p1 : Option Nat) (p2 : Int32) (p3 : Int32) (p4 : Int32) (h : ga_H) (post : Int32 → ga_H → Prop) (hw : gw_X3_gathers g.2.2 p0 p1 p2 p3 p4 h post) : Met l yX3_gathers (ws_ yX3_gathers cX3_gathers 8 (some .int)) ({ frames := 13, cells := 0, slots := 0, locals := 246 } : Room) (va_Pc [.ref p0, va_rf p1, .int p2, .int p3, .int p4] (ga_B g h)) (va_Qi post (ga_E g) (ga_A g)) 0 0 (ga_A g) := by
  refine ga_met (own := "PaperStore$Aisle") (nm := "gathers") (by decide) rfl rfl (by cases p1 <;> exact Nat.le_of_ble_eq_true rfl) (fun p e s m below meth c ls hC hI hl => ?_)
  have hl : lv_has ls 8 [(0, .ref p0), (1, va_rf p1), (2, .int p2), (3, .int p3), (4, .int p4)] := (by cases p1 <;> exact hl)
  generalize ([.ref p0, va_rf p1, .int p2, .int p3, .int p4] : List Value).toArray = args at hC ⊢
  obtain ⟨hx, hb, hml, hown, hts, hr, hlk, hnm⟩ := hC
  unfold gw_X3_gathers at hw
  obtain ⟨H, eH⟩ : ∃ z, z = s.heap := ⟨_, rfl⟩
  obtain ⟨locs, elo⟩ : ∃ z : List Loc, z = [] := ⟨_, rfl⟩
  rw [← eH, ← elo] at hI ⊢
  obtain ⟨cells, slots, hbc, hbs, e0, e1⟩ : ∃ a b : Nat, a ≤ 0 ∧ b ≤ 0 ∧ a = 0 ∧ b = 0 := ⟨0, 0, by omega, by omega, rfl, rfl⟩
  show W p l e ({ frames := 13, cells := 0, slots := 0, locals := 246 } : Room) s m args below meth c H locs 0 0 (MQ below (va_Qi post (ga_E g) (ga_A g)) args s 0 0 (ga_A g)) (F0 m 0 ls [])
  suffices hgoal : W p l e ({ frames := 13, cells := 0, slots := 0, locals := 246 } : Room) s m args below meth c H locs cells slots (MQ below (va_Qi post (ga_E g) (ga_A g)) args s 0 0 (ga_A g)) (F0 m 0 ls []) by rw [e0, e1] at hgoal; exact hgoal
  refine lv_iconst (v := 0) hx hb dX3_gathers_0 (by decide) ?_
  refine lv_istore (lv' := [(5, .int (0 : Int32)), (0, .ref p0), (1, va_rf p1), (2, .int p2), (3, .int p3), (4, .int p4)]) hx hb dX3_gathers_1 hl (by decide) rfl (fun ls hl => ?_)
  refine lv_iconst (v := 0) hx hb dX3_gathers_3 (by decide) ?_
  refine lv_istore (lv' := [(6, .int (0 : Int32)), (5, .int (0 : Int32)), (0, .ref p0), (1, va_rf p1), (2, .int p2), (3, .int p3), (4, .int p4)]) hx hb dX3_gathers_4 hl (by decide) rfl (fun ls hl => ?_)
  obtain ⟨In_1, mu_1, h0_1, hw⟩ := hw
  have hL_1 : ∀ (n : Nat) (x5_1 : Int32) (x6_1 : Int32) (h_1 : ga_H) (H : Heap) (locs : List Loc) (cells slots : Nat) (ls : Array Slot), mu_1 x5_1 x6_1 h_1 < n → In_1 x5_1 x6_1 h_1 → ga_I g h_1 s H locs → cells ≤ 0 → slots ≤ 0 → lv_has ls 8 [(0, .ref p0), (1, va_rf p1), (2, .int p2), (3, .int p3), (4, .int p4), (5, .int x5_1), (6, .int x6_1)] → W p l e ({ frames := 13, cells := 0, slots := 0, locals := 246 } : Room) s m args below meth c H locs cells slots (MQ below (va_Qi post (ga_E g) (ga_A g)) args s 0 0 (ga_A g)) (F0 m 6 ls []) := by
    intro n
    induction n with
    | zero => intro x5_1 x6_1 h_1 H locs cells slots ls hn _ _ _ _ _; exact absurd hn (Nat.not_lt_zero _)
    | succ n ih_1 =>
      intro x5_1 x6_1 h_1 H locs cells slots ls hn_1 hi_1 hI hbc hbs hl
      have hw := hw x5_1 x6_1 h_1 hi_1
      refine lv_iload hx hb dX3_gathers_6 (lv_at hl 6 rfl) ?_
      refine lv_iload_n hx hb dX3_gathers_8 rfl (lv_at hl 2 rfl) ?_
      refine lv_icmp_ge (tgt := 77) hx hb dX3_gathers_9 (by decide) (fun hc_2 => ?_) (fun hc_2 => ?_)
      · have hw := hw.1 hc_2
        refine lv_iload hx hb dX3_gathers_77 (lv_at hl 5 rfl) ?_
        exact ga_iret hx hb hr rfl hlk hI hw hbc hbs dX3_gathers_79
      · have hw := hw.2 hc_2
        refine lv_iload_n hx hb dX3_gathers_12 rfl (lv_at hl 3 rfl) ?_
        refine lv_iload hx hb dX3_gathers_13 (lv_at hl 5 rfl) ?_
        refine lv_isub hx hb dX3_gathers_15 ?_
        refine lv_aload_n hx hb dX3_gathers_16 rfl (lv_at hl 0 rfl) ?_
        obtain ⟨fs_3, v_4, hq, hv, hw⟩ := hw
        refine ga_get (ci := 2) (T := TX3) (v := va_rf v_4) hx hb hts hown hI in_X3 rfl 0 (by decide) q279 (fun _ z => z) (ga_at.h hq) hv dX3_gathers_17 ?_
        refine lv_iload hx hb dX3_gathers_20 (lv_at hl 6 rfl) ?_
        obtain ⟨a_5, ea_5, hw⟩ := hw
        rewrite [ea_5]
        obtain ⟨n_6, f_7, hq, hi, hw⟩ := hw
        refine ga_ldq hx hb hI (ga_at.h hq) rfl hi dX3_gathers_22 ?_
        obtain ⟨v_8, ev_8⟩ : ∃ z, z = f_7 x6_1.toNatClampNeg := ⟨_, rfl⟩
        rw [← ev_8]
        have hw := hw v_8 ev_8
        refine ga_aload_n hx hb dX3_gathers_23 rfl (lv_at hl 1 rfl) ?_
        obtain ⟨a_9, ea_9, hw⟩ := hw
        rewrite [ea_9]
        obtain ⟨fs_10, hq, hw⟩ := hw
        refine ga_calli (va_runV (As := [va_rf p1]) (rest := [.int (p3 - x5_1)]) ⟨hx, hb, hml, hown, hts⟩ (gm_X4_offers l g a_9 p1 h_1 _ hw) (cwV 1 hts (lw_V q2484 q2485 q2486 q108 q2487) rfl rfl rfl ⟨rfl, hdG_X4_offers⟩ ⟨Nat.le_of_ble_eq_true rfl, Nat.le_of_ble_eq_true rfl⟩) (ga_preV hI hq rfl rfl) rfl rfl hl.1 rfl (ga_room (Nat.le_of_ble_eq_true rfl)) dX3_gathers_24 ⟨hbc, hbs⟩) hI (bc := 0) (bs := 0) hbc hbs (Nat.zero_le _) (Nat.zero_le _) (fun r_12 h_11 H locs cells slots hw hI hbc hbs => ?_)
        refine va_mmin hx hb (hml.trans hl.1.symm) hown (hts _ q2387) (hts _ q521) (hts _ q119) (hts _ q522) (Nat.le_of_ble_eq_true rfl) (Nat.le_trans (Nat.add_le_add_right (ga_sum [] (Nat.le_of_ble_eq_true rfl)) _) (Nat.le_of_ble_eq_true rfl)) hbc hbs dX3_gathers_27 ?_
        refine lv_topi (fun r_13 er_13 => ?_)
        have hw := hw r_13 er_13
        refine lv_istore (lv' := [(7, .int r_13), (0, .ref p0), (1, va_rf p1), (2, .int p2), (3, .int p3), (4, .int p4), (5, .int x5_1), (6, .int x6_1)]) hx hb dX3_gathers_30 hl (by decide) rfl (fun ls hl => ?_)
        refine lv_iload hx hb dX3_gathers_32 (lv_at hl 5 rfl) ?_
        refine lv_if_eq (tgt := 64) hx hb dX3_gathers_34 (by decide) (fun hc_14 => ?_) (fun hc_14 => ?_)
        · have hw := hw.1 hc_14
          refine lv_iload hx hb dX3_gathers_64 (lv_at hl 6 rfl) ?_
          refine lv_iload hx hb dX3_gathers_66 (lv_at hl 0 rfl) ?_
          refine lv_iadd hx hb dX3_gathers_68 ?_
          refine lv_istore (lv' := [(5, .int (x5_1 + r_13)), (7, .int r_13), (0, .ref p0), (1, va_rf p1), (2, .int p2), (3, .int p3), (4, .int p4), (6, .int x6_1)]) hx hb dX3_gathers_69 hl (by decide) rfl (fun ls hl => ?_)
          refine lv_iinc (v := x6_1 + (1 : Int32)) (lv' := [(6, .int (x6_1 + (1 : Int32))), (5, .int (x5_1 + r_13)), (7, .int r_13), (0, .ref p0), (1, va_rf p1), (2, .int p2), (3, .int p3), (4, .int p4)]) hx hb dX3_gathers_71 hl (k := 7) rfl rfl (by decide) rfl (fun ls hl => ?_)
          refine lv_goto (tgt := 6) hx hb dX3_gathers_74 (by decide) ?_
          exact ih_1 _ _ _ H locs cells slots ls (Nat.lt_of_lt_of_le hw.2 (Nat.le_of_lt_succ hn_1)) hw.1 hI hbc hbs (lv_sub hl [3, 4, 5, 6, 7, 1, 0] rfl)
        · have hw := hw.2 hc_14
          refine lv_iload hx hb dX3_gathers_37 (lv_at hl 0 rfl) ?_
          refine lv_if_le (tgt := 64) hx hb dX3_gathers_39 (by decide) (fun hc_15 => ?_) (fun hc_15 => ?_)
          · have hw := hw.1 hc_15
            refine lv_iload hx hb dX3_gathers_64 (lv_at hl 6 rfl) ?_
            refine lv_iload hx hb dX3_gathers_66 (lv_at hl 0 rfl) ?_
            refine lv_iadd hx hb dX3_gathers_68 ?_
            refine lv_istore (lv' := [(5, .int (x5_1 + r_13)), (7, .int r_13), (0, .ref p0), (1, va_rf p1), (2, .int p2), (3, .int p3), (4, .int p4), (6, .int x6_1)]) hx hb dX3_gathers_69 hl (by decide) rfl (fun ls hl => ?_)
            refine lv_iinc (v := x6_1 + (1 : Int32)) (lv' := [(6, .int (x6_1 + (1 : Int32))), (5, .int (x5_1 + r_13)), (7, .int r_13), (0, .ref p0), (1, va_rf p1), (2, .int p2), (3, .int p3), (4, .int p4)]) hx hb dX3_gathers_71 hl (k := 7) rfl rfl (by decide) rfl (fun ls hl => ?_)
            refine lv_goto (tgt := 6) hx hb dX3_gathers_74 (by decide) ?_
            exact ih_1 _ _ _ H locs cells slots ls (Nat.lt_of_lt_of_le hw.2 (Nat.le_of_lt_succ hn_1)) hw.1 hI hbc hbs (lv_sub hl [3, 4, 5, 6, 7, 1, 0] rfl)
          · have hw := hw.2 hc_15
            refine lv_aload_n hx hb dX3_gathers_42 rfl (lv_at hl 1 rfl) ?_
            obtain ⟨fs_16, v_17, hq, hv, hw⟩ := hw
            refine ga_get (ci := 2) (T := TX3) (v := va_rf v_17) hx hb hts hown hI in_X3 rfl 0 (by decide) q279 (fun _ z => z) (ga_at.h hq) hv dX3_gathers_43 ?_
            refine lv_iload hx hb dX3_gathers_46 (lv_at hl 7 rfl) ?_
            obtain ⟨a_18, ea_18, hw⟩ := hw
            rewrite [ea_18]
            obtain ⟨n_19, f_20, hq, hi, hw⟩ := hw
            refine ga_ldq hx hb hI (ga_at.h hq) rfl hi dX3_gathers_48 ?_
            obtain ⟨v_21, ev_21⟩ : ∃ z, z = f_20 x6_1.toNatClampNeg := ⟨_, rfl⟩
            rw [← ev_21]
            have hw := hw v_21 ev_21
            refine lv_aload_n hx hb dX3_gathers_49 rfl (lv_at hl 1 rfl) ?_
            obtain ⟨fs_22, v_23, hq, hv, hw⟩ := hw
            refine ga_get (ci := 2) (T := TX3) (v := va_rf v_23) hx hb hts hown hI in_X3 rfl 0 (by decide) q279 (fun _ z => z) (ga_at.h hq) hv dX3_gathers_50 ?_
            refine lv_iload hx hb dX3_gathers_53 (lv_at hl 7 rfl) ?_
            obtain ⟨a_24, ea_24, hw⟩ := hw
            rewrite [ea_24]
            obtain ⟨n_25, f_26, hq, hi, hw⟩ := hw
            refine ga_ldq hx hb hI (ga_at.h hq) rfl hi dX3_gathers_55 ?_
            obtain ⟨v_27, ev_27⟩ : ∃ z, z = f_26 x6_1.toNatClampNeg := ⟨_, rfl⟩
            rw [← ev_27]
            have hw := hw v_27 ev_27
            obtain ⟨a_28, ea_28, hw⟩ := hw
            rewrite [ea_28]
            obtain ⟨fs_29, hq, hw⟩ := hw
            refine ga_callq (va_runV (As := []) (rest := [va_rf v_21]) ⟨hx, hb, hml, hown, hts⟩ (gm_X4_top l g a_28 h_11 _ hw) (cwV 0 hts (lw_V q2494 q2262 q2263 q108 q2264) rfl rfl rfl ⟨rfl, hdG_X4_top⟩ ⟨Nat.le_of_ble_eq_true rfl, Nat.le_of_ble_eq_true rfl⟩) (ga_preV hI hq rfl rfl) rfl rfl hl.1 rfl (ga_room (Nat.le_of_ble_eq_true rfl)) dX3_gathers_56 ⟨hbc, hbs⟩) hI (bc := 0) (bs := 0) hbc hbs (Nat.zero_le _) (Nat.zero_le _) (fun r_31 h_30 H locs cells slots hw hI hbc hbs => ?_)
            refine lv_iload hx hb dX3_gathers_59 (lv_at hl 0 rfl) ?_
            obtain ⟨a_32, ea_32, hw⟩ := hw
            rewrite [ea_32]
            obtain ⟨fs_33, hq, hw⟩ := hw
            refine ga_callv (va_runV (As := [va_rf r_31, .int r_13]) (rest := []) ⟨hx, hb, hml, hown, hts⟩ (gm_X4_takes l g a_32 r_31 r_13 h_30 _ hw) (cwV 2 hts (lw_V q2495 q2379 q2380 q108 q2381) rfl rfl rfl ⟨rfl, hdG_X4_takes⟩ ⟨Nat.le_of_ble_eq_true rfl, Nat.le_of_ble_eq_true rfl⟩) (ga_preV hI hq rfl rfl) rfl rfl hl.1 rfl (ga_room (Nat.le_of_ble_eq_true rfl)) dX3_gathers_61 ⟨hbc, hbs⟩) hI (bc := 0) (bs := 0) hbc hbs (Nat.zero_le _) (Nat.zero_le _) (fun h_34 H locs cells slots hw hI hbc hbs => ?_)
            refine lv_iload hx hb dX3_gathers_64 (lv_at hl 6 rfl) ?_
            refine lv_iload hx hb dX3_gathers_66 (lv_at hl 0 rfl) ?_
            refine lv_iadd hx hb dX3_gathers_68 ?_
            refine lv_istore (lv' := [(5, .int (x5_1 + r_13)), (7, .int r_13), (0, .ref p0), (1, va_rf p1), (2, .int p2), (3, .int p3), (4, .int p4), (6, .int x6_1)]) hx hb dX3_gathers_69 hl (by decide) rfl (fun ls hl => ?_)
            refine lv_iinc (v := x6_1 + (1 : Int32)) (lv' := [(6, .int (x6_1 + (1 : Int32))), (5, .int (x5_1 + r_13)), (7, .int r_13), (0, .ref p0), (1, va_rf p1), (2, .int p2), (3, .int p3), (4, .int p4)]) hx hb dX3_gathers_71 hl (k := 7) rfl rfl (by decide) rfl (fun ls hl => ?_)
            refine lv_goto (tgt := 6) hx hb dX3_gathers_74 (by decide) ?_
            exact ih_1 _ _ _ H locs cells slots ls (Nat.lt_of_lt_of_le hw.2 (Nat.le_of_lt_succ hn_1)) hw.1 hI hbc hbs (lv_sub hl [3, 4, 5, 6, 7, 1, 0] rfl)
  exact hL_1 _ _ _ _ H locs cells slots ls (Nat.lt_succ_self _) h0_1 hI hbc hbs (lv_sub hl [2, 3, 4, 5, 6, 1, 0] rfl)
theorem hdG_X3_gathers : yX3_gathers.cls ≠ "java/lang/invoke/MethodHandle" ∧ yX3_gathers.cls ≠ "java/lang/invoke/VarHandle" ∧ (parseMethodDescriptor yX3_gathers.desc).map (fun d => d.parameters.length) = some 4 := by decide +kernel
def gw_X2_gather_205 (K : ga_K) (post : Int32 → ga_H → Prop) (xp : String → Nat → ga_H → Prop) (p0 : Nat) (t0 : Int32) (v1 : Int32) (v2 : Int32) (v4 : Option Nat) (v5 : Option Nat) (v6 : Option Nat) (v8 : Int32) (h : ga_H) (bc bs : Nat) : Prop :=
  ∃ a_105 : Nat, v6 = some a_105 ∧ ∃ (fs_106 : List Value) (v_107 : Int32), h a_105 = some (ga_O 5 fs_106) ∧ fs_106[1]? = some (.int v_107) ∧ (∃ kc_108 ks_109 : Nat, kc_108 ≤ bc ∧ ks_109 ≤ bs ∧ gw_X1_refuse K t0 (10 : Int32) v_107 h kc_108 ks_109 (fun (h_110 : ga_H) => ∃ a_114 : Nat, v4 = some a_114 ∧ ∃ (fs_115 : List Value) (v_116 : Int32), h_110 a_114 = some (ga_O 6 fs_115) ∧ fs_115[3]? = some (.int v_116) ∧ (∃ fs_117 : List Value, h_110 a_114 = some (ga_O 6 fs_117) ∧ 3 < fs_117.length ∧ ∀ h_118 : ga_H, h_118 = ga_set h_110 a_114 (ga_O 6 (fs_117.set 3 (.int (v_116 + v8)))) → (∃ a_119 : Nat, v4 = some a_119 ∧ ∃ fs_120 : List Value, h_118 a_119 = some (ga_O 6 fs_120) ∧ 4 < fs_120.length ∧ ∀ h_121 : ga_H, h_121 = ga_set h_118 a_119 (ga_O 6 (fs_120.set 4 (.int v2))) → (∃ a_122 : Nat, v5 = some a_122 ∧ ∃ (fs_123 : List Value) (v_124 : Int32), h_121 a_122 = some (ga_O 7 fs_123) ∧ fs_123[1]? = some (.int v_124) ∧ (∃ fs_125 : List Value, h_121 a_122 = some (ga_O 7 fs_125) ∧ 1 < fs_125.length ∧ ∀ h_126 : ga_H, h_126 = ga_set h_121 a_122 (ga_O 7 (fs_125.set 1 (.int (v_124 + v8)))) → (∃ a_127 : Nat, v5 = some a_127 ∧ ∃ fs_128 : List Value, h_126 a_127 = some (ga_O 7 fs_128) ∧ 2 < fs_128.length ∧ ∀ h_129 : ga_H, h_129 = ga_set h_126 a_127 (ga_O 7 (fs_128.set 2 (.int v1))) → (post v8 h_129))))))) (fun (E_111 : String) (q_112 : Nat) (h_113 : ga_H) => xp E_111 q_112 h_113))
set_option maxHeartbeats 4000000 in
theorem gj_X2_gather_205 {p : Program} {l : Launch} {e : Env} {s : State} {m : MethodId} {args : Array Value} {below : List Frame} {meth : Method} {c : Code} {mc ms : Nat} {H : Heap} {locs : List Loc} {cells slots : Nat} {ls : Array Slot} (hst : l.stackTraces = false) (htab : c.exceptionTable.toList = []) (g : ga_G) (post : Int32 → ga_H → Prop) (xp : String → Nat → ga_H → Prop) (p0 : Nat) (t0 : Int32) (v1 : Int32) (v2 : Int32) (v4 : Option Nat) (v5 : Option Nat) (v6 : Option Nat) (v8 : Int32) (h : ga_H) (bc bs : Nat) (hC : ga_Cx p s m args meth c cX2_gather 9 (some .int) "PaperStore$Store" "gather") (hw : gw_X2_gather_205 g.2.2 post xp p0 t0 v1 v2 v4 v5 v6 v8 h bc bs) (hI : ga_I g h s H locs) (hbc : cells + bc ≤ mc) (hbs : slots + bs ≤ ms) (hl : lv_has ls 9 [(1, .int v1), (2, .int v2), (4, va_rf v4), (5, va_rf v5), (6, va_rf v6), (8, .int v8)]) : W p l e ({ frames := 14, cells := mc, slots := ms, locals := 273 } : Room) s m args below meth c H locs cells slots (vx_MQ below (va_Qi post (ga_E g) (ga_A g)) (ga_X g xp) args s mc ms (ga_A g)) (F0 m 205 ls [.int t0]) := by
  obtain ⟨hx, hb, hml, hown, hts, hr, hlk, hnm⟩ := hC
  unfold gw_X2_gather_205 at hw
  refine lv_bipush (v := 10) hx hb dX2_gather_205 (by decide) ?_
  refine ga_aload hx hb dX2_gather_207 (lv_at hl 4 rfl) ?_
  obtain ⟨a_105, ea_105, hw⟩ := hw
  rewrite [ea_105]
  obtain ⟨fs_106, v_107, hq, hv, hw⟩ := hw
  refine ga_getN (ci := 5) (T := TX7) (v := .int v_107) hx hb hts hown hI in_X7 rfl 1 (by decide) q1349 (fun _ z => z) (ga_at.h hq) hv dX2_gather_209 ?_
  obtain ⟨kc_108, ks_109, hk1, hk2, hw⟩ := hw
  refine ga_xcallv (vx_runSN (As := [.int t0, .int (10 : Int32), .int v_107]) (rest := []) ⟨hx, hb, hml, hown, hts⟩ (gm_X1_refuse l hst g t0 (10 : Int32) v_107 h kc_108 ks_109 _ _ hw) ⟨va_cnB 3 hts (lw_meth q2042) rfl rfl rfl (hI.2.1.1.2.1 _ (ga_nin q2040 rfl)) (hts _ q100) hdG_X1_refuse ⟨Nat.le_of_ble_eq_true rfl, Nat.le_of_ble_eq_true rfl⟩, hts _ q2041, trivial⟩ (ga_preS hI rfl) rfl rfl hl.1 rfl (ga_room (Nat.le_of_ble_eq_true rfl)) dX2_gather_212 ⟨Nat.le_trans (Nat.add_le_add_left hk1 _) hbc, Nat.le_trans (Nat.add_le_add_left hk2 _) hbs⟩) hI hbc hbs hk1 hk2 (fun E_111 q_112 h_113 ce H locs cells slots hw hI hce hbc hbs => ?_) (fun h_110 H locs cells slots hw hI hbc hbs => ?_)
  · exact ga_out hown hlk hI hw (by rw [htab]; intro z hz; cases hz) hce (Nat.le_trans (Nat.le_add_right _ _) hbc) (Nat.le_trans (Nat.le_add_right _ _) hbs)
  · skip
    refine ga_aload hx hb dX2_gather_215 (lv_at hl 2 rfl) ?_
    refine lv_dup hx hb dX2_gather_217 (ga_rcat _) ?_
    obtain ⟨a_114, ea_114, hw⟩ := hw
    rewrite [ea_114]
    obtain ⟨fs_115, v_116, hq, hv, hw⟩ := hw
    refine ga_getN (ci := 6) (T := TX8) (v := .int v_116) hx hb hts hown hI in_X8 rfl 3 (by decide) q1378 (fun _ z => z) (ga_at.h hq) hv dX2_gather_218 ?_
    refine lv_iload hx hb dX2_gather_221 (lv_at hl 5 rfl) ?_
    refine lv_iadd hx hb dX2_gather_223 ?_
    obtain ⟨fs_117, hq, hk, hw⟩ := hw
    refine ga_putN (ci := 6) (T := TX8) (v := .int (v_116 + v8)) (ty := tyX8 3) hx hb hts hown hI in_X8 rfl tyX8 tyX8_ok nmX8 3 (by decide) q1378 (fun _ z => z) rfl (tyX8_ok 3 (by decide)) rfl rfl hq hk dX2_gather_224 (fun H locs hI => ?_)
    obtain ⟨h_118, eh_118⟩ : ∃ z, z = ga_set h_110 a_114 (ga_O 6 (fs_117.set 3 (.int (v_116 + v8)))) := ⟨_, rfl⟩
    rw [← eh_118] at hI
    have hw := hw h_118 eh_118
    refine ga_aload hx hb dX2_gather_227 (lv_at hl 2 rfl) ?_
    refine lv_iload_n hx hb dX2_gather_229 rfl (lv_at hl 1 rfl) ?_
    obtain ⟨a_119, ea_119, hw⟩ := hw
    rewrite [ea_119]
    obtain ⟨fs_120, hq, hk, hw⟩ := hw
    refine ga_putN (ci := 6) (T := TX8) (v := .int v2) (ty := tyX8 4) hx hb hts hown hI in_X8 rfl tyX8 tyX8_ok nmX8 4 (by decide) q1381 (fun _ z => z) rfl (tyX8_ok 4 (by decide)) rfl rfl hq hk dX2_gather_230 (fun H locs hI => ?_)
    obtain ⟨h_121, eh_121⟩ : ∃ z, z = ga_set h_118 a_119 (ga_O 6 (fs_120.set 4 (.int v2))) := ⟨_, rfl⟩
    rw [← eh_121] at hI
    have hw := hw h_121 eh_121
    refine ga_aload hx hb dX2_gather_233 (lv_at hl 3 rfl) ?_
    refine lv_dup hx hb dX2_gather_235 (ga_rcat _) ?_
    obtain ⟨a_122, ea_122, hw⟩ := hw
    rewrite [ea_122]
    obtain ⟨fs_123, v_124, hq, hv, hw⟩ := hw
    refine ga_getN (ci := 7) (T := TX9) (v := .int v_124) hx hb hts hown hI in_X9 rfl 1 (by decide) q1408 (fun _ z => z) (ga_at.h hq) hv dX2_gather_236 ?_
    refine lv_iload hx hb dX2_gather_239 (lv_at hl 5 rfl) ?_
    refine lv_iadd hx hb dX2_gather_241 ?_
    obtain ⟨fs_125, hq, hk, hw⟩ := hw
    refine ga_putN (ci := 7) (T := TX9) (v := .int (v_124 + v8)) (ty := tyX9 1) hx hb hts hown hI in_X9 rfl tyX9 tyX9_ok nmX9 1 (by decide) q1408 (fun _ z => z) rfl (tyX9_ok 1 (by decide)) rfl rfl hq hk dX2_gather_242 (fun H locs hI => ?_)
    obtain ⟨h_126, eh_126⟩ : ∃ z, z = ga_set h_121 a_122 (ga_O 7 (fs_125.set 1 (.int (v_124 + v8)))) := ⟨_, rfl⟩
    rw [← eh_126] at hI
    have hw := hw h_126 eh_126
    refine ga_aload hx hb dX2_gather_245 (lv_at hl 3 rfl) ?_
    refine lv_iload_n hx hb dX2_gather_247 rfl (lv_at hl 0 rfl) ?_
    obtain ⟨a_127, ea_127, hw⟩ := hw
    rewrite [ea_127]
    obtain ⟨fs_128, hq, hk, hw⟩ := hw
    refine ga_putN (ci := 7) (T := TX9) (v := .int v1) (ty := tyX9 2) hx hb hts hown hI in_X9 rfl tyX9 tyX9_ok nmX9 2 (by decide) q1411 (fun _ z => z) rfl (tyX9_ok 2 (by decide)) rfl rfl hq hk dX2_gather_248 (fun H locs hI => ?_)
    obtain ⟨h_129, eh_129⟩ : ∃ z, z = ga_set h_126 a_127 (ga_O 7 (fs_128.set 2 (.int v1))) := ⟨_, rfl⟩
    rw [← eh_129] at hI
    have hw := hw h_129 eh_129
    refine lv_iload hx hb dX2_gather_251 (lv_at hl 5 rfl) ?_
    exact ga_iretx hx hb hr rfl hlk hI hw (Nat.le_trans (Nat.le_add_right _ _) hbc) (Nat.le_trans (Nat.le_add_right _ _) hbs) dX2_gather_253
def gw_X2_gather_136 (K : ga_K) (post : Int32 → ga_H → Prop) (xp : String → Nat → ga_H → Prop) (p0 : Nat) (t0 : Int32) (v1 : Int32) (v2 : Int32) (v4 : Option Nat) (v5 : Option Nat) (v6 : Option Nat) (h : ga_H) (bc bs : Nat) : Prop :=
  ∃ a_65 : Nat, v5 = some a_65 ∧ ∃ (fs_66 : List Value) (v_67 : Int32), h a_65 = some (ga_O 7 fs_66) ∧ fs_66[1]? = some (.int v_67) ∧ (∃ kc_68 ks_69 : Nat, kc_68 ≤ bc ∧ ks_69 ≤ bs ∧ gw_X1_refuse K t0 (9 : Int32) v_67 h kc_68 ks_69 (fun (h_70 : ga_H) => ∃ a_74 : Nat, v4 = some a_74 ∧ ∃ fs_75 : List Value, ga_at K h_70 a_74 (ga_O 6 fs_75) ∧ gw_X8_lacks K a_74 h_70 (fun (r_77 : Int32) (h_76 : ga_H) => ∃ a_78 : Nat, v5 = some a_78 ∧ ∃ (fs_79 : List Value) (v_80 : Int32), h_76 a_78 = some (ga_O 7 fs_79) ∧ fs_79[0]? = some (.int v_80) ∧ (∃ a_81 : Nat, v5 = some a_81 ∧ ∃ (fs_82 : List Value) (v_83 : Int32), h_76 a_81 = some (ga_O 7 fs_82) ∧ fs_82[1]? = some (.int v_83) ∧ (∀ r_84 : Int32, r_84 = (if (v_80 - v_83) < r_77 then (v_80 - v_83) else r_77) → (∃ (fs_85 : List Value) (v_86 : Option Nat), h_76 p0 = some (ga_O 1 fs_85) ∧ fs_85[0]? = some (va_rf v_86) ∧ (∃ a_87 : Nat, v6 = some a_87 ∧ ∃ (fs_88 : List Value) (v_89 : Int32), h_76 a_87 = some (ga_O 5 fs_88) ∧ fs_88[1]? = some (.int v_89) ∧ (∃ a_90 : Nat, v_86 = some a_90 ∧ ∃ (n_91 : Nat) (f_92 : Nat → Option Nat), h_76 a_90 = some (ga_Aq 6 n_91 f_92) ∧ vp_in v_89 n_91 ∧ ∀ v_93 : Option Nat, v_93 = f_92 v_89.toNatClampNeg → (∃ a_94 : Nat, v4 = some a_94 ∧ ∃ (fs_95 : List Value) (v_96 : Option Nat), h_76 a_94 = some (ga_O 6 fs_95) ∧ fs_95[0]? = some (va_rf v_96) ∧ (∃ a_97 : Nat, v6 = some a_97 ∧ ∃ (fs_98 : List Value) (v_99 : Int32), h_76 a_97 = some (ga_O 5 fs_98) ∧ fs_98[0]? = some (.int v_99) ∧ (∃ a_100 : Nat, v_93 = some a_100 ∧ ∃ fs_101 : List Value, ga_at K h_76 a_100 (ga_O 2 fs_101) ∧ gw_X3_gathers K a_100 v_96 v_99 r_84 (1 : Int32) h_76 (fun (r_103 : Int32) (h_102 : ga_H) => (¬ r_103 = (0 : Int32) → (gw_X2_gather_205 K post xp p0 (0 : Int32) v1 v2 v4 v5 v6 r_103 h_102 (bc - kc_68) (bs - ks_69))) ∧ (r_103 = (0 : Int32) → (gw_X2_gather_205 K post xp p0 (1 : Int32) v1 v2 v4 v5 v6 r_103 h_102 (bc - kc_68) (bs - ks_69)))))))))))))) (fun (E_71 : String) (q_72 : Nat) (h_73 : ga_H) => xp E_71 q_72 h_73))
set_option maxHeartbeats 4000000 in
theorem gj_X2_gather_136 {p : Program} {l : Launch} {e : Env} {s : State} {m : MethodId} {args : Array Value} {below : List Frame} {meth : Method} {c : Code} {mc ms : Nat} {H : Heap} {locs : List Loc} {cells slots : Nat} {ls : Array Slot} (hst : l.stackTraces = false) (htab : c.exceptionTable.toList = []) (g : ga_G) (post : Int32 → ga_H → Prop) (xp : String → Nat → ga_H → Prop) (p0 : Nat) (t0 : Int32) (v1 : Int32) (v2 : Int32) (v4 : Option Nat) (v5 : Option Nat) (v6 : Option Nat) (h : ga_H) (bc bs : Nat) (hC : ga_Cx p s m args meth c cX2_gather 9 (some .int) "PaperStore$Store" "gather") (hw : gw_X2_gather_136 g.2.2 post xp p0 t0 v1 v2 v4 v5 v6 h bc bs) (hI : ga_I g h s H locs) (hbc : cells + bc ≤ mc) (hbs : slots + bs ≤ ms) (hl : lv_has ls 9 [(0, .ref p0), (1, .int v1), (2, .int v2), (4, va_rf v4), (5, va_rf v5), (6, va_rf v6)]) : W p l e ({ frames := 14, cells := mc, slots := ms, locals := 273 } : Room) s m args below meth c H locs cells slots (vx_MQ below (va_Qi post (ga_E g) (ga_A g)) (ga_X g xp) args s mc ms (ga_A g)) (F0 m 136 ls [.int t0]) := by
  obtain ⟨hx, hb, hml, hown, hts, hr, hlk, hnm⟩ := hC
  unfold gw_X2_gather_136 at hw
  refine lv_bipush (v := 9) hx hb dX2_gather_136 (by decide) ?_
  refine ga_aload hx hb dX2_gather_138 (lv_at hl 4 rfl) ?_
  obtain ⟨a_65, ea_65, hw⟩ := hw
  rewrite [ea_65]
  obtain ⟨fs_66, v_67, hq, hv, hw⟩ := hw
  refine ga_getN (ci := 7) (T := TX9) (v := .int v_67) hx hb hts hown hI in_X9 rfl 1 (by decide) q1408 (fun _ z => z) (ga_at.h hq) hv dX2_gather_140 ?_
  obtain ⟨kc_68, ks_69, hk1, hk2, hw⟩ := hw
  refine ga_xcallv (vx_runSN (As := [.int t0, .int (9 : Int32), .int v_67]) (rest := []) ⟨hx, hb, hml, hown, hts⟩ (gm_X1_refuse l hst g t0 (9 : Int32) v_67 h kc_68 ks_69 _ _ hw) ⟨va_cnB 3 hts (lw_meth q2042) rfl rfl rfl (hI.2.1.1.2.1 _ (ga_nin q2040 rfl)) (hts _ q100) hdG_X1_refuse ⟨Nat.le_of_ble_eq_true rfl, Nat.le_of_ble_eq_true rfl⟩, hts _ q2041, trivial⟩ (ga_preS hI rfl) rfl rfl hl.1 rfl (ga_room (Nat.le_of_ble_eq_true rfl)) dX2_gather_143 ⟨Nat.le_trans (Nat.add_le_add_left hk1 _) hbc, Nat.le_trans (Nat.add_le_add_left hk2 _) hbs⟩) hI hbc hbs hk1 hk2 (fun E_71 q_72 h_73 ce H locs cells slots hw hI hce hbc hbs => ?_) (fun h_70 H locs cells slots hw hI hbc hbs => ?_)
  · exact ga_out hown hlk hI hw (by rw [htab]; intro z hz; cases hz) hce (Nat.le_trans (Nat.le_add_right _ _) hbc) (Nat.le_trans (Nat.le_add_right _ _) hbs)
  · skip
    refine ga_aload hx hb dX2_gather_146 (lv_at hl 3 rfl) ?_
    obtain ⟨a_74, ea_74, hw⟩ := hw
    rewrite [ea_74]
    obtain ⟨fs_75, hq, hw⟩ := hw
    refine ga_calli (va_runV (As := []) (rest := []) ⟨hx, hb, hml, hown, hts⟩ (gm_X8_lacks l g a_74 h_70 _ hw) (cwV 0 hts (lw_V q2476 q2477 q2478 q139 q2479) rfl rfl rfl ⟨rfl, hdG_X8_lacks⟩ ⟨Nat.le_of_ble_eq_true rfl, Nat.le_of_ble_eq_true rfl⟩) (ga_preV hI hq rfl rfl) rfl rfl hl.1 rfl (ga_room (Nat.le_of_ble_eq_true rfl)) dX2_gather_148 ⟨Nat.le_trans (Nat.add_le_add_left (Nat.zero_le _) _) hbc, Nat.le_trans (Nat.add_le_add_left (Nat.zero_le _) _) hbs⟩) hI hbc hbs (Nat.zero_le _) (Nat.zero_le _) (fun r_77 h_76 H locs cells slots hw hI hbc hbs => ?_)
    refine ga_aload hx hb dX2_gather_151 (lv_at hl 4 rfl) ?_
    obtain ⟨a_78, ea_78, hw⟩ := hw
    rewrite [ea_78]
    obtain ⟨fs_79, v_80, hq, hv, hw⟩ := hw
    refine ga_getN (ci := 7) (T := TX9) (v := .int v_80) hx hb hts hown hI in_X9 rfl 0 (by decide) q1405 (fun _ z => z) (ga_at.h hq) hv dX2_gather_153 ?_
    refine ga_aload hx hb dX2_gather_156 (lv_at hl 4 rfl) ?_
    obtain ⟨a_81, ea_81, hw⟩ := hw
    rewrite [ea_81]
    obtain ⟨fs_82, v_83, hq, hv, hw⟩ := hw
    refine ga_getN (ci := 7) (T := TX9) (v := .int v_83) hx hb hts hown hI in_X9 rfl 1 (by decide) q1408 (fun _ z => z) (ga_at.h hq) hv dX2_gather_158 ?_
    refine lv_isub hx hb dX2_gather_161 ?_
    refine va_mmin hx hb (hml.trans hl.1.symm) hown (hts _ q2314) (hts _ q521) (hts _ q119) (hts _ q522) (Nat.le_of_ble_eq_true rfl) (Nat.le_trans (Nat.add_le_add_right (ga_sum [] (Nat.le_of_ble_eq_true rfl)) _) (Nat.le_of_ble_eq_true rfl)) (Nat.le_trans (Nat.le_add_right _ _) hbc) (Nat.le_trans (Nat.le_add_right _ _) hbs) dX2_gather_162 ?_
    refine lv_topi (fun r_84 er_84 => ?_)
    have hw := hw r_84 er_84
    refine lv_istore (lv' := [(7, .int r_84), (0, .ref p0), (1, .int v1), (2, .int v2), (4, va_rf v4), (5, va_rf v5), (6, va_rf v6)]) hx hb dX2_gather_165 hl (by decide) (by simp [ga_rcat, ga_cat_r, ga_cat_i, ga_cat_f, ga_cat_l, ga_cat_d]) (fun ls hl => ?_)
    refine lv_aload_n hx hb dX2_gather_167 rfl (lv_at hl 1 rfl) ?_
    obtain ⟨fs_85, v_86, hq, hv, hw⟩ := hw
    refine ga_get (ci := 1) (T := TX2) (v := va_rf v_86) hx hb hts hown hI in_X2 rfl 0 (by decide) q310 (fun _ z => z) (ga_at.h hq) hv dX2_gather_168 ?_
    refine ga_aload hx hb dX2_gather_171 (lv_at hl 6 rfl) ?_
    obtain ⟨a_87, ea_87, hw⟩ := hw
    rewrite [ea_87]
    obtain ⟨fs_88, v_89, hq, hv, hw⟩ := hw
    refine ga_getN (ci := 5) (T := TX7) (v := .int v_89) hx hb hts hown hI in_X7 rfl 1 (by decide) q1349 (fun _ z => z) (ga_at.h hq) hv dX2_gather_173 ?_
    obtain ⟨a_90, ea_90, hw⟩ := hw
    rewrite [ea_90]
    obtain ⟨n_91, f_92, hq, hi, hw⟩ := hw
    refine ga_ldq hx hb hI (ga_at.h hq) rfl hi dX2_gather_176 ?_
    obtain ⟨v_93, ev_93⟩ : ∃ z, z = f_92 v_89.toNatClampNeg := ⟨_, rfl⟩
    rw [← ev_93]
    have hw := hw v_93 ev_93
    refine ga_aload hx hb dX2_gather_177 (lv_at hl 4 rfl) ?_
    obtain ⟨a_94, ea_94, hw⟩ := hw
    rewrite [ea_94]
    obtain ⟨fs_95, v_96, hq, hv, hw⟩ := hw
    refine ga_getN (ci := 6) (T := TX8) (v := va_rf v_96) hx hb hts hown hI in_X8 rfl 0 (by decide) q1369 (fun _ z => z) (ga_at.h hq) hv dX2_gather_179 ?_
    refine ga_aload hx hb dX2_gather_182 (lv_at hl 6 rfl) ?_
    obtain ⟨a_97, ea_97, hw⟩ := hw
    rewrite [ea_97]
    obtain ⟨fs_98, v_99, hq, hv, hw⟩ := hw
    refine ga_getN (ci := 5) (T := TX7) (v := .int v_99) hx hb hts hown hI in_X7 rfl 0 (by decide) q1346 (fun _ z => z) (ga_at.h hq) hv dX2_gather_184 ?_
    refine lv_iload hx hb dX2_gather_187 (lv_at hl 0 rfl) ?_
    refine lv_iconst (v := 1) hx hb dX2_gather_189 (by decide) ?_
    obtain ⟨a_100, ea_100, hw⟩ := hw
    rewrite [ea_100]
    obtain ⟨fs_101, hq, hw⟩ := hw
    refine ga_calli (va_runV (As := [va_rf v_96, .int v_99, .int r_84, .int (1 : Int32)]) (rest := []) ⟨hx, hb, hml, hown, hts⟩ (gm_X3_gathers l g a_100 v_96 v_99 r_84 (1 : Int32) h_76 _ hw) (cwV 4 hts (lw_V q2480 q2481 q2482 q107 q2483) rfl rfl rfl ⟨rfl, hdG_X3_gathers⟩ ⟨Nat.le_of_ble_eq_true rfl, Nat.le_of_ble_eq_true rfl⟩) (ga_preV hI hq rfl rfl) rfl rfl hl.1 rfl (ga_room (Nat.le_of_ble_eq_true rfl)) dX2_gather_190 ⟨Nat.le_trans (Nat.add_le_add_left (Nat.zero_le _) _) hbc, Nat.le_trans (Nat.add_le_add_left (Nat.zero_le _) _) hbs⟩) hI hbc hbs (Nat.zero_le _) (Nat.zero_le _) (fun r_103 h_102 H locs cells slots hw hI hbc hbs => ?_)
    refine lv_istore (lv' := [(8, .int r_103), (7, .int r_84), (0, .ref p0), (1, .int v1), (2, .int v2), (4, va_rf v4), (5, va_rf v5), (6, va_rf v6)]) hx hb dX2_gather_193 hl (by decide) rfl (fun ls hl => ?_)
    refine lv_iload hx hb dX2_gather_195 (lv_at hl 0 rfl) ?_
    refine lv_if_ne (tgt := 204) hx hb dX2_gather_197 (by decide) (fun hc_104 => ?_) (fun hc_104 => ?_)
    · have hw := hw.1 hc_104
      refine lv_iconst (v := 0) hx hb dX2_gather_204 (by decide) ?_
      exact gj_X2_gather_205 hst htab g post xp p0 (0 : Int32) v1 v2 v4 v5 v6 r_103 h_102 (bc - kc_68) (bs - ks_69) ⟨hx, hb, hml, hown, hts, hr, hlk, hnm⟩ hw hI hbc hbs (lv_sub hl [3, 4, 5, 6, 7, 0] rfl)
    · have hw := hw.2 hc_104
      refine lv_iconst (v := 1) hx hb dX2_gather_200 (by decide) ?_
      refine lv_goto (tgt := 205) hx hb dX2_gather_201 (by decide) ?_
      exact gj_X2_gather_205 hst htab g post xp p0 (1 : Int32) v1 v2 v4 v5 v6 r_103 h_102 (bc - kc_68) (bs - ks_69) ⟨hx, hb, hml, hown, hts, hr, hlk, hnm⟩ hw hI hbc hbs (lv_sub hl [3, 4, 5, 6, 7, 0] rfl)
def gw_X2_gather_112 (K : ga_K) (post : Int32 → ga_H → Prop) (xp : String → Nat → ga_H → Prop) (p0 : Nat) (t0 : Int32) (v1 : Int32) (v2 : Int32) (v4 : Option Nat) (v5 : Option Nat) (v6 : Option Nat) (h : ga_H) (bc bs : Nat) : Prop :=
  ∃ kc_52 ks_53 : Nat, kc_52 ≤ bc ∧ ks_53 ≤ bs ∧ gw_X1_refuse K t0 (8 : Int32) v1 h kc_52 ks_53 (fun (h_54 : ga_H) => ∃ a_58 : Nat, v5 = some a_58 ∧ ∃ (fs_59 : List Value) (v_60 : Int32), h_54 a_58 = some (ga_O 7 fs_59) ∧ fs_59[1]? = some (.int v_60) ∧ (∃ a_61 : Nat, v5 = some a_61 ∧ ∃ (fs_62 : List Value) (v_63 : Int32), h_54 a_61 = some (ga_O 7 fs_62) ∧ fs_62[0]? = some (.int v_63) ∧ ((¬ v_60 = v_63 → (gw_X2_gather_136 K post xp p0 (0 : Int32) v1 v2 v4 v5 v6 h_54 (bc - kc_52) (bs - ks_53))) ∧ (v_60 = v_63 → (gw_X2_gather_136 K post xp p0 (1 : Int32) v1 v2 v4 v5 v6 h_54 (bc - kc_52) (bs - ks_53)))))) (fun (E_55 : String) (q_56 : Nat) (h_57 : ga_H) => xp E_55 q_56 h_57)
set_option maxHeartbeats 4000000 in
theorem gj_X2_gather_112 {p : Program} {l : Launch} {e : Env} {s : State} {m : MethodId} {args : Array Value} {below : List Frame} {meth : Method} {c : Code} {mc ms : Nat} {H : Heap} {locs : List Loc} {cells slots : Nat} {ls : Array Slot} (hst : l.stackTraces = false) (htab : c.exceptionTable.toList = []) (g : ga_G) (post : Int32 → ga_H → Prop) (xp : String → Nat → ga_H → Prop) (p0 : Nat) (t0 : Int32) (v1 : Int32) (v2 : Int32) (v4 : Option Nat) (v5 : Option Nat) (v6 : Option Nat) (h : ga_H) (bc bs : Nat) (hC : ga_Cx p s m args meth c cX2_gather 9 (some .int) "PaperStore$Store" "gather") (hw : gw_X2_gather_112 g.2.2 post xp p0 t0 v1 v2 v4 v5 v6 h bc bs) (hI : ga_I g h s H locs) (hbc : cells + bc ≤ mc) (hbs : slots + bs ≤ ms) (hl : lv_has ls 9 [(0, .ref p0), (1, .int v1), (2, .int v2), (4, va_rf v4), (5, va_rf v5), (6, va_rf v6)]) : W p l e ({ frames := 14, cells := mc, slots := ms, locals := 273 } : Room) s m args below meth c H locs cells slots (vx_MQ below (va_Qi post (ga_E g) (ga_A g)) (ga_X g xp) args s mc ms (ga_A g)) (F0 m 112 ls [.int t0]) := by
  obtain ⟨hx, hb, hml, hown, hts, hr, hlk, hnm⟩ := hC
  unfold gw_X2_gather_112 at hw
  refine lv_bipush (v := 8) hx hb dX2_gather_112 (by decide) ?_
  refine lv_iload_n hx hb dX2_gather_114 rfl (lv_at hl 1 rfl) ?_
  obtain ⟨kc_52, ks_53, hk1, hk2, hw⟩ := hw
  refine ga_xcallv (vx_runSN (As := [.int t0, .int (8 : Int32), .int v1]) (rest := []) ⟨hx, hb, hml, hown, hts⟩ (gm_X1_refuse l hst g t0 (8 : Int32) v1 h kc_52 ks_53 _ _ hw) ⟨va_cnB 3 hts (lw_meth q2042) rfl rfl rfl (hI.2.1.1.2.1 _ (ga_nin q2040 rfl)) (hts _ q100) hdG_X1_refuse ⟨Nat.le_of_ble_eq_true rfl, Nat.le_of_ble_eq_true rfl⟩, hts _ q2041, trivial⟩ (ga_preS hI rfl) rfl rfl hl.1 rfl (ga_room (Nat.le_of_ble_eq_true rfl)) dX2_gather_115 ⟨Nat.le_trans (Nat.add_le_add_left hk1 _) hbc, Nat.le_trans (Nat.add_le_add_left hk2 _) hbs⟩) hI hbc hbs hk1 hk2 (fun E_55 q_56 h_57 ce H locs cells slots hw hI hce hbc hbs => ?_) (fun h_54 H locs cells slots hw hI hbc hbs => ?_)
  · exact ga_out hown hlk hI hw (by rw [htab]; intro z hz; cases hz) hce (Nat.le_trans (Nat.le_add_right _ _) hbc) (Nat.le_trans (Nat.le_add_right _ _) hbs)
  · skip
    refine ga_aload hx hb dX2_gather_118 (lv_at hl 4 rfl) ?_
    obtain ⟨a_58, ea_58, hw⟩ := hw
    rewrite [ea_58]
    obtain ⟨fs_59, v_60, hq, hv, hw⟩ := hw
    refine ga_getN (ci := 7) (T := TX9) (v := .int v_60) hx hb hts hown hI in_X9 rfl 1 (by decide) q1408 (fun _ z => z) (ga_at.h hq) hv dX2_gather_120 ?_
    refine ga_aload hx hb dX2_gather_123 (lv_at hl 4 rfl) ?_
    obtain ⟨a_61, ea_61, hw⟩ := hw
    rewrite [ea_61]
    obtain ⟨fs_62, v_63, hq, hv, hw⟩ := hw
    refine ga_getN (ci := 7) (T := TX9) (v := .int v_63) hx hb hts hown hI in_X9 rfl 0 (by decide) q1405 (fun _ z => z) (ga_at.h hq) hv dX2_gather_125 ?_
    refine lv_icmp_ne (tgt := 135) hx hb dX2_gather_128 (by decide) (fun hc_64 => ?_) (fun hc_64 => ?_)
    · have hw := hw.1 hc_64
      refine lv_iconst (v := 0) hx hb dX2_gather_135 (by decide) ?_
      exact gj_X2_gather_136 hst htab g post xp p0 (0 : Int32) v1 v2 v4 v5 v6 h_54 (bc - kc_52) (bs - ks_53) ⟨hx, hb, hml, hown, hts, hr, hlk, hnm⟩ hw hI hbc hbs (lv_sub hl [0, 1, 2, 3, 4, 5] rfl)
    · have hw := hw.2 hc_64
      refine lv_iconst (v := 1) hx hb dX2_gather_131 (by decide) ?_
      refine lv_goto (tgt := 136) hx hb dX2_gather_132 (by decide) ?_
      exact gj_X2_gather_136 hst htab g post xp p0 (1 : Int32) v1 v2 v4 v5 v6 h_54 (bc - kc_52) (bs - ks_53) ⟨hx, hb, hml, hown, hts, hr, hlk, hnm⟩ hw hI hbc hbs (lv_sub hl [0, 1, 2, 3, 4, 5] rfl)
def gw_X2_gather_89 (K : ga_K) (post : Int32 → ga_H → Prop) (xp : String → Nat → ga_H → Prop) (p0 : Nat) (t0 : Int32) (v1 : Int32) (v2 : Int32) (v4 : Option Nat) (v5 : Option Nat) (v6 : Option Nat) (h : ga_H) (bc bs : Nat) : Prop :=
  ∃ a_38 : Nat, v4 = some a_38 ∧ ∃ (fs_39 : List Value) (v_40 : Int32), h a_38 = some (ga_O 6 fs_39) ∧ fs_39[4]? = some (.int v_40) ∧ (∃ kc_41 ks_42 : Nat, kc_41 ≤ bc ∧ ks_42 ≤ bs ∧ gw_X1_refuse K t0 (7 : Int32) v_40 h kc_41 ks_42 (fun (h_43 : ga_H) => ∃ a_47 : Nat, v4 = some a_47 ∧ ∃ fs_48 : List Value, ga_at K h_43 a_47 (ga_O 6 fs_48) ∧ gw_X8_lacks K a_47 h_43 (fun (r_50 : Int32) (h_49 : ga_H) => (¬ r_50 = (0 : Int32) → (gw_X2_gather_112 K post xp p0 (0 : Int32) v1 v2 v4 v5 v6 h_49 (bc - kc_41) (bs - ks_42))) ∧ (r_50 = (0 : Int32) → (gw_X2_gather_112 K post xp p0 (1 : Int32) v1 v2 v4 v5 v6 h_49 (bc - kc_41) (bs - ks_42))))) (fun (E_44 : String) (q_45 : Nat) (h_46 : ga_H) => xp E_44 q_45 h_46))
set_option maxHeartbeats 4000000 in
theorem gj_X2_gather_89 {p : Program} {l : Launch} {e : Env} {s : State} {m : MethodId} {args : Array Value} {below : List Frame} {meth : Method} {c : Code} {mc ms : Nat} {H : Heap} {locs : List Loc} {cells slots : Nat} {ls : Array Slot} (hst : l.stackTraces = false) (htab : c.exceptionTable.toList = []) (g : ga_G) (post : Int32 → ga_H → Prop) (xp : String → Nat → ga_H → Prop) (p0 : Nat) (t0 : Int32) (v1 : Int32) (v2 : Int32) (v4 : Option Nat) (v5 : Option Nat) (v6 : Option Nat) (h : ga_H) (bc bs : Nat) (hC : ga_Cx p s m args meth c cX2_gather 9 (some .int) "PaperStore$Store" "gather") (hw : gw_X2_gather_89 g.2.2 post xp p0 t0 v1 v2 v4 v5 v6 h bc bs) (hI : ga_I g h s H locs) (hbc : cells + bc ≤ mc) (hbs : slots + bs ≤ ms) (hl : lv_has ls 9 [(0, .ref p0), (1, .int v1), (2, .int v2), (4, va_rf v4), (5, va_rf v5), (6, va_rf v6)]) : W p l e ({ frames := 14, cells := mc, slots := ms, locals := 273 } : Room) s m args below meth c H locs cells slots (vx_MQ below (va_Qi post (ga_E g) (ga_A g)) (ga_X g xp) args s mc ms (ga_A g)) (F0 m 89 ls [.int t0]) := by
  obtain ⟨hx, hb, hml, hown, hts, hr, hlk, hnm⟩ := hC
  unfold gw_X2_gather_89 at hw
  refine lv_bipush (v := 7) hx hb dX2_gather_89 (by decide) ?_
  refine ga_aload hx hb dX2_gather_91 (lv_at hl 3 rfl) ?_
  obtain ⟨a_38, ea_38, hw⟩ := hw
  rewrite [ea_38]
  obtain ⟨fs_39, v_40, hq, hv, hw⟩ := hw
  refine ga_getN (ci := 6) (T := TX8) (v := .int v_40) hx hb hts hown hI in_X8 rfl 4 (by decide) q1381 (fun _ z => z) (ga_at.h hq) hv dX2_gather_93 ?_
  obtain ⟨kc_41, ks_42, hk1, hk2, hw⟩ := hw
  refine ga_xcallv (vx_runSN (As := [.int t0, .int (7 : Int32), .int v_40]) (rest := []) ⟨hx, hb, hml, hown, hts⟩ (gm_X1_refuse l hst g t0 (7 : Int32) v_40 h kc_41 ks_42 _ _ hw) ⟨va_cnB 3 hts (lw_meth q2042) rfl rfl rfl (hI.2.1.1.2.1 _ (ga_nin q2040 rfl)) (hts _ q100) hdG_X1_refuse ⟨Nat.le_of_ble_eq_true rfl, Nat.le_of_ble_eq_true rfl⟩, hts _ q2041, trivial⟩ (ga_preS hI rfl) rfl rfl hl.1 rfl (ga_room (Nat.le_of_ble_eq_true rfl)) dX2_gather_96 ⟨Nat.le_trans (Nat.add_le_add_left hk1 _) hbc, Nat.le_trans (Nat.add_le_add_left hk2 _) hbs⟩) hI hbc hbs hk1 hk2 (fun E_44 q_45 h_46 ce H locs cells slots hw hI hce hbc hbs => ?_) (fun h_43 H locs cells slots hw hI hbc hbs => ?_)
  · exact ga_out hown hlk hI hw (by rw [htab]; intro z hz; cases hz) hce (Nat.le_trans (Nat.le_add_right _ _) hbc) (Nat.le_trans (Nat.le_add_right _ _) hbs)
  · skip
    refine ga_aload hx hb dX2_gather_99 (lv_at hl 3 rfl) ?_
    obtain ⟨a_47, ea_47, hw⟩ := hw
    rewrite [ea_47]
    obtain ⟨fs_48, hq, hw⟩ := hw
    refine ga_calli (va_runV (As := []) (rest := []) ⟨hx, hb, hml, hown, hts⟩ (gm_X8_lacks l g a_47 h_43 _ hw) (cwV 0 hts (lw_V q2476 q2477 q2478 q139 q2479) rfl rfl rfl ⟨rfl, hdG_X8_lacks⟩ ⟨Nat.le_of_ble_eq_true rfl, Nat.le_of_ble_eq_true rfl⟩) (ga_preV hI hq rfl rfl) rfl rfl hl.1 rfl (ga_room (Nat.le_of_ble_eq_true rfl)) dX2_gather_101 ⟨Nat.le_trans (Nat.add_le_add_left (Nat.zero_le _) _) hbc, Nat.le_trans (Nat.add_le_add_left (Nat.zero_le _) _) hbs⟩) hI hbc hbs (Nat.zero_le _) (Nat.zero_le _) (fun r_50 h_49 H locs cells slots hw hI hbc hbs => ?_)
    refine lv_if_ne (tgt := 111) hx hb dX2_gather_104 (by decide) (fun hc_51 => ?_) (fun hc_51 => ?_)
    · have hw := hw.1 hc_51
      refine lv_iconst (v := 0) hx hb dX2_gather_111 (by decide) ?_
      exact gj_X2_gather_112 hst htab g post xp p0 (0 : Int32) v1 v2 v4 v5 v6 h_49 (bc - kc_41) (bs - ks_42) ⟨hx, hb, hml, hown, hts, hr, hlk, hnm⟩ hw hI hbc hbs (lv_sub hl [0, 1, 2, 3, 4, 5] rfl)
    · have hw := hw.2 hc_51
      refine lv_iconst (v := 1) hx hb dX2_gather_107 (by decide) ?_
      refine lv_goto (tgt := 112) hx hb dX2_gather_108 (by decide) ?_
      exact gj_X2_gather_112 hst htab g post xp p0 (1 : Int32) v1 v2 v4 v5 v6 h_49 (bc - kc_41) (bs - ks_42) ⟨hx, hb, hml, hown, hts, hr, hlk, hnm⟩ hw hI hbc hbs (lv_sub hl [0, 1, 2, 3, 4, 5] rfl)
def gw_X2_gather_88 (K : ga_K) (post : Int32 → ga_H → Prop) (xp : String → Nat → ga_H → Prop) (p0 : Nat) (v1 : Int32) (v2 : Int32) (v4 : Option Nat) (v5 : Option Nat) (v6 : Option Nat) (h : ga_H) (bc bs : Nat) : Prop :=
  gw_X2_gather_89 K post xp p0 (0 : Int32) v1 v2 v4 v5 v6 h bc bs
set_option maxHeartbeats 4000000 in
theorem gj_X2_gather_88 {p : Program} {l : Launch} {e : Env} {s : State} {m : MethodId} {args : Array Value} {below : List Frame} {meth : Method} {c : Code} {mc ms : Nat} {H : Heap} {locs : List Loc} {cells slots : Nat} {ls : Array Slot} (hst : l.stackTraces = false) (htab : c.exceptionTable.toList = []) (g : ga_G) (post : Int32 → ga_H → Prop) (xp : String → Nat → ga_H → Prop) (p0 : Nat) (v1 : Int32) (v2 : Int32) (v4 : Option Nat) (v5 : Option Nat) (v6 : Option Nat) (h : ga_H) (bc bs : Nat) (hC : ga_Cx p s m args meth c cX2_gather 9 (some .int) "PaperStore$Store" "gather") (hw : gw_X2_gather_88 g.2.2 post xp p0 v1 v2 v4 v5 v6 h bc bs) (hI : ga_I g h s H locs) (hbc : cells + bc ≤ mc) (hbs : slots + bs ≤ ms) (hl : lv_has ls 9 [(0, .ref p0), (1, .int v1), (2, .int v2), (4, va_rf v4), (5, va_rf v5), (6, va_rf v6)]) : W p l e ({ frames := 14, cells := mc, slots := ms, locals := 273 } : Room) s m args below meth c H locs cells slots (vx_MQ below (va_Qi post (ga_E g) (ga_A g)) (ga_X g xp) args s mc ms (ga_A g)) (F0 m 88 ls []) := by
  obtain ⟨hx, hb, hml, hown, hts, hr, hlk, hnm⟩ := hC
  unfold gw_X2_gather_88 at hw
  refine lv_iconst (v := 0) hx hb dX2_gather_88 (by decide) ?_
  exact gj_X2_gather_89 hst htab g post xp p0 (0 : Int32) v1 v2 v4 v5 v6 h bc bs ⟨hx, hb, hml, hown, hts, hr, hlk, hnm⟩ hw hI hbc hbs (lv_sub hl [0, 1, 2, 3, 4, 5] rfl)
def gw_X2_gather_56 (K : ga_K) (post : Int32 → ga_H → Prop) (xp : String → Nat → ga_H → Prop) (p0 : Nat) (t0 : Int32) (v1 : Int32) (v2 : Int32) (v4 : Option Nat) (v5 : Option Nat) (v6 : Option Nat) (h : ga_H) (bc bs : Nat) : Prop :=
  ∃ a_25 : Nat, v5 = some a_25 ∧ ∃ (fs_26 : List Value) (v_27 : Int32), h a_25 = some (ga_O 7 fs_26) ∧ fs_26[2]? = some (.int v_27) ∧ (∃ kc_28 ks_29 : Nat, kc_28 ≤ bc ∧ ks_29 ≤ bs ∧ gw_X1_refuse K t0 (6 : Int32) v_27 h kc_28 ks_29 (fun (h_30 : ga_H) => ∃ a_34 : Nat, v4 = some a_34 ∧ ∃ (fs_35 : List Value) (v_36 : Int32), h_30 a_34 = some (ga_O 6 fs_35) ∧ fs_35[4]? = some (.int v_36) ∧ ((v_36 = (-1 : Int32) → (gw_X2_gather_88 K post xp p0 v1 v2 v4 v5 v6 h_30 (bc - kc_28) (bs - ks_29))) ∧ (¬ v_36 = (-1 : Int32) → (∃ a_130 : Nat, v4 = some a_130 ∧ ∃ (fs_131 : List Value) (v_132 : Int32), h_30 a_130 = some (ga_O 6 fs_131) ∧ fs_131[4]? = some (.int v_132) ∧ ((v_132 = v2 → (gw_X2_gather_88 K post xp p0 v1 v2 v4 v5 v6 h_30 (bc - kc_28) (bs - ks_29))) ∧ (¬ v_132 = v2 → (gw_X2_gather_89 K post xp p0 (1 : Int32) v1 v2 v4 v5 v6 h_30 (bc - kc_28) (bs - ks_29)))))))) (fun (E_31 : String) (q_32 : Nat) (h_33 : ga_H) => xp E_31 q_32 h_33))
set_option maxHeartbeats 4000000 in
theorem gj_X2_gather_56 {p : Program} {l : Launch} {e : Env} {s : State} {m : MethodId} {args : Array Value} {below : List Frame} {meth : Method} {c : Code} {mc ms : Nat} {H : Heap} {locs : List Loc} {cells slots : Nat} {ls : Array Slot} (hst : l.stackTraces = false) (htab : c.exceptionTable.toList = []) (g : ga_G) (post : Int32 → ga_H → Prop) (xp : String → Nat → ga_H → Prop) (p0 : Nat) (t0 : Int32) (v1 : Int32) (v2 : Int32) (v4 : Option Nat) (v5 : Option Nat) (v6 : Option Nat) (h : ga_H) (bc bs : Nat) (hC : ga_Cx p s m args meth c cX2_gather 9 (some .int) "PaperStore$Store" "gather") (hw : gw_X2_gather_56 g.2.2 post xp p0 t0 v1 v2 v4 v5 v6 h bc bs) (hI : ga_I g h s H locs) (hbc : cells + bc ≤ mc) (hbs : slots + bs ≤ ms) (hl : lv_has ls 9 [(0, .ref p0), (1, .int v1), (2, .int v2), (4, va_rf v4), (5, va_rf v5), (6, va_rf v6)]) : W p l e ({ frames := 14, cells := mc, slots := ms, locals := 273 } : Room) s m args below meth c H locs cells slots (vx_MQ below (va_Qi post (ga_E g) (ga_A g)) (ga_X g xp) args s mc ms (ga_A g)) (F0 m 56 ls [.int t0]) := by
  obtain ⟨hx, hb, hml, hown, hts, hr, hlk, hnm⟩ := hC
  unfold gw_X2_gather_56 at hw
  refine lv_bipush (v := 6) hx hb dX2_gather_56 (by decide) ?_
  refine ga_aload hx hb dX2_gather_58 (lv_at hl 4 rfl) ?_
  obtain ⟨a_25, ea_25, hw⟩ := hw
  rewrite [ea_25]
  obtain ⟨fs_26, v_27, hq, hv, hw⟩ := hw
  refine ga_getN (ci := 7) (T := TX9) (v := .int v_27) hx hb hts hown hI in_X9 rfl 2 (by decide) q1411 (fun _ z => z) (ga_at.h hq) hv dX2_gather_60 ?_
  obtain ⟨kc_28, ks_29, hk1, hk2, hw⟩ := hw
  refine ga_xcallv (vx_runSN (As := [.int t0, .int (6 : Int32), .int v_27]) (rest := []) ⟨hx, hb, hml, hown, hts⟩ (gm_X1_refuse l hst g t0 (6 : Int32) v_27 h kc_28 ks_29 _ _ hw) ⟨va_cnB 3 hts (lw_meth q2042) rfl rfl rfl (hI.2.1.1.2.1 _ (ga_nin q2040 rfl)) (hts _ q100) hdG_X1_refuse ⟨Nat.le_of_ble_eq_true rfl, Nat.le_of_ble_eq_true rfl⟩, hts _ q2041, trivial⟩ (ga_preS hI rfl) rfl rfl hl.1 rfl (ga_room (Nat.le_of_ble_eq_true rfl)) dX2_gather_63 ⟨Nat.le_trans (Nat.add_le_add_left hk1 _) hbc, Nat.le_trans (Nat.add_le_add_left hk2 _) hbs⟩) hI hbc hbs hk1 hk2 (fun E_31 q_32 h_33 ce H locs cells slots hw hI hce hbc hbs => ?_) (fun h_30 H locs cells slots hw hI hbc hbs => ?_)
  · exact ga_out hown hlk hI hw (by rw [htab]; intro z hz; cases hz) hce (Nat.le_trans (Nat.le_add_right _ _) hbc) (Nat.le_trans (Nat.le_add_right _ _) hbs)
  · skip
    refine ga_aload hx hb dX2_gather_66 (lv_at hl 3 rfl) ?_
    obtain ⟨a_34, ea_34, hw⟩ := hw
    rewrite [ea_34]
    obtain ⟨fs_35, v_36, hq, hv, hw⟩ := hw
    refine ga_getN (ci := 6) (T := TX8) (v := .int v_36) hx hb hts hown hI in_X8 rfl 4 (by decide) q1381 (fun _ z => z) (ga_at.h hq) hv dX2_gather_68 ?_
    refine lv_iconst (v := -1) hx hb dX2_gather_71 (by decide) ?_
    refine lv_icmp_eq (tgt := 88) hx hb dX2_gather_72 (by decide) (fun hc_37 => ?_) (fun hc_37 => ?_)
    · have hw := hw.1 hc_37
      exact gj_X2_gather_88 hst htab g post xp p0 v1 v2 v4 v5 v6 h_30 (bc - kc_28) (bs - ks_29) ⟨hx, hb, hml, hown, hts, hr, hlk, hnm⟩ hw hI hbc hbs (lv_sub hl [0, 1, 2, 3, 4, 5] rfl)
    · have hw := hw.2 hc_37
      refine ga_aload hx hb dX2_gather_75 (lv_at hl 3 rfl) ?_
      obtain ⟨a_130, ea_130, hw⟩ := hw
      rewrite [ea_130]
      obtain ⟨fs_131, v_132, hq, hv, hw⟩ := hw
      refine ga_getN (ci := 6) (T := TX8) (v := .int v_132) hx hb hts hown hI in_X8 rfl 4 (by decide) q1381 (fun _ z => z) (ga_at.h hq) hv dX2_gather_77 ?_
      refine lv_iload_n hx hb dX2_gather_80 rfl (lv_at hl 2 rfl) ?_
      refine lv_icmp_eq (tgt := 88) hx hb dX2_gather_81 (by decide) (fun hc_133 => ?_) (fun hc_133 => ?_)
      · have hw := hw.1 hc_133
        exact gj_X2_gather_88 hst htab g post xp p0 v1 v2 v4 v5 v6 h_30 (bc - kc_28) (bs - ks_29) ⟨hx, hb, hml, hown, hts, hr, hlk, hnm⟩ hw hI hbc hbs (lv_sub hl [0, 1, 2, 3, 4, 5] rfl)
      · have hw := hw.2 hc_133
        refine lv_iconst (v := 1) hx hb dX2_gather_84 (by decide) ?_
        refine lv_goto (tgt := 89) hx hb dX2_gather_85 (by decide) ?_
        exact gj_X2_gather_89 hst htab g post xp p0 (1 : Int32) v1 v2 v4 v5 v6 h_30 (bc - kc_28) (bs - ks_29) ⟨hx, hb, hml, hown, hts, hr, hlk, hnm⟩ hw hI hbc hbs (lv_sub hl [0, 1, 2, 3, 4, 5] rfl)
def gw_X2_gather_55 (K : ga_K) (post : Int32 → ga_H → Prop) (xp : String → Nat → ga_H → Prop) (p0 : Nat) (v1 : Int32) (v2 : Int32) (v4 : Option Nat) (v5 : Option Nat) (v6 : Option Nat) (h : ga_H) (bc bs : Nat) : Prop :=
  gw_X2_gather_56 K post xp p0 (0 : Int32) v1 v2 v4 v5 v6 h bc bs
set_option maxHeartbeats 4000000 in
theorem gj_X2_gather_55 {p : Program} {l : Launch} {e : Env} {s : State} {m : MethodId} {args : Array Value} {below : List Frame} {meth : Method} {c : Code} {mc ms : Nat} {H : Heap} {locs : List Loc} {cells slots : Nat} {ls : Array Slot} (hst : l.stackTraces = false) (htab : c.exceptionTable.toList = []) (g : ga_G) (post : Int32 → ga_H → Prop) (xp : String → Nat → ga_H → Prop) (p0 : Nat) (v1 : Int32) (v2 : Int32) (v4 : Option Nat) (v5 : Option Nat) (v6 : Option Nat) (h : ga_H) (bc bs : Nat) (hC : ga_Cx p s m args meth c cX2_gather 9 (some .int) "PaperStore$Store" "gather") (hw : gw_X2_gather_55 g.2.2 post xp p0 v1 v2 v4 v5 v6 h bc bs) (hI : ga_I g h s H locs) (hbc : cells + bc ≤ mc) (hbs : slots + bs ≤ ms) (hl : lv_has ls 9 [(0, .ref p0), (1, .int v1), (2, .int v2), (4, va_rf v4), (5, va_rf v5), (6, va_rf v6)]) : W p l e ({ frames := 14, cells := mc, slots := ms, locals := 273 } : Room) s m args below meth c H locs cells slots (vx_MQ below (va_Qi post (ga_E g) (ga_A g)) (ga_X g xp) args s mc ms (ga_A g)) (F0 m 55 ls []) := by
  obtain ⟨hx, hb, hml, hown, hts, hr, hlk, hnm⟩ := hC
  unfold gw_X2_gather_55 at hw
  refine lv_iconst (v := 0) hx hb dX2_gather_55 (by decide) ?_
  exact gj_X2_gather_56 hst htab g post xp p0 (0 : Int32) v1 v2 v4 v5 v6 h bc bs ⟨hx, hb, hml, hown, hts, hr, hlk, hnm⟩ hw hI hbc hbs (lv_sub hl [0, 1, 2, 3, 4, 5] rfl)
def gw_X2_gather (K : ga_K) (p0 : Nat) (p1 : Int32) (p2 : Int32) (p3 : Int32) (h : ga_H) (mc ms : Nat) (post : Int32 → ga_H → Prop) (xp : String → Nat → ga_H → Prop) : Prop :=
  ∃ kc_1 ks_2 : Nat, kc_1 ≤ mc ∧ ks_2 ≤ ms ∧ ∃ fs_3 : List Value, ga_at K h p0 (ga_O 1 fs_3) ∧ gw_X2_waiting K p0 p1 h kc_1 ks_2 (fun (r_5 : Option Nat) (h_4 : ga_H) => ∃ (fs_9 : List Value) (v_10 : Option Nat), h_4 p0 = some (ga_O 1 fs_9) ∧ fs_9[3]? = some (va_rf v_10) ∧ (∃ a_11 : Nat, v_10 = some a_11 ∧ ∃ fs_12 : List Value, ga_at K h_4 a_11 (ga_O 13 fs_12) ∧ gw_J2_get K a_11 p2 h_4 (fun (r_14 : Option Nat) (h_13 : ga_H) => ga_ok K h_13 "PaperStore$Cart" r_14 ∧ (∃ (fs_15 : List Value) (v_16 : Option Nat), h_13 p0 = some (ga_O 1 fs_15) ∧ fs_15[1]? = some (va_rf v_16) ∧ (∃ a_17 : Nat, v_16 = some a_17 ∧ ∃ fs_18 : List Value, ga_at K h_13 a_17 (ga_O 13 fs_18) ∧ gw_J2_get K a_17 p3 h_13 (fun (r_20 : Option Nat) (h_19 : ga_H) => ga_ok K h_19 "PaperStore$Ladder" r_20 ∧ (∃ a_21 : Nat, r_14 = some a_21 ∧ ∃ (fs_22 : List Value) (v_23 : Int32), h_19 a_21 = some (ga_O 7 fs_22) ∧ fs_22[2]? = some (.int v_23) ∧ ((v_23 = (-1 : Int32) → (gw_X2_gather_55 K post xp p0 p1 p2 r_5 r_14 r_20 h_19 (mc - kc_1) (ms - ks_2))) ∧ (¬ v_23 = (-1 : Int32) → (∃ a_134 : Nat, r_14 = some a_134 ∧ ∃ (fs_135 : List Value) (v_136 : Int32), h_19 a_134 = some (ga_O 7 fs_135) ∧ fs_135[2]? = some (.int v_136) ∧ ((v_136 = p1 → (gw_X2_gather_55 K post xp p0 p1 p2 r_5 r_14 r_20 h_19 (mc - kc_1) (ms - ks_2))) ∧ (¬ v_136 = p1 → (gw_X2_gather_56 K post xp p0 (1 : Int32) p1 p2 r_5 r_14 r_20 h_19 (mc - kc_1) (ms - ks_2)))))))))))))) (fun (E_6 : String) (q_7 : Nat) (h_8 : ga_H) => xp E_6 q_7 h_8)
set_option maxHeartbeats 4000000 in
theorem gm_X2_gather (l : Launch) (hst : l.stackTraces = false) (g : ga_G) (p0 : Nat) (p1 : Int32) (p2 : Int32) (p3 : Int32) (h : ga_H) (mc ms : Nat) (post : Int32 → ga_H → Prop) (xp : String → Nat → ga_H → Prop) (hw : gw_X2_gather g.2.2 p0 p1 p2 p3 h mc ms post xp) : vx_Met l yX2_gather (ws_ yX2_gather cX2_gather 9 (some .int)) ({ frames := 14, cells := mc, slots := ms, locals := 273 } : Room) (va_Pc [.ref p0, .int p1, .int p2, .int p3] (ga_B g h)) (va_Qi post (ga_E g) (ga_A g)) (ga_X g xp) mc ms (ga_A g) := by
  refine ga_metx (own := "PaperStore$Store") (nm := "gather") (by decide) rfl rfl (by exact Nat.le_of_ble_eq_true rfl) (fun p e s m below meth c ls hC htab hI hl => ?_)
  have hl : lv_has ls 9 [(0, .ref p0), (1, .int p1), (2, .int p2), (3, .int p3)] := hl
  generalize ([.ref p0, .int p1, .int p2, .int p3] : List Value).toArray = args at hC ⊢
  obtain ⟨hx, hb, hml, hown, hts, hr, hlk, hnm⟩ := hC
  unfold gw_X2_gather at hw
  obtain ⟨H, eH⟩ : ∃ z, z = s.heap := ⟨_, rfl⟩
  obtain ⟨locs, elo⟩ : ∃ z : List Loc, z = [] := ⟨_, rfl⟩
  rw [← eH, ← elo] at hI ⊢
  obtain ⟨cells, slots, hbc, hbs, e0, e1⟩ : ∃ a b : Nat, a + mc ≤ mc ∧ b + ms ≤ ms ∧ a = 0 ∧ b = 0 := ⟨0, 0, by omega, by omega, rfl, rfl⟩
  show W p l e ({ frames := 14, cells := mc, slots := ms, locals := 273 } : Room) s m args below meth c H locs 0 0 (vx_MQ below (va_Qi post (ga_E g) (ga_A g)) (ga_X g xp) args s mc ms (ga_A g)) (F0 m 0 ls [])
  suffices hgoal : W p l e ({ frames := 14, cells := mc, slots := ms, locals := 273 } : Room) s m args below meth c H locs cells slots (vx_MQ below (va_Qi post (ga_E g) (ga_A g)) (ga_X g xp) args s mc ms (ga_A g)) (F0 m 0 ls []) by rw [e0, e1] at hgoal; exact hgoal
  refine lv_aload_n hx hb dX2_gather_0 rfl (lv_at hl 0 rfl) ?_
  refine lv_iload_n hx hb dX2_gather_1 rfl (lv_at hl 1 rfl) ?_
  obtain ⟨kc_1, ks_2, hk1, hk2, hw⟩ := hw
  obtain ⟨fs_3, hq, hw⟩ := hw
  refine ga_xcallq (vx_runV (As := [.int p1]) (rest := []) ⟨hx, hb, hml, hown, hts⟩ (gm_X2_waiting l hst g p0 p1 h kc_1 ks_2 _ _ hw) (cwV 1 hts (lw_V q2433 q2435 qs15 q101 q2436) rfl rfl rfl ⟨rfl, hdG_X2_waiting⟩ ⟨Nat.le_of_ble_eq_true rfl, Nat.le_of_ble_eq_true rfl⟩) (ga_preV hI hq rfl rfl) rfl rfl hl.1 rfl (ga_room (Nat.le_of_ble_eq_true rfl)) dX2_gather_2 ⟨Nat.le_trans (Nat.add_le_add_left hk1 _) hbc, Nat.le_trans (Nat.add_le_add_left hk2 _) hbs⟩) hI hbc hbs hk1 hk2 (fun E_6 q_7 h_8 ce H locs cells slots hw hI hce hbc hbs => ?_) (fun r_5 h_4 H locs cells slots hw hI hbc hbs => ?_)
  · exact ga_out hown hlk hI hw (by rw [htab]; intro z hz; cases hz) hce (Nat.le_trans (Nat.le_add_right _ _) hbc) (Nat.le_trans (Nat.le_add_right _ _) hbs)
  · skip
    refine ga_astore (x := r_5) (lv' := [(4, va_rf r_5), (0, .ref p0), (1, .int p1), (2, .int p2), (3, .int p3)]) hx hb dX2_gather_5 hl (by decide) rfl (fun ls hl => ?_)
    refine lv_aload_n hx hb dX2_gather_7 rfl (lv_at hl 1 rfl) ?_
    obtain ⟨fs_9, v_10, hq, hv, hw⟩ := hw
    refine ga_get (ci := 1) (T := TX2) (v := va_rf v_10) hx hb hts hown hI in_X2 rfl 3 (by decide) q316 (fun _ z => z) (ga_at.h hq) hv dX2_gather_8 ?_
    refine lv_iload_n hx hb dX2_gather_11 rfl (lv_at hl 3 rfl) ?_
    obtain ⟨a_11, ea_11, hw⟩ := hw
    rewrite [ea_11]
    obtain ⟨fs_12, hq, hw⟩ := hw
    refine ga_callq (va_runV (As := [.int p2]) (rest := []) ⟨hx, hb, hml, hown, hts⟩ (gm_J2_get l g a_11 p2 h_4 _ hw) (cwV 1 hts (lw_V q2069 q839 q4120 q104 q841) rfl rfl rfl ⟨rfl, hdG_J2_get⟩ ⟨Nat.le_of_ble_eq_true rfl, Nat.le_of_ble_eq_true rfl⟩) (ga_preV hI hq rfl rfl) rfl rfl hl.1 rfl (ga_room (Nat.le_of_ble_eq_true rfl)) dX2_gather_12 ⟨Nat.le_trans (Nat.add_le_add_left (Nat.zero_le _) _) hbc, Nat.le_trans (Nat.add_le_add_left (Nat.zero_le _) _) hbs⟩) hI hbc hbs (Nat.zero_le _) (Nat.zero_le _) (fun r_14 h_13 H locs cells slots hw hI hbc hbs => ?_)
    refine ga_cast (x := r_14) hx hb hts hown hI q1250 hw.1 dX2_gather_15 ?_
    have hw := hw.2
    refine ga_astore (x := r_14) (lv' := [(5, va_rf r_14), (4, va_rf r_5), (0, .ref p0), (1, .int p1), (2, .int p2), (3, .int p3)]) hx hb dX2_gather_18 hl (by decide) (by simp [ga_rcat, ga_cat_r, ga_cat_i, ga_cat_f, ga_cat_l, ga_cat_d]) (fun ls hl => ?_)
    refine lv_aload_n hx hb dX2_gather_20 rfl (lv_at hl 2 rfl) ?_
    obtain ⟨fs_15, v_16, hq, hv, hw⟩ := hw
    refine ga_get (ci := 1) (T := TX2) (v := va_rf v_16) hx hb hts hown hI in_X2 rfl 1 (by decide) q312 (fun _ z => z) (ga_at.h hq) hv dX2_gather_21 ?_
    refine lv_iload_n hx hb dX2_gather_24 rfl (lv_at hl 5 rfl) ?_
    obtain ⟨a_17, ea_17, hw⟩ := hw
    rewrite [ea_17]
    obtain ⟨fs_18, hq, hw⟩ := hw
    refine ga_callq (va_runV (As := [.int p3]) (rest := []) ⟨hx, hb, hml, hown, hts⟩ (gm_J2_get l g a_17 p3 h_13 _ hw) (cwV 1 hts (lw_V q2069 q839 q4120 q104 q841) rfl rfl rfl ⟨rfl, hdG_J2_get⟩ ⟨Nat.le_of_ble_eq_true rfl, Nat.le_of_ble_eq_true rfl⟩) (ga_preV hI hq rfl rfl) rfl rfl hl.1 rfl (ga_room (Nat.le_of_ble_eq_true rfl)) dX2_gather_25 ⟨Nat.le_trans (Nat.add_le_add_left (Nat.zero_le _) _) hbc, Nat.le_trans (Nat.add_le_add_left (Nat.zero_le _) _) hbs⟩) hI hbc hbs (Nat.zero_le _) (Nat.zero_le _) (fun r_20 h_19 H locs cells slots hw hI hbc hbs => ?_)
    refine ga_cast (x := r_20) hx hb hts hown hI q1339 hw.1 dX2_gather_28 ?_
    have hw := hw.2
    refine ga_astore (x := r_20) (lv' := [(6, va_rf r_20), (5, va_rf r_14), (4, va_rf r_5), (0, .ref p0), (1, .int p1), (2, .int p2), (3, .int p3)]) hx hb dX2_gather_31 hl (by decide) (by simp [ga_rcat, ga_cat_r, ga_cat_i, ga_cat_f, ga_cat_l, ga_cat_d]) (fun ls hl => ?_)
    refine ga_aload hx hb dX2_gather_33 (lv_at hl 1 rfl) ?_
    obtain ⟨a_21, ea_21, hw⟩ := hw
    rewrite [ea_21]
    obtain ⟨fs_22, v_23, hq, hv, hw⟩ := hw
    refine ga_getN (ci := 7) (T := TX9) (v := .int v_23) hx hb hts hown hI in_X9 rfl 2 (by decide) q1411 (fun _ z => z) (ga_at.h hq) hv dX2_gather_35 ?_
    refine lv_iconst (v := -1) hx hb dX2_gather_38 (by decide) ?_
    refine lv_icmp_eq (tgt := 55) hx hb dX2_gather_39 (by decide) (fun hc_24 => ?_) (fun hc_24 => ?_)
    · have hw := hw.1 hc_24
      exact gj_X2_gather_55 hst htab g post xp p0 p1 p2 r_5 r_14 r_20 h_19 (mc - kc_1) (ms - ks_2) ⟨hx, hb, hml, hown, hts, hr, hlk, hnm⟩ hw hI hbc hbs (lv_sub hl [3, 4, 5, 2, 1, 0] rfl)
    · have hw := hw.2 hc_24
      refine ga_aload hx hb dX2_gather_42 (lv_at hl 1 rfl) ?_
      obtain ⟨a_134, ea_134, hw⟩ := hw
      rewrite [ea_134]
      obtain ⟨fs_135, v_136, hq, hv, hw⟩ := hw
      refine ga_getN (ci := 7) (T := TX9) (v := .int v_136) hx hb hts hown hI in_X9 rfl 2 (by decide) q1411 (fun _ z => z) (ga_at.h hq) hv dX2_gather_44 ?_
      refine lv_iload_n hx hb dX2_gather_47 rfl (lv_at hl 4 rfl) ?_
      refine lv_icmp_eq (tgt := 55) hx hb dX2_gather_48 (by decide) (fun hc_137 => ?_) (fun hc_137 => ?_)
      · have hw := hw.1 hc_137
        exact gj_X2_gather_55 hst htab g post xp p0 p1 p2 r_5 r_14 r_20 h_19 (mc - kc_1) (ms - ks_2) ⟨hx, hb, hml, hown, hts, hr, hlk, hnm⟩ hw hI hbc hbs (lv_sub hl [3, 4, 5, 2, 1, 0] rfl)
      · have hw := hw.2 hc_137
        refine lv_iconst (v := 1) hx hb dX2_gather_51 (by decide) ?_
        refine lv_goto (tgt := 56) hx hb dX2_gather_52 (by decide) ?_
        exact gj_X2_gather_56 hst htab g post xp p0 (1 : Int32) p1 p2 r_5 r_14 r_20 h_19 (mc - kc_1) (ms - ks_2) ⟨hx, hb, hml, hown, hts, hr, hlk, hnm⟩ hw hI hbc hbs (lv_sub hl [3, 4, 5, 2, 1, 0] rfl)
theorem hdG_X2_gather : yX2_gather.cls ≠ "java/lang/invoke/MethodHandle" ∧ yX2_gather.cls ≠ "java/lang/invoke/VarHandle" ∧ (parseMethodDescriptor yX2_gather.desc).map (fun d => d.parameters.length) = some 3 := by decide +kernel
def gw_X1_gather_38 (K : ga_K) (post : Int32 → ga_H → Prop) (xp : String → Nat → ga_H → Prop) (p0 : Nat) (t0 : Int32) (v1 : Int32) (v2 : Int32) (v3 : Int32) (h : ga_H) (bc bs : Nat) : Prop :=
  ∃ kc_8 ks_9 : Nat, kc_8 ≤ bc ∧ ks_9 ≤ bs ∧ gw_X1_checkIndex K t0 h kc_8 ks_9 (fun (h_10 : ga_H) => ∃ (fs_14 : List Value) (v_15 : Option Nat), h_10 p0 = some (ga_O 0 fs_14) ∧ fs_14[0]? = some (va_rf v_15) ∧ (∃ a_16 : Nat, v_15 = some a_16 ∧ ∃ kc_17 ks_18 : Nat, kc_17 ≤ (bc - kc_8) ∧ ks_18 ≤ (bs - ks_9) ∧ ∃ fs_19 : List Value, ga_at K h_10 a_16 (ga_O 1 fs_19) ∧ gw_X2_copy K a_16 h_10 kc_17 ks_18 (fun (r_21 : Option Nat) (h_20 : ga_H) => ∃ a_22 : Nat, r_21 = some a_22 ∧ ∃ kc_23 ks_24 : Nat, kc_23 ≤ ((bc - kc_8) - kc_17) ∧ ks_24 ≤ ((bs - ks_9) - ks_18) ∧ ∃ fs_25 : List Value, ga_at K h_20 a_22 (ga_O 1 fs_25) ∧ gw_X2_gather K a_22 v1 v2 v3 h_20 kc_23 ks_24 (fun (r_27 : Int32) (h_26 : ga_H) => ∃ kc_41 ks_42 : Nat, kc_41 ≤ (((bc - kc_8) - kc_17) - kc_23) ∧ ks_42 ≤ (((bs - ks_9) - ks_18) - ks_24) ∧ ∃ fs_43 : List Value, ga_at K h_26 p0 (ga_O 0 fs_43) ∧ gw_X1_become K p0 r_21 r_27 h_26 kc_41 ks_42 (fun (r_45 : Int32) (h_44 : ga_H) => post r_45 h_44)) (fun (E_28 : String) (q_29 : Nat) (h_30 : ga_H) => (E_28 = "PaperStore$Refusal" ∧ (∃ kc_31 ks_32 : Nat, kc_31 ≤ (((bc - kc_8) - kc_17) - kc_23) ∧ ks_32 ≤ (((bs - ks_9) - ks_18) - ks_24) ∧ ∃ fs_33 : List Value, ga_at K h_30 p0 (ga_O 0 fs_33) ∧ gw_X1_kept K p0 (some q_29) h_30 kc_31 ks_32 (fun (r_35 : Option Nat) (h_34 : ga_H) => ∃ a_39 : Nat, r_35 = some a_39 ∧ ∃ fs_40 : List Value, h_34 a_39 = some (ga_O 28 fs_40) ∧ (xp "java/lang/UnsupportedOperationException" a_39 h_34)) (fun (E_36 : String) (q_37 : Nat) (h_38 : ga_H) => False))))))) (fun (E_11 : String) (q_12 : Nat) (h_13 : ga_H) => (E_11 = "java/lang/IndexOutOfBoundsException" ∧ (xp "java/lang/IndexOutOfBoundsException" q_12 h_13)))
set_option maxHeartbeats 4000000 in
theorem gj_X1_gather_38 {p : Program} {l : Launch} {e : Env} {s : State} {m : MethodId} {args : Array Value} {below : List Frame} {meth : Method} {c : Code} {mc ms : Nat} {H : Heap} {locs : List Loc} {cells slots : Nat} {ls : Array Slot} (hst : l.stackTraces = false) (htab : c.exceptionTable.toList = (tableOf [(50, 68, 69, 25)])) (g : ga_G) (post : Int32 → ga_H → Prop) (xp : String → Nat → ga_H → Prop) (p0 : Nat) (t0 : Int32) (v1 : Int32) (v2 : Int32) (v3 : Int32) (h : ga_H) (bc bs : Nat) (hC : ga_Cx p s m args meth c cX1_gather 6 (some .int) "PaperStore" "gather") (hw : gw_X1_gather_38 g.2.2 post xp p0 t0 v1 v2 v3 h bc bs) (hI : ga_I g h s H locs) (hbc : cells + bc ≤ mc) (hbs : slots + bs ≤ ms) (hl : lv_has ls 6 [(0, .ref p0), (1, .int v1), (2, .int v2), (3, .int v3)]) : W p l e ({ frames := 17, cells := mc, slots := ms, locals := 1389 } : Room) s m args below meth c H locs cells slots (vx_MQ below (va_Qi post (ga_E g) (ga_A g)) (ga_X g xp) args s mc ms (ga_A g)) (F0 m 38 ls [.int t0]) := by
  obtain ⟨hx, hb, hml, hown, hts, hr, hlk, hnm⟩ := hC
  unfold gw_X1_gather_38 at hw
  obtain ⟨kc_8, ks_9, hk1, hk2, hw⟩ := hw
  refine ga_xcallv (vx_runS (As := [.int t0]) (rest := []) ⟨hx, hb, hml, hown, hts⟩ (gm_X1_checkIndex l hst g t0 h kc_8 ks_9 _ _ hw) (va_cwS 1 hts (lw_S q2134 q2135 q100 q2136) rfl rfl rfl hdG_X1_checkIndex ⟨Nat.le_of_ble_eq_true rfl, Nat.le_of_ble_eq_true rfl⟩) (ga_preS hI rfl) rfl rfl hl.1 rfl (ga_room (Nat.le_of_ble_eq_true rfl)) dX1_gather_38 ⟨Nat.le_trans (Nat.add_le_add_left hk1 _) hbc, Nat.le_trans (Nat.add_le_add_left hk2 _) hbs⟩) hI hbc hbs hk1 hk2 (fun E_11 q_12 h_13 ce H locs cells slots hw hI hce hbc hbs => ?_) (fun h_10 H locs cells slots hw hI hbc hbs => ?_)
  · obtain ⟨rfl, hw⟩ := hw
    exact ga_out hown hlk hI hw (by rw [htab]; exact (List.forall_mem_cons.mpr ⟨Or.inl rfl, fun _ h => absurd h List.not_mem_nil⟩)) hce (Nat.le_trans (Nat.le_add_right _ _) hbc) (Nat.le_trans (Nat.le_add_right _ _) hbs)
  · skip
    refine lv_aload_n hx hb dX1_gather_41 rfl (lv_at hl 0 rfl) ?_
    obtain ⟨fs_14, v_15, hq, hv, hw⟩ := hw
    refine ga_get (ci := 0) (T := TX1) (v := va_rf v_15) hx hb hts hown hI in_X1 rfl 0 (by decide) q387 (fun _ z => z) (ga_at.h hq) hv dX1_gather_42 ?_
    obtain ⟨a_16, ea_16, hw⟩ := hw
    rewrite [ea_16]
    obtain ⟨kc_17, ks_18, hk1, hk2, hw⟩ := hw
    obtain ⟨fs_19, hq, hw⟩ := hw
    refine ga_callq (va_runV (As := []) (rest := []) ⟨hx, hb, hml, hown, hts⟩ (gm_X2_copy l g a_16 h_10 kc_17 ks_18 _ hw) (cwV 0 hts (lw_V q1259 q1260 q1261 q101 q1262) rfl rfl rfl ⟨rfl, hdG_X2_copy⟩ ⟨Nat.le_of_ble_eq_true rfl, Nat.le_of_ble_eq_true rfl⟩) (ga_preV hI hq rfl rfl) rfl rfl hl.1 rfl (ga_room (Nat.le_of_ble_eq_true rfl)) dX1_gather_45 ⟨Nat.le_trans (Nat.add_le_add_left hk1 _) hbc, Nat.le_trans (Nat.add_le_add_left hk2 _) hbs⟩) hI hbc hbs hk1 hk2 (fun r_21 h_20 H locs cells slots hw hI hbc hbs => ?_)
    refine ga_astore (x := r_21) (lv' := [(4, va_rf r_21), (0, .ref p0), (1, .int v1), (2, .int v2), (3, .int v3)]) hx hb dX1_gather_48 hl (by decide) rfl (fun ls hl => ?_)
    refine ga_aload hx hb dX1_gather_50 (lv_at hl 0 rfl) ?_
    refine lv_iload_n hx hb dX1_gather_52 rfl (lv_at hl 2 rfl) ?_
    refine lv_iload_n hx hb dX1_gather_53 rfl (lv_at hl 3 rfl) ?_
    refine lv_iload_n hx hb dX1_gather_54 rfl (lv_at hl 4 rfl) ?_
    obtain ⟨a_22, ea_22, hw⟩ := hw
    rewrite [ea_22]
    obtain ⟨kc_23, ks_24, hk1, hk2, hw⟩ := hw
    obtain ⟨fs_25, hq, hw⟩ := hw
    refine ga_xcalli (vx_runV (As := [.int v1, .int v2, .int v3]) (rest := []) ⟨hx, hb, hml, hown, hts⟩ (gm_X2_gather l hst g a_22 v1 v2 v3 h_20 kc_23 ks_24 _ _ hw) (cwV 3 hts (lw_V q2472 q2473 q2474 q101 q2475) rfl rfl rfl ⟨rfl, hdG_X2_gather⟩ ⟨Nat.le_of_ble_eq_true rfl, Nat.le_of_ble_eq_true rfl⟩) (ga_preV hI hq rfl rfl) rfl rfl hl.1 rfl (ga_room (Nat.le_of_ble_eq_true rfl)) dX1_gather_55 ⟨Nat.le_trans (Nat.add_le_add_left hk1 _) hbc, Nat.le_trans (Nat.add_le_add_left hk2 _) hbs⟩) hI hbc hbs hk1 hk2 (fun E_28 q_29 h_30 ce H locs cells slots hw hI hce hbc hbs => ?_) (fun r_27 h_26 H locs cells slots hw hI hbc hbs => ?_)
    · obtain ⟨rfl, hw⟩ := hw
      refine ga_catch hown hts hI ([]) (⟨50, 68, 69, 25⟩) ([]) (by rw [htab]; rfl) (fun _ h => absurd h List.not_mem_nil) rfl (by decide) q2023 q2044 hce ?_
      refine W.eq (g2 := F0 m 69 ls [.ref q_29]) rfl ?_
      refine lv_astore (lv' := [(5, .ref q_29), (4, va_rf r_21), (0, .ref p0), (1, .int v1), (2, .int v2), (3, .int v3)]) hx hb dX1_gather_69 hl (by decide) (by simp [ga_rcat, ga_cat_r, ga_cat_i, ga_cat_f, ga_cat_l, ga_cat_d]) (fun ls hl => ?_)
      refine lv_aload_n hx hb dX1_gather_71 rfl (lv_at hl 2 rfl) ?_
      refine lv_aload hx hb dX1_gather_72 (lv_at hl 0 rfl) ?_
      obtain ⟨kc_31, ks_32, hk1, hk2, hw⟩ := hw
      obtain ⟨fs_33, hq, hw⟩ := hw
      refine ga_xcallq (vx_runV (As := [va_rf (some q_29)]) (rest := []) ⟨hx, hb, hml, hown, hts⟩ (gm_X1_kept l hst g p0 (some q_29) h_30 kc_31 ks_32 _ _ hw) (cwV 1 hts (lw_V q2083 q2085 qs10 q100 q2086) rfl rfl rfl ⟨rfl, hdG_X1_kept⟩ ⟨Nat.le_of_ble_eq_true rfl, Nat.le_of_ble_eq_true rfl⟩) (ga_preV hI hq rfl rfl) rfl rfl hl.1 rfl (ga_room (Nat.le_of_ble_eq_true rfl)) dX1_gather_74 ⟨Nat.le_trans (Nat.add_le_add_left hk1 _) hbc, Nat.le_trans (Nat.add_le_add_left hk2 _) hbs⟩) hI hbc hbs hk1 hk2 (fun E_36 q_37 h_38 ce H locs cells slots hw hI hce hbc hbs => ?_) (fun r_35 h_34 H locs cells slots hw hI hbc hbs => ?_)
      · exact hw.elim
      · skip
        obtain ⟨a_39, ea_39, hw⟩ := hw
        rewrite [ea_39]
        obtain ⟨fs_40, hq, hw⟩ := hw
        refine ga_athrow (ci := 28) hx hb hI (ga_at.h hq) rfl dX1_gather_77 (fun ce hce => ?_)
        exact ga_out hown hlk hI hw (by rw [htab]; exact (List.forall_mem_cons.mpr ⟨Or.inl rfl, fun _ h => absurd h List.not_mem_nil⟩)) hce (Nat.le_trans (Nat.le_add_right _ _) hbc) (Nat.le_trans (Nat.le_add_right _ _) hbs)
    · skip
      refine lv_istore (lv' := [(5, .int r_27), (4, va_rf r_21), (0, .ref p0), (1, .int v1), (2, .int v2), (3, .int v3)]) hx hb dX1_gather_58 hl (by decide) (by simp [ga_rcat, ga_cat_r, ga_cat_i, ga_cat_f, ga_cat_l, ga_cat_d]) (fun ls hl => ?_)
      refine lv_aload_n hx hb dX1_gather_60 rfl (lv_at hl 2 rfl) ?_
      refine ga_aload hx hb dX1_gather_61 (lv_at hl 1 rfl) ?_
      refine lv_iload hx hb dX1_gather_63 (lv_at hl 0 rfl) ?_
      obtain ⟨kc_41, ks_42, hk1, hk2, hw⟩ := hw
      obtain ⟨fs_43, hq, hw⟩ := hw
      refine ga_calli (va_runV (As := [va_rf r_21, .int r_27]) (rest := []) ⟨hx, hb, hml, hown, hts⟩ (gm_X1_become l g p0 r_21 r_27 h_26 kc_41 ks_42 _ hw) (cwV 2 hts (lw_V q2070 q2072 qs8 q100 q2073) rfl rfl rfl ⟨rfl, hdG_X1_become⟩ ⟨Nat.le_of_ble_eq_true rfl, Nat.le_of_ble_eq_true rfl⟩) (ga_preV hI hq rfl rfl) rfl rfl hl.1 rfl (ga_room (Nat.le_of_ble_eq_true rfl)) dX1_gather_65 ⟨Nat.le_trans (Nat.add_le_add_left hk1 _) hbc, Nat.le_trans (Nat.add_le_add_left hk2 _) hbs⟩) hI hbc hbs hk1 hk2 (fun r_45 h_44 H locs cells slots hw hI hbc hbs => ?_)
      exact ga_iretx hx hb hr rfl hlk hI hw (Nat.le_trans (Nat.le_add_right _ _) hbc) (Nat.le_trans (Nat.le_add_right _ _) hbs) dX1_gather_68
def gw_X1_gather_37 (K : ga_K) (post : Int32 → ga_H → Prop) (xp : String → Nat → ga_H → Prop) (p0 : Nat) (v1 : Int32) (v2 : Int32) (v3 : Int32) (h : ga_H) (bc bs : Nat) : Prop :=
  gw_X1_gather_38 K post xp p0 (0 : Int32) v1 v2 v3 h bc bs
set_option maxHeartbeats 4000000 in
theorem gj_X1_gather_37 {p : Program} {l : Launch} {e : Env} {s : State} {m : MethodId} {args : Array Value} {below : List Frame} {meth : Method} {c : Code} {mc ms : Nat} {H : Heap} {locs : List Loc} {cells slots : Nat} {ls : Array Slot} (hst : l.stackTraces = false) (htab : c.exceptionTable.toList = (tableOf [(50, 68, 69, 25)])) (g : ga_G) (post : Int32 → ga_H → Prop) (xp : String → Nat → ga_H → Prop) (p0 : Nat) (v1 : Int32) (v2 : Int32) (v3 : Int32) (h : ga_H) (bc bs : Nat) (hC : ga_Cx p s m args meth c cX1_gather 6 (some .int) "PaperStore" "gather") (hw : gw_X1_gather_37 g.2.2 post xp p0 v1 v2 v3 h bc bs) (hI : ga_I g h s H locs) (hbc : cells + bc ≤ mc) (hbs : slots + bs ≤ ms) (hl : lv_has ls 6 [(0, .ref p0), (1, .int v1), (2, .int v2), (3, .int v3)]) : W p l e ({ frames := 17, cells := mc, slots := ms, locals := 1389 } : Room) s m args below meth c H locs cells slots (vx_MQ below (va_Qi post (ga_E g) (ga_A g)) (ga_X g xp) args s mc ms (ga_A g)) (F0 m 37 ls []) := by
  obtain ⟨hx, hb, hml, hown, hts, hr, hlk, hnm⟩ := hC
  unfold gw_X1_gather_37 at hw
  refine lv_iconst (v := 0) hx hb dX1_gather_37 (by decide) ?_
  exact gj_X1_gather_38 hst htab g post xp p0 (0 : Int32) v1 v2 v3 h bc bs ⟨hx, hb, hml, hown, hts, hr, hlk, hnm⟩ hw hI hbc hbs (lv_sub hl [0, 1, 2, 3] rfl)
def gw_X1_gather (K : ga_K) (p0 : Nat) (p1 : Int32) (p2 : Int32) (p3 : Int32) (h : ga_H) (mc ms : Nat) (post : Int32 → ga_H → Prop) (xp : String → Nat → ga_H → Prop) : Prop :=
  ∃ (fs_1 : List Value) (v_2 : Option Nat), h p0 = some (ga_O 0 fs_1) ∧ fs_1[0]? = some (va_rf v_2) ∧ (∃ a_3 : Nat, v_2 = some a_3 ∧ ∃ fs_4 : List Value, ga_at K h a_3 (ga_O 1 fs_4) ∧ gw_X2_isOrder K a_3 p1 h (fun (r_6 : Int32) (h_5 : ga_H) => (r_6 = (0 : Int32) → (gw_X1_gather_37 K post xp p0 p1 p2 p3 h_5 mc ms)) ∧ (¬ r_6 = (0 : Int32) → (∃ (fs_46 : List Value) (v_47 : Option Nat), h_5 p0 = some (ga_O 0 fs_46) ∧ fs_46[0]? = some (va_rf v_47) ∧ (∃ a_48 : Nat, v_47 = some a_48 ∧ ∃ fs_49 : List Value, ga_at K h_5 a_48 (ga_O 1 fs_49) ∧ gw_X2_isCart K a_48 p2 h_5 (fun (r_51 : Int32) (h_50 : ga_H) => (r_51 = (0 : Int32) → (gw_X1_gather_37 K post xp p0 p1 p2 p3 h_50 mc ms)) ∧ (¬ r_51 = (0 : Int32) → (∃ (fs_53 : List Value) (v_54 : Option Nat), h_50 p0 = some (ga_O 0 fs_53) ∧ fs_53[0]? = some (va_rf v_54) ∧ (∃ a_55 : Nat, v_54 = some a_55 ∧ ∃ fs_56 : List Value, ga_at K h_50 a_55 (ga_O 1 fs_56) ∧ gw_X2_isLadder K a_55 p3 h_50 (fun (r_58 : Int32) (h_57 : ga_H) => (r_58 = (0 : Int32) → (gw_X1_gather_37 K post xp p0 p1 p2 p3 h_57 mc ms)) ∧ (¬ r_58 = (0 : Int32) → (gw_X1_gather_38 K post xp p0 (1 : Int32) p1 p2 p3 h_57 mc ms))))))))))))
set_option maxHeartbeats 4000000 in
theorem gm_X1_gather (l : Launch) (hst : l.stackTraces = false) (g : ga_G) (p0 : Nat) (p1 : Int32) (p2 : Int32) (p3 : Int32) (h : ga_H) (mc ms : Nat) (post : Int32 → ga_H → Prop) (xp : String → Nat → ga_H → Prop) (hw : gw_X1_gather g.2.2 p0 p1 p2 p3 h mc ms post xp) : vx_Met l yX1_gather (wsW_ yX1_gather cX1_gather 6 (some .int) [(50, 68, 69, 25)]) ({ frames := 17, cells := mc, slots := ms, locals := 1389 } : Room) (va_Pc [.ref p0, .int p1, .int p2, .int p3] (ga_B g h)) (va_Qi post (ga_E g) (ga_A g)) (ga_X g xp) mc ms (ga_A g) := by
  refine ga_metxW (own := "PaperStore") (nm := "gather") (by decide) rfl rfl (by exact Nat.le_of_ble_eq_true rfl) (fun p e s m below meth c ls hC htab hI hl => ?_)
  have hl : lv_has ls 6 [(0, .ref p0), (1, .int p1), (2, .int p2), (3, .int p3)] := hl
  generalize ([.ref p0, .int p1, .int p2, .int p3] : List Value).toArray = args at hC ⊢
  obtain ⟨hx, hb, hml, hown, hts, hr, hlk, hnm⟩ := hC
  unfold gw_X1_gather at hw
  obtain ⟨H, eH⟩ : ∃ z, z = s.heap := ⟨_, rfl⟩
  obtain ⟨locs, elo⟩ : ∃ z : List Loc, z = [] := ⟨_, rfl⟩
  rw [← eH, ← elo] at hI ⊢
  obtain ⟨cells, slots, hbc, hbs, e0, e1⟩ : ∃ a b : Nat, a + mc ≤ mc ∧ b + ms ≤ ms ∧ a = 0 ∧ b = 0 := ⟨0, 0, by omega, by omega, rfl, rfl⟩
  show W p l e ({ frames := 17, cells := mc, slots := ms, locals := 1389 } : Room) s m args below meth c H locs 0 0 (vx_MQ below (va_Qi post (ga_E g) (ga_A g)) (ga_X g xp) args s mc ms (ga_A g)) (F0 m 0 ls [])
  suffices hgoal : W p l e ({ frames := 17, cells := mc, slots := ms, locals := 1389 } : Room) s m args below meth c H locs cells slots (vx_MQ below (va_Qi post (ga_E g) (ga_A g)) (ga_X g xp) args s mc ms (ga_A g)) (F0 m 0 ls []) by rw [e0, e1] at hgoal; exact hgoal
  refine lv_aload_n hx hb dX1_gather_0 rfl (lv_at hl 0 rfl) ?_
  obtain ⟨fs_1, v_2, hq, hv, hw⟩ := hw
  refine ga_get (ci := 0) (T := TX1) (v := va_rf v_2) hx hb hts hown hI in_X1 rfl 0 (by decide) q387 (fun _ z => z) (ga_at.h hq) hv dX1_gather_1 ?_
  refine lv_iload_n hx hb dX1_gather_4 rfl (lv_at hl 1 rfl) ?_
  obtain ⟨a_3, ea_3, hw⟩ := hw
  rewrite [ea_3]
  obtain ⟨fs_4, hq, hw⟩ := hw
  refine ga_calli (va_runV (As := [.int p1]) (rest := []) ⟨hx, hb, hml, hown, hts⟩ (gm_X2_isOrder l g a_3 p1 h _ hw) (cwV 1 hts (lw_V q2424 q2425 q2426 q101 q2427) rfl rfl rfl ⟨rfl, hdG_X2_isOrder⟩ ⟨Nat.le_of_ble_eq_true rfl, Nat.le_of_ble_eq_true rfl⟩) (ga_preV hI hq rfl rfl) rfl rfl hl.1 rfl (ga_room (Nat.le_of_ble_eq_true rfl)) dX1_gather_5 ⟨Nat.le_trans (Nat.add_le_add_left (Nat.zero_le _) _) hbc, Nat.le_trans (Nat.add_le_add_left (Nat.zero_le _) _) hbs⟩) hI hbc hbs (Nat.zero_le _) (Nat.zero_le _) (fun r_6 h_5 H locs cells slots hw hI hbc hbs => ?_)
  refine lv_if_eq (tgt := 37) hx hb dX1_gather_8 (by decide) (fun hc_7 => ?_) (fun hc_7 => ?_)
  · have hw := hw.1 hc_7
    exact gj_X1_gather_37 hst htab g post xp p0 p1 p2 p3 h_5 mc ms ⟨hx, hb, hml, hown, hts, hr, hlk, hnm⟩ hw hI hbc hbs (lv_sub hl [0, 1, 2, 3] rfl)
  · have hw := hw.2 hc_7
    refine lv_aload_n hx hb dX1_gather_11 rfl (lv_at hl 0 rfl) ?_
    obtain ⟨fs_46, v_47, hq, hv, hw⟩ := hw
    refine ga_get (ci := 0) (T := TX1) (v := va_rf v_47) hx hb hts hown hI in_X1 rfl 0 (by decide) q387 (fun _ z => z) (ga_at.h hq) hv dX1_gather_12 ?_
    refine lv_iload_n hx hb dX1_gather_15 rfl (lv_at hl 2 rfl) ?_
    obtain ⟨a_48, ea_48, hw⟩ := hw
    rewrite [ea_48]
    obtain ⟨fs_49, hq, hw⟩ := hw
    refine ga_calli (va_runV (As := [.int p2]) (rest := []) ⟨hx, hb, hml, hown, hts⟩ (gm_X2_isCart l g a_48 p2 h_5 _ hw) (cwV 1 hts (lw_V q2468 q2469 q2470 q101 q2471) rfl rfl rfl ⟨rfl, hdG_X2_isCart⟩ ⟨Nat.le_of_ble_eq_true rfl, Nat.le_of_ble_eq_true rfl⟩) (ga_preV hI hq rfl rfl) rfl rfl hl.1 rfl (ga_room (Nat.le_of_ble_eq_true rfl)) dX1_gather_16 ⟨Nat.le_trans (Nat.add_le_add_left (Nat.zero_le _) _) hbc, Nat.le_trans (Nat.add_le_add_left (Nat.zero_le _) _) hbs⟩) hI hbc hbs (Nat.zero_le _) (Nat.zero_le _) (fun r_51 h_50 H locs cells slots hw hI hbc hbs => ?_)
    refine lv_if_eq (tgt := 37) hx hb dX1_gather_19 (by decide) (fun hc_52 => ?_) (fun hc_52 => ?_)
    · have hw := hw.1 hc_52
      exact gj_X1_gather_37 hst htab g post xp p0 p1 p2 p3 h_50 mc ms ⟨hx, hb, hml, hown, hts, hr, hlk, hnm⟩ hw hI hbc hbs (lv_sub hl [0, 1, 2, 3] rfl)
    · have hw := hw.2 hc_52
      refine lv_aload_n hx hb dX1_gather_22 rfl (lv_at hl 0 rfl) ?_
      obtain ⟨fs_53, v_54, hq, hv, hw⟩ := hw
      refine ga_get (ci := 0) (T := TX1) (v := va_rf v_54) hx hb hts hown hI in_X1 rfl 0 (by decide) q387 (fun _ z => z) (ga_at.h hq) hv dX1_gather_23 ?_
      refine lv_iload_n hx hb dX1_gather_26 rfl (lv_at hl 3 rfl) ?_
      obtain ⟨a_55, ea_55, hw⟩ := hw
      rewrite [ea_55]
      obtain ⟨fs_56, hq, hw⟩ := hw
      refine ga_calli (va_runV (As := [.int p3]) (rest := []) ⟨hx, hb, hml, hown, hts⟩ (gm_X2_isLadder l g a_55 p3 h_50 _ hw) (cwV 1 hts (lw_V q2129 q2130 q2131 q101 q2132) rfl rfl rfl ⟨rfl, hdG_X2_isLadder⟩ ⟨Nat.le_of_ble_eq_true rfl, Nat.le_of_ble_eq_true rfl⟩) (ga_preV hI hq rfl rfl) rfl rfl hl.1 rfl (ga_room (Nat.le_of_ble_eq_true rfl)) dX1_gather_27 ⟨Nat.le_trans (Nat.add_le_add_left (Nat.zero_le _) _) hbc, Nat.le_trans (Nat.add_le_add_left (Nat.zero_le _) _) hbs⟩) hI hbc hbs (Nat.zero_le _) (Nat.zero_le _) (fun r_58 h_57 H locs cells slots hw hI hbc hbs => ?_)
      refine lv_if_eq (tgt := 37) hx hb dX1_gather_30 (by decide) (fun hc_59 => ?_) (fun hc_59 => ?_)
      · have hw := hw.1 hc_59
        exact gj_X1_gather_37 hst htab g post xp p0 p1 p2 p3 h_57 mc ms ⟨hx, hb, hml, hown, hts, hr, hlk, hnm⟩ hw hI hbc hbs (lv_sub hl [0, 1, 2, 3] rfl)
      · have hw := hw.2 hc_59
        refine lv_iconst (v := 1) hx hb dX1_gather_33 (by decide) ?_
        refine lv_goto (tgt := 38) hx hb dX1_gather_34 (by decide) ?_
        exact gj_X1_gather_38 hst htab g post xp p0 (1 : Int32) p1 p2 p3 h_57 mc ms ⟨hx, hb, hml, hown, hts, hr, hlk, hnm⟩ hw hI hbc hbs (lv_sub hl [0, 1, 2, 3] rfl)
theorem hdG_X1_gather : yX1_gather.cls ≠ "java/lang/invoke/MethodHandle" ∧ yX1_gather.cls ≠ "java/lang/invoke/VarHandle" ∧ (parseMethodDescriptor yX1_gather.desc).map (fun d => d.parameters.length) = some 3 := by decide +kernel
def gw_X0_gather (K : ga_K) (p0 : Option Nat) (p1 : Int32) (p2 : Int32) (p3 : Int32) (p4 : Option Nat) (h : ga_H) (mc ms : Nat) (post : Int32 → ga_H → Prop) (xp : String → Nat → ga_H → Prop) : Prop :=
  ∃ a_1 : Nat, p0 = some a_1 ∧ ∃ kc_2 ks_3 : Nat, kc_2 ≤ mc ∧ ks_3 ≤ ms ∧ ∃ fs_4 : List Value, ga_at K h a_1 (ga_O 0 fs_4) ∧ gw_X1_gather K a_1 p1 p2 p3 h kc_2 ks_3 (fun (r_6 : Int32) (h_5 : ga_H) => ∃ a_10 : Nat, p4 = some a_10 ∧ ∃ (n_11 : Nat) (f_12 : Nat → Int64), h_5 a_10 = some (ga_Al n_11 f_12) ∧ vp_in (0 : Int32) n_11 ∧ ∀ h_13 : ga_H, h_13 = ga_set h_5 a_10 (ga_Al n_11 (vp_updL f_12 (0 : Int32).toNatClampNeg r_6.toInt64)) → (post (0 : Int32) h_13)) (fun (E_7 : String) (q_8 : Nat) (h_9 : ga_H) => (E_7 = "java/lang/IndexOutOfBoundsException" ∧ (post (1 : Int32) h_9)) ∨ (E_7 = "java/lang/UnsupportedOperationException" ∧ (post (2 : Int32) h_9)))
set_option maxHeartbeats 4000000 in
theorem gm_X0_gather (l : Launch) (hst : l.stackTraces = false) (g : ga_G) (p0 : Option Nat) (p1 : Int32) (p2 : Int32) (p3 : Int32) (p4 : Option Nat) (h : ga_H) (mc ms : Nat) (post : Int32 → ga_H → Prop) (xp : String → Nat → ga_H → Prop) (hw : gw_X0_gather g.2.2 p0 p1 p2 p3 p4 h mc ms post xp) : vx_Met l yX0_gather (wsW_ yX0_gather cX0_gather 6 (some .int) [(0, 12, 15, 21), (0, 12, 19, 15)]) ({ frames := 18, cells := mc, slots := ms, locals := 1414 } : Room) (va_Pc [va_rf p0, .int p1, .int p2, .int p3, va_rf p4] (ga_B g h)) (va_Qi post (ga_E g) (ga_A g)) (ga_X g xp) mc ms (ga_A g) := by
  refine ga_metxW (own := "PaperStoreLaw") (nm := "gather") (by decide) rfl rfl (by cases p0 <;> cases p4 <;> exact Nat.le_of_ble_eq_true rfl) (fun p e s m below meth c ls hC htab hI hl => ?_)
  have hl : lv_has ls 6 [(0, va_rf p0), (1, .int p1), (2, .int p2), (3, .int p3), (4, va_rf p4)] := (by cases p0 <;> cases p4 <;> exact hl)
  generalize ([va_rf p0, .int p1, .int p2, .int p3, va_rf p4] : List Value).toArray = args at hC ⊢
  obtain ⟨hx, hb, hml, hown, hts, hr, hlk, hnm⟩ := hC
  unfold gw_X0_gather at hw
  obtain ⟨H, eH⟩ : ∃ z, z = s.heap := ⟨_, rfl⟩
  obtain ⟨locs, elo⟩ : ∃ z : List Loc, z = [] := ⟨_, rfl⟩
  rw [← eH, ← elo] at hI ⊢
  obtain ⟨cells, slots, hbc, hbs, e0, e1⟩ : ∃ a b : Nat, a + mc ≤ mc ∧ b + ms ≤ ms ∧ a = 0 ∧ b = 0 := ⟨0, 0, by omega, by omega, rfl, rfl⟩
  show W p l e ({ frames := 18, cells := mc, slots := ms, locals := 1414 } : Room) s m args below meth c H locs 0 0 (vx_MQ below (va_Qi post (ga_E g) (ga_A g)) (ga_X g xp) args s mc ms (ga_A g)) (F0 m 0 ls [])
  suffices hgoal : W p l e ({ frames := 18, cells := mc, slots := ms, locals := 1414 } : Room) s m args below meth c H locs cells slots (vx_MQ below (va_Qi post (ga_E g) (ga_A g)) (ga_X g xp) args s mc ms (ga_A g)) (F0 m 0 ls []) by rw [e0, e1] at hgoal; exact hgoal
  refine ga_aload hx hb dX0_gather_0 (lv_at hl 4 rfl) ?_
  refine lv_iconst (v := 0) hx hb dX0_gather_2 (by decide) ?_
  refine ga_aload_n hx hb dX0_gather_3 rfl (lv_at hl 0 rfl) ?_
  refine lv_iload_n hx hb dX0_gather_4 rfl (lv_at hl 1 rfl) ?_
  refine lv_iload_n hx hb dX0_gather_5 rfl (lv_at hl 2 rfl) ?_
  refine lv_iload_n hx hb dX0_gather_6 rfl (lv_at hl 3 rfl) ?_
  obtain ⟨a_1, ea_1, hw⟩ := hw
  rewrite [ea_1]
  obtain ⟨kc_2, ks_3, hk1, hk2, hw⟩ := hw
  obtain ⟨fs_4, hq, hw⟩ := hw
  refine ga_xcalli (vx_runVX (As := [.int p1, .int p2, .int p3]) (rest := [.int (0 : Int32), va_rf p4]) ⟨hx, hb, hml, hown, hts⟩ (gm_X1_gather l hst g a_1 p1 p2 p3 h kc_2 ks_3 _ _ hw) (vx_cwVW 3 hts (lw_VW q2464 q2465 q2466 q100 q2467) rfl rfl rfl ⟨rfl, hdG_X1_gather⟩ ⟨Nat.le_of_ble_eq_true rfl, Nat.le_of_ble_eq_true rfl⟩) (ga_preV hI hq rfl rfl) rfl rfl hl.1 rfl (ga_room (Nat.le_of_ble_eq_true rfl)) dX0_gather_7 ⟨Nat.le_trans (Nat.add_le_add_left hk1 _) hbc, Nat.le_trans (Nat.add_le_add_left hk2 _) hbs⟩) hI hbc hbs hk1 hk2 (fun E_7 q_8 h_9 ce H locs cells slots hw hI hce hbc hbs => ?_) (fun r_6 h_5 H locs cells slots hw hI hbc hbs => ?_)
  · rcases hw with ⟨rfl, hw⟩ | ⟨rfl, hw⟩
    · skip
      refine ga_catch hown hts hI ([]) (⟨0, 12, 15, 21⟩) ([⟨0, 12, 19, 15⟩]) (by rw [htab]; rfl) (fun _ h => absurd h List.not_mem_nil) rfl (by decide) q2105 q866 hce ?_
      refine W.eq (g2 := F0 m 15 ls [.ref q_8]) rfl ?_
      refine lv_astore (lv' := [(5, .ref q_8), (0, va_rf p0), (1, .int p1), (2, .int p2), (3, .int p3), (4, va_rf p4)]) hx hb dX0_gather_15 hl (by decide) (by simp [ga_rcat, ga_cat_r, ga_cat_i, ga_cat_f, ga_cat_l, ga_cat_d]) (fun ls hl => ?_)
      refine lv_iconst (v := 1) hx hb dX0_gather_17 (by decide) ?_
      exact ga_iretx hx hb hr rfl hlk hI hw (Nat.le_trans (Nat.le_add_right _ _) hbc) (Nat.le_trans (Nat.le_add_right _ _) hbs) dX0_gather_18
    · skip
      refine ga_catch hown hts hI ([⟨0, 12, 15, 21⟩]) (⟨0, 12, 19, 15⟩) ([]) (by rw [htab]; rfl) (List.forall_mem_cons.mpr ⟨Or.inr ⟨by decide, ga_ncs hts hI q2105 (List.mem_of_getElem? (i := 2) rfl)⟩, fun _ h => absurd h List.not_mem_nil⟩) rfl (by decide) q2018 q2089 hce ?_
      refine W.eq (g2 := F0 m 19 ls [.ref q_8]) rfl ?_
      refine lv_astore (lv' := [(5, .ref q_8), (0, va_rf p0), (1, .int p1), (2, .int p2), (3, .int p3), (4, va_rf p4)]) hx hb dX0_gather_19 hl (by decide) (by simp [ga_rcat, ga_cat_r, ga_cat_i, ga_cat_f, ga_cat_l, ga_cat_d]) (fun ls hl => ?_)
      refine lv_iconst (v := 2) hx hb dX0_gather_21 (by decide) ?_
      exact ga_iretx hx hb hr rfl hlk hI hw (Nat.le_trans (Nat.le_add_right _ _) hbc) (Nat.le_trans (Nat.le_add_right _ _) hbs) dX0_gather_22
  · skip
    refine lv_i2l (v := r_6.toInt64) hx hb dX0_gather_10 rfl ?_
    obtain ⟨a_10, ea_10, hw⟩ := hw
    rewrite [ea_10]
    obtain ⟨n_11, f_12, hq, hi, hw⟩ := hw
    refine ga_stl hx hb hI hq hi dX0_gather_11 (fun H locs hI => ?_)
    obtain ⟨h_13, eh_13⟩ : ∃ z, z = ga_set h_5 a_10 (ga_Al n_11 (vp_updL f_12 (0 : Int32).toNatClampNeg r_6.toInt64)) := ⟨_, rfl⟩
    rw [← eh_13] at hI
    have hw := hw h_13 eh_13
    refine lv_goto (tgt := 23) hx hb dX0_gather_12 (by decide) ?_
    refine lv_iconst (v := 0) hx hb dX0_gather_23 (by decide) ?_
    exact ga_iretx hx hb hr rfl hlk hI hw (Nat.le_trans (Nat.le_add_right _ _) hbc) (Nat.le_trans (Nat.le_add_right _ _) hbs) dX0_gather_24
theorem hdG_X0_gather : yX0_gather.cls ≠ "java/lang/invoke/MethodHandle" ∧ yX0_gather.cls ≠ "java/lang/invoke/VarHandle" ∧ (parseMethodDescriptor yX0_gather.desc).map (fun d => d.parameters.length) = some 5 := by decide +kernel
def gw_X1_cartAt (K : ga_K) (p0 : Nat) (p1 : Int32) (h : ga_H) (mc ms : Nat) (post : Option Nat → ga_H → Prop) (xp : String → Nat → ga_H → Prop) : Prop :=
  ∃ (fs_1 : List Value) (v_2 : Option Nat), h p0 = some (ga_O 0 fs_1) ∧ fs_1[0]? = some (va_rf v_2) ∧ (∃ a_3 : Nat, v_2 = some a_3 ∧ ∃ fs_4 : List Value, ga_at K h a_3 (ga_O 1 fs_4) ∧ gw_X2_isCart K a_3 p1 h (fun (r_6 : Int32) (h_5 : ga_H) => ∃ kc_7 ks_8 : Nat, kc_7 ≤ mc ∧ ks_8 ≤ ms ∧ gw_X1_checkIndex K r_6 h_5 kc_7 ks_8 (fun (h_9 : ga_H) => ∃ (fs_13 : List Value) (v_14 : Option Nat), h_9 p0 = some (ga_O 0 fs_13) ∧ fs_13[0]? = some (va_rf v_14) ∧ (∃ a_15 : Nat, v_14 = some a_15 ∧ ∃ (fs_16 : List Value) (v_17 : Option Nat), h_9 a_15 = some (ga_O 1 fs_16) ∧ fs_16[3]? = some (va_rf v_17) ∧ (∃ a_18 : Nat, v_17 = some a_18 ∧ ∃ fs_19 : List Value, ga_at K h_9 a_18 (ga_O 13 fs_19) ∧ gw_J2_get K a_18 p1 h_9 (fun (r_21 : Option Nat) (h_20 : ga_H) => ga_ok K h_20 "PaperStore$Cart" r_21 ∧ (post r_21 h_20))))) (fun (E_10 : String) (q_11 : Nat) (h_12 : ga_H) => xp E_10 q_11 h_12)))
set_option maxHeartbeats 4000000 in
theorem gm_X1_cartAt (l : Launch) (hst : l.stackTraces = false) (g : ga_G) (p0 : Nat) (p1 : Int32) (h : ga_H) (mc ms : Nat) (post : Option Nat → ga_H → Prop) (xp : String → Nat → ga_H → Prop) (hw : gw_X1_cartAt g.2.2 p0 p1 h mc ms post xp) : vx_Met l yX1_cartAt (ws_ yX1_cartAt cX1_cartAt 2 (some (.object "PaperStore$Cart"))) ({ frames := 11, cells := mc, slots := ms, locals := 204 } : Room) (va_Pc [.ref p0, .int p1] (ga_B g h)) (va_Qq post (ga_E g) (ga_A g)) (ga_X g xp) mc ms (ga_A g) := by
  refine ga_metx (own := "PaperStore") (nm := "cartAt") (by decide) rfl rfl (by exact Nat.le_of_ble_eq_true rfl) (fun p e s m below meth c ls hC htab hI hl => ?_)
  have hl : lv_has ls 2 [(0, .ref p0), (1, .int p1)] := hl
  generalize ([.ref p0, .int p1] : List Value).toArray = args at hC ⊢
  obtain ⟨hx, hb, hml, hown, hts, hr, hlk, hnm⟩ := hC
  unfold gw_X1_cartAt at hw
  obtain ⟨H, eH⟩ : ∃ z, z = s.heap := ⟨_, rfl⟩
  obtain ⟨locs, elo⟩ : ∃ z : List Loc, z = [] := ⟨_, rfl⟩
  rw [← eH, ← elo] at hI ⊢
  obtain ⟨cells, slots, hbc, hbs, e0, e1⟩ : ∃ a b : Nat, a + mc ≤ mc ∧ b + ms ≤ ms ∧ a = 0 ∧ b = 0 := ⟨0, 0, by omega, by omega, rfl, rfl⟩
  show W p l e ({ frames := 11, cells := mc, slots := ms, locals := 204 } : Room) s m args below meth c H locs 0 0 (vx_MQ below (va_Qq post (ga_E g) (ga_A g)) (ga_X g xp) args s mc ms (ga_A g)) (F0 m 0 ls [])
  suffices hgoal : W p l e ({ frames := 11, cells := mc, slots := ms, locals := 204 } : Room) s m args below meth c H locs cells slots (vx_MQ below (va_Qq post (ga_E g) (ga_A g)) (ga_X g xp) args s mc ms (ga_A g)) (F0 m 0 ls []) by rw [e0, e1] at hgoal; exact hgoal
  refine lv_aload_n hx hb dX1_cartAt_0 rfl (lv_at hl 0 rfl) ?_
  obtain ⟨fs_1, v_2, hq, hv, hw⟩ := hw
  refine ga_get (ci := 0) (T := TX1) (v := va_rf v_2) hx hb hts hown hI in_X1 rfl 0 (by decide) q387 (fun _ z => z) (ga_at.h hq) hv dX1_cartAt_1 ?_
  refine lv_iload_n hx hb dX1_cartAt_4 rfl (lv_at hl 1 rfl) ?_
  obtain ⟨a_3, ea_3, hw⟩ := hw
  rewrite [ea_3]
  obtain ⟨fs_4, hq, hw⟩ := hw
  refine ga_calli (va_runV (As := [.int p1]) (rest := []) ⟨hx, hb, hml, hown, hts⟩ (gm_X2_isCart l g a_3 p1 h _ hw) (cwV 1 hts (lw_V q2468 q2469 q2470 q101 q2471) rfl rfl rfl ⟨rfl, hdG_X2_isCart⟩ ⟨Nat.le_of_ble_eq_true rfl, Nat.le_of_ble_eq_true rfl⟩) (ga_preV hI hq rfl rfl) rfl rfl hl.1 rfl (ga_room (Nat.le_of_ble_eq_true rfl)) dX1_cartAt_5 ⟨Nat.le_trans (Nat.add_le_add_left (Nat.zero_le _) _) hbc, Nat.le_trans (Nat.add_le_add_left (Nat.zero_le _) _) hbs⟩) hI hbc hbs (Nat.zero_le _) (Nat.zero_le _) (fun r_6 h_5 H locs cells slots hw hI hbc hbs => ?_)
  obtain ⟨kc_7, ks_8, hk1, hk2, hw⟩ := hw
  refine ga_xcallv (vx_runS (As := [.int r_6]) (rest := []) ⟨hx, hb, hml, hown, hts⟩ (gm_X1_checkIndex l hst g r_6 h_5 kc_7 ks_8 _ _ hw) (va_cwS 1 hts (lw_S q2134 q2135 q100 q2136) rfl rfl rfl hdG_X1_checkIndex ⟨Nat.le_of_ble_eq_true rfl, Nat.le_of_ble_eq_true rfl⟩) (ga_preS hI rfl) rfl rfl hl.1 rfl (ga_room (Nat.le_of_ble_eq_true rfl)) dX1_cartAt_8 ⟨Nat.le_trans (Nat.add_le_add_left hk1 _) hbc, Nat.le_trans (Nat.add_le_add_left hk2 _) hbs⟩) hI hbc hbs hk1 hk2 (fun E_10 q_11 h_12 ce H locs cells slots hw hI hce hbc hbs => ?_) (fun h_9 H locs cells slots hw hI hbc hbs => ?_)
  · exact ga_out hown hlk hI hw (by rw [htab]; intro z hz; cases hz) hce (Nat.le_trans (Nat.le_add_right _ _) hbc) (Nat.le_trans (Nat.le_add_right _ _) hbs)
  · skip
    refine lv_aload_n hx hb dX1_cartAt_11 rfl (lv_at hl 0 rfl) ?_
    obtain ⟨fs_13, v_14, hq, hv, hw⟩ := hw
    refine ga_get (ci := 0) (T := TX1) (v := va_rf v_14) hx hb hts hown hI in_X1 rfl 0 (by decide) q387 (fun _ z => z) (ga_at.h hq) hv dX1_cartAt_12 ?_
    obtain ⟨a_15, ea_15, hw⟩ := hw
    rewrite [ea_15]
    obtain ⟨fs_16, v_17, hq, hv, hw⟩ := hw
    refine ga_getN (ci := 1) (T := TX2) (v := va_rf v_17) hx hb hts hown hI in_X2 rfl 3 (by decide) q317 (fun _ z => z) (ga_at.h hq) hv dX1_cartAt_15 ?_
    refine lv_iload_n hx hb dX1_cartAt_18 rfl (lv_at hl 1 rfl) ?_
    obtain ⟨a_18, ea_18, hw⟩ := hw
    rewrite [ea_18]
    obtain ⟨fs_19, hq, hw⟩ := hw
    refine ga_callq (va_runV (As := [.int p1]) (rest := []) ⟨hx, hb, hml, hown, hts⟩ (gm_J2_get l g a_18 p1 h_9 _ hw) (cwV 1 hts (lw_V q2142 q839 q4120 q104 q841) rfl rfl rfl ⟨rfl, hdG_J2_get⟩ ⟨Nat.le_of_ble_eq_true rfl, Nat.le_of_ble_eq_true rfl⟩) (ga_preV hI hq rfl rfl) rfl rfl hl.1 rfl (ga_room (Nat.le_of_ble_eq_true rfl)) dX1_cartAt_19 ⟨Nat.le_trans (Nat.add_le_add_left (Nat.zero_le _) _) hbc, Nat.le_trans (Nat.add_le_add_left (Nat.zero_le _) _) hbs⟩) hI hbc hbs (Nat.zero_le _) (Nat.zero_le _) (fun r_21 h_20 H locs cells slots hw hI hbc hbs => ?_)
    refine ga_cast (x := r_21) hx hb hts hown hI q2507 hw.1 dX1_cartAt_22 ?_
    have hw := hw.2
    exact ga_qretx (v := r_21) hx hb hr (Or.inl ⟨_, rfl⟩) hlk hI hw (Nat.le_trans (Nat.le_add_right _ _) hbc) (Nat.le_trans (Nat.le_add_right _ _) hbs) dX1_cartAt_25
theorem hdG_X1_cartAt : yX1_cartAt.cls ≠ "java/lang/invoke/MethodHandle" ∧ yX1_cartAt.cls ≠ "java/lang/invoke/VarHandle" ∧ (parseMethodDescriptor yX1_cartAt.desc).map (fun d => d.parameters.length) = some 1 := by decide +kernel
def gw_J4_getNode_P_137 (K : ga_K) (post : Option Nat → ga_H → Prop) (hd99 : Option Nat → ga_H → Prop) (p0 : Nat) (v1 : Option Nat) (v4 : Option Nat) (v6 : Int32) (h : ga_H) : Prop :=
  ∃ a_31 : Nat, v4 = some a_31 ∧ ∃ (fs_32 : List Value) (v_33 : Option Nat), h a_31 = some (ga_O 16 fs_32) ∧ fs_32[3]? = some (va_rf v_33) ∧ ((v_33 = none → (post none h)) ∧ (∀ a_34 : Nat, v_33 = some a_34 → (hd99 v_33 h)))
set_option maxHeartbeats 4000000 in
theorem gj_J4_getNode_P_137 {p : Program} {l : Launch} {e : Env} {s : State} {m : MethodId} {args : Array Value} {below : List Frame} {meth : Method} {c : Code} {H : Heap} {locs : List Loc} {cells slots : Nat} {ls : Array Slot} (g : ga_G) (post : Option Nat → ga_H → Prop) (hd99 : Option Nat → ga_H → Prop) (p0 : Nat) (v1 : Option Nat) (v4 : Option Nat) (v6 : Int32) (h : ga_H) (hC : ga_Cx p s m args meth c cJ4_getNode 8 (some (.object "java/util/HashMap$Node")) "java/util/HashMap" "getNode") (hw : gw_J4_getNode_P_137 g.2.2 post hd99 p0 v1 v4 v6 h) (hhd99 : ∀ (y0 : Option Nat) (T : ga_H) (H : Heap) (locs : List Loc) (cells slots : Nat) (ls : Array Slot), hd99 y0 T → ga_I g T s H locs → cells ≤ 0 → slots ≤ 0 → lv_has ls 8 [(1, va_rf v1), (4, va_rf y0), (6, .int v6)] → W p l e ({ frames := 10, cells := 0, slots := 0, locals := 181 } : Room) s m args below meth c H locs cells slots (MQ below (va_Qq post (ga_E g) (ga_A g)) args s 0 0 (ga_A g)) (F0 m 99 ls [])) (hI : ga_I g h s H locs) (hbc : cells ≤ 0) (hbs : slots ≤ 0) (hl : lv_has ls 8 [(1, va_rf v1), (4, va_rf v4), (6, .int v6)]) : W p l e ({ frames := 10, cells := 0, slots := 0, locals := 181 } : Room) s m args below meth c H locs cells slots (MQ below (va_Qq post (ga_E g) (ga_A g)) args s 0 0 (ga_A g)) (F0 m 137 ls []) := by
  obtain ⟨hx, hb, hml, hown, hts, hr, hlk, hnm⟩ := hC
  unfold gw_J4_getNode_P_137 at hw
  refine ga_aload hx hb dJ4_getNode_137 (lv_at hl 1 rfl) ?_
  obtain ⟨a_31, ea_31, hw⟩ := hw
  rewrite [ea_31]
  obtain ⟨fs_32, v_33, hq, hv, hw⟩ := hw
  refine ga_get (ci := 16) (T := TJ32) (v := va_rf v_33) hx hb hts hown hI in_J32 rfl 3 (by decide) q1513 (fun _ z => z) (ga_at.h hq) hv dJ4_getNode_139 ?_
  refine lv_dup hx hb dJ4_getNode_142 (ga_rcat _) ?_
  refine ga_astore (x := v_33) (lv' := [(4, va_rf v_33), (1, va_rf v1), (6, .int v6)]) hx hb dJ4_getNode_143 hl (by decide) rfl (fun ls hl => ?_)
  refine ga_ifnonnull (tgt := 99) hx hb dJ4_getNode_145 (by decide) (fun a_34 hc_a_34 => ?_) (fun hc_a_34 => ?_)
  · have hw := hw.2 a_34 hc_a_34
    skip
    exact hhd99 _ _ H locs cells slots ls hw hI hbc hbs (lv_sub hl [1, 0, 2] rfl)
  · have hw := hw.1 hc_a_34
    refine lv_null hx hb dJ4_getNode_148 ?_
    exact ga_qret (v := none) hx hb hr (Or.inl ⟨_, rfl⟩) hlk hI hw hbc hbs dJ4_getNode_149
def gw_J4_getNode_P_71 (K : ga_K) (post : Option Nat → ga_H → Prop) (p0 : Nat) (v1 : Option Nat) (v3 : Option Nat) (v6 : Int32) (h : ga_H) : Prop :=
  ∃ a_19 : Nat, v3 = some a_19 ∧ ∃ (fs_20 : List Value) (v_21 : Option Nat), h a_19 = some (ga_O 16 fs_20) ∧ fs_20[3]? = some (va_rf v_21) ∧ ((v_21 = none → (post none h)) ∧ (∀ a_22 : Nat, v_21 = some a_22 → (∃ a_24 : Nat, v3 = some a_24 ∧ ∃ fs_23 : List Value, ga_at K h a_24 (ga_O 16 fs_23) ∧ (∃ (In_26 : Option Nat → ga_H → Prop) (mu_26 : Option Nat → ga_H → Nat), In_26 v_21 h ∧ ∀ (x4_26 : Option Nat) (h_26 : ga_H), In_26 x4_26 h_26 → (∃ a_27 : Nat, x4_26 = some a_27 ∧ ∃ (fs_28 : List Value) (v_29 : Int32), h_26 a_27 = some (ga_O 16 fs_28) ∧ fs_28[0]? = some (.int v_29) ∧ ((¬ v_29 = v6 → (gw_J4_getNode_P_137 K post (fun (y0 : Option Nat) (T : ga_H) => In_26 y0 T ∧ mu_26 y0 T < mu_26 x4_26 h_26) p0 v1 x4_26 v6 h_26)) ∧ (v_29 = v6 → (∃ a_35 : Nat, x4_26 = some a_35 ∧ ∃ (fs_36 : List Value) (v_37 : Option Nat), h_26 a_35 = some (ga_O 16 fs_36) ∧ fs_36[1]? = some (va_rf v_37) ∧ ((v_37 = v1 → (post x4_26 h_26)) ∧ (¬ v_37 = v1 → ((v1 = none → (gw_J4_getNode_P_137 K post (fun (y0 : Option Nat) (T : ga_H) => In_26 y0 T ∧ mu_26 y0 T < mu_26 x4_26 h_26) p0 v1 x4_26 v6 h_26)) ∧ (∀ a_39 : Nat, v1 = some a_39 → (∃ a_40 : Nat, v1 = some a_40 ∧ ∃ fs_41 : List Value, ga_at K h_26 a_40 (ga_O 9 fs_41) ∧ gw_X11_equals K a_40 v_37 h_26 (fun (r_43 : Int32) (h_42 : ga_H) => (r_43 = (0 : Int32) → (gw_J4_getNode_P_137 K post (fun (y0 : Option Nat) (T : ga_H) => In_26 y0 T ∧ mu_26 y0 T < mu_26 x4_26 h_26) p0 v1 x4_26 v6 h_42)) ∧ (¬ r_43 = (0 : Int32) → (post x4_26 h_42))))))))))))))))
set_option maxHeartbeats 4000000 in
theorem gj_J4_getNode_P_71 {p : Program} {l : Launch} {e : Env} {s : State} {m : MethodId} {args : Array Value} {below : List Frame} {meth : Method} {c : Code} {H : Heap} {locs : List Loc} {cells slots : Nat} {ls : Array Slot} (g : ga_G) (post : Option Nat → ga_H → Prop) (p0 : Nat) (v1 : Option Nat) (v3 : Option Nat) (v6 : Int32) (h : ga_H) (hC : ga_Cx p s m args meth c cJ4_getNode 8 (some (.object "java/util/HashMap$Node")) "java/util/HashMap" "getNode") (hw : gw_J4_getNode_P_71 g.2.2 post p0 v1 v3 v6 h) (hI : ga_I g h s H locs) (hbc : cells ≤ 0) (hbs : slots ≤ 0) (hl : lv_has ls 8 [(1, va_rf v1), (3, va_rf v3), (6, .int v6)]) : W p l e ({ frames := 10, cells := 0, slots := 0, locals := 181 } : Room) s m args below meth c H locs cells slots (MQ below (va_Qq post (ga_E g) (ga_A g)) args s 0 0 (ga_A g)) (F0 m 71 ls []) := by
  obtain ⟨hx, hb, hml, hown, hts, hr, hlk, hnm⟩ := hC
  unfold gw_J4_getNode_P_71 at hw
  refine ga_aload_n hx hb dJ4_getNode_71 rfl (lv_at hl 1 rfl) ?_
  obtain ⟨a_19, ea_19, hw⟩ := hw
  rewrite [ea_19]
  obtain ⟨fs_20, v_21, hq, hv, hw⟩ := hw
  refine ga_get (ci := 16) (T := TJ32) (v := va_rf v_21) hx hb hts hown hI in_J32 rfl 3 (by decide) q1513 (fun _ z => z) (ga_at.h hq) hv dJ4_getNode_72 ?_
  refine lv_dup hx hb dJ4_getNode_75 (ga_rcat _) ?_
  refine ga_astore (x := v_21) (lv' := [(4, va_rf v_21), (1, va_rf v1), (3, va_rf v3), (6, .int v6)]) hx hb dJ4_getNode_76 hl (by decide) (by simp [ga_rcat, ga_cat_r, ga_cat_i, ga_cat_f, ga_cat_l, ga_cat_d]) (fun ls hl => ?_)
  refine ga_ifnull (tgt := 148) hx hb dJ4_getNode_78 (by decide) (fun hc_a_22 => ?_) (fun a_22 hc_a_22 => ?_)
  · have hw := hw.1 hc_a_22
    refine lv_null hx hb dJ4_getNode_148 ?_
    exact ga_qret (v := none) hx hb hr (Or.inl ⟨_, rfl⟩) hlk hI hw hbc hbs dJ4_getNode_149
  · have hw := hw.2 a_22 hc_a_22
    skip
    refine ga_aload_n hx hb dJ4_getNode_81 rfl (lv_at hl 2 rfl) ?_
    obtain ⟨a_24, ea_24, hw⟩ := hw
    rewrite [ea_24]
    obtain ⟨fs_23, hq, hw⟩ := hw
    refine ga_instN (ci := 16) hx hb hts hown hI q1478 hq rfl (List.mem_of_getElem? (i := 0) rfl) dJ4_getNode_82 ?_
    refine lv_if_eq (tgt := 99) hx hb dJ4_getNode_85 (by decide) (fun _ => ?_) (fun hc_25 => by first | exact absurd hc_25 (by decide) | exact absurd (by decide) hc_25)
    obtain ⟨In_26, mu_26, h0_26, hw⟩ := hw
    have hL_26 : ∀ (n : Nat) (x4_26 : Option Nat) (h_26 : ga_H) (H : Heap) (locs : List Loc) (cells slots : Nat) (ls : Array Slot), mu_26 x4_26 h_26 < n → In_26 x4_26 h_26 → ga_I g h_26 s H locs → cells ≤ 0 → slots ≤ 0 → lv_has ls 8 [(1, va_rf v1), (4, va_rf x4_26), (6, .int v6)] → W p l e ({ frames := 10, cells := 0, slots := 0, locals := 181 } : Room) s m args below meth c H locs cells slots (MQ below (va_Qq post (ga_E g) (ga_A g)) args s 0 0 (ga_A g)) (F0 m 99 ls []) := by
      intro n
      induction n with
      | zero => intro x4_26 h_26 H locs cells slots ls hn _ _ _ _ _; exact absurd hn (Nat.not_lt_zero _)
      | succ n ih_26 =>
        intro x4_26 h_26 H locs cells slots ls hn_26 hi_26 hI hbc hbs hl
        have hw := hw x4_26 h_26 hi_26
        refine ga_aload hx hb dJ4_getNode_99 (lv_at hl 1 rfl) ?_
        obtain ⟨a_27, ea_27, hw⟩ := hw
        rewrite [ea_27]
        obtain ⟨fs_28, v_29, hq, hv, hw⟩ := hw
        refine ga_get (ci := 16) (T := TJ32) (v := .int v_29) hx hb hts hown hI in_J32 rfl 0 (by decide) q1500 (fun _ z => z) (ga_at.h hq) hv dJ4_getNode_101 ?_
        refine lv_iload hx hb dJ4_getNode_104 (lv_at hl 2 rfl) ?_
        refine lv_icmp_ne (tgt := 137) hx hb dJ4_getNode_106 (by decide) (fun hc_30 => ?_) (fun hc_30 => ?_)
        · have hw := hw.1 hc_30
          exact gj_J4_getNode_P_137 g post (fun (y0 : Option Nat) (T : ga_H) => In_26 y0 T ∧ mu_26 y0 T < mu_26 x4_26 h_26) p0 v1 x4_26 v6 h_26 ⟨hx, hb, hml, hown, hts, hr, hlk, hnm⟩ hw (fun _y0 _y1 H locs cells slots ls hw hI hbc hbs hl => ih_26 _ _ H locs cells slots ls (Nat.lt_of_lt_of_le hw.2 (Nat.le_of_lt_succ hn_26)) hw.1 hI hbc hbs hl) hI hbc hbs (lv_sub hl [0, 1, 2] rfl)
        · have hw := hw.2 hc_30
          refine ga_aload hx hb dJ4_getNode_109 (lv_at hl 1 rfl) ?_
          obtain ⟨a_35, ea_35, hw⟩ := hw
          rewrite [ea_35]
          obtain ⟨fs_36, v_37, hq, hv, hw⟩ := hw
          refine ga_get (ci := 16) (T := TJ32) (v := va_rf v_37) hx hb hts hown hI in_J32 rfl 1 (by decide) q1505 (fun _ z => z) (ga_at.h hq) hv dJ4_getNode_111 ?_
          refine lv_dup hx hb dJ4_getNode_114 (ga_rcat _) ?_
          refine ga_astore (x := v_37) (lv' := [(7, va_rf v_37), (1, va_rf v1), (4, va_rf x4_26), (6, .int v6)]) hx hb dJ4_getNode_115 hl (by decide) rfl (fun ls hl => ?_)
          refine ga_aload_n hx hb dJ4_getNode_117 rfl (lv_at hl 1 rfl) ?_
          refine lv_acmp_eq (rx := v_37) (ry := v1) (tgt := 134) hx hb dJ4_getNode_118 (by decide) (fun hc_38 => ?_) (fun hc_38 => ?_)
          · have hw := hw.1 hc_38
            refine ga_aload hx hb dJ4_getNode_134 (lv_at hl 2 rfl) ?_
            exact ga_qret (v := x4_26) hx hb hr (Or.inl ⟨_, rfl⟩) hlk hI hw hbc hbs dJ4_getNode_136
          · have hw := hw.2 hc_38
            refine ga_aload_n hx hb dJ4_getNode_121 rfl (lv_at hl 1 rfl) ?_
            refine ga_ifnull (tgt := 137) hx hb dJ4_getNode_122 (by decide) (fun hc_a_39 => ?_) (fun a_39 hc_a_39 => ?_)
            · have hw := hw.1 hc_a_39
              exact gj_J4_getNode_P_137 g post (fun (y0 : Option Nat) (T : ga_H) => In_26 y0 T ∧ mu_26 y0 T < mu_26 x4_26 h_26) p0 v1 x4_26 v6 h_26 ⟨hx, hb, hml, hown, hts, hr, hlk, hnm⟩ hw (fun _y0 _y1 H locs cells slots ls hw hI hbc hbs hl => ih_26 _ _ H locs cells slots ls (Nat.lt_of_lt_of_le hw.2 (Nat.le_of_lt_succ hn_26)) hw.1 hI hbc hbs hl) hI hbc hbs (lv_sub hl [1, 2, 3] rfl)
            · have hw := hw.2 a_39 hc_a_39
              skip
              refine ga_aload_n hx hb dJ4_getNode_125 rfl (lv_at hl 1 rfl) ?_
              refine ga_aload hx hb dJ4_getNode_126 (lv_at hl 0 rfl) ?_
              obtain ⟨a_40, ea_40, hw⟩ := hw
              rewrite [ea_40]
              obtain ⟨fs_41, hq, hw⟩ := hw
              refine ga_calli (va_runU (As := [va_rf v_37]) (rest := []) ⟨hx, hb, hml, hown, hts⟩ (gm_X11_equals l g a_40 v_37 h_26 _ hw) (va_cwO 1 hts (lw_app (List.forall_mem_cons.mpr ⟨q1901, List.forall_mem_cons.mpr ⟨q1903, List.forall_mem_cons.mpr ⟨q1902, List.forall_mem_cons.mpr ⟨q1911, List.forall_mem_cons.mpr ⟨q1912, List.forall_mem_cons.mpr ⟨q153, fun _ h => absurd h List.not_mem_nil⟩⟩⟩⟩⟩⟩) (lw_meth q1913)) rfl rfl rfl q1946 (by decide +kernel) ⟨Nat.le_of_ble_eq_true rfl, Nat.le_of_ble_eq_true rfl⟩) (ga_preV (C := "PaperStore$Paper") hI hq rfl rfl) rfl rfl hl.1 rfl (ga_room (Nat.le_of_ble_eq_true rfl)) dJ4_getNode_128 ⟨hbc, hbs⟩) hI (bc := 0) (bs := 0) hbc hbs (Nat.zero_le _) (Nat.zero_le _) (fun r_43 h_42 H locs cells slots hw hI hbc hbs => ?_)
              refine lv_if_eq (tgt := 137) hx hb dJ4_getNode_131 (by decide) (fun hc_44 => ?_) (fun hc_44 => ?_)
              · have hw := hw.1 hc_44
                exact gj_J4_getNode_P_137 g post (fun (y0 : Option Nat) (T : ga_H) => In_26 y0 T ∧ mu_26 y0 T < mu_26 x4_26 h_26) p0 v1 x4_26 v6 h_42 ⟨hx, hb, hml, hown, hts, hr, hlk, hnm⟩ hw (fun _y0 _y1 H locs cells slots ls hw hI hbc hbs hl => ih_26 _ _ H locs cells slots ls (Nat.lt_of_lt_of_le hw.2 (Nat.le_of_lt_succ hn_26)) hw.1 hI hbc hbs hl) hI hbc hbs (lv_sub hl [1, 2, 3] rfl)
              · have hw := hw.2 hc_44
                refine ga_aload hx hb dJ4_getNode_134 (lv_at hl 2 rfl) ?_
                exact ga_qret (v := x4_26) hx hb hr (Or.inl ⟨_, rfl⟩) hlk hI hw hbc hbs dJ4_getNode_136
    exact hL_26 _ _ _ H locs cells slots ls (Nat.lt_succ_self _) h0_26 hI hbc hbs (lv_sub hl [1, 0, 3] rfl)
def gw_J4_getNode_P (K : ga_K) (p0 : Nat) (p1 : Option Nat) (h : ga_H) (post : Option Nat → ga_H → Prop) : Prop :=
  ∃ (fs_1 : List Value) (v_2 : Option Nat), h p0 = some (ga_O 15 fs_1) ∧ fs_1[2]? = some (va_rf v_2) ∧ ((v_2 = none → (post none h)) ∧ (∀ a_3 : Nat, v_2 = some a_3 → (∃ a_4 : Nat, v_2 = some a_4 ∧ ∃ (n_5 : Nat) (f_6 : Nat → Option Nat), h a_4 = some (ga_Aq 8 n_5 f_6) ∧ ((nI n_5 ≤ (0 : Int32) → (post none h)) ∧ (¬ nI n_5 ≤ (0 : Int32) → (gw_J4_hash_P K p1 h (fun (r_9 : Int32) (h_8 : ga_H) => ∃ a_10 : Nat, v_2 = some a_10 ∧ ∃ (n_11 : Nat) (f_12 : Nat → Option Nat), h_8 a_10 = some (ga_Aq 8 n_11 f_12) ∧ vp_in (((nI n_5) - (1 : Int32)) &&& r_9) n_11 ∧ ∀ v_13 : Option Nat, v_13 = f_12 (((nI n_5) - (1 : Int32)) &&& r_9).toNatClampNeg → ((v_13 = none → (post none h_8)) ∧ (∀ a_14 : Nat, v_13 = some a_14 → (∃ a_15 : Nat, v_13 = some a_15 ∧ ∃ (fs_16 : List Value) (v_17 : Int32), h_8 a_15 = some (ga_O 16 fs_16) ∧ fs_16[0]? = some (.int v_17) ∧ ((¬ v_17 = r_9 → (gw_J4_getNode_P_71 K post p0 p1 v_13 r_9 h_8)) ∧ (v_17 = r_9 → (∃ a_45 : Nat, v_13 = some a_45 ∧ ∃ (fs_46 : List Value) (v_47 : Option Nat), h_8 a_45 = some (ga_O 16 fs_46) ∧ fs_46[1]? = some (va_rf v_47) ∧ ((v_47 = p1 → (post v_13 h_8)) ∧ (¬ v_47 = p1 → ((p1 = none → (gw_J4_getNode_P_71 K post p0 p1 v_13 r_9 h_8)) ∧ (∀ a_49 : Nat, p1 = some a_49 → (∃ a_50 : Nat, p1 = some a_50 ∧ ∃ fs_51 : List Value, ga_at K h_8 a_50 (ga_O 9 fs_51) ∧ gw_X11_equals K a_50 v_47 h_8 (fun (r_53 : Int32) (h_52 : ga_H) => (r_53 = (0 : Int32) → (gw_J4_getNode_P_71 K post p0 p1 v_13 r_9 h_52)) ∧ (¬ r_53 = (0 : Int32) → (post v_13 h_52)))))))))))))))))))))
set_option maxHeartbeats 4000000 in
theorem gm_J4_getNode_P (l : Launch) (g : ga_G) (p0 : Nat) (p1 : Option Nat) (h : ga_H) (post : Option Nat → ga_H → Prop) (hw : gw_J4_getNode_P g.2.2 p0 p1 h post) : Met l yJ4_getNode (ws_ yJ4_getNode cJ4_getNode 8 (some (.object "java/util/HashMap$Node"))) ({ frames := 10, cells := 0, slots := 0, locals := 181 } : Room) (va_Pc [.ref p0, va_rf p1] (ga_B g h)) (va_Qq post (ga_E g) (ga_A g)) 0 0 (ga_A g) := by
  refine ga_met (own := "java/util/HashMap") (nm := "getNode") (by decide) rfl rfl (by cases p1 <;> exact Nat.le_of_ble_eq_true rfl) (fun p e s m below meth c ls hC hI hl => ?_)
  have hl : lv_has ls 8 [(0, .ref p0), (1, va_rf p1)] := (by cases p1 <;> exact hl)
  generalize ([.ref p0, va_rf p1] : List Value).toArray = args at hC ⊢
  obtain ⟨hx, hb, hml, hown, hts, hr, hlk, hnm⟩ := hC
  unfold gw_J4_getNode_P at hw
  obtain ⟨H, eH⟩ : ∃ z, z = s.heap := ⟨_, rfl⟩
  obtain ⟨locs, elo⟩ : ∃ z : List Loc, z = [] := ⟨_, rfl⟩
  rw [← eH, ← elo] at hI ⊢
  obtain ⟨cells, slots, hbc, hbs, e0, e1⟩ : ∃ a b : Nat, a ≤ 0 ∧ b ≤ 0 ∧ a = 0 ∧ b = 0 := ⟨0, 0, by omega, by omega, rfl, rfl⟩
  show W p l e ({ frames := 10, cells := 0, slots := 0, locals := 181 } : Room) s m args below meth c H locs 0 0 (MQ below (va_Qq post (ga_E g) (ga_A g)) args s 0 0 (ga_A g)) (F0 m 0 ls [])
  suffices hgoal : W p l e ({ frames := 10, cells := 0, slots := 0, locals := 181 } : Room) s m args below meth c H locs cells slots (MQ below (va_Qq post (ga_E g) (ga_A g)) args s 0 0 (ga_A g)) (F0 m 0 ls []) by rw [e0, e1] at hgoal; exact hgoal
  refine lv_aload_n hx hb dJ4_getNode_0 rfl (lv_at hl 0 rfl) ?_
  obtain ⟨fs_1, v_2, hq, hv, hw⟩ := hw
  refine ga_get (ci := 15) (T := TJ4) (v := va_rf v_2) hx hb hts hown hI in_J4 rfl 2 (by decide) q229 (fun _ z => z) (ga_at.h hq) hv dJ4_getNode_1 ?_
  refine lv_dup hx hb dJ4_getNode_4 (ga_rcat _) ?_
  refine ga_astore_n (i := 2) (x := v_2) (lv' := [(2, va_rf v_2), (0, .ref p0), (1, va_rf p1)]) hx hb dJ4_getNode_5 rfl hl (by decide) (by simp [ga_rcat, ga_cat_r, ga_cat_i, ga_cat_f, ga_cat_l, ga_cat_d]) (fun ls hl => ?_)
  refine ga_ifnull (tgt := 148) hx hb dJ4_getNode_6 (by decide) (fun hc_a_3 => ?_) (fun a_3 hc_a_3 => ?_)
  · have hw := hw.1 hc_a_3
    refine lv_null hx hb dJ4_getNode_148 ?_
    exact ga_qret (v := none) hx hb hr (Or.inl ⟨_, rfl⟩) hlk hI hw hbc hbs dJ4_getNode_149
  · have hw := hw.2 a_3 hc_a_3
    skip
    refine ga_aload_n hx hb dJ4_getNode_9 rfl (lv_at hl 0 rfl) ?_
    obtain ⟨a_4, ea_4, hw⟩ := hw
    rewrite [ea_4]
    obtain ⟨n_5, f_6, hq, hw⟩ := hw
    refine ga_len hx hb hI (ga_at.h hq) rfl dJ4_getNode_10 ?_
    refine lv_dup hx hb dJ4_getNode_11 rfl ?_
    refine lv_istore (lv' := [(5, .int (nI n_5)), (2, va_rf v_2), (0, .ref p0), (1, va_rf p1)]) hx hb dJ4_getNode_12 hl (by decide) rfl (fun ls hl => ?_)
    refine lv_if_le (tgt := 148) hx hb dJ4_getNode_14 (by decide) (fun hc_7 => ?_) (fun hc_7 => ?_)
    · have hw := hw.1 hc_7
      refine lv_null hx hb dJ4_getNode_148 ?_
      exact ga_qret (v := none) hx hb hr (Or.inl ⟨_, rfl⟩) hlk hI hw hbc hbs dJ4_getNode_149
    · have hw := hw.2 hc_7
      refine ga_aload_n hx hb dJ4_getNode_17 rfl (lv_at hl 1 rfl) ?_
      refine lv_iload hx hb dJ4_getNode_18 (lv_at hl 0 rfl) ?_
      refine lv_iconst (v := 1) hx hb dJ4_getNode_20 (by decide) ?_
      refine lv_isub hx hb dJ4_getNode_21 ?_
      refine ga_aload_n hx hb dJ4_getNode_22 rfl (lv_at hl 3 rfl) ?_
      refine ga_calli (va_runS (As := [va_rf p1]) (rest := [.int ((nI n_5) - (1 : Int32)), va_rf v_2]) ⟨hx, hb, hml, hown, hts⟩ (gm_J4_hash_P l g p1 h _ hw) (va_cwS 1 hts (lw_S q1790 q1791 q106 q1792) rfl rfl rfl hdG_J4_hash_P ⟨Nat.le_of_ble_eq_true rfl, Nat.le_of_ble_eq_true rfl⟩) (ga_preS hI rfl) rfl rfl hl.1 rfl (ga_room (Nat.le_of_ble_eq_true rfl)) dJ4_getNode_23 ⟨hbc, hbs⟩) hI (bc := 0) (bs := 0) hbc hbs (Nat.zero_le _) (Nat.zero_le _) (fun r_9 h_8 H locs cells slots hw hI hbc hbs => ?_)
      refine lv_dup hx hb dJ4_getNode_26 rfl ?_
      refine lv_istore (lv' := [(6, .int r_9), (5, .int (nI n_5)), (2, va_rf v_2), (0, .ref p0), (1, va_rf p1)]) hx hb dJ4_getNode_27 hl (by decide) rfl (fun ls hl => ?_)
      refine lv_iand hx hb dJ4_getNode_29 ?_
      obtain ⟨a_10, ea_10, hw⟩ := hw
      rewrite [ea_10]
      obtain ⟨n_11, f_12, hq, hi, hw⟩ := hw
      refine ga_ldq hx hb hI (ga_at.h hq) rfl hi dJ4_getNode_30 ?_
      obtain ⟨v_13, ev_13⟩ : ∃ z, z = f_12 (((nI n_5) - (1 : Int32)) &&& r_9).toNatClampNeg := ⟨_, rfl⟩
      rw [← ev_13]
      have hw := hw v_13 ev_13
      refine lv_dup hx hb dJ4_getNode_31 (ga_rcat _) ?_
      refine ga_astore_n (i := 3) (x := v_13) (lv' := [(3, va_rf v_13), (6, .int r_9), (5, .int (nI n_5)), (2, va_rf v_2), (0, .ref p0), (1, va_rf p1)]) hx hb dJ4_getNode_32 rfl hl (by decide) (by simp [ga_rcat, ga_cat_r, ga_cat_i, ga_cat_f, ga_cat_l, ga_cat_d]) (fun ls hl => ?_)
      refine ga_ifnull (tgt := 148) hx hb dJ4_getNode_33 (by decide) (fun hc_a_14 => ?_) (fun a_14 hc_a_14 => ?_)
      · have hw := hw.1 hc_a_14
        refine lv_null hx hb dJ4_getNode_148 ?_
        exact ga_qret (v := none) hx hb hr (Or.inl ⟨_, rfl⟩) hlk hI hw hbc hbs dJ4_getNode_149
      · have hw := hw.2 a_14 hc_a_14
        skip
        refine ga_aload_n hx hb dJ4_getNode_36 rfl (lv_at hl 0 rfl) ?_
        obtain ⟨a_15, ea_15, hw⟩ := hw
        rewrite [ea_15]
        obtain ⟨fs_16, v_17, hq, hv, hw⟩ := hw
        refine ga_get (ci := 16) (T := TJ32) (v := .int v_17) hx hb hts hown hI in_J32 rfl 0 (by decide) q1500 (fun _ z => z) (ga_at.h hq) hv dJ4_getNode_37 ?_
        refine lv_iload hx hb dJ4_getNode_40 (lv_at hl 1 rfl) ?_
        refine lv_icmp_ne (tgt := 71) hx hb dJ4_getNode_42 (by decide) (fun hc_18 => ?_) (fun hc_18 => ?_)
        · have hw := hw.1 hc_18
          exact gj_J4_getNode_P_71 g post p0 p1 v_13 r_9 h_8 ⟨hx, hb, hml, hown, hts, hr, hlk, hnm⟩ hw hI hbc hbs (lv_sub hl [5, 0, 1] rfl)
        · have hw := hw.2 hc_18
          refine ga_aload_n hx hb dJ4_getNode_45 rfl (lv_at hl 0 rfl) ?_
          obtain ⟨a_45, ea_45, hw⟩ := hw
          rewrite [ea_45]
          obtain ⟨fs_46, v_47, hq, hv, hw⟩ := hw
          refine ga_get (ci := 16) (T := TJ32) (v := va_rf v_47) hx hb hts hown hI in_J32 rfl 1 (by decide) q1505 (fun _ z => z) (ga_at.h hq) hv dJ4_getNode_46 ?_
          refine lv_dup hx hb dJ4_getNode_49 (ga_rcat _) ?_
          refine ga_astore (x := v_47) (lv' := [(7, va_rf v_47), (3, va_rf v_13), (6, .int r_9), (5, .int (nI n_5)), (2, va_rf v_2), (0, .ref p0), (1, va_rf p1)]) hx hb dJ4_getNode_50 hl (by decide) rfl (fun ls hl => ?_)
          refine ga_aload_n hx hb dJ4_getNode_52 rfl (lv_at hl 6 rfl) ?_
          refine lv_acmp_eq (rx := v_47) (ry := p1) (tgt := 69) hx hb dJ4_getNode_53 (by decide) (fun hc_48 => ?_) (fun hc_48 => ?_)
          · have hw := hw.1 hc_48
            refine ga_aload_n hx hb dJ4_getNode_69 rfl (lv_at hl 1 rfl) ?_
            exact ga_qret (v := v_13) hx hb hr (Or.inl ⟨_, rfl⟩) hlk hI hw hbc hbs dJ4_getNode_70
          · have hw := hw.2 hc_48
            refine ga_aload_n hx hb dJ4_getNode_56 rfl (lv_at hl 6 rfl) ?_
            refine ga_ifnull (tgt := 71) hx hb dJ4_getNode_57 (by decide) (fun hc_a_49 => ?_) (fun a_49 hc_a_49 => ?_)
            · have hw := hw.1 hc_a_49
              exact gj_J4_getNode_P_71 g post p0 p1 v_13 r_9 h_8 ⟨hx, hb, hml, hown, hts, hr, hlk, hnm⟩ hw hI hbc hbs (lv_sub hl [6, 1, 2] rfl)
            · have hw := hw.2 a_49 hc_a_49
              skip
              refine ga_aload_n hx hb dJ4_getNode_60 rfl (lv_at hl 6 rfl) ?_
              refine ga_aload hx hb dJ4_getNode_61 (lv_at hl 0 rfl) ?_
              obtain ⟨a_50, ea_50, hw⟩ := hw
              rewrite [ea_50]
              obtain ⟨fs_51, hq, hw⟩ := hw
              refine ga_calli (va_runU (As := [va_rf v_47]) (rest := []) ⟨hx, hb, hml, hown, hts⟩ (gm_X11_equals l g a_50 v_47 h_8 _ hw) (va_cwO 1 hts (lw_app (List.forall_mem_cons.mpr ⟨q1901, List.forall_mem_cons.mpr ⟨q1903, List.forall_mem_cons.mpr ⟨q1902, List.forall_mem_cons.mpr ⟨q1911, List.forall_mem_cons.mpr ⟨q1912, List.forall_mem_cons.mpr ⟨q153, fun _ h => absurd h List.not_mem_nil⟩⟩⟩⟩⟩⟩) (lw_meth q1913)) rfl rfl rfl q1946 (by decide +kernel) ⟨Nat.le_of_ble_eq_true rfl, Nat.le_of_ble_eq_true rfl⟩) (ga_preV (C := "PaperStore$Paper") hI hq rfl rfl) rfl rfl hl.1 rfl (ga_room (Nat.le_of_ble_eq_true rfl)) dJ4_getNode_63 ⟨hbc, hbs⟩) hI (bc := 0) (bs := 0) hbc hbs (Nat.zero_le _) (Nat.zero_le _) (fun r_53 h_52 H locs cells slots hw hI hbc hbs => ?_)
              refine lv_if_eq (tgt := 71) hx hb dJ4_getNode_66 (by decide) (fun hc_54 => ?_) (fun hc_54 => ?_)
              · have hw := hw.1 hc_54
                exact gj_J4_getNode_P_71 g post p0 p1 v_13 r_9 h_52 ⟨hx, hb, hml, hown, hts, hr, hlk, hnm⟩ hw hI hbc hbs (lv_sub hl [6, 1, 2] rfl)
              · have hw := hw.2 hc_54
                refine ga_aload_n hx hb dJ4_getNode_69 rfl (lv_at hl 1 rfl) ?_
                exact ga_qret (v := v_13) hx hb hr (Or.inl ⟨_, rfl⟩) hlk hI hw hbc hbs dJ4_getNode_70
theorem hdG_J4_getNode_P : yJ4_getNode.cls ≠ "java/lang/invoke/MethodHandle" ∧ yJ4_getNode.cls ≠ "java/lang/invoke/VarHandle" ∧ (parseMethodDescriptor yJ4_getNode.desc).map (fun d => d.parameters.length) = some 1 := by decide +kernel
def gw_J4_containsKey_P (K : ga_K) (p0 : Nat) (p1 : Option Nat) (h : ga_H) (post : Int32 → ga_H → Prop) : Prop :=
  ∃ fs_1 : List Value, ga_at K h p0 (ga_O 15 fs_1) ∧ gw_J4_getNode_P K p0 p1 h (fun (r_3 : Option Nat) (h_2 : ga_H) => (r_3 = none → (post (0 : Int32) h_2)) ∧ (∀ a_4 : Nat, r_3 = some a_4 → (post (1 : Int32) h_2)))
set_option maxHeartbeats 4000000 in
theorem gm_J4_containsKey_P (l : Launch) (g : ga_G) (p0 : Nat) (p1 : Option Nat) (h : ga_H) (post : Int32 → ga_H → Prop) (hw : gw_J4_containsKey_P g.2.2 p0 p1 h post) : Met l yJ4_containsKey (ws_ yJ4_containsKey cJ4_containsKey 2 (some .boolean)) ({ frames := 11, cells := 0, slots := 0, locals := 208 } : Room) (va_Pc [.ref p0, va_rf p1] (ga_B g h)) (va_Qi post (ga_E g) (ga_A g)) 0 0 (ga_A g) := by
  refine ga_met (own := "java/util/HashMap") (nm := "containsKey") (by decide) rfl rfl (by cases p1 <;> exact Nat.le_of_ble_eq_true rfl) (fun p e s m below meth c ls hC hI hl => ?_)
  have hl : lv_has ls 2 [(0, .ref p0), (1, va_rf p1)] := (by cases p1 <;> exact hl)
  generalize ([.ref p0, va_rf p1] : List Value).toArray = args at hC ⊢
  obtain ⟨hx, hb, hml, hown, hts, hr, hlk, hnm⟩ := hC
  unfold gw_J4_containsKey_P at hw
  obtain ⟨H, eH⟩ : ∃ z, z = s.heap := ⟨_, rfl⟩
  obtain ⟨locs, elo⟩ : ∃ z : List Loc, z = [] := ⟨_, rfl⟩
  rw [← eH, ← elo] at hI ⊢
  obtain ⟨cells, slots, hbc, hbs, e0, e1⟩ : ∃ a b : Nat, a ≤ 0 ∧ b ≤ 0 ∧ a = 0 ∧ b = 0 := ⟨0, 0, by omega, by omega, rfl, rfl⟩
  show W p l e ({ frames := 11, cells := 0, slots := 0, locals := 208 } : Room) s m args below meth c H locs 0 0 (MQ below (va_Qi post (ga_E g) (ga_A g)) args s 0 0 (ga_A g)) (F0 m 0 ls [])
  suffices hgoal : W p l e ({ frames := 11, cells := 0, slots := 0, locals := 208 } : Room) s m args below meth c H locs cells slots (MQ below (va_Qi post (ga_E g) (ga_A g)) args s 0 0 (ga_A g)) (F0 m 0 ls []) by rw [e0, e1] at hgoal; exact hgoal
  refine lv_aload_n hx hb dJ4_containsKey_0 rfl (lv_at hl 0 rfl) ?_
  refine ga_aload_n hx hb dJ4_containsKey_1 rfl (lv_at hl 1 rfl) ?_
  obtain ⟨fs_1, hq, hw⟩ := hw
  refine ga_callq (va_runV (As := [va_rf p1]) (rest := []) ⟨hx, hb, hml, hown, hts⟩ (gm_J4_getNode_P l g p0 p1 h _ hw) (cwV 1 hts (lw_V q2516 q2517 q2518 q106 q2519) rfl rfl rfl ⟨rfl, hdG_J4_getNode_P⟩ ⟨Nat.le_of_ble_eq_true rfl, Nat.le_of_ble_eq_true rfl⟩) (ga_preV hI hq rfl rfl) rfl rfl hl.1 rfl (ga_room (Nat.le_of_ble_eq_true rfl)) dJ4_containsKey_2 ⟨hbc, hbs⟩) hI (bc := 0) (bs := 0) hbc hbs (Nat.zero_le _) (Nat.zero_le _) (fun r_3 h_2 H locs cells slots hw hI hbc hbs => ?_)
  refine ga_ifnull (tgt := 12) hx hb dJ4_containsKey_5 (by decide) (fun hc_a_4 => ?_) (fun a_4 hc_a_4 => ?_)
  · have hw := hw.1 hc_a_4
    refine lv_iconst (v := 0) hx hb dJ4_containsKey_12 (by decide) ?_
    exact ga_iret hx hb hr rfl hlk hI hw hbc hbs dJ4_containsKey_13
  · have hw := hw.2 a_4 hc_a_4
    skip
    refine lv_iconst (v := 1) hx hb dJ4_containsKey_8 (by decide) ?_
    refine lv_goto (tgt := 13) hx hb dJ4_containsKey_9 (by decide) ?_
    exact ga_iret hx hb hr rfl hlk hI hw hbc hbs dJ4_containsKey_13
theorem hdG_J4_containsKey_P : yJ4_containsKey.cls ≠ "java/lang/invoke/MethodHandle" ∧ yJ4_containsKey.cls ≠ "java/lang/invoke/VarHandle" ∧ (parseMethodDescriptor yJ4_containsKey.desc).map (fun d => d.parameters.length) = some 1 := by decide +kernel
def gw_J4_get_P (K : ga_K) (p0 : Nat) (p1 : Option Nat) (h : ga_H) (post : Option Nat → ga_H → Prop) : Prop :=
  ∃ fs_1 : List Value, ga_at K h p0 (ga_O 15 fs_1) ∧ gw_J4_getNode_P K p0 p1 h (fun (r_3 : Option Nat) (h_2 : ga_H) => (r_3 = none → (post none h_2)) ∧ (∀ a_4 : Nat, r_3 = some a_4 → (∃ a_5 : Nat, r_3 = some a_5 ∧ ∃ (fs_6 : List Value) (v_7 : Option Nat), h_2 a_5 = some (ga_O 16 fs_6) ∧ fs_6[2]? = some (va_rf v_7) ∧ (post v_7 h_2))))
set_option maxHeartbeats 4000000 in
theorem gm_J4_get_P (l : Launch) (g : ga_G) (p0 : Nat) (p1 : Option Nat) (h : ga_H) (post : Option Nat → ga_H → Prop) (hw : gw_J4_get_P g.2.2 p0 p1 h post) : Met l yJ4_get (ws_ yJ4_get cJ4_get 3 (some (.object "java/lang/Object"))) ({ frames := 11, cells := 0, slots := 0, locals := 208 } : Room) (va_Pc [.ref p0, va_rf p1] (ga_B g h)) (va_Qq post (ga_E g) (ga_A g)) 0 0 (ga_A g) := by
  refine ga_met (own := "java/util/HashMap") (nm := "get") (by decide) rfl rfl (by cases p1 <;> exact Nat.le_of_ble_eq_true rfl) (fun p e s m below meth c ls hC hI hl => ?_)
  have hl : lv_has ls 3 [(0, .ref p0), (1, va_rf p1)] := (by cases p1 <;> exact hl)
  generalize ([.ref p0, va_rf p1] : List Value).toArray = args at hC ⊢
  obtain ⟨hx, hb, hml, hown, hts, hr, hlk, hnm⟩ := hC
  unfold gw_J4_get_P at hw
  obtain ⟨H, eH⟩ : ∃ z, z = s.heap := ⟨_, rfl⟩
  obtain ⟨locs, elo⟩ : ∃ z : List Loc, z = [] := ⟨_, rfl⟩
  rw [← eH, ← elo] at hI ⊢
  obtain ⟨cells, slots, hbc, hbs, e0, e1⟩ : ∃ a b : Nat, a ≤ 0 ∧ b ≤ 0 ∧ a = 0 ∧ b = 0 := ⟨0, 0, by omega, by omega, rfl, rfl⟩
  show W p l e ({ frames := 11, cells := 0, slots := 0, locals := 208 } : Room) s m args below meth c H locs 0 0 (MQ below (va_Qq post (ga_E g) (ga_A g)) args s 0 0 (ga_A g)) (F0 m 0 ls [])
  suffices hgoal : W p l e ({ frames := 11, cells := 0, slots := 0, locals := 208 } : Room) s m args below meth c H locs cells slots (MQ below (va_Qq post (ga_E g) (ga_A g)) args s 0 0 (ga_A g)) (F0 m 0 ls []) by rw [e0, e1] at hgoal; exact hgoal
  refine lv_aload_n hx hb dJ4_get_0 rfl (lv_at hl 0 rfl) ?_
  refine ga_aload_n hx hb dJ4_get_1 rfl (lv_at hl 1 rfl) ?_
  obtain ⟨fs_1, hq, hw⟩ := hw
  refine ga_callq (va_runV (As := [va_rf p1]) (rest := []) ⟨hx, hb, hml, hown, hts⟩ (gm_J4_getNode_P l g p0 p1 h _ hw) (cwV 1 hts (lw_V q2516 q2517 q2518 q106 q2519) rfl rfl rfl ⟨rfl, hdG_J4_getNode_P⟩ ⟨Nat.le_of_ble_eq_true rfl, Nat.le_of_ble_eq_true rfl⟩) (ga_preV hI hq rfl rfl) rfl rfl hl.1 rfl (ga_room (Nat.le_of_ble_eq_true rfl)) dJ4_get_2 ⟨hbc, hbs⟩) hI (bc := 0) (bs := 0) hbc hbs (Nat.zero_le _) (Nat.zero_le _) (fun r_3 h_2 H locs cells slots hw hI hbc hbs => ?_)
  refine lv_dup hx hb dJ4_get_5 (ga_rcat _) ?_
  refine ga_astore_n (i := 2) (x := r_3) (lv' := [(2, va_rf r_3), (0, .ref p0), (1, va_rf p1)]) hx hb dJ4_get_6 rfl hl (by decide) (by simp [ga_rcat, ga_cat_r, ga_cat_i, ga_cat_f, ga_cat_l, ga_cat_d]) (fun ls hl => ?_)
  refine ga_ifnonnull (tgt := 14) hx hb dJ4_get_7 (by decide) (fun a_4 hc_a_4 => ?_) (fun hc_a_4 => ?_)
  · have hw := hw.2 a_4 hc_a_4
    skip
    refine ga_aload_n hx hb dJ4_get_14 rfl (lv_at hl 0 rfl) ?_
    obtain ⟨a_5, ea_5, hw⟩ := hw
    rewrite [ea_5]
    obtain ⟨fs_6, v_7, hq, hv, hw⟩ := hw
    refine ga_get (ci := 16) (T := TJ32) (v := va_rf v_7) hx hb hts hown hI in_J32 rfl 2 (by decide) q1507 (fun _ z => z) (ga_at.h hq) hv dJ4_get_15 ?_
    exact ga_qret (v := v_7) hx hb hr (Or.inl ⟨_, rfl⟩) hlk hI hw hbc hbs dJ4_get_18
  · have hw := hw.1 hc_a_4
    refine lv_null hx hb dJ4_get_10 ?_
    refine lv_goto (tgt := 18) hx hb dJ4_get_11 (by decide) ?_
    exact ga_qret (v := none) hx hb hr (Or.inl ⟨_, rfl⟩) hlk hI hw hbc hbs dJ4_get_18
theorem hdG_J4_get_P : yJ4_get.cls ≠ "java/lang/invoke/MethodHandle" ∧ yJ4_get.cls ≠ "java/lang/invoke/VarHandle" ∧ (parseMethodDescriptor yJ4_get.desc).map (fun d => d.parameters.length) = some 1 := by decide +kernel
def gw_J30_intValue (K : ga_K) (p0 : Nat) (h : ga_H) (post : Int32 → ga_H → Prop) : Prop :=
  ∃ (fs_1 : List Value) (v_2 : Int32), ga_at K h p0 (ga_O 24 fs_1) ∧ fs_1[0]? = some (.int v_2) ∧ (post v_2 h)
set_option maxHeartbeats 4000000 in
theorem gm_J30_intValue (l : Launch) (g : ga_G) (p0 : Nat) (h : ga_H) (post : Int32 → ga_H → Prop) (hw : gw_J30_intValue g.2.2 p0 h post) : Met l yJ30_intValue (ws_ yJ30_intValue cJ30_intValue 1 (some .int)) ({ frames := 8, cells := 0, slots := 0, locals := 140 } : Room) (va_Pc [.ref p0] (ga_B g h)) (va_Qi post (ga_E g) (ga_A g)) 0 0 (ga_A g) := by
  refine ga_met (own := "java/lang/Integer") (nm := "intValue") (by decide) rfl rfl (by exact Nat.le_of_ble_eq_true rfl) (fun p e s m below meth c ls hC hI hl => ?_)
  have hl : lv_has ls 1 [(0, .ref p0)] := hl
  generalize ([.ref p0] : List Value).toArray = args at hC ⊢
  obtain ⟨hx, hb, hml, hown, hts, hr, hlk, hnm⟩ := hC
  unfold gw_J30_intValue at hw
  obtain ⟨H, eH⟩ : ∃ z, z = s.heap := ⟨_, rfl⟩
  obtain ⟨locs, elo⟩ : ∃ z : List Loc, z = [] := ⟨_, rfl⟩
  rw [← eH, ← elo] at hI ⊢
  obtain ⟨cells, slots, hbc, hbs, e0, e1⟩ : ∃ a b : Nat, a ≤ 0 ∧ b ≤ 0 ∧ a = 0 ∧ b = 0 := ⟨0, 0, by omega, by omega, rfl, rfl⟩
  show W p l e ({ frames := 8, cells := 0, slots := 0, locals := 140 } : Room) s m args below meth c H locs 0 0 (MQ below (va_Qi post (ga_E g) (ga_A g)) args s 0 0 (ga_A g)) (F0 m 0 ls [])
  suffices hgoal : W p l e ({ frames := 8, cells := 0, slots := 0, locals := 140 } : Room) s m args below meth c H locs cells slots (MQ below (va_Qi post (ga_E g) (ga_A g)) args s 0 0 (ga_A g)) (F0 m 0 ls []) by rw [e0, e1] at hgoal; exact hgoal
  refine lv_aload_n hx hb dJ30_intValue_0 rfl (lv_at hl 0 rfl) ?_
  obtain ⟨fs_1, v_2, hq, hv, hw⟩ := hw
  refine ga_get (ci := 24) (T := TJ30) (v := .int v_2) hx hb hts hown hI in_J30 rfl 0 (by decide) q2545 (fun _ z => z) hq hv dJ30_intValue_1 ?_
  exact ga_iret hx hb hr rfl hlk hI hw hbc hbs dJ30_intValue_4
theorem hdG_J30_intValue : yJ30_intValue.cls ≠ "java/lang/invoke/MethodHandle" ∧ yJ30_intValue.cls ≠ "java/lang/invoke/VarHandle" ∧ (parseMethodDescriptor yJ30_intValue.desc).map (fun d => d.parameters.length) = some 0 := by decide +kernel
def gw_J29_init (K : ga_K) (p0 : Nat) (h : ga_H) (post : ga_H → Prop) : Prop :=
  post h
set_option maxHeartbeats 4000000 in
theorem gm_J29_init (l : Launch) (g : ga_G) (p0 : Nat) (h : ga_H) (post : ga_H → Prop) (hw : gw_J29_init g.2.2 p0 h post) : Met l yJ29_init (ws_ yJ29_init cJ29_init 1 none) ({ frames := 8, cells := 0, slots := 0, locals := 140 } : Room) (va_Pc [.ref p0] (ga_B g h)) (va_Qv post (ga_E g) (ga_A g)) 0 0 (ga_A g) := by
  refine ga_met (own := "java/lang/Number") (nm := "<init>") (by decide) rfl rfl (by exact Nat.le_of_ble_eq_true rfl) (fun p e s m below meth c ls hC hI hl => ?_)
  have hl : lv_has ls 1 [(0, .ref p0)] := hl
  generalize ([.ref p0] : List Value).toArray = args at hC ⊢
  obtain ⟨hx, hb, hml, hown, hts, hr, hlk, hnm⟩ := hC
  unfold gw_J29_init at hw
  obtain ⟨H, eH⟩ : ∃ z, z = s.heap := ⟨_, rfl⟩
  obtain ⟨locs, elo⟩ : ∃ z : List Loc, z = [] := ⟨_, rfl⟩
  rw [← eH, ← elo] at hI ⊢
  obtain ⟨cells, slots, hbc, hbs, e0, e1⟩ : ∃ a b : Nat, a ≤ 0 ∧ b ≤ 0 ∧ a = 0 ∧ b = 0 := ⟨0, 0, by omega, by omega, rfl, rfl⟩
  show W p l e ({ frames := 8, cells := 0, slots := 0, locals := 140 } : Room) s m args below meth c H locs 0 0 (MQ below (va_Qv post (ga_E g) (ga_A g)) args s 0 0 (ga_A g)) (F0 m 0 ls [])
  suffices hgoal : W p l e ({ frames := 8, cells := 0, slots := 0, locals := 140 } : Room) s m args below meth c H locs cells slots (MQ below (va_Qv post (ga_E g) (ga_A g)) args s 0 0 (ga_A g)) (F0 m 0 ls []) by rw [e0, e1] at hgoal; exact hgoal
  refine lv_aload_n hx hb dJ29_init_0 rfl (lv_at hl 0 rfl) ?_
  refine W.objInit hx hb hown (hts _ q2544) (hts _ q179) (hts _ q180) rfl (by rw [hml]; exact hl.1) rfl dJ29_init_1 (Nat.le_of_ble_eq_true rfl) (by have := ga_sum [] (Nat.le_of_ble_eq_true rfl); exact Nat.le_trans (Nat.add_le_add_right (Nat.add_le_add_left this 0) 12) (Nat.le_of_ble_eq_true rfl)) ?_
  refine W.eq (g2 := F0 m 4 ls []) rfl ?_
  exact ga_vret hx hb hr hlk hI hw hbc hbs dJ29_init_4
theorem hdG_J29_init : yJ29_init.cls ≠ "java/lang/invoke/MethodHandle" ∧ yJ29_init.cls ≠ "java/lang/invoke/VarHandle" ∧ (parseMethodDescriptor yJ29_init.desc).map (fun d => d.parameters.length) = some 0 := by decide +kernel
def gw_J30_init (K : ga_K) (p0 : Nat) (p1 : Int32) (h : ga_H) (post : ga_H → Prop) : Prop :=
  gw_J29_init K p0 h (fun (h_1 : ga_H) => ∃ fs_2 : List Value, h_1 p0 = some (ga_O 24 fs_2) ∧ 0 < fs_2.length ∧ ∀ h_3 : ga_H, h_3 = ga_set h_1 p0 (ga_O 24 (fs_2.set 0 (.int p1))) → (post h_3))
set_option maxHeartbeats 4000000 in
theorem gm_J30_init (l : Launch) (g : ga_G) (p0 : Nat) (p1 : Int32) (h : ga_H) (post : ga_H → Prop) (hw : gw_J30_init g.2.2 p0 p1 h post) : Met l yJ30_init (ws_ yJ30_init cJ30_init 2 none) ({ frames := 9, cells := 0, slots := 0, locals := 160 } : Room) (va_Pc [.ref p0, .int p1] (ga_B g h)) (va_Qv post (ga_E g) (ga_A g)) 0 0 (ga_A g) := by
  refine ga_met (own := "java/lang/Integer") (nm := "<init>") (by decide) rfl rfl (by exact Nat.le_of_ble_eq_true rfl) (fun p e s m below meth c ls hC hI hl => ?_)
  have hl : lv_has ls 2 [(0, .ref p0), (1, .int p1)] := hl
  generalize ([.ref p0, .int p1] : List Value).toArray = args at hC ⊢
  obtain ⟨hx, hb, hml, hown, hts, hr, hlk, hnm⟩ := hC
  unfold gw_J30_init at hw
  obtain ⟨H, eH⟩ : ∃ z, z = s.heap := ⟨_, rfl⟩
  obtain ⟨locs, elo⟩ : ∃ z : List Loc, z = [] := ⟨_, rfl⟩
  rw [← eH, ← elo] at hI ⊢
  obtain ⟨cells, slots, hbc, hbs, e0, e1⟩ : ∃ a b : Nat, a ≤ 0 ∧ b ≤ 0 ∧ a = 0 ∧ b = 0 := ⟨0, 0, by omega, by omega, rfl, rfl⟩
  show W p l e ({ frames := 9, cells := 0, slots := 0, locals := 160 } : Room) s m args below meth c H locs 0 0 (MQ below (va_Qv post (ga_E g) (ga_A g)) args s 0 0 (ga_A g)) (F0 m 0 ls [])
  suffices hgoal : W p l e ({ frames := 9, cells := 0, slots := 0, locals := 160 } : Room) s m args below meth c H locs cells slots (MQ below (va_Qv post (ga_E g) (ga_A g)) args s 0 0 (ga_A g)) (F0 m 0 ls []) by rw [e0, e1] at hgoal; exact hgoal
  refine lv_aload_n hx hb dJ30_init_0 rfl (lv_at hl 0 rfl) ?_
  refine ga_callv (va_runI (As := []) (rest := []) ⟨hx, hb, hml, hown, hts⟩ (gm_J29_init l g p0 h _ hw) (cwI 0 hts (lw_meth q2543) rfl rfl rfl (hts _ q135) (hts _ q2541) (hts _ q2542) rfl hdG_J29_init ⟨Nat.le_of_ble_eq_true rfl, Nat.le_of_ble_eq_true rfl⟩) (ga_preS hI rfl) rfl rfl hl.1 rfl (ga_room (Nat.le_of_ble_eq_true rfl)) dJ30_init_1 ⟨hbc, hbs⟩) hI (bc := 0) (bs := 0) hbc hbs (Nat.zero_le _) (Nat.zero_le _) (fun h_1 H locs cells slots hw hI hbc hbs => ?_)
  refine lv_aload_n hx hb dJ30_init_4 rfl (lv_at hl 0 rfl) ?_
  refine lv_iload_n hx hb dJ30_init_5 rfl (lv_at hl 1 rfl) ?_
  obtain ⟨fs_2, hq, hk, hw⟩ := hw
  refine ga_putF (ci := 24) (T := TJ30) (v := .int p1) (ty := tyJ30 0) hx hb hts hown hI in_J30 rfl tyJ30 tyJ30_ok nmJ30 0 (by decide) q2545 (fun _ z => z) rfl hnm rfl (tyJ30_ok 0 (by decide)) rfl rfl hq hk dJ30_init_6 (fun H locs hI => ?_)
  obtain ⟨h_3, eh_3⟩ : ∃ z, z = ga_set h_1 p0 (ga_O 24 (fs_2.set 0 (.int p1))) := ⟨_, rfl⟩
  rw [← eh_3] at hI
  have hw := hw h_3 eh_3
  exact ga_vret hx hb hr hlk hI hw hbc hbs dJ30_init_9
theorem hdG_J30_init : yJ30_init.cls ≠ "java/lang/invoke/MethodHandle" ∧ yJ30_init.cls ≠ "java/lang/invoke/VarHandle" ∧ (parseMethodDescriptor yJ30_init.desc).map (fun d => d.parameters.length) = some 1 := by decide +kernel
def gw_J30_valueOf_23 (K : ga_K) (post : Option Nat → ga_H → Prop) (v0 : Int32) (h : ga_H) (bc bs : Nat) : Prop :=
  1 ≤ bc ∧ 1 ≤ bs ∧ ∀ q_2 : Nat, h q_2 = none → ∀ h_3 : ga_H, h_3 = ga_set h q_2 (ga_O 24 [.int 0]) → (gw_J30_init K q_2 v0 h_3 (fun (h_4 : ga_H) => post (some q_2) h_4))
set_option maxHeartbeats 4000000 in
theorem gj_J30_valueOf_23 {p : Program} {l : Launch} {e : Env} {s : State} {m : MethodId} {args : Array Value} {below : List Frame} {meth : Method} {c : Code} {mc ms : Nat} {H : Heap} {locs : List Loc} {cells slots : Nat} {ls : Array Slot} (g : ga_G) (post : Option Nat → ga_H → Prop) (v0 : Int32) (h : ga_H) (bc bs : Nat) (hC : ga_Cx p s m args meth c cJ30_valueOf 1 (some (.object "java/lang/Integer")) "java/lang/Integer" "valueOf") (hw : gw_J30_valueOf_23 g.2.2 post v0 h bc bs) (hI : ga_I g h s H locs) (hbc : cells + bc ≤ mc) (hbs : slots + bs ≤ ms) (hl : lv_has ls 1 [(0, .int v0)]) : W p l e ({ frames := 10, cells := mc, slots := ms, locals := 181 } : Room) s m args below meth c H locs cells slots (MQ below (va_Qq post (ga_E g) (ga_A g)) args s mc ms (ga_A g)) (F0 m 23 ls []) := by
  obtain ⟨hx, hb, hml, hown, hts, hr, hlk, hnm⟩ := hC
  unfold gw_J30_valueOf_23 at hw
  refine ga_new (ci := 24) (T := TJ30) hx hb hts hown hI in_J30 rfl tyJ30 tyJ30_ok q1547 q2537 q136 [.int 0] ga_df_J30 hbc hbs hw.1 hw.2.1 dJ30_valueOf_23 (fun q_2 H cells slots hn_q_2 hI hbc hbs => ?_)
  obtain ⟨h_3, eh_3⟩ : ∃ z, z = ga_set h q_2 (ga_O 24 [.int 0]) := ⟨_, rfl⟩
  rw [← eh_3] at hI
  have hw := hw.2.2 q_2 hn_q_2 h_3 eh_3
  refine lv_dup hx hb dJ30_valueOf_26 rfl ?_
  refine lv_iload_n hx hb dJ30_valueOf_27 rfl (lv_at hl 0 rfl) ?_
  refine ga_callv (va_runI (As := [.int v0]) (rest := [.ref q_2]) ⟨hx, hb, hml, hown, hts⟩ (gm_J30_init l g q_2 v0 h_3 _ hw) (cwI 1 hts (lw_meth q2540) rfl rfl rfl (hts _ q136) (hts _ q2538) (hts _ q2539) rfl hdG_J30_init ⟨Nat.le_of_ble_eq_true rfl, Nat.le_of_ble_eq_true rfl⟩) (ga_preS hI rfl) rfl rfl hl.1 rfl (ga_room (Nat.le_of_ble_eq_true rfl)) dJ30_valueOf_28 ⟨Nat.le_trans (Nat.add_le_add_left (Nat.zero_le _) _) hbc, Nat.le_trans (Nat.add_le_add_left (Nat.zero_le _) _) hbs⟩) hI hbc hbs (Nat.zero_le _) (Nat.zero_le _) (fun h_4 H locs cells slots hw hI hbc hbs => ?_)
  exact ga_qret (v := (some q_2)) hx hb hr (Or.inl ⟨_, rfl⟩) hlk hI hw (Nat.le_trans (Nat.le_add_right _ _) hbc) (Nat.le_trans (Nat.le_add_right _ _) hbs) dJ30_valueOf_31
def gw_J30_valueOf (K : ga_K) (p0 : Int32) (h : ga_H) (mc ms : Nat) (post : Option Nat → ga_H → Prop) : Prop :=
  (p0 < (-128 : Int32) → (gw_J30_valueOf_23 K post p0 h mc ms)) ∧ (¬ p0 < (-128 : Int32) → (((127 : Int32) < p0 → (gw_J30_valueOf_23 K post p0 h mc ms)) ∧ (¬ (127 : Int32) < p0 → (∃ (n_6 : Nat) (f_7 : Nat → Option Nat), ga_at K h (K.2 1) (ga_Aq 9 n_6 f_7) ∧ vp_in (p0 + (128 : Int32)) n_6 ∧ ∀ v_8 : Option Nat, v_8 = f_7 (p0 + (128 : Int32)).toNatClampNeg → (post v_8 h)))))
set_option maxHeartbeats 4000000 in
theorem gm_J30_valueOf (l : Launch) (g : ga_G) (p0 : Int32) (h : ga_H) (mc ms : Nat) (post : Option Nat → ga_H → Prop) (hw : gw_J30_valueOf g.2.2 p0 h mc ms post) : Met l yJ30_valueOf (ws_ yJ30_valueOf cJ30_valueOf 1 (some (.object "java/lang/Integer"))) ({ frames := 10, cells := mc, slots := ms, locals := 181 } : Room) (va_Pc [.int p0] (ga_B g h)) (va_Qq post (ga_E g) (ga_A g)) mc ms (ga_A g) := by
  refine ga_met (own := "java/lang/Integer") (nm := "valueOf") (by decide) rfl rfl (by exact Nat.le_of_ble_eq_true rfl) (fun p e s m below meth c ls hC hI hl => ?_)
  have hl : lv_has ls 1 [(0, .int p0)] := hl
  generalize ([.int p0] : List Value).toArray = args at hC ⊢
  obtain ⟨hx, hb, hml, hown, hts, hr, hlk, hnm⟩ := hC
  unfold gw_J30_valueOf at hw
  obtain ⟨H, eH⟩ : ∃ z, z = s.heap := ⟨_, rfl⟩
  obtain ⟨locs, elo⟩ : ∃ z : List Loc, z = [] := ⟨_, rfl⟩
  rw [← eH, ← elo] at hI ⊢
  obtain ⟨cells, slots, hbc, hbs, e0, e1⟩ : ∃ a b : Nat, a + mc ≤ mc ∧ b + ms ≤ ms ∧ a = 0 ∧ b = 0 := ⟨0, 0, by omega, by omega, rfl, rfl⟩
  show W p l e ({ frames := 10, cells := mc, slots := ms, locals := 181 } : Room) s m args below meth c H locs 0 0 (MQ below (va_Qq post (ga_E g) (ga_A g)) args s mc ms (ga_A g)) (F0 m 0 ls [])
  suffices hgoal : W p l e ({ frames := 10, cells := mc, slots := ms, locals := 181 } : Room) s m args below meth c H locs cells slots (MQ below (va_Qq post (ga_E g) (ga_A g)) args s mc ms (ga_A g)) (F0 m 0 ls []) by rw [e0, e1] at hgoal; exact hgoal
  refine lv_iload_n hx hb dJ30_valueOf_0 rfl (lv_at hl 0 rfl) ?_
  refine lv_bipush (v := -128) hx hb dJ30_valueOf_1 (by decide) ?_
  refine lv_icmp_lt (tgt := 23) hx hb dJ30_valueOf_3 (by decide) (fun hc_1 => ?_) (fun hc_1 => ?_)
  · have hw := hw.1 hc_1
    exact gj_J30_valueOf_23 g post p0 h mc ms ⟨hx, hb, hml, hown, hts, hr, hlk, hnm⟩ hw hI hbc hbs (lv_sub hl [0] rfl)
  · have hw := hw.2 hc_1
    refine lv_iload_n hx hb dJ30_valueOf_6 rfl (lv_at hl 0 rfl) ?_
    refine ga_sget (v := .int (127 : Int32)) hx hb hts hown hI 2 rfl q2533 (fun _ z => z) dJ30_valueOf_7 ?_
    refine lv_icmp_gt (tgt := 23) hx hb dJ30_valueOf_10 (by decide) (fun hc_5 => ?_) (fun hc_5 => ?_)
    · have hw := hw.1 hc_5
      exact gj_J30_valueOf_23 g post p0 h mc ms ⟨hx, hb, hml, hown, hts, hr, hlk, hnm⟩ hw hI hbc hbs (lv_sub hl [0] rfl)
    · have hw := hw.2 hc_5
      refine ga_sget (v := .ref (g.2.2.2 1)) hx hb hts hown hI 3 rfl q2535 (fun _ z => z) dJ30_valueOf_13 ?_
      refine lv_iload_n hx hb dJ30_valueOf_16 rfl (lv_at hl 0 rfl) ?_
      refine lv_sipush (v := 128) hx hb dJ30_valueOf_17 (by decide) ?_
      refine lv_iadd hx hb dJ30_valueOf_20 ?_
      obtain ⟨n_6, f_7, hq, hi, hw⟩ := hw
      refine ga_ldq hx hb hI hq rfl hi dJ30_valueOf_21 ?_
      obtain ⟨v_8, ev_8⟩ : ∃ z, z = f_7 (p0 + (128 : Int32)).toNatClampNeg := ⟨_, rfl⟩
      rw [← ev_8]
      have hw := hw v_8 ev_8
      exact ga_qret (v := v_8) hx hb hr (Or.inl ⟨_, rfl⟩) hlk hI hw (Nat.le_trans (Nat.le_add_right _ _) hbc) (Nat.le_trans (Nat.le_add_right _ _) hbs) dJ30_valueOf_22
theorem hdG_J30_valueOf : yJ30_valueOf.cls ≠ "java/lang/invoke/MethodHandle" ∧ yJ30_valueOf.cls ≠ "java/lang/invoke/VarHandle" ∧ (parseMethodDescriptor yJ30_valueOf.desc).map (fun d => d.parameters.length) = some 1 := by decide +kernel
def gw_J4_put_P (K : ga_K) (p0 : Nat) (p1 : Option Nat) (p2 : Option Nat) (h : ga_H) (mc ms : Nat) (post : Option Nat → ga_H → Prop) : Prop :=
  gw_J4_hash_P K p1 h (fun (r_2 : Int32) (h_1 : ga_H) => ∃ kc_3 ks_4 : Nat, kc_3 ≤ mc ∧ ks_4 ≤ ms ∧ ∃ fs_5 : List Value, ga_at K h_1 p0 (ga_O 15 fs_5) ∧ gw_J4_putVal_P K p0 r_2 p1 p2 (0 : Int32) (1 : Int32) h_1 kc_3 ks_4 (fun (r_7 : Option Nat) (h_6 : ga_H) => post r_7 h_6))
set_option maxHeartbeats 4000000 in
theorem gm_J4_put_P (l : Launch) (g : ga_G) (p0 : Nat) (p1 : Option Nat) (p2 : Option Nat) (h : ga_H) (mc ms : Nat) (post : Option Nat → ga_H → Prop) (hw : gw_J4_put_P g.2.2 p0 p1 p2 h mc ms post) : Met l yJ4_put (ws_ yJ4_put cJ4_put 3 (some (.object "java/lang/Object"))) ({ frames := 11, cells := mc, slots := ms, locals := 220 } : Room) (va_Pc [.ref p0, va_rf p1, va_rf p2] (ga_B g h)) (va_Qq post (ga_E g) (ga_A g)) mc ms (ga_A g) := by
  refine ga_met (own := "java/util/HashMap") (nm := "put") (by decide) rfl rfl (by cases p1 <;> cases p2 <;> exact Nat.le_of_ble_eq_true rfl) (fun p e s m below meth c ls hC hI hl => ?_)
  have hl : lv_has ls 3 [(0, .ref p0), (1, va_rf p1), (2, va_rf p2)] := (by cases p1 <;> cases p2 <;> exact hl)
  generalize ([.ref p0, va_rf p1, va_rf p2] : List Value).toArray = args at hC ⊢
  obtain ⟨hx, hb, hml, hown, hts, hr, hlk, hnm⟩ := hC
  unfold gw_J4_put_P at hw
  obtain ⟨H, eH⟩ : ∃ z, z = s.heap := ⟨_, rfl⟩
  obtain ⟨locs, elo⟩ : ∃ z : List Loc, z = [] := ⟨_, rfl⟩
  rw [← eH, ← elo] at hI ⊢
  obtain ⟨cells, slots, hbc, hbs, e0, e1⟩ : ∃ a b : Nat, a + mc ≤ mc ∧ b + ms ≤ ms ∧ a = 0 ∧ b = 0 := ⟨0, 0, by omega, by omega, rfl, rfl⟩
  show W p l e ({ frames := 11, cells := mc, slots := ms, locals := 220 } : Room) s m args below meth c H locs 0 0 (MQ below (va_Qq post (ga_E g) (ga_A g)) args s mc ms (ga_A g)) (F0 m 0 ls [])
  suffices hgoal : W p l e ({ frames := 11, cells := mc, slots := ms, locals := 220 } : Room) s m args below meth c H locs cells slots (MQ below (va_Qq post (ga_E g) (ga_A g)) args s mc ms (ga_A g)) (F0 m 0 ls []) by rw [e0, e1] at hgoal; exact hgoal
  refine lv_aload_n hx hb dJ4_put_0 rfl (lv_at hl 0 rfl) ?_
  refine ga_aload_n hx hb dJ4_put_1 rfl (lv_at hl 1 rfl) ?_
  refine ga_calli (va_runS (As := [va_rf p1]) (rest := [.ref p0]) ⟨hx, hb, hml, hown, hts⟩ (gm_J4_hash_P l g p1 h _ hw) (va_cwS 1 hts (lw_S q1790 q1791 q106 q1792) rfl rfl rfl hdG_J4_hash_P ⟨Nat.le_of_ble_eq_true rfl, Nat.le_of_ble_eq_true rfl⟩) (ga_preS hI rfl) rfl rfl hl.1 rfl (ga_room (Nat.le_of_ble_eq_true rfl)) dJ4_put_2 ⟨Nat.le_trans (Nat.add_le_add_left (Nat.zero_le _) _) hbc, Nat.le_trans (Nat.add_le_add_left (Nat.zero_le _) _) hbs⟩) hI hbc hbs (Nat.zero_le _) (Nat.zero_le _) (fun r_2 h_1 H locs cells slots hw hI hbc hbs => ?_)
  refine ga_aload_n hx hb dJ4_put_5 rfl (lv_at hl 1 rfl) ?_
  refine ga_aload_n hx hb dJ4_put_6 rfl (lv_at hl 2 rfl) ?_
  refine lv_iconst (v := 0) hx hb dJ4_put_7 (by decide) ?_
  refine lv_iconst (v := 1) hx hb dJ4_put_8 (by decide) ?_
  obtain ⟨kc_3, ks_4, hk1, hk2, hw⟩ := hw
  obtain ⟨fs_5, hq, hw⟩ := hw
  refine ga_callq (va_runV (As := [.int r_2, va_rf p1, va_rf p2, .int (0 : Int32), .int (1 : Int32)]) (rest := []) ⟨hx, hb, hml, hown, hts⟩ (gm_J4_putVal_P l g p0 r_2 p1 p2 (0 : Int32) (1 : Int32) h_1 kc_3 ks_4 _ hw) (cwV 5 hts (lw_V q1892 q1893 q1894 q106 q1895) rfl rfl rfl ⟨rfl, hdG_J4_putVal_P⟩ ⟨Nat.le_of_ble_eq_true rfl, Nat.le_of_ble_eq_true rfl⟩) (ga_preV hI hq rfl rfl) rfl rfl hl.1 rfl (ga_room (Nat.le_of_ble_eq_true rfl)) dJ4_put_9 ⟨Nat.le_trans (Nat.add_le_add_left hk1 _) hbc, Nat.le_trans (Nat.add_le_add_left hk2 _) hbs⟩) hI hbc hbs hk1 hk2 (fun r_7 h_6 H locs cells slots hw hI hbc hbs => ?_)
  exact ga_qret (v := r_7) hx hb hr (Or.inl ⟨_, rfl⟩) hlk hI hw (Nat.le_trans (Nat.le_add_right _ _) hbc) (Nat.le_trans (Nat.le_add_right _ _) hbs) dJ4_put_12
theorem hdG_J4_put_P : yJ4_put.cls ≠ "java/lang/invoke/MethodHandle" ∧ yJ4_put.cls ≠ "java/lang/invoke/VarHandle" ∧ (parseMethodDescriptor yJ4_put.desc).map (fun d => d.parameters.length) = some 2 := by decide +kernel
def gw_X2_send_118 (K : ga_K) (post : Int32 → ga_H → Prop) (xp : String → Nat → ga_H → Prop) (p0 : Nat) (t0 : Int32) (v2 : Option Nat) (v3 : Option Nat) (v4 : Int32) (h : ga_H) (bc bs : Nat) : Prop :=
  ∃ (fs_60 : List Value) (v_61 : Option Nat), h p0 = some (ga_O 1 fs_60) ∧ fs_60[5]? = some (va_rf v_61) ∧ (∃ a_62 : Nat, v3 = some a_62 ∧ ∃ (fs_63 : List Value) (v_64 : Option Nat), h a_62 = some (ga_O 6 fs_63) ∧ fs_63[0]? = some (va_rf v_64) ∧ (∃ a_65 : Nat, v3 = some a_65 ∧ ∃ (fs_66 : List Value) (v_67 : Int32), h a_65 = some (ga_O 6 fs_66) ∧ fs_66[1]? = some (.int v_67) ∧ (∃ kc_68 ks_69 : Nat, kc_68 ≤ bc ∧ ks_69 ≤ bs ∧ gw_J30_valueOf K (t0 + v_67) h kc_68 ks_69 (fun (r_71 : Option Nat) (h_70 : ga_H) => ∃ a_72 : Nat, v_61 = some a_72 ∧ ∃ kc_73 ks_74 : Nat, kc_73 ≤ (bc - kc_68) ∧ ks_74 ≤ (bs - ks_69) ∧ ∃ fs_75 : List Value, ga_at K h_70 a_72 (ga_O 15 fs_75) ∧ gw_J4_put_P K a_72 v_64 r_71 h_70 kc_73 ks_74 (fun (r_77 : Option Nat) (h_76 : ga_H) => ga_ok K h_76 "java/lang/Integer" r_77 ∧ (∃ (fs_78 : List Value) (v_79 : Int32), h_76 p0 = some (ga_O 1 fs_78) ∧ fs_78[6]? = some (.int v_79) ∧ (∃ a_80 : Nat, v3 = some a_80 ∧ ∃ (fs_81 : List Value) (v_82 : Int32), h_76 a_80 = some (ga_O 6 fs_81) ∧ fs_81[1]? = some (.int v_82) ∧ (∃ fs_83 : List Value, h_76 p0 = some (ga_O 1 fs_83) ∧ 6 < fs_83.length ∧ ∀ h_84 : ga_H, h_84 = ga_set h_76 p0 (ga_O 1 (fs_83.set 6 (.int (v_79 + v_82)))) → (∃ (fs_85 : List Value) (v_86 : Int32), h_84 p0 = some (ga_O 1 fs_85) ∧ fs_85[8]? = some (.int v_86) ∧ (∃ fs_87 : List Value, h_84 p0 = some (ga_O 1 fs_87) ∧ 8 < fs_87.length ∧ ∀ h_88 : ga_H, h_88 = ga_set h_84 p0 (ga_O 1 (fs_87.set 8 (.int (v_86 + v4)))) → (∃ a_89 : Nat, v3 = some a_89 ∧ ∃ fs_90 : List Value, ga_at K h_88 a_89 (ga_O 6 fs_90) ∧ gw_X8_ends K a_89 (1 : Int32) h_88 (fun (h_91 : ga_H) => ∃ a_92 : Nat, v2 = some a_92 ∧ ∃ fs_93 : List Value, ga_at K h_91 a_92 (ga_O 7 fs_93) ∧ gw_X9_empties K a_92 h_91 (fun (h_94 : ga_H) => post v4 h_94)))))))))))))
set_option maxHeartbeats 4000000 in
theorem gj_X2_send_118 {p : Program} {l : Launch} {e : Env} {s : State} {m : MethodId} {args : Array Value} {below : List Frame} {meth : Method} {c : Code} {mc ms : Nat} {H : Heap} {locs : List Loc} {cells slots : Nat} {ls : Array Slot} (hst : l.stackTraces = false) (htab : c.exceptionTable.toList = []) (g : ga_G) (post : Int32 → ga_H → Prop) (xp : String → Nat → ga_H → Prop) (p0 : Nat) (t0 : Int32) (v2 : Option Nat) (v3 : Option Nat) (v4 : Int32) (h : ga_H) (bc bs : Nat) (hC : ga_Cx p s m args meth c cX2_send 7 (some .int) "PaperStore$Store" "send") (hw : gw_X2_send_118 g.2.2 post xp p0 t0 v2 v3 v4 h bc bs) (hI : ga_I g h s H locs) (hbc : cells + bc ≤ mc) (hbs : slots + bs ≤ ms) (hl : lv_has ls 7 [(0, .ref p0), (2, va_rf v2), (3, va_rf v3), (4, .int v4)]) : W p l e ({ frames := 12, cells := mc, slots := ms, locals := 242 } : Room) s m args below meth c H locs cells slots (vx_MQ below (va_Qi post (ga_E g) (ga_A g)) (ga_X g xp) args s mc ms (ga_A g)) (F0 m 118 ls [.int t0]) := by
  obtain ⟨hx, hb, hml, hown, hts, hr, hlk, hnm⟩ := hC
  unfold gw_X2_send_118 at hw
  refine lv_istore (lv' := [(5, .int t0), (0, .ref p0), (2, va_rf v2), (3, va_rf v3), (4, .int v4)]) hx hb dX2_send_118 hl (by decide) rfl (fun ls hl => ?_)
  refine lv_aload_n hx hb dX2_send_120 rfl (lv_at hl 1 rfl) ?_
  obtain ⟨fs_60, v_61, hq, hv, hw⟩ := hw
  refine ga_get (ci := 1) (T := TX2) (v := va_rf v_61) hx hb hts hown hI in_X2 rfl 5 (by decide) q320 (fun _ z => z) (ga_at.h hq) hv dX2_send_121 ?_
  refine ga_aload_n hx hb dX2_send_124 rfl (lv_at hl 3 rfl) ?_
  obtain ⟨a_62, ea_62, hw⟩ := hw
  rewrite [ea_62]
  obtain ⟨fs_63, v_64, hq, hv, hw⟩ := hw
  refine ga_getN (ci := 6) (T := TX8) (v := va_rf v_64) hx hb hts hown hI in_X8 rfl 0 (by decide) q1369 (fun _ z => z) (ga_at.h hq) hv dX2_send_125 ?_
  refine lv_iload hx hb dX2_send_128 (lv_at hl 0 rfl) ?_
  refine ga_aload_n hx hb dX2_send_130 rfl (lv_at hl 3 rfl) ?_
  obtain ⟨a_65, ea_65, hw⟩ := hw
  rewrite [ea_65]
  obtain ⟨fs_66, v_67, hq, hv, hw⟩ := hw
  refine ga_getN (ci := 6) (T := TX8) (v := .int v_67) hx hb hts hown hI in_X8 rfl 1 (by decide) q1372 (fun _ z => z) (ga_at.h hq) hv dX2_send_131 ?_
  refine lv_iadd hx hb dX2_send_134 ?_
  obtain ⟨kc_68, ks_69, hk1, hk2, hw⟩ := hw
  refine ga_callq (va_runS (As := [.int (t0 + v_67)]) (rest := [va_rf v_64, va_rf v_61]) ⟨hx, hb, hml, hown, hts⟩ (gm_J30_valueOf l g (t0 + v_67) h kc_68 ks_69 _ hw) (va_cwS 1 hts (lw_S q2530 q2531 q136 q2532) rfl rfl rfl hdG_J30_valueOf ⟨Nat.le_of_ble_eq_true rfl, Nat.le_of_ble_eq_true rfl⟩) (ga_preS hI rfl) rfl rfl hl.1 rfl (ga_room (Nat.le_of_ble_eq_true rfl)) dX2_send_135 ⟨Nat.le_trans (Nat.add_le_add_left hk1 _) hbc, Nat.le_trans (Nat.add_le_add_left hk2 _) hbs⟩) hI hbc hbs hk1 hk2 (fun r_71 h_70 H locs cells slots hw hI hbc hbs => ?_)
  obtain ⟨a_72, ea_72, hw⟩ := hw
  rewrite [ea_72]
  obtain ⟨kc_73, ks_74, hk1, hk2, hw⟩ := hw
  obtain ⟨fs_75, hq, hw⟩ := hw
  refine ga_callq (va_runV (As := [va_rf v_64, va_rf r_71]) (rest := []) ⟨hx, hb, hml, hown, hts⟩ (gm_J4_put_P l g a_72 v_64 r_71 h_70 kc_73 ks_74 _ hw) (cwV 2 hts (lw_V q2549 q2550 q2551 q106 q2552) rfl rfl rfl ⟨rfl, hdG_J4_put_P⟩ ⟨Nat.le_of_ble_eq_true rfl, Nat.le_of_ble_eq_true rfl⟩) (ga_preV hI hq rfl rfl) rfl rfl hl.1 rfl (ga_room (Nat.le_of_ble_eq_true rfl)) dX2_send_138 ⟨Nat.le_trans (Nat.add_le_add_left hk1 _) hbc, Nat.le_trans (Nat.add_le_add_left hk2 _) hbs⟩) hI hbc hbs hk1 hk2 (fun r_77 h_76 H locs cells slots hw hI hbc hbs => ?_)
  refine ga_cast (x := r_77) hx hb hts hown hI q2528 hw.1 dX2_send_141 ?_
  have hw := hw.2
  refine ga_astore (x := r_77) (lv' := [(6, va_rf r_77), (5, .int t0), (0, .ref p0), (2, va_rf v2), (3, va_rf v3), (4, .int v4)]) hx hb dX2_send_144 hl (by decide) rfl (fun ls hl => ?_)
  refine lv_aload_n hx hb dX2_send_146 rfl (lv_at hl 2 rfl) ?_
  refine lv_dup hx hb dX2_send_147 rfl ?_
  obtain ⟨fs_78, v_79, hq, hv, hw⟩ := hw
  refine ga_get (ci := 1) (T := TX2) (v := .int v_79) hx hb hts hown hI in_X2 rfl 6 (by decide) q322 (fun _ z => z) (ga_at.h hq) hv dX2_send_148 ?_
  refine ga_aload_n hx hb dX2_send_151 rfl (lv_at hl 4 rfl) ?_
  obtain ⟨a_80, ea_80, hw⟩ := hw
  rewrite [ea_80]
  obtain ⟨fs_81, v_82, hq, hv, hw⟩ := hw
  refine ga_getN (ci := 6) (T := TX8) (v := .int v_82) hx hb hts hown hI in_X8 rfl 1 (by decide) q1372 (fun _ z => z) (ga_at.h hq) hv dX2_send_152 ?_
  refine lv_iadd hx hb dX2_send_155 ?_
  obtain ⟨fs_83, hq, hk, hw⟩ := hw
  refine ga_put (ci := 1) (T := TX2) (v := .int (v_79 + v_82)) (ty := tyX2 6) hx hb hts hown hI in_X2 rfl tyX2 tyX2_ok nmX2 6 (by decide) q322 (fun _ z => z) rfl (tyX2_ok 6 (by decide)) rfl rfl hq hk dX2_send_156 (fun H locs hI => ?_)
  obtain ⟨h_84, eh_84⟩ : ∃ z, z = ga_set h_76 p0 (ga_O 1 (fs_83.set 6 (.int (v_79 + v_82)))) := ⟨_, rfl⟩
  rw [← eh_84] at hI
  have hw := hw h_84 eh_84
  refine lv_aload_n hx hb dX2_send_159 rfl (lv_at hl 2 rfl) ?_
  refine lv_dup hx hb dX2_send_160 rfl ?_
  obtain ⟨fs_85, v_86, hq, hv, hw⟩ := hw
  refine ga_get (ci := 1) (T := TX2) (v := .int v_86) hx hb hts hown hI in_X2 rfl 8 (by decide) q326 (fun _ z => z) (ga_at.h hq) hv dX2_send_161 ?_
  refine lv_iload hx hb dX2_send_164 (lv_at hl 5 rfl) ?_
  refine lv_iadd hx hb dX2_send_166 ?_
  obtain ⟨fs_87, hq, hk, hw⟩ := hw
  refine ga_put (ci := 1) (T := TX2) (v := .int (v_86 + v4)) (ty := tyX2 8) hx hb hts hown hI in_X2 rfl tyX2 tyX2_ok nmX2 8 (by decide) q326 (fun _ z => z) rfl (tyX2_ok 8 (by decide)) rfl rfl hq hk dX2_send_167 (fun H locs hI => ?_)
  obtain ⟨h_88, eh_88⟩ : ∃ z, z = ga_set h_84 p0 (ga_O 1 (fs_87.set 8 (.int (v_86 + v4)))) := ⟨_, rfl⟩
  rw [← eh_88] at hI
  have hw := hw h_88 eh_88
  refine ga_aload_n hx hb dX2_send_170 rfl (lv_at hl 4 rfl) ?_
  refine lv_iconst (v := 1) hx hb dX2_send_171 (by decide) ?_
  obtain ⟨a_89, ea_89, hw⟩ := hw
  rewrite [ea_89]
  obtain ⟨fs_90, hq, hw⟩ := hw
  refine ga_callv (va_runV (As := [.int (1 : Int32)]) (rest := []) ⟨hx, hb, hml, hown, hts⟩ (gm_X8_ends l g a_89 (1 : Int32) h_88 _ hw) (cwV 1 hts (lw_V q2445 q2446 q2447 q139 q2448) rfl rfl rfl ⟨rfl, hdG_X8_ends⟩ ⟨Nat.le_of_ble_eq_true rfl, Nat.le_of_ble_eq_true rfl⟩) (ga_preV hI hq rfl rfl) rfl rfl hl.1 rfl (ga_room (Nat.le_of_ble_eq_true rfl)) dX2_send_172 ⟨Nat.le_trans (Nat.add_le_add_left (Nat.zero_le _) _) hbc, Nat.le_trans (Nat.add_le_add_left (Nat.zero_le _) _) hbs⟩) hI hbc hbs (Nat.zero_le _) (Nat.zero_le _) (fun h_91 H locs cells slots hw hI hbc hbs => ?_)
  refine ga_aload_n hx hb dX2_send_175 rfl (lv_at hl 3 rfl) ?_
  obtain ⟨a_92, ea_92, hw⟩ := hw
  rewrite [ea_92]
  obtain ⟨fs_93, hq, hw⟩ := hw
  refine ga_callv (va_runV (As := []) (rest := []) ⟨hx, hb, hml, hown, hts⟩ (gm_X9_empties l g a_92 h_91 _ hw) (cwV 0 hts (lw_V q2441 q2442 q2443 q140 q2444) rfl rfl rfl ⟨rfl, hdG_X9_empties⟩ ⟨Nat.le_of_ble_eq_true rfl, Nat.le_of_ble_eq_true rfl⟩) (ga_preV hI hq rfl rfl) rfl rfl hl.1 rfl (ga_room (Nat.le_of_ble_eq_true rfl)) dX2_send_176 ⟨Nat.le_trans (Nat.add_le_add_left (Nat.zero_le _) _) hbc, Nat.le_trans (Nat.add_le_add_left (Nat.zero_le _) _) hbs⟩) hI hbc hbs (Nat.zero_le _) (Nat.zero_le _) (fun h_94 H locs cells slots hw hI hbc hbs => ?_)
  refine lv_iload hx hb dX2_send_179 (lv_at hl 5 rfl) ?_
  exact ga_iretx hx hb hr rfl hlk hI hw (Nat.le_trans (Nat.le_add_right _ _) hbc) (Nat.le_trans (Nat.le_add_right _ _) hbs) dX2_send_181
def gw_X2_send_58 (K : ga_K) (post : Int32 → ga_H → Prop) (xp : String → Nat → ga_H → Prop) (p0 : Nat) (t0 : Int32) (v2 : Option Nat) (v3 : Option Nat) (h : ga_H) (bc bs : Nat) : Prop :=
  ∃ a_31 : Nat, v3 = some a_31 ∧ ∃ fs_32 : List Value, ga_at K h a_31 (ga_O 6 fs_32) ∧ gw_X8_lacks K a_31 h (fun (r_34 : Int32) (h_33 : ga_H) => ∃ kc_35 ks_36 : Nat, kc_35 ≤ bc ∧ ks_36 ≤ bs ∧ gw_X1_refuse K t0 (12 : Int32) r_34 h_33 kc_35 ks_36 (fun (h_37 : ga_H) => ∃ a_41 : Nat, v3 = some a_41 ∧ ∃ (fs_42 : List Value) (v_43 : Int32), h_37 a_41 = some (ga_O 6 fs_42) ∧ fs_42[1]? = some (.int v_43) ∧ (∃ a_44 : Nat, v3 = some a_44 ∧ ∃ (fs_45 : List Value) (v_46 : Option Nat), h_37 a_44 = some (ga_O 6 fs_45) ∧ fs_45[0]? = some (va_rf v_46) ∧ (∃ a_47 : Nat, v_46 = some a_47 ∧ ∃ (fs_48 : List Value) (v_49 : Int32), h_37 a_47 = some (ga_O 9 fs_48) ∧ fs_48[0]? = some (.int v_49) ∧ (∃ (fs_50 : List Value) (v_51 : Option Nat), h_37 p0 = some (ga_O 1 fs_50) ∧ fs_50[5]? = some (va_rf v_51) ∧ (∃ a_52 : Nat, v3 = some a_52 ∧ ∃ (fs_53 : List Value) (v_54 : Option Nat), h_37 a_52 = some (ga_O 6 fs_53) ∧ fs_53[0]? = some (va_rf v_54) ∧ (∃ a_55 : Nat, v_51 = some a_55 ∧ ∃ fs_56 : List Value, ga_at K h_37 a_55 (ga_O 15 fs_56) ∧ gw_J4_containsKey_P K a_55 v_54 h_37 (fun (r_58 : Int32) (h_57 : ga_H) => (r_58 = (0 : Int32) → (gw_X2_send_118 K post xp p0 (0 : Int32) v2 v3 (v_43 * (v_49 + (1 : Int32))) h_57 (bc - kc_35) (bs - ks_36))) ∧ (¬ r_58 = (0 : Int32) → (∃ (fs_95 : List Value) (v_96 : Option Nat), h_57 p0 = some (ga_O 1 fs_95) ∧ fs_95[5]? = some (va_rf v_96) ∧ (∃ a_97 : Nat, v3 = some a_97 ∧ ∃ (fs_98 : List Value) (v_99 : Option Nat), h_57 a_97 = some (ga_O 6 fs_98) ∧ fs_98[0]? = some (va_rf v_99) ∧ (∃ a_100 : Nat, v_96 = some a_100 ∧ ∃ fs_101 : List Value, ga_at K h_57 a_100 (ga_O 15 fs_101) ∧ gw_J4_get_P K a_100 v_99 h_57 (fun (r_103 : Option Nat) (h_102 : ga_H) => ga_ok K h_102 "java/lang/Integer" r_103 ∧ (∃ a_104 : Nat, r_103 = some a_104 ∧ ∃ fs_105 : List Value, ga_at K h_102 a_104 (ga_O 24 fs_105) ∧ gw_J30_intValue K a_104 h_102 (fun (r_107 : Int32) (h_106 : ga_H) => gw_X2_send_118 K post xp p0 r_107 v2 v3 (v_43 * (v_49 + (1 : Int32))) h_106 (bc - kc_35) (bs - ks_36))))))))))))))) (fun (E_38 : String) (q_39 : Nat) (h_40 : ga_H) => xp E_38 q_39 h_40))
set_option maxHeartbeats 4000000 in
theorem gj_X2_send_58 {p : Program} {l : Launch} {e : Env} {s : State} {m : MethodId} {args : Array Value} {below : List Frame} {meth : Method} {c : Code} {mc ms : Nat} {H : Heap} {locs : List Loc} {cells slots : Nat} {ls : Array Slot} (hst : l.stackTraces = false) (htab : c.exceptionTable.toList = []) (g : ga_G) (post : Int32 → ga_H → Prop) (xp : String → Nat → ga_H → Prop) (p0 : Nat) (t0 : Int32) (v2 : Option Nat) (v3 : Option Nat) (h : ga_H) (bc bs : Nat) (hC : ga_Cx p s m args meth c cX2_send 7 (some .int) "PaperStore$Store" "send") (hw : gw_X2_send_58 g.2.2 post xp p0 t0 v2 v3 h bc bs) (hI : ga_I g h s H locs) (hbc : cells + bc ≤ mc) (hbs : slots + bs ≤ ms) (hl : lv_has ls 7 [(0, .ref p0), (2, va_rf v2), (3, va_rf v3)]) : W p l e ({ frames := 12, cells := mc, slots := ms, locals := 242 } : Room) s m args below meth c H locs cells slots (vx_MQ below (va_Qi post (ga_E g) (ga_A g)) (ga_X g xp) args s mc ms (ga_A g)) (F0 m 58 ls [.int t0]) := by
  obtain ⟨hx, hb, hml, hown, hts, hr, hlk, hnm⟩ := hC
  unfold gw_X2_send_58 at hw
  refine lv_bipush (v := 12) hx hb dX2_send_58 (by decide) ?_
  refine ga_aload_n hx hb dX2_send_60 rfl (lv_at hl 2 rfl) ?_
  obtain ⟨a_31, ea_31, hw⟩ := hw
  rewrite [ea_31]
  obtain ⟨fs_32, hq, hw⟩ := hw
  refine ga_calli (va_runV (As := []) (rest := [.int (12 : Int32), .int t0]) ⟨hx, hb, hml, hown, hts⟩ (gm_X8_lacks l g a_31 h _ hw) (cwV 0 hts (lw_V q2476 q2477 q2478 q139 q2479) rfl rfl rfl ⟨rfl, hdG_X8_lacks⟩ ⟨Nat.le_of_ble_eq_true rfl, Nat.le_of_ble_eq_true rfl⟩) (ga_preV hI hq rfl rfl) rfl rfl hl.1 rfl (ga_room (Nat.le_of_ble_eq_true rfl)) dX2_send_61 ⟨Nat.le_trans (Nat.add_le_add_left (Nat.zero_le _) _) hbc, Nat.le_trans (Nat.add_le_add_left (Nat.zero_le _) _) hbs⟩) hI hbc hbs (Nat.zero_le _) (Nat.zero_le _) (fun r_34 h_33 H locs cells slots hw hI hbc hbs => ?_)
  obtain ⟨kc_35, ks_36, hk1, hk2, hw⟩ := hw
  refine ga_xcallv (vx_runSN (As := [.int t0, .int (12 : Int32), .int r_34]) (rest := []) ⟨hx, hb, hml, hown, hts⟩ (gm_X1_refuse l hst g t0 (12 : Int32) r_34 h_33 kc_35 ks_36 _ _ hw) ⟨va_cnB 3 hts (lw_meth q2042) rfl rfl rfl (hI.2.1.1.2.1 _ (ga_nin q2040 rfl)) (hts _ q100) hdG_X1_refuse ⟨Nat.le_of_ble_eq_true rfl, Nat.le_of_ble_eq_true rfl⟩, hts _ q2041, trivial⟩ (ga_preS hI rfl) rfl rfl hl.1 rfl (ga_room (Nat.le_of_ble_eq_true rfl)) dX2_send_64 ⟨Nat.le_trans (Nat.add_le_add_left hk1 _) hbc, Nat.le_trans (Nat.add_le_add_left hk2 _) hbs⟩) hI hbc hbs hk1 hk2 (fun E_38 q_39 h_40 ce H locs cells slots hw hI hce hbc hbs => ?_) (fun h_37 H locs cells slots hw hI hbc hbs => ?_)
  · exact ga_out hown hlk hI hw (by rw [htab]; intro z hz; cases hz) hce (Nat.le_trans (Nat.le_add_right _ _) hbc) (Nat.le_trans (Nat.le_add_right _ _) hbs)
  · skip
    refine ga_aload_n hx hb dX2_send_67 rfl (lv_at hl 2 rfl) ?_
    obtain ⟨a_41, ea_41, hw⟩ := hw
    rewrite [ea_41]
    obtain ⟨fs_42, v_43, hq, hv, hw⟩ := hw
    refine ga_getN (ci := 6) (T := TX8) (v := .int v_43) hx hb hts hown hI in_X8 rfl 1 (by decide) q1372 (fun _ z => z) (ga_at.h hq) hv dX2_send_68 ?_
    refine ga_aload_n hx hb dX2_send_71 rfl (lv_at hl 2 rfl) ?_
    obtain ⟨a_44, ea_44, hw⟩ := hw
    rewrite [ea_44]
    obtain ⟨fs_45, v_46, hq, hv, hw⟩ := hw
    refine ga_getN (ci := 6) (T := TX8) (v := va_rf v_46) hx hb hts hown hI in_X8 rfl 0 (by decide) q1369 (fun _ z => z) (ga_at.h hq) hv dX2_send_72 ?_
    obtain ⟨a_47, ea_47, hw⟩ := hw
    rewrite [ea_47]
    obtain ⟨fs_48, v_49, hq, hv, hw⟩ := hw
    refine ga_getN (ci := 9) (T := TX11) (v := .int v_49) hx hb hts hown hI in_X11 rfl 0 (by decide) q2172 (fun _ z => z) (ga_at.h hq) hv dX2_send_75 ?_
    refine lv_iconst (v := 1) hx hb dX2_send_78 (by decide) ?_
    refine lv_iadd hx hb dX2_send_79 ?_
    refine lv_imul hx hb dX2_send_80 ?_
    refine lv_istore (lv' := [(4, .int (v_43 * (v_49 + (1 : Int32)))), (0, .ref p0), (2, va_rf v2), (3, va_rf v3)]) hx hb dX2_send_81 hl (by decide) (by simp [ga_rcat, ga_cat_r, ga_cat_i, ga_cat_f, ga_cat_l, ga_cat_d]) (fun ls hl => ?_)
    refine lv_aload_n hx hb dX2_send_83 rfl (lv_at hl 1 rfl) ?_
    obtain ⟨fs_50, v_51, hq, hv, hw⟩ := hw
    refine ga_get (ci := 1) (T := TX2) (v := va_rf v_51) hx hb hts hown hI in_X2 rfl 5 (by decide) q320 (fun _ z => z) (ga_at.h hq) hv dX2_send_84 ?_
    refine ga_aload_n hx hb dX2_send_87 rfl (lv_at hl 3 rfl) ?_
    obtain ⟨a_52, ea_52, hw⟩ := hw
    rewrite [ea_52]
    obtain ⟨fs_53, v_54, hq, hv, hw⟩ := hw
    refine ga_getN (ci := 6) (T := TX8) (v := va_rf v_54) hx hb hts hown hI in_X8 rfl 0 (by decide) q1369 (fun _ z => z) (ga_at.h hq) hv dX2_send_88 ?_
    obtain ⟨a_55, ea_55, hw⟩ := hw
    rewrite [ea_55]
    obtain ⟨fs_56, hq, hw⟩ := hw
    refine ga_calli (va_runV (As := [va_rf v_54]) (rest := []) ⟨hx, hb, hml, hown, hts⟩ (gm_J4_containsKey_P l g a_55 v_54 h_37 _ hw) (cwV 1 hts (lw_V q2512 q2513 q2514 q106 q2515) rfl rfl rfl ⟨rfl, hdG_J4_containsKey_P⟩ ⟨Nat.le_of_ble_eq_true rfl, Nat.le_of_ble_eq_true rfl⟩) (ga_preV hI hq rfl rfl) rfl rfl hl.1 rfl (ga_room (Nat.le_of_ble_eq_true rfl)) dX2_send_91 ⟨Nat.le_trans (Nat.add_le_add_left (Nat.zero_le _) _) hbc, Nat.le_trans (Nat.add_le_add_left (Nat.zero_le _) _) hbs⟩) hI hbc hbs (Nat.zero_le _) (Nat.zero_le _) (fun r_58 h_57 H locs cells slots hw hI hbc hbs => ?_)
    refine lv_if_eq (tgt := 117) hx hb dX2_send_94 (by decide) (fun hc_59 => ?_) (fun hc_59 => ?_)
    · have hw := hw.1 hc_59
      refine lv_iconst (v := 0) hx hb dX2_send_117 (by decide) ?_
      exact gj_X2_send_118 hst htab g post xp p0 (0 : Int32) v2 v3 (v_43 * (v_49 + (1 : Int32))) h_57 (bc - kc_35) (bs - ks_36) ⟨hx, hb, hml, hown, hts, hr, hlk, hnm⟩ hw hI hbc hbs (lv_sub hl [1, 2, 3, 0] rfl)
    · have hw := hw.2 hc_59
      refine lv_aload_n hx hb dX2_send_97 rfl (lv_at hl 1 rfl) ?_
      obtain ⟨fs_95, v_96, hq, hv, hw⟩ := hw
      refine ga_get (ci := 1) (T := TX2) (v := va_rf v_96) hx hb hts hown hI in_X2 rfl 5 (by decide) q320 (fun _ z => z) (ga_at.h hq) hv dX2_send_98 ?_
      refine ga_aload_n hx hb dX2_send_101 rfl (lv_at hl 3 rfl) ?_
      obtain ⟨a_97, ea_97, hw⟩ := hw
      rewrite [ea_97]
      obtain ⟨fs_98, v_99, hq, hv, hw⟩ := hw
      refine ga_getN (ci := 6) (T := TX8) (v := va_rf v_99) hx hb hts hown hI in_X8 rfl 0 (by decide) q1369 (fun _ z => z) (ga_at.h hq) hv dX2_send_102 ?_
      obtain ⟨a_100, ea_100, hw⟩ := hw
      rewrite [ea_100]
      obtain ⟨fs_101, hq, hw⟩ := hw
      refine ga_callq (va_runV (As := [va_rf v_99]) (rest := []) ⟨hx, hb, hml, hown, hts⟩ (gm_J4_get_P l g a_100 v_99 h_57 _ hw) (cwV 1 hts (lw_V q2524 q2525 q2526 q106 q2527) rfl rfl rfl ⟨rfl, hdG_J4_get_P⟩ ⟨Nat.le_of_ble_eq_true rfl, Nat.le_of_ble_eq_true rfl⟩) (ga_preV hI hq rfl rfl) rfl rfl hl.1 rfl (ga_room (Nat.le_of_ble_eq_true rfl)) dX2_send_105 ⟨Nat.le_trans (Nat.add_le_add_left (Nat.zero_le _) _) hbc, Nat.le_trans (Nat.add_le_add_left (Nat.zero_le _) _) hbs⟩) hI hbc hbs (Nat.zero_le _) (Nat.zero_le _) (fun r_103 h_102 H locs cells slots hw hI hbc hbs => ?_)
      refine ga_cast (x := r_103) hx hb hts hown hI q2528 hw.1 dX2_send_108 ?_
      have hw := hw.2
      obtain ⟨a_104, ea_104, hw⟩ := hw
      rewrite [ea_104]
      obtain ⟨fs_105, hq, hw⟩ := hw
      refine ga_calli (va_runV (As := []) (rest := []) ⟨hx, hb, hml, hown, hts⟩ (gm_J30_intValue l g a_104 h_102 _ hw) (cwV 0 hts (lw_V q2529 q1931 q1932 q136 q1933) rfl rfl rfl ⟨rfl, hdG_J30_intValue⟩ ⟨Nat.le_of_ble_eq_true rfl, Nat.le_of_ble_eq_true rfl⟩) (ga_preV hI hq rfl rfl) rfl rfl hl.1 rfl (ga_room (Nat.le_of_ble_eq_true rfl)) dX2_send_111 ⟨Nat.le_trans (Nat.add_le_add_left (Nat.zero_le _) _) hbc, Nat.le_trans (Nat.add_le_add_left (Nat.zero_le _) _) hbs⟩) hI hbc hbs (Nat.zero_le _) (Nat.zero_le _) (fun r_107 h_106 H locs cells slots hw hI hbc hbs => ?_)
      refine lv_goto (tgt := 118) hx hb dX2_send_114 (by decide) ?_
      exact gj_X2_send_118 hst htab g post xp p0 r_107 v2 v3 (v_43 * (v_49 + (1 : Int32))) h_106 (bc - kc_35) (bs - ks_36) ⟨hx, hb, hml, hown, hts, hr, hlk, hnm⟩ hw hI hbc hbs (lv_sub hl [1, 2, 3, 0] rfl)
def gw_X2_send_25 (K : ga_K) (post : Int32 → ga_H → Prop) (xp : String → Nat → ga_H → Prop) (p0 : Nat) (t0 : Int32) (v1 : Int32) (v2 : Option Nat) (h : ga_H) (bc bs : Nat) : Prop :=
  ∃ kc_11 ks_12 : Nat, kc_11 ≤ bc ∧ ks_12 ≤ bs ∧ gw_X1_refuse K t0 (11 : Int32) v1 h kc_11 ks_12 (fun (h_13 : ga_H) => ∃ (fs_17 : List Value) (v_18 : Option Nat), h_13 p0 = some (ga_O 1 fs_17) ∧ fs_17[2]? = some (va_rf v_18) ∧ (∃ a_19 : Nat, v2 = some a_19 ∧ ∃ (fs_20 : List Value) (v_21 : Int32), h_13 a_19 = some (ga_O 7 fs_20) ∧ fs_20[2]? = some (.int v_21) ∧ (∃ a_22 : Nat, v_18 = some a_22 ∧ ∃ fs_23 : List Value, ga_at K h_13 a_22 (ga_O 13 fs_23) ∧ gw_J2_get K a_22 v_21 h_13 (fun (r_25 : Option Nat) (h_24 : ga_H) => ga_ok K h_24 "PaperStore$Order" r_25 ∧ (∃ a_26 : Nat, r_25 = some a_26 ∧ ∃ fs_27 : List Value, ga_at K h_24 a_26 (ga_O 6 fs_27) ∧ gw_X8_lacks K a_26 h_24 (fun (r_29 : Int32) (h_28 : ga_H) => (r_29 ≤ (0 : Int32) → (gw_X2_send_58 K post xp p0 (0 : Int32) v2 r_25 h_28 (bc - kc_11) (bs - ks_12))) ∧ (¬ r_29 ≤ (0 : Int32) → (gw_X2_send_58 K post xp p0 (1 : Int32) v2 r_25 h_28 (bc - kc_11) (bs - ks_12))))))))) (fun (E_14 : String) (q_15 : Nat) (h_16 : ga_H) => xp E_14 q_15 h_16)
set_option maxHeartbeats 4000000 in
theorem gj_X2_send_25 {p : Program} {l : Launch} {e : Env} {s : State} {m : MethodId} {args : Array Value} {below : List Frame} {meth : Method} {c : Code} {mc ms : Nat} {H : Heap} {locs : List Loc} {cells slots : Nat} {ls : Array Slot} (hst : l.stackTraces = false) (htab : c.exceptionTable.toList = []) (g : ga_G) (post : Int32 → ga_H → Prop) (xp : String → Nat → ga_H → Prop) (p0 : Nat) (t0 : Int32) (v1 : Int32) (v2 : Option Nat) (h : ga_H) (bc bs : Nat) (hC : ga_Cx p s m args meth c cX2_send 7 (some .int) "PaperStore$Store" "send") (hw : gw_X2_send_25 g.2.2 post xp p0 t0 v1 v2 h bc bs) (hI : ga_I g h s H locs) (hbc : cells + bc ≤ mc) (hbs : slots + bs ≤ ms) (hl : lv_has ls 7 [(0, .ref p0), (1, .int v1), (2, va_rf v2)]) : W p l e ({ frames := 12, cells := mc, slots := ms, locals := 242 } : Room) s m args below meth c H locs cells slots (vx_MQ below (va_Qi post (ga_E g) (ga_A g)) (ga_X g xp) args s mc ms (ga_A g)) (F0 m 25 ls [.int t0]) := by
  obtain ⟨hx, hb, hml, hown, hts, hr, hlk, hnm⟩ := hC
  unfold gw_X2_send_25 at hw
  refine lv_bipush (v := 11) hx hb dX2_send_25 (by decide) ?_
  refine lv_iload_n hx hb dX2_send_27 rfl (lv_at hl 1 rfl) ?_
  obtain ⟨kc_11, ks_12, hk1, hk2, hw⟩ := hw
  refine ga_xcallv (vx_runSN (As := [.int t0, .int (11 : Int32), .int v1]) (rest := []) ⟨hx, hb, hml, hown, hts⟩ (gm_X1_refuse l hst g t0 (11 : Int32) v1 h kc_11 ks_12 _ _ hw) ⟨va_cnB 3 hts (lw_meth q2042) rfl rfl rfl (hI.2.1.1.2.1 _ (ga_nin q2040 rfl)) (hts _ q100) hdG_X1_refuse ⟨Nat.le_of_ble_eq_true rfl, Nat.le_of_ble_eq_true rfl⟩, hts _ q2041, trivial⟩ (ga_preS hI rfl) rfl rfl hl.1 rfl (ga_room (Nat.le_of_ble_eq_true rfl)) dX2_send_28 ⟨Nat.le_trans (Nat.add_le_add_left hk1 _) hbc, Nat.le_trans (Nat.add_le_add_left hk2 _) hbs⟩) hI hbc hbs hk1 hk2 (fun E_14 q_15 h_16 ce H locs cells slots hw hI hce hbc hbs => ?_) (fun h_13 H locs cells slots hw hI hbc hbs => ?_)
  · exact ga_out hown hlk hI hw (by rw [htab]; intro z hz; cases hz) hce (Nat.le_trans (Nat.le_add_right _ _) hbc) (Nat.le_trans (Nat.le_add_right _ _) hbs)
  · skip
    refine lv_aload_n hx hb dX2_send_31 rfl (lv_at hl 0 rfl) ?_
    obtain ⟨fs_17, v_18, hq, hv, hw⟩ := hw
    refine ga_get (ci := 1) (T := TX2) (v := va_rf v_18) hx hb hts hown hI in_X2 rfl 2 (by decide) q314 (fun _ z => z) (ga_at.h hq) hv dX2_send_32 ?_
    refine ga_aload_n hx hb dX2_send_35 rfl (lv_at hl 2 rfl) ?_
    obtain ⟨a_19, ea_19, hw⟩ := hw
    rewrite [ea_19]
    obtain ⟨fs_20, v_21, hq, hv, hw⟩ := hw
    refine ga_getN (ci := 7) (T := TX9) (v := .int v_21) hx hb hts hown hI in_X9 rfl 2 (by decide) q1411 (fun _ z => z) (ga_at.h hq) hv dX2_send_36 ?_
    obtain ⟨a_22, ea_22, hw⟩ := hw
    rewrite [ea_22]
    obtain ⟨fs_23, hq, hw⟩ := hw
    refine ga_callq (va_runV (As := [.int v_21]) (rest := []) ⟨hx, hb, hml, hown, hts⟩ (gm_J2_get l g a_22 v_21 h_13 _ hw) (cwV 1 hts (lw_V q2069 q839 q4120 q104 q841) rfl rfl rfl ⟨rfl, hdG_J2_get⟩ ⟨Nat.le_of_ble_eq_true rfl, Nat.le_of_ble_eq_true rfl⟩) (ga_preV hI hq rfl rfl) rfl rfl hl.1 rfl (ga_room (Nat.le_of_ble_eq_true rfl)) dX2_send_39 ⟨Nat.le_trans (Nat.add_le_add_left (Nat.zero_le _) _) hbc, Nat.le_trans (Nat.add_le_add_left (Nat.zero_le _) _) hbs⟩) hI hbc hbs (Nat.zero_le _) (Nat.zero_le _) (fun r_25 h_24 H locs cells slots hw hI hbc hbs => ?_)
    refine ga_cast (x := r_25) hx hb hts hown hI q1357 hw.1 dX2_send_42 ?_
    have hw := hw.2
    refine ga_astore_n (i := 3) (x := r_25) (lv' := [(3, va_rf r_25), (0, .ref p0), (1, .int v1), (2, va_rf v2)]) hx hb dX2_send_45 rfl hl (by decide) (by simp [ga_rcat, ga_cat_r, ga_cat_i, ga_cat_f, ga_cat_l, ga_cat_d]) (fun ls hl => ?_)
    refine ga_aload_n hx hb dX2_send_46 rfl (lv_at hl 0 rfl) ?_
    obtain ⟨a_26, ea_26, hw⟩ := hw
    rewrite [ea_26]
    obtain ⟨fs_27, hq, hw⟩ := hw
    refine ga_calli (va_runV (As := []) (rest := []) ⟨hx, hb, hml, hown, hts⟩ (gm_X8_lacks l g a_26 h_24 _ hw) (cwV 0 hts (lw_V q2476 q2477 q2478 q139 q2479) rfl rfl rfl ⟨rfl, hdG_X8_lacks⟩ ⟨Nat.le_of_ble_eq_true rfl, Nat.le_of_ble_eq_true rfl⟩) (ga_preV hI hq rfl rfl) rfl rfl hl.1 rfl (ga_room (Nat.le_of_ble_eq_true rfl)) dX2_send_47 ⟨Nat.le_trans (Nat.add_le_add_left (Nat.zero_le _) _) hbc, Nat.le_trans (Nat.add_le_add_left (Nat.zero_le _) _) hbs⟩) hI hbc hbs (Nat.zero_le _) (Nat.zero_le _) (fun r_29 h_28 H locs cells slots hw hI hbc hbs => ?_)
    refine lv_if_le (tgt := 57) hx hb dX2_send_50 (by decide) (fun hc_30 => ?_) (fun hc_30 => ?_)
    · have hw := hw.1 hc_30
      refine lv_iconst (v := 0) hx hb dX2_send_57 (by decide) ?_
      exact gj_X2_send_58 hst htab g post xp p0 (0 : Int32) v2 r_25 h_28 (bc - kc_11) (bs - ks_12) ⟨hx, hb, hml, hown, hts, hr, hlk, hnm⟩ hw hI hbc hbs (lv_sub hl [1, 3, 0] rfl)
    · have hw := hw.2 hc_30
      refine lv_iconst (v := 1) hx hb dX2_send_53 (by decide) ?_
      refine lv_goto (tgt := 58) hx hb dX2_send_54 (by decide) ?_
      exact gj_X2_send_58 hst htab g post xp p0 (1 : Int32) v2 r_25 h_28 (bc - kc_11) (bs - ks_12) ⟨hx, hb, hml, hown, hts, hr, hlk, hnm⟩ hw hI hbc hbs (lv_sub hl [1, 3, 0] rfl)
def gw_X2_send (K : ga_K) (p0 : Nat) (p1 : Int32) (h : ga_H) (mc ms : Nat) (post : Int32 → ga_H → Prop) (xp : String → Nat → ga_H → Prop) : Prop :=
  ∃ (fs_1 : List Value) (v_2 : Option Nat), h p0 = some (ga_O 1 fs_1) ∧ fs_1[3]? = some (va_rf v_2) ∧ (∃ a_3 : Nat, v_2 = some a_3 ∧ ∃ fs_4 : List Value, ga_at K h a_3 (ga_O 13 fs_4) ∧ gw_J2_get K a_3 p1 h (fun (r_6 : Option Nat) (h_5 : ga_H) => ga_ok K h_5 "PaperStore$Cart" r_6 ∧ (∃ a_7 : Nat, r_6 = some a_7 ∧ ∃ (fs_8 : List Value) (v_9 : Int32), h_5 a_7 = some (ga_O 7 fs_8) ∧ fs_8[2]? = some (.int v_9) ∧ ((¬ v_9 = (-1 : Int32) → (gw_X2_send_25 K post xp p0 (0 : Int32) p1 r_6 h_5 mc ms)) ∧ (v_9 = (-1 : Int32) → (gw_X2_send_25 K post xp p0 (1 : Int32) p1 r_6 h_5 mc ms))))))
set_option maxHeartbeats 4000000 in
theorem gm_X2_send (l : Launch) (hst : l.stackTraces = false) (g : ga_G) (p0 : Nat) (p1 : Int32) (h : ga_H) (mc ms : Nat) (post : Int32 → ga_H → Prop) (xp : String → Nat → ga_H → Prop) (hw : gw_X2_send g.2.2 p0 p1 h mc ms post xp) : vx_Met l yX2_send (ws_ yX2_send cX2_send 7 (some .int)) ({ frames := 12, cells := mc, slots := ms, locals := 242 } : Room) (va_Pc [.ref p0, .int p1] (ga_B g h)) (va_Qi post (ga_E g) (ga_A g)) (ga_X g xp) mc ms (ga_A g) := by
  refine ga_metx (own := "PaperStore$Store") (nm := "send") (by decide) rfl rfl (by exact Nat.le_of_ble_eq_true rfl) (fun p e s m below meth c ls hC htab hI hl => ?_)
  have hl : lv_has ls 7 [(0, .ref p0), (1, .int p1)] := hl
  generalize ([.ref p0, .int p1] : List Value).toArray = args at hC ⊢
  obtain ⟨hx, hb, hml, hown, hts, hr, hlk, hnm⟩ := hC
  unfold gw_X2_send at hw
  obtain ⟨H, eH⟩ : ∃ z, z = s.heap := ⟨_, rfl⟩
  obtain ⟨locs, elo⟩ : ∃ z : List Loc, z = [] := ⟨_, rfl⟩
  rw [← eH, ← elo] at hI ⊢
  obtain ⟨cells, slots, hbc, hbs, e0, e1⟩ : ∃ a b : Nat, a + mc ≤ mc ∧ b + ms ≤ ms ∧ a = 0 ∧ b = 0 := ⟨0, 0, by omega, by omega, rfl, rfl⟩
  show W p l e ({ frames := 12, cells := mc, slots := ms, locals := 242 } : Room) s m args below meth c H locs 0 0 (vx_MQ below (va_Qi post (ga_E g) (ga_A g)) (ga_X g xp) args s mc ms (ga_A g)) (F0 m 0 ls [])
  suffices hgoal : W p l e ({ frames := 12, cells := mc, slots := ms, locals := 242 } : Room) s m args below meth c H locs cells slots (vx_MQ below (va_Qi post (ga_E g) (ga_A g)) (ga_X g xp) args s mc ms (ga_A g)) (F0 m 0 ls []) by rw [e0, e1] at hgoal; exact hgoal
  refine lv_aload_n hx hb dX2_send_0 rfl (lv_at hl 0 rfl) ?_
  obtain ⟨fs_1, v_2, hq, hv, hw⟩ := hw
  refine ga_get (ci := 1) (T := TX2) (v := va_rf v_2) hx hb hts hown hI in_X2 rfl 3 (by decide) q316 (fun _ z => z) (ga_at.h hq) hv dX2_send_1 ?_
  refine lv_iload_n hx hb dX2_send_4 rfl (lv_at hl 1 rfl) ?_
  obtain ⟨a_3, ea_3, hw⟩ := hw
  rewrite [ea_3]
  obtain ⟨fs_4, hq, hw⟩ := hw
  refine ga_callq (va_runV (As := [.int p1]) (rest := []) ⟨hx, hb, hml, hown, hts⟩ (gm_J2_get l g a_3 p1 h _ hw) (cwV 1 hts (lw_V q2069 q839 q4120 q104 q841) rfl rfl rfl ⟨rfl, hdG_J2_get⟩ ⟨Nat.le_of_ble_eq_true rfl, Nat.le_of_ble_eq_true rfl⟩) (ga_preV hI hq rfl rfl) rfl rfl hl.1 rfl (ga_room (Nat.le_of_ble_eq_true rfl)) dX2_send_5 ⟨Nat.le_trans (Nat.add_le_add_left (Nat.zero_le _) _) hbc, Nat.le_trans (Nat.add_le_add_left (Nat.zero_le _) _) hbs⟩) hI hbc hbs (Nat.zero_le _) (Nat.zero_le _) (fun r_6 h_5 H locs cells slots hw hI hbc hbs => ?_)
  refine ga_cast (x := r_6) hx hb hts hown hI q1250 hw.1 dX2_send_8 ?_
  have hw := hw.2
  refine ga_astore_n (i := 2) (x := r_6) (lv' := [(2, va_rf r_6), (0, .ref p0), (1, .int p1)]) hx hb dX2_send_11 rfl hl (by decide) rfl (fun ls hl => ?_)
  refine ga_aload_n hx hb dX2_send_12 rfl (lv_at hl 0 rfl) ?_
  obtain ⟨a_7, ea_7, hw⟩ := hw
  rewrite [ea_7]
  obtain ⟨fs_8, v_9, hq, hv, hw⟩ := hw
  refine ga_getN (ci := 7) (T := TX9) (v := .int v_9) hx hb hts hown hI in_X9 rfl 2 (by decide) q1411 (fun _ z => z) (ga_at.h hq) hv dX2_send_13 ?_
  refine lv_iconst (v := -1) hx hb dX2_send_16 (by decide) ?_
  refine lv_icmp_ne (tgt := 24) hx hb dX2_send_17 (by decide) (fun hc_10 => ?_) (fun hc_10 => ?_)
  · have hw := hw.1 hc_10
    refine lv_iconst (v := 0) hx hb dX2_send_24 (by decide) ?_
    exact gj_X2_send_25 hst htab g post xp p0 (0 : Int32) p1 r_6 h_5 mc ms ⟨hx, hb, hml, hown, hts, hr, hlk, hnm⟩ hw hI hbc hbs (lv_sub hl [1, 2, 0] rfl)
  · have hw := hw.2 hc_10
    refine lv_iconst (v := 1) hx hb dX2_send_20 (by decide) ?_
    refine lv_goto (tgt := 25) hx hb dX2_send_21 (by decide) ?_
    exact gj_X2_send_25 hst htab g post xp p0 (1 : Int32) p1 r_6 h_5 mc ms ⟨hx, hb, hml, hown, hts, hr, hlk, hnm⟩ hw hI hbc hbs (lv_sub hl [1, 2, 0] rfl)
theorem hdG_X2_send : yX2_send.cls ≠ "java/lang/invoke/MethodHandle" ∧ yX2_send.cls ≠ "java/lang/invoke/VarHandle" ∧ (parseMethodDescriptor yX2_send.desc).map (fun d => d.parameters.length) = some 1 := by decide +kernel
def gw_X1_send (K : ga_K) (p0 : Nat) (p1 : Int32) (h : ga_H) (mc ms : Nat) (post : Int32 → ga_H → Prop) (xp : String → Nat → ga_H → Prop) : Prop :=
  ∃ kc_1 ks_2 : Nat, kc_1 ≤ mc ∧ ks_2 ≤ ms ∧ ∃ fs_3 : List Value, ga_at K h p0 (ga_O 0 fs_3) ∧ gw_X1_cartAt K p0 p1 h kc_1 ks_2 (fun (r_5 : Option Nat) (h_4 : ga_H) => ∃ (fs_9 : List Value) (v_10 : Option Nat), h_4 p0 = some (ga_O 0 fs_9) ∧ fs_9[0]? = some (va_rf v_10) ∧ (∃ a_11 : Nat, v_10 = some a_11 ∧ ∃ kc_12 ks_13 : Nat, kc_12 ≤ (mc - kc_1) ∧ ks_13 ≤ (ms - ks_2) ∧ ∃ fs_14 : List Value, ga_at K h_4 a_11 (ga_O 1 fs_14) ∧ gw_X2_copy K a_11 h_4 kc_12 ks_13 (fun (r_16 : Option Nat) (h_15 : ga_H) => ∃ a_17 : Nat, r_16 = some a_17 ∧ ∃ kc_18 ks_19 : Nat, kc_18 ≤ ((mc - kc_1) - kc_12) ∧ ks_19 ≤ ((ms - ks_2) - ks_13) ∧ ∃ fs_20 : List Value, ga_at K h_15 a_17 (ga_O 1 fs_20) ∧ gw_X2_send K a_17 p1 h_15 kc_18 ks_19 (fun (r_22 : Int32) (h_21 : ga_H) => ∃ kc_36 ks_37 : Nat, kc_36 ≤ (((mc - kc_1) - kc_12) - kc_18) ∧ ks_37 ≤ (((ms - ks_2) - ks_13) - ks_19) ∧ ∃ fs_38 : List Value, ga_at K h_21 p0 (ga_O 0 fs_38) ∧ gw_X1_become K p0 r_16 r_22 h_21 kc_36 ks_37 (fun (r_40 : Int32) (h_39 : ga_H) => post r_40 h_39)) (fun (E_23 : String) (q_24 : Nat) (h_25 : ga_H) => (E_23 = "PaperStore$Refusal" ∧ (∃ kc_26 ks_27 : Nat, kc_26 ≤ (((mc - kc_1) - kc_12) - kc_18) ∧ ks_27 ≤ (((ms - ks_2) - ks_13) - ks_19) ∧ ∃ fs_28 : List Value, ga_at K h_25 p0 (ga_O 0 fs_28) ∧ gw_X1_kept K p0 (some q_24) h_25 kc_26 ks_27 (fun (r_30 : Option Nat) (h_29 : ga_H) => ∃ a_34 : Nat, r_30 = some a_34 ∧ ∃ fs_35 : List Value, h_29 a_34 = some (ga_O 28 fs_35) ∧ (xp "java/lang/UnsupportedOperationException" a_34 h_29)) (fun (E_31 : String) (q_32 : Nat) (h_33 : ga_H) => False))))))) (fun (E_6 : String) (q_7 : Nat) (h_8 : ga_H) => (E_6 = "java/lang/IndexOutOfBoundsException" ∧ (xp "java/lang/IndexOutOfBoundsException" q_7 h_8)))
set_option maxHeartbeats 4000000 in
theorem gm_X1_send (l : Launch) (hst : l.stackTraces = false) (g : ga_G) (p0 : Nat) (p1 : Int32) (h : ga_H) (mc ms : Nat) (post : Int32 → ga_H → Prop) (xp : String → Nat → ga_H → Prop) (hw : gw_X1_send g.2.2 p0 p1 h mc ms post xp) : vx_Met l yX1_send (wsW_ yX1_send cX1_send 5 (some .int) [(14, 28, 29, 25)]) ({ frames := 17, cells := mc, slots := ms, locals := 1389 } : Room) (va_Pc [.ref p0, .int p1] (ga_B g h)) (va_Qi post (ga_E g) (ga_A g)) (ga_X g xp) mc ms (ga_A g) := by
  refine ga_metxW (own := "PaperStore") (nm := "send") (by decide) rfl rfl (by exact Nat.le_of_ble_eq_true rfl) (fun p e s m below meth c ls hC htab hI hl => ?_)
  have hl : lv_has ls 5 [(0, .ref p0), (1, .int p1)] := hl
  generalize ([.ref p0, .int p1] : List Value).toArray = args at hC ⊢
  obtain ⟨hx, hb, hml, hown, hts, hr, hlk, hnm⟩ := hC
  unfold gw_X1_send at hw
  obtain ⟨H, eH⟩ : ∃ z, z = s.heap := ⟨_, rfl⟩
  obtain ⟨locs, elo⟩ : ∃ z : List Loc, z = [] := ⟨_, rfl⟩
  rw [← eH, ← elo] at hI ⊢
  obtain ⟨cells, slots, hbc, hbs, e0, e1⟩ : ∃ a b : Nat, a + mc ≤ mc ∧ b + ms ≤ ms ∧ a = 0 ∧ b = 0 := ⟨0, 0, by omega, by omega, rfl, rfl⟩
  show W p l e ({ frames := 17, cells := mc, slots := ms, locals := 1389 } : Room) s m args below meth c H locs 0 0 (vx_MQ below (va_Qi post (ga_E g) (ga_A g)) (ga_X g xp) args s mc ms (ga_A g)) (F0 m 0 ls [])
  suffices hgoal : W p l e ({ frames := 17, cells := mc, slots := ms, locals := 1389 } : Room) s m args below meth c H locs cells slots (vx_MQ below (va_Qi post (ga_E g) (ga_A g)) (ga_X g xp) args s mc ms (ga_A g)) (F0 m 0 ls []) by rw [e0, e1] at hgoal; exact hgoal
  refine lv_aload_n hx hb dX1_send_0 rfl (lv_at hl 0 rfl) ?_
  refine lv_iload_n hx hb dX1_send_1 rfl (lv_at hl 1 rfl) ?_
  obtain ⟨kc_1, ks_2, hk1, hk2, hw⟩ := hw
  obtain ⟨fs_3, hq, hw⟩ := hw
  refine ga_xcallq (vx_runV (As := [.int p1]) (rest := []) ⟨hx, hb, hml, hown, hts⟩ (gm_X1_cartAt l hst g p0 p1 h kc_1 ks_2 _ _ hw) (cwV 1 hts (lw_V q2503 q2505 qs16 q100 q2506) rfl rfl rfl ⟨rfl, hdG_X1_cartAt⟩ ⟨Nat.le_of_ble_eq_true rfl, Nat.le_of_ble_eq_true rfl⟩) (ga_preV hI hq rfl rfl) rfl rfl hl.1 rfl (ga_room (Nat.le_of_ble_eq_true rfl)) dX1_send_2 ⟨Nat.le_trans (Nat.add_le_add_left hk1 _) hbc, Nat.le_trans (Nat.add_le_add_left hk2 _) hbs⟩) hI hbc hbs hk1 hk2 (fun E_6 q_7 h_8 ce H locs cells slots hw hI hce hbc hbs => ?_) (fun r_5 h_4 H locs cells slots hw hI hbc hbs => ?_)
  · obtain ⟨rfl, hw⟩ := hw
    exact ga_out hown hlk hI hw (by rw [htab]; exact (List.forall_mem_cons.mpr ⟨Or.inl rfl, fun _ h => absurd h List.not_mem_nil⟩)) hce (Nat.le_trans (Nat.le_add_right _ _) hbc) (Nat.le_trans (Nat.le_add_right _ _) hbs)
  · skip
    refine ga_astore_n (i := 2) (x := r_5) (lv' := [(2, va_rf r_5), (0, .ref p0), (1, .int p1)]) hx hb dX1_send_5 rfl hl (by decide) rfl (fun ls hl => ?_)
    refine lv_aload_n hx hb dX1_send_6 rfl (lv_at hl 1 rfl) ?_
    obtain ⟨fs_9, v_10, hq, hv, hw⟩ := hw
    refine ga_get (ci := 0) (T := TX1) (v := va_rf v_10) hx hb hts hown hI in_X1 rfl 0 (by decide) q387 (fun _ z => z) (ga_at.h hq) hv dX1_send_7 ?_
    obtain ⟨a_11, ea_11, hw⟩ := hw
    rewrite [ea_11]
    obtain ⟨kc_12, ks_13, hk1, hk2, hw⟩ := hw
    obtain ⟨fs_14, hq, hw⟩ := hw
    refine ga_callq (va_runV (As := []) (rest := []) ⟨hx, hb, hml, hown, hts⟩ (gm_X2_copy l g a_11 h_4 kc_12 ks_13 _ hw) (cwV 0 hts (lw_V q1259 q1260 q1261 q101 q1262) rfl rfl rfl ⟨rfl, hdG_X2_copy⟩ ⟨Nat.le_of_ble_eq_true rfl, Nat.le_of_ble_eq_true rfl⟩) (ga_preV hI hq rfl rfl) rfl rfl hl.1 rfl (ga_room (Nat.le_of_ble_eq_true rfl)) dX1_send_10 ⟨Nat.le_trans (Nat.add_le_add_left hk1 _) hbc, Nat.le_trans (Nat.add_le_add_left hk2 _) hbs⟩) hI hbc hbs hk1 hk2 (fun r_16 h_15 H locs cells slots hw hI hbc hbs => ?_)
    refine ga_astore_n (i := 3) (x := r_16) (lv' := [(3, va_rf r_16), (2, va_rf r_5), (0, .ref p0), (1, .int p1)]) hx hb dX1_send_13 rfl hl (by decide) (by simp [ga_rcat, ga_cat_r, ga_cat_i, ga_cat_f, ga_cat_l, ga_cat_d]) (fun ls hl => ?_)
    refine ga_aload_n hx hb dX1_send_14 rfl (lv_at hl 0 rfl) ?_
    refine lv_iload_n hx hb dX1_send_15 rfl (lv_at hl 3 rfl) ?_
    obtain ⟨a_17, ea_17, hw⟩ := hw
    rewrite [ea_17]
    obtain ⟨kc_18, ks_19, hk1, hk2, hw⟩ := hw
    obtain ⟨fs_20, hq, hw⟩ := hw
    refine ga_xcalli (vx_runV (As := [.int p1]) (rest := []) ⟨hx, hb, hml, hown, hts⟩ (gm_X2_send l hst g a_17 p1 h_15 kc_18 ks_19 _ _ hw) (cwV 1 hts (lw_V q2508 q2509 q2510 q101 q2511) rfl rfl rfl ⟨rfl, hdG_X2_send⟩ ⟨Nat.le_of_ble_eq_true rfl, Nat.le_of_ble_eq_true rfl⟩) (ga_preV hI hq rfl rfl) rfl rfl hl.1 rfl (ga_room (Nat.le_of_ble_eq_true rfl)) dX1_send_16 ⟨Nat.le_trans (Nat.add_le_add_left hk1 _) hbc, Nat.le_trans (Nat.add_le_add_left hk2 _) hbs⟩) hI hbc hbs hk1 hk2 (fun E_23 q_24 h_25 ce H locs cells slots hw hI hce hbc hbs => ?_) (fun r_22 h_21 H locs cells slots hw hI hbc hbs => ?_)
    · obtain ⟨rfl, hw⟩ := hw
      refine ga_catch hown hts hI ([]) (⟨14, 28, 29, 25⟩) ([]) (by rw [htab]; rfl) (fun _ h => absurd h List.not_mem_nil) rfl (by decide) q2023 q2044 hce ?_
      refine W.eq (g2 := F0 m 29 ls [.ref q_24]) rfl ?_
      refine lv_astore (lv' := [(4, .ref q_24), (3, va_rf r_16), (2, va_rf r_5), (0, .ref p0), (1, .int p1)]) hx hb dX1_send_29 hl (by decide) (by simp [ga_rcat, ga_cat_r, ga_cat_i, ga_cat_f, ga_cat_l, ga_cat_d]) (fun ls hl => ?_)
      refine lv_aload_n hx hb dX1_send_31 rfl (lv_at hl 3 rfl) ?_
      refine lv_aload hx hb dX1_send_32 (lv_at hl 0 rfl) ?_
      obtain ⟨kc_26, ks_27, hk1, hk2, hw⟩ := hw
      obtain ⟨fs_28, hq, hw⟩ := hw
      refine ga_xcallq (vx_runV (As := [va_rf (some q_24)]) (rest := []) ⟨hx, hb, hml, hown, hts⟩ (gm_X1_kept l hst g p0 (some q_24) h_25 kc_26 ks_27 _ _ hw) (cwV 1 hts (lw_V q2083 q2085 qs10 q100 q2086) rfl rfl rfl ⟨rfl, hdG_X1_kept⟩ ⟨Nat.le_of_ble_eq_true rfl, Nat.le_of_ble_eq_true rfl⟩) (ga_preV hI hq rfl rfl) rfl rfl hl.1 rfl (ga_room (Nat.le_of_ble_eq_true rfl)) dX1_send_34 ⟨Nat.le_trans (Nat.add_le_add_left hk1 _) hbc, Nat.le_trans (Nat.add_le_add_left hk2 _) hbs⟩) hI hbc hbs hk1 hk2 (fun E_31 q_32 h_33 ce H locs cells slots hw hI hce hbc hbs => ?_) (fun r_30 h_29 H locs cells slots hw hI hbc hbs => ?_)
      · exact hw.elim
      · skip
        obtain ⟨a_34, ea_34, hw⟩ := hw
        rewrite [ea_34]
        obtain ⟨fs_35, hq, hw⟩ := hw
        refine ga_athrow (ci := 28) hx hb hI (ga_at.h hq) rfl dX1_send_37 (fun ce hce => ?_)
        exact ga_out hown hlk hI hw (by rw [htab]; exact (List.forall_mem_cons.mpr ⟨Or.inl rfl, fun _ h => absurd h List.not_mem_nil⟩)) hce (Nat.le_trans (Nat.le_add_right _ _) hbc) (Nat.le_trans (Nat.le_add_right _ _) hbs)
    · skip
      refine lv_istore (lv' := [(4, .int r_22), (3, va_rf r_16), (2, va_rf r_5), (0, .ref p0), (1, .int p1)]) hx hb dX1_send_19 hl (by decide) (by simp [ga_rcat, ga_cat_r, ga_cat_i, ga_cat_f, ga_cat_l, ga_cat_d]) (fun ls hl => ?_)
      refine lv_aload_n hx hb dX1_send_21 rfl (lv_at hl 3 rfl) ?_
      refine ga_aload_n hx hb dX1_send_22 rfl (lv_at hl 1 rfl) ?_
      refine lv_iload hx hb dX1_send_23 (lv_at hl 0 rfl) ?_
      obtain ⟨kc_36, ks_37, hk1, hk2, hw⟩ := hw
      obtain ⟨fs_38, hq, hw⟩ := hw
      refine ga_calli (va_runV (As := [va_rf r_16, .int r_22]) (rest := []) ⟨hx, hb, hml, hown, hts⟩ (gm_X1_become l g p0 r_16 r_22 h_21 kc_36 ks_37 _ hw) (cwV 2 hts (lw_V q2070 q2072 qs8 q100 q2073) rfl rfl rfl ⟨rfl, hdG_X1_become⟩ ⟨Nat.le_of_ble_eq_true rfl, Nat.le_of_ble_eq_true rfl⟩) (ga_preV hI hq rfl rfl) rfl rfl hl.1 rfl (ga_room (Nat.le_of_ble_eq_true rfl)) dX1_send_25 ⟨Nat.le_trans (Nat.add_le_add_left hk1 _) hbc, Nat.le_trans (Nat.add_le_add_left hk2 _) hbs⟩) hI hbc hbs hk1 hk2 (fun r_40 h_39 H locs cells slots hw hI hbc hbs => ?_)
      exact ga_iretx hx hb hr rfl hlk hI hw (Nat.le_trans (Nat.le_add_right _ _) hbc) (Nat.le_trans (Nat.le_add_right _ _) hbs) dX1_send_28
theorem hdG_X1_send : yX1_send.cls ≠ "java/lang/invoke/MethodHandle" ∧ yX1_send.cls ≠ "java/lang/invoke/VarHandle" ∧ (parseMethodDescriptor yX1_send.desc).map (fun d => d.parameters.length) = some 1 := by decide +kernel
def gw_X0_send (K : ga_K) (p0 : Option Nat) (p1 : Int32) (p2 : Option Nat) (h : ga_H) (mc ms : Nat) (post : Int32 → ga_H → Prop) (xp : String → Nat → ga_H → Prop) : Prop :=
  ∃ a_1 : Nat, p0 = some a_1 ∧ ∃ kc_2 ks_3 : Nat, kc_2 ≤ mc ∧ ks_3 ≤ ms ∧ ∃ fs_4 : List Value, ga_at K h a_1 (ga_O 0 fs_4) ∧ gw_X1_send K a_1 p1 h kc_2 ks_3 (fun (r_6 : Int32) (h_5 : ga_H) => ∃ a_10 : Nat, p2 = some a_10 ∧ ∃ (n_11 : Nat) (f_12 : Nat → Int64), h_5 a_10 = some (ga_Al n_11 f_12) ∧ vp_in (0 : Int32) n_11 ∧ ∀ h_13 : ga_H, h_13 = ga_set h_5 a_10 (ga_Al n_11 (vp_updL f_12 (0 : Int32).toNatClampNeg r_6.toInt64)) → (post (0 : Int32) h_13)) (fun (E_7 : String) (q_8 : Nat) (h_9 : ga_H) => (E_7 = "java/lang/IndexOutOfBoundsException" ∧ (post (1 : Int32) h_9)) ∨ (E_7 = "java/lang/UnsupportedOperationException" ∧ (post (2 : Int32) h_9)))
set_option maxHeartbeats 4000000 in
theorem gm_X0_send (l : Launch) (hst : l.stackTraces = false) (g : ga_G) (p0 : Option Nat) (p1 : Int32) (p2 : Option Nat) (h : ga_H) (mc ms : Nat) (post : Int32 → ga_H → Prop) (xp : String → Nat → ga_H → Prop) (hw : gw_X0_send g.2.2 p0 p1 p2 h mc ms post xp) : vx_Met l yX0_send (wsW_ yX0_send cX0_send 4 (some .int) [(0, 9, 12, 21), (0, 9, 15, 15)]) ({ frames := 18, cells := mc, slots := ms, locals := 1413 } : Room) (va_Pc [va_rf p0, .int p1, va_rf p2] (ga_B g h)) (va_Qi post (ga_E g) (ga_A g)) (ga_X g xp) mc ms (ga_A g) := by
  refine ga_metxW (own := "PaperStoreLaw") (nm := "send") (by decide) rfl rfl (by cases p0 <;> cases p2 <;> exact Nat.le_of_ble_eq_true rfl) (fun p e s m below meth c ls hC htab hI hl => ?_)
  have hl : lv_has ls 4 [(0, va_rf p0), (1, .int p1), (2, va_rf p2)] := (by cases p0 <;> cases p2 <;> exact hl)
  generalize ([va_rf p0, .int p1, va_rf p2] : List Value).toArray = args at hC ⊢
  obtain ⟨hx, hb, hml, hown, hts, hr, hlk, hnm⟩ := hC
  unfold gw_X0_send at hw
  obtain ⟨H, eH⟩ : ∃ z, z = s.heap := ⟨_, rfl⟩
  obtain ⟨locs, elo⟩ : ∃ z : List Loc, z = [] := ⟨_, rfl⟩
  rw [← eH, ← elo] at hI ⊢
  obtain ⟨cells, slots, hbc, hbs, e0, e1⟩ : ∃ a b : Nat, a + mc ≤ mc ∧ b + ms ≤ ms ∧ a = 0 ∧ b = 0 := ⟨0, 0, by omega, by omega, rfl, rfl⟩
  show W p l e ({ frames := 18, cells := mc, slots := ms, locals := 1413 } : Room) s m args below meth c H locs 0 0 (vx_MQ below (va_Qi post (ga_E g) (ga_A g)) (ga_X g xp) args s mc ms (ga_A g)) (F0 m 0 ls [])
  suffices hgoal : W p l e ({ frames := 18, cells := mc, slots := ms, locals := 1413 } : Room) s m args below meth c H locs cells slots (vx_MQ below (va_Qi post (ga_E g) (ga_A g)) (ga_X g xp) args s mc ms (ga_A g)) (F0 m 0 ls []) by rw [e0, e1] at hgoal; exact hgoal
  refine ga_aload_n hx hb dX0_send_0 rfl (lv_at hl 2 rfl) ?_
  refine lv_iconst (v := 0) hx hb dX0_send_1 (by decide) ?_
  refine ga_aload_n hx hb dX0_send_2 rfl (lv_at hl 0 rfl) ?_
  refine lv_iload_n hx hb dX0_send_3 rfl (lv_at hl 1 rfl) ?_
  obtain ⟨a_1, ea_1, hw⟩ := hw
  rewrite [ea_1]
  obtain ⟨kc_2, ks_3, hk1, hk2, hw⟩ := hw
  obtain ⟨fs_4, hq, hw⟩ := hw
  refine ga_xcalli (vx_runVX (As := [.int p1]) (rest := [.int (0 : Int32), va_rf p2]) ⟨hx, hb, hml, hown, hts⟩ (gm_X1_send l hst g a_1 p1 h kc_2 ks_3 _ _ hw) (vx_cwVW 1 hts (lw_VW q2499 q2500 q2501 q100 q2502) rfl rfl rfl ⟨rfl, hdG_X1_send⟩ ⟨Nat.le_of_ble_eq_true rfl, Nat.le_of_ble_eq_true rfl⟩) (ga_preV hI hq rfl rfl) rfl rfl hl.1 rfl (ga_room (Nat.le_of_ble_eq_true rfl)) dX0_send_4 ⟨Nat.le_trans (Nat.add_le_add_left hk1 _) hbc, Nat.le_trans (Nat.add_le_add_left hk2 _) hbs⟩) hI hbc hbs hk1 hk2 (fun E_7 q_8 h_9 ce H locs cells slots hw hI hce hbc hbs => ?_) (fun r_6 h_5 H locs cells slots hw hI hbc hbs => ?_)
  · rcases hw with ⟨rfl, hw⟩ | ⟨rfl, hw⟩
    · skip
      refine ga_catch hown hts hI ([]) (⟨0, 9, 12, 21⟩) ([⟨0, 9, 15, 15⟩]) (by rw [htab]; rfl) (fun _ h => absurd h List.not_mem_nil) rfl (by decide) q2105 q866 hce ?_
      refine W.eq (g2 := F0 m 12 ls [.ref q_8]) rfl ?_
      refine lv_astore_n (i := 3) (lv' := [(3, .ref q_8), (0, va_rf p0), (1, .int p1), (2, va_rf p2)]) hx hb dX0_send_12 rfl hl (by decide) (by simp [ga_rcat, ga_cat_r, ga_cat_i, ga_cat_f, ga_cat_l, ga_cat_d]) (fun ls hl => ?_)
      refine lv_iconst (v := 1) hx hb dX0_send_13 (by decide) ?_
      exact ga_iretx hx hb hr rfl hlk hI hw (Nat.le_trans (Nat.le_add_right _ _) hbc) (Nat.le_trans (Nat.le_add_right _ _) hbs) dX0_send_14
    · skip
      refine ga_catch hown hts hI ([⟨0, 9, 12, 21⟩]) (⟨0, 9, 15, 15⟩) ([]) (by rw [htab]; rfl) (List.forall_mem_cons.mpr ⟨Or.inr ⟨by decide, ga_ncs hts hI q2105 (List.mem_of_getElem? (i := 2) rfl)⟩, fun _ h => absurd h List.not_mem_nil⟩) rfl (by decide) q2018 q2089 hce ?_
      refine W.eq (g2 := F0 m 15 ls [.ref q_8]) rfl ?_
      refine lv_astore_n (i := 3) (lv' := [(3, .ref q_8), (0, va_rf p0), (1, .int p1), (2, va_rf p2)]) hx hb dX0_send_15 rfl hl (by decide) (by simp [ga_rcat, ga_cat_r, ga_cat_i, ga_cat_f, ga_cat_l, ga_cat_d]) (fun ls hl => ?_)
      refine lv_iconst (v := 2) hx hb dX0_send_16 (by decide) ?_
      exact ga_iretx hx hb hr rfl hlk hI hw (Nat.le_trans (Nat.le_add_right _ _) hbc) (Nat.le_trans (Nat.le_add_right _ _) hbs) dX0_send_17
  · skip
    refine lv_i2l (v := r_6.toInt64) hx hb dX0_send_7 rfl ?_
    obtain ⟨a_10, ea_10, hw⟩ := hw
    rewrite [ea_10]
    obtain ⟨n_11, f_12, hq, hi, hw⟩ := hw
    refine ga_stl hx hb hI hq hi dX0_send_8 (fun H locs hI => ?_)
    obtain ⟨h_13, eh_13⟩ : ∃ z, z = ga_set h_5 a_10 (ga_Al n_11 (vp_updL f_12 (0 : Int32).toNatClampNeg r_6.toInt64)) := ⟨_, rfl⟩
    rw [← eh_13] at hI
    have hw := hw h_13 eh_13
    refine lv_goto (tgt := 18) hx hb dX0_send_9 (by decide) ?_
    refine lv_iconst (v := 0) hx hb dX0_send_18 (by decide) ?_
    exact ga_iretx hx hb hr rfl hlk hI hw (Nat.le_trans (Nat.le_add_right _ _) hbc) (Nat.le_trans (Nat.le_add_right _ _) hbs) dX0_send_19
theorem hdG_X0_send : yX0_send.cls ≠ "java/lang/invoke/MethodHandle" ∧ yX0_send.cls ≠ "java/lang/invoke/VarHandle" ∧ (parseMethodDescriptor yX0_send.desc).map (fun d => d.parameters.length) = some 3 := by decide +kernel
def gw_X1_orderOf (K : ga_K) (p0 : Nat) (p1 : Int32) (p2 : Int32) (h : ga_H) (mc ms : Nat) (post : Int32 → ga_H → Prop) (xp : String → Nat → ga_H → Prop) : Prop :=
  ∃ kc_1 ks_2 : Nat, kc_1 ≤ mc ∧ ks_2 ≤ ms ∧ ∃ fs_3 : List Value, ga_at K h p0 (ga_O 0 fs_3) ∧ gw_X1_orderAt K p0 p1 h kc_1 ks_2 (fun (r_5 : Option Nat) (h_4 : ga_H) => gw_X1_isIn p2 (0 : Int32) (5 : Int32) (fun (r_9 : Int32) => ∃ kc_10 ks_11 : Nat, kc_10 ≤ (mc - kc_1) ∧ ks_11 ≤ (ms - ks_2) ∧ gw_X1_checkArgument K r_9 h_4 kc_10 ks_11 (fun (h_12 : ga_H) => (p2 = (0 : Int32) → (∃ a_17 : Nat, r_5 = some a_17 ∧ ∃ (fs_18 : List Value) (v_19 : Option Nat), h_12 a_17 = some (ga_O 6 fs_18) ∧ fs_18[0]? = some (va_rf v_19) ∧ (∃ a_20 : Nat, v_19 = some a_20 ∧ ∃ (fs_21 : List Value) (v_22 : Int32), h_12 a_20 = some (ga_O 9 fs_21) ∧ fs_21[0]? = some (.int v_22) ∧ (post v_22 h_12)))) ∧ (¬ p2 = (0 : Int32) → ((p2 = (1 : Int32) → (∃ a_24 : Nat, r_5 = some a_24 ∧ ∃ (fs_25 : List Value) (v_26 : Option Nat), h_12 a_24 = some (ga_O 6 fs_25) ∧ fs_25[0]? = some (va_rf v_26) ∧ (∃ a_27 : Nat, v_26 = some a_27 ∧ ∃ (fs_28 : List Value) (v_29 : Int32), h_12 a_27 = some (ga_O 9 fs_28) ∧ fs_28[1]? = some (.int v_29) ∧ (post v_29 h_12)))) ∧ (¬ p2 = (1 : Int32) → ((p2 = (2 : Int32) → (∃ a_31 : Nat, r_5 = some a_31 ∧ ∃ (fs_32 : List Value) (v_33 : Int32), h_12 a_31 = some (ga_O 6 fs_32) ∧ fs_32[1]? = some (.int v_33) ∧ (post v_33 h_12))) ∧ (¬ p2 = (2 : Int32) → ((p2 = (3 : Int32) → (∃ a_35 : Nat, r_5 = some a_35 ∧ ∃ (fs_36 : List Value) (v_37 : Int32), h_12 a_35 = some (ga_O 6 fs_36) ∧ fs_36[2]? = some (.int v_37) ∧ (post v_37 h_12))) ∧ (¬ p2 = (3 : Int32) → ((p2 = (4 : Int32) → (∃ a_39 : Nat, r_5 = some a_39 ∧ ∃ (fs_40 : List Value) (v_41 : Int32), h_12 a_39 = some (ga_O 6 fs_40) ∧ fs_40[3]? = some (.int v_41) ∧ (post v_41 h_12))) ∧ (¬ p2 = (4 : Int32) → (∃ a_42 : Nat, r_5 = some a_42 ∧ ∃ (fs_43 : List Value) (v_44 : Int32), h_12 a_42 = some (ga_O 6 fs_43) ∧ fs_43[4]? = some (.int v_44) ∧ (post v_44 h_12)))))))))))) (fun (E_13 : String) (q_14 : Nat) (h_15 : ga_H) => xp E_13 q_14 h_15))) (fun (E_6 : String) (q_7 : Nat) (h_8 : ga_H) => xp E_6 q_7 h_8)
set_option maxHeartbeats 4000000 in
theorem gm_X1_orderOf (l : Launch) (hst : l.stackTraces = false) (g : ga_G) (p0 : Nat) (p1 : Int32) (p2 : Int32) (h : ga_H) (mc ms : Nat) (post : Int32 → ga_H → Prop) (xp : String → Nat → ga_H → Prop) (hw : gw_X1_orderOf g.2.2 p0 p1 p2 h mc ms post xp) : vx_Met l yX1_orderOf (ws_ yX1_orderOf cX1_orderOf 4 (some .int)) ({ frames := 12, cells := mc, slots := ms, locals := 225 } : Room) (va_Pc [.ref p0, .int p1, .int p2] (ga_B g h)) (va_Qi post (ga_E g) (ga_A g)) (ga_X g xp) mc ms (ga_A g) := by
  refine ga_metx (own := "PaperStore") (nm := "orderOf") (by decide) rfl rfl (by exact Nat.le_of_ble_eq_true rfl) (fun p e s m below meth c ls hC htab hI hl => ?_)
  have hl : lv_has ls 4 [(0, .ref p0), (1, .int p1), (2, .int p2)] := hl
  generalize ([.ref p0, .int p1, .int p2] : List Value).toArray = args at hC ⊢
  obtain ⟨hx, hb, hml, hown, hts, hr, hlk, hnm⟩ := hC
  unfold gw_X1_orderOf at hw
  obtain ⟨H, eH⟩ : ∃ z, z = s.heap := ⟨_, rfl⟩
  obtain ⟨locs, elo⟩ : ∃ z : List Loc, z = [] := ⟨_, rfl⟩
  rw [← eH, ← elo] at hI ⊢
  obtain ⟨cells, slots, hbc, hbs, e0, e1⟩ : ∃ a b : Nat, a + mc ≤ mc ∧ b + ms ≤ ms ∧ a = 0 ∧ b = 0 := ⟨0, 0, by omega, by omega, rfl, rfl⟩
  show W p l e ({ frames := 12, cells := mc, slots := ms, locals := 225 } : Room) s m args below meth c H locs 0 0 (vx_MQ below (va_Qi post (ga_E g) (ga_A g)) (ga_X g xp) args s mc ms (ga_A g)) (F0 m 0 ls [])
  suffices hgoal : W p l e ({ frames := 12, cells := mc, slots := ms, locals := 225 } : Room) s m args below meth c H locs cells slots (vx_MQ below (va_Qi post (ga_E g) (ga_A g)) (ga_X g xp) args s mc ms (ga_A g)) (F0 m 0 ls []) by rw [e0, e1] at hgoal; exact hgoal
  refine lv_aload_n hx hb dX1_orderOf_0 rfl (lv_at hl 0 rfl) ?_
  refine lv_iload_n hx hb dX1_orderOf_1 rfl (lv_at hl 1 rfl) ?_
  obtain ⟨kc_1, ks_2, hk1, hk2, hw⟩ := hw
  obtain ⟨fs_3, hq, hw⟩ := hw
  refine ga_xcallq (vx_runV (As := [.int p1]) (rest := []) ⟨hx, hb, hml, hown, hts⟩ (gm_X1_orderAt l hst g p0 p1 h kc_1 ks_2 _ _ hw) (cwV 1 hts (lw_V q2420 q2422 qs14 q100 q2423) rfl rfl rfl ⟨rfl, hdG_X1_orderAt⟩ ⟨Nat.le_of_ble_eq_true rfl, Nat.le_of_ble_eq_true rfl⟩) (ga_preV hI hq rfl rfl) rfl rfl hl.1 rfl (ga_room (Nat.le_of_ble_eq_true rfl)) dX1_orderOf_2 ⟨Nat.le_trans (Nat.add_le_add_left hk1 _) hbc, Nat.le_trans (Nat.add_le_add_left hk2 _) hbs⟩) hI hbc hbs hk1 hk2 (fun E_6 q_7 h_8 ce H locs cells slots hw hI hce hbc hbs => ?_) (fun r_5 h_4 H locs cells slots hw hI hbc hbs => ?_)
  · exact ga_out hown hlk hI hw (by rw [htab]; intro z hz; cases hz) hce (Nat.le_trans (Nat.le_add_right _ _) hbc) (Nat.le_trans (Nat.le_add_right _ _) hbs)
  · skip
    refine ga_astore_n (i := 3) (x := r_5) (lv' := [(3, va_rf r_5), (0, .ref p0), (1, .int p1), (2, .int p2)]) hx hb dX1_orderOf_5 rfl hl (by decide) rfl (fun ls hl => ?_)
    refine lv_iload_n hx hb dX1_orderOf_6 rfl (lv_at hl 3 rfl) ?_
    refine lv_iconst (v := 0) hx hb dX1_orderOf_7 (by decide) ?_
    refine lv_iconst (v := 5) hx hb dX1_orderOf_8 (by decide) ?_
    refine ga_callS (As := [.int p2, .int (0 : Int32), .int (5 : Int32)]) (rest := []) ⟨hx, hb, hml, hown, hts⟩ (gm_X1_isIn l p2 (0 : Int32) (5 : Int32) _ hw) (va_cwS 3 hts (lw_S q2024 q2025 q100 q2026) rfl rfl rfl hdG_X1_isIn ⟨Nat.le_of_ble_eq_true rfl, Nat.le_of_ble_eq_true rfl⟩) rfl hl.1 rfl (ga_room (Nat.le_of_ble_eq_true rfl)) dX1_orderOf_9 hbc hbs (fun r_9 hw => ?_)
    obtain ⟨kc_10, ks_11, hk1, hk2, hw⟩ := hw
    refine ga_xcallv (vx_runS (As := [.int r_9]) (rest := []) ⟨hx, hb, hml, hown, hts⟩ (gm_X1_checkArgument l hst g r_9 h_4 kc_10 ks_11 _ _ hw) (va_cwS 1 hts (lw_S q2027 q2028 q100 q2029) rfl rfl rfl hdG_X1_checkArgument ⟨Nat.le_of_ble_eq_true rfl, Nat.le_of_ble_eq_true rfl⟩) (ga_preS hI rfl) rfl rfl hl.1 rfl (ga_room (Nat.le_of_ble_eq_true rfl)) dX1_orderOf_12 ⟨Nat.le_trans (Nat.add_le_add_left hk1 _) hbc, Nat.le_trans (Nat.add_le_add_left hk2 _) hbs⟩) hI hbc hbs hk1 hk2 (fun E_13 q_14 h_15 ce H locs cells slots hw hI hce hbc hbs => ?_) (fun h_12 H locs cells slots hw hI hbc hbs => ?_)
    · exact ga_out hown hlk hI hw (by rw [htab]; intro z hz; cases hz) hce (Nat.le_trans (Nat.le_add_right _ _) hbc) (Nat.le_trans (Nat.le_add_right _ _) hbs)
    · skip
      refine lv_iload_n hx hb dX1_orderOf_15 rfl (lv_at hl 3 rfl) ?_
      by_cases hc_16 : p2 = (0 : Int32)
      · have hw := hw.1 hc_16
        refine lv_tableIn (tgt := 52) hx hb dX1_orderOf_16 (by rw [hc_16]; decide) (by rw [hc_16]; decide) (off := 36) (by rw [hc_16]; rfl) (by decide) ?_
        refine ga_aload_n hx hb dX1_orderOf_52 rfl (lv_at hl 0 rfl) ?_
        obtain ⟨a_17, ea_17, hw⟩ := hw
        rewrite [ea_17]
        obtain ⟨fs_18, v_19, hq, hv, hw⟩ := hw
        refine ga_getN (ci := 6) (T := TX8) (v := va_rf v_19) hx hb hts hown hI in_X8 rfl 0 (by decide) q1370 (fun _ z => z) (ga_at.h hq) hv dX1_orderOf_53 ?_
        obtain ⟨a_20, ea_20, hw⟩ := hw
        rewrite [ea_20]
        obtain ⟨fs_21, v_22, hq, hv, hw⟩ := hw
        refine ga_getN (ci := 9) (T := TX11) (v := .int v_22) hx hb hts hown hI in_X11 rfl 0 (by decide) q2171 (fun _ z => z) (ga_at.h hq) hv dX1_orderOf_56 ?_
        refine lv_goto (tgt := 97) hx hb dX1_orderOf_59 (by decide) ?_
        exact ga_iretx hx hb hr rfl hlk hI hw (Nat.le_trans (Nat.le_add_right _ _) hbc) (Nat.le_trans (Nat.le_add_right _ _) hbs) dX1_orderOf_97
      have hw := hw.2 hc_16
      by_cases hc_23 : p2 = (1 : Int32)
      · have hw := hw.1 hc_23
        refine lv_tableIn (tgt := 62) hx hb dX1_orderOf_16 (by rw [hc_23]; decide) (by rw [hc_23]; decide) (off := 46) (by rw [hc_23]; rfl) (by decide) ?_
        refine ga_aload_n hx hb dX1_orderOf_62 rfl (lv_at hl 0 rfl) ?_
        obtain ⟨a_24, ea_24, hw⟩ := hw
        rewrite [ea_24]
        obtain ⟨fs_25, v_26, hq, hv, hw⟩ := hw
        refine ga_getN (ci := 6) (T := TX8) (v := va_rf v_26) hx hb hts hown hI in_X8 rfl 0 (by decide) q1370 (fun _ z => z) (ga_at.h hq) hv dX1_orderOf_63 ?_
        obtain ⟨a_27, ea_27, hw⟩ := hw
        rewrite [ea_27]
        obtain ⟨fs_28, v_29, hq, hv, hw⟩ := hw
        refine ga_getN (ci := 9) (T := TX11) (v := .int v_29) hx hb hts hown hI in_X11 rfl 1 (by decide) q2174 (fun _ z => z) (ga_at.h hq) hv dX1_orderOf_66 ?_
        refine lv_goto (tgt := 97) hx hb dX1_orderOf_69 (by decide) ?_
        exact ga_iretx hx hb hr rfl hlk hI hw (Nat.le_trans (Nat.le_add_right _ _) hbc) (Nat.le_trans (Nat.le_add_right _ _) hbs) dX1_orderOf_97
      have hw := hw.2 hc_23
      by_cases hc_30 : p2 = (2 : Int32)
      · have hw := hw.1 hc_30
        refine lv_tableIn (tgt := 72) hx hb dX1_orderOf_16 (by rw [hc_30]; decide) (by rw [hc_30]; decide) (off := 56) (by rw [hc_30]; rfl) (by decide) ?_
        refine ga_aload_n hx hb dX1_orderOf_72 rfl (lv_at hl 0 rfl) ?_
        obtain ⟨a_31, ea_31, hw⟩ := hw
        rewrite [ea_31]
        obtain ⟨fs_32, v_33, hq, hv, hw⟩ := hw
        refine ga_getN (ci := 6) (T := TX8) (v := .int v_33) hx hb hts hown hI in_X8 rfl 1 (by decide) q1373 (fun _ z => z) (ga_at.h hq) hv dX1_orderOf_73 ?_
        refine lv_goto (tgt := 97) hx hb dX1_orderOf_76 (by decide) ?_
        exact ga_iretx hx hb hr rfl hlk hI hw (Nat.le_trans (Nat.le_add_right _ _) hbc) (Nat.le_trans (Nat.le_add_right _ _) hbs) dX1_orderOf_97
      have hw := hw.2 hc_30
      by_cases hc_34 : p2 = (3 : Int32)
      · have hw := hw.1 hc_34
        refine lv_tableIn (tgt := 79) hx hb dX1_orderOf_16 (by rw [hc_34]; decide) (by rw [hc_34]; decide) (off := 63) (by rw [hc_34]; rfl) (by decide) ?_
        refine ga_aload_n hx hb dX1_orderOf_79 rfl (lv_at hl 0 rfl) ?_
        obtain ⟨a_35, ea_35, hw⟩ := hw
        rewrite [ea_35]
        obtain ⟨fs_36, v_37, hq, hv, hw⟩ := hw
        refine ga_getN (ci := 6) (T := TX8) (v := .int v_37) hx hb hts hown hI in_X8 rfl 2 (by decide) q1376 (fun _ z => z) (ga_at.h hq) hv dX1_orderOf_80 ?_
        refine lv_goto (tgt := 97) hx hb dX1_orderOf_83 (by decide) ?_
        exact ga_iretx hx hb hr rfl hlk hI hw (Nat.le_trans (Nat.le_add_right _ _) hbc) (Nat.le_trans (Nat.le_add_right _ _) hbs) dX1_orderOf_97
      have hw := hw.2 hc_34
      by_cases hc_38 : p2 = (4 : Int32)
      · have hw := hw.1 hc_38
        refine lv_tableIn (tgt := 86) hx hb dX1_orderOf_16 (by rw [hc_38]; decide) (by rw [hc_38]; decide) (off := 70) (by rw [hc_38]; rfl) (by decide) ?_
        refine ga_aload_n hx hb dX1_orderOf_86 rfl (lv_at hl 0 rfl) ?_
        obtain ⟨a_39, ea_39, hw⟩ := hw
        rewrite [ea_39]
        obtain ⟨fs_40, v_41, hq, hv, hw⟩ := hw
        refine ga_getN (ci := 6) (T := TX8) (v := .int v_41) hx hb hts hown hI in_X8 rfl 3 (by decide) q1379 (fun _ z => z) (ga_at.h hq) hv dX1_orderOf_87 ?_
        refine lv_goto (tgt := 97) hx hb dX1_orderOf_90 (by decide) ?_
        exact ga_iretx hx hb hr rfl hlk hI hw (Nat.le_trans (Nat.le_add_right _ _) hbc) (Nat.le_trans (Nat.le_add_right _ _) hbs) dX1_orderOf_97
      have hw := hw.2 hc_38
      refine lv_tableOut (tgt := 93) hx hb dX1_orderOf_16 (zs_out 0 4 5 [0, 1, 2, 3, 4] (by decide) (by decide) (List.forall_mem_cons.mpr ⟨hc_16, List.forall_mem_cons.mpr ⟨hc_23, List.forall_mem_cons.mpr ⟨hc_30, List.forall_mem_cons.mpr ⟨hc_34, List.forall_mem_cons.mpr ⟨hc_38, fun _ h => absurd h List.not_mem_nil⟩⟩⟩⟩⟩)) (by decide) ?_
      refine ga_aload_n hx hb dX1_orderOf_93 rfl (lv_at hl 0 rfl) ?_
      obtain ⟨a_42, ea_42, hw⟩ := hw
      rewrite [ea_42]
      obtain ⟨fs_43, v_44, hq, hv, hw⟩ := hw
      refine ga_getN (ci := 6) (T := TX8) (v := .int v_44) hx hb hts hown hI in_X8 rfl 4 (by decide) q1382 (fun _ z => z) (ga_at.h hq) hv dX1_orderOf_94 ?_
      exact ga_iretx hx hb hr rfl hlk hI hw (Nat.le_trans (Nat.le_add_right _ _) hbc) (Nat.le_trans (Nat.le_add_right _ _) hbs) dX1_orderOf_97
theorem hdG_X1_orderOf : yX1_orderOf.cls ≠ "java/lang/invoke/MethodHandle" ∧ yX1_orderOf.cls ≠ "java/lang/invoke/VarHandle" ∧ (parseMethodDescriptor yX1_orderOf.desc).map (fun d => d.parameters.length) = some 2 := by decide +kernel
def gw_X0_orderOf (K : ga_K) (p0 : Option Nat) (p1 : Int32) (p2 : Int32) (p3 : Option Nat) (h : ga_H) (mc ms : Nat) (post : Int32 → ga_H → Prop) (xp : String → Nat → ga_H → Prop) : Prop :=
  ∃ a_1 : Nat, p0 = some a_1 ∧ ∃ kc_2 ks_3 : Nat, kc_2 ≤ mc ∧ ks_3 ≤ ms ∧ ∃ fs_4 : List Value, ga_at K h a_1 (ga_O 0 fs_4) ∧ gw_X1_orderOf K a_1 p1 p2 h kc_2 ks_3 (fun (r_6 : Int32) (h_5 : ga_H) => ∃ a_10 : Nat, p3 = some a_10 ∧ ∃ (n_11 : Nat) (f_12 : Nat → Int64), h_5 a_10 = some (ga_Al n_11 f_12) ∧ vp_in (0 : Int32) n_11 ∧ ∀ h_13 : ga_H, h_13 = ga_set h_5 a_10 (ga_Al n_11 (vp_updL f_12 (0 : Int32).toNatClampNeg r_6.toInt64)) → (post (0 : Int32) h_13)) (fun (E_7 : String) (q_8 : Nat) (h_9 : ga_H) => (E_7 = "java/lang/IllegalArgumentException" ∧ (post (2 : Int32) h_9)) ∨ (E_7 = "java/lang/IndexOutOfBoundsException" ∧ (post (1 : Int32) h_9)))
set_option maxHeartbeats 4000000 in
theorem gm_X0_orderOf (l : Launch) (hst : l.stackTraces = false) (g : ga_G) (p0 : Option Nat) (p1 : Int32) (p2 : Int32) (p3 : Option Nat) (h : ga_H) (mc ms : Nat) (post : Int32 → ga_H → Prop) (xp : String → Nat → ga_H → Prop) (hw : gw_X0_orderOf g.2.2 p0 p1 p2 p3 h mc ms post xp) : vx_Met l yX0_orderOf (wsW_ yX0_orderOf cX0_orderOf 5 (some .int) [(0, 10, 13, 21), (0, 10, 17, 13)]) ({ frames := 13, cells := mc, slots := ms, locals := 248 } : Room) (va_Pc [va_rf p0, .int p1, .int p2, va_rf p3] (ga_B g h)) (va_Qi post (ga_E g) (ga_A g)) (ga_X g xp) mc ms (ga_A g) := by
  refine ga_metxW (own := "PaperStoreLaw") (nm := "orderOf") (by decide) rfl rfl (by cases p0 <;> cases p3 <;> exact Nat.le_of_ble_eq_true rfl) (fun p e s m below meth c ls hC htab hI hl => ?_)
  have hl : lv_has ls 5 [(0, va_rf p0), (1, .int p1), (2, .int p2), (3, va_rf p3)] := (by cases p0 <;> cases p3 <;> exact hl)
  generalize ([va_rf p0, .int p1, .int p2, va_rf p3] : List Value).toArray = args at hC ⊢
  obtain ⟨hx, hb, hml, hown, hts, hr, hlk, hnm⟩ := hC
  unfold gw_X0_orderOf at hw
  obtain ⟨H, eH⟩ : ∃ z, z = s.heap := ⟨_, rfl⟩
  obtain ⟨locs, elo⟩ : ∃ z : List Loc, z = [] := ⟨_, rfl⟩
  rw [← eH, ← elo] at hI ⊢
  obtain ⟨cells, slots, hbc, hbs, e0, e1⟩ : ∃ a b : Nat, a + mc ≤ mc ∧ b + ms ≤ ms ∧ a = 0 ∧ b = 0 := ⟨0, 0, by omega, by omega, rfl, rfl⟩
  show W p l e ({ frames := 13, cells := mc, slots := ms, locals := 248 } : Room) s m args below meth c H locs 0 0 (vx_MQ below (va_Qi post (ga_E g) (ga_A g)) (ga_X g xp) args s mc ms (ga_A g)) (F0 m 0 ls [])
  suffices hgoal : W p l e ({ frames := 13, cells := mc, slots := ms, locals := 248 } : Room) s m args below meth c H locs cells slots (vx_MQ below (va_Qi post (ga_E g) (ga_A g)) (ga_X g xp) args s mc ms (ga_A g)) (F0 m 0 ls []) by rw [e0, e1] at hgoal; exact hgoal
  refine ga_aload_n hx hb dX0_orderOf_0 rfl (lv_at hl 3 rfl) ?_
  refine lv_iconst (v := 0) hx hb dX0_orderOf_1 (by decide) ?_
  refine ga_aload_n hx hb dX0_orderOf_2 rfl (lv_at hl 0 rfl) ?_
  refine lv_iload_n hx hb dX0_orderOf_3 rfl (lv_at hl 1 rfl) ?_
  refine lv_iload_n hx hb dX0_orderOf_4 rfl (lv_at hl 2 rfl) ?_
  obtain ⟨a_1, ea_1, hw⟩ := hw
  rewrite [ea_1]
  obtain ⟨kc_2, ks_3, hk1, hk2, hw⟩ := hw
  obtain ⟨fs_4, hq, hw⟩ := hw
  refine ga_xcalli (vx_runV (As := [.int p1, .int p2]) (rest := [.int (0 : Int32), va_rf p3]) ⟨hx, hb, hml, hown, hts⟩ (gm_X1_orderOf l hst g a_1 p1 p2 h kc_2 ks_3 _ _ hw) (cwV 2 hts (lw_V q2556 q2557 q2558 q100 q2559) rfl rfl rfl ⟨rfl, hdG_X1_orderOf⟩ ⟨Nat.le_of_ble_eq_true rfl, Nat.le_of_ble_eq_true rfl⟩) (ga_preV hI hq rfl rfl) rfl rfl hl.1 rfl (ga_room (Nat.le_of_ble_eq_true rfl)) dX0_orderOf_5 ⟨Nat.le_trans (Nat.add_le_add_left hk1 _) hbc, Nat.le_trans (Nat.add_le_add_left hk2 _) hbs⟩) hI hbc hbs hk1 hk2 (fun E_7 q_8 h_9 ce H locs cells slots hw hI hce hbc hbs => ?_) (fun r_6 h_5 H locs cells slots hw hI hbc hbs => ?_)
  · rcases hw with ⟨rfl, hw⟩ | ⟨rfl, hw⟩
    · skip
      refine ga_catch hown hts hI ([⟨0, 10, 13, 21⟩]) (⟨0, 10, 17, 13⟩) ([]) (by rw [htab]; rfl) (List.forall_mem_cons.mpr ⟨Or.inr ⟨by decide, ga_ncs hts hI q2105 (List.mem_of_getElem? (i := 1) rfl)⟩, fun _ h => absurd h List.not_mem_nil⟩) rfl (by decide) q2017 q1054 hce ?_
      refine W.eq (g2 := F0 m 17 ls [.ref q_8]) rfl ?_
      refine lv_astore (lv' := [(4, .ref q_8), (0, va_rf p0), (1, .int p1), (2, .int p2), (3, va_rf p3)]) hx hb dX0_orderOf_17 hl (by decide) (by simp [ga_rcat, ga_cat_r, ga_cat_i, ga_cat_f, ga_cat_l, ga_cat_d]) (fun ls hl => ?_)
      refine lv_iconst (v := 2) hx hb dX0_orderOf_19 (by decide) ?_
      exact ga_iretx hx hb hr rfl hlk hI hw (Nat.le_trans (Nat.le_add_right _ _) hbc) (Nat.le_trans (Nat.le_add_right _ _) hbs) dX0_orderOf_20
    · skip
      refine ga_catch hown hts hI ([]) (⟨0, 10, 13, 21⟩) ([⟨0, 10, 17, 13⟩]) (by rw [htab]; rfl) (fun _ h => absurd h List.not_mem_nil) rfl (by decide) q2105 q866 hce ?_
      refine W.eq (g2 := F0 m 13 ls [.ref q_8]) rfl ?_
      refine lv_astore (lv' := [(4, .ref q_8), (0, va_rf p0), (1, .int p1), (2, .int p2), (3, va_rf p3)]) hx hb dX0_orderOf_13 hl (by decide) (by simp [ga_rcat, ga_cat_r, ga_cat_i, ga_cat_f, ga_cat_l, ga_cat_d]) (fun ls hl => ?_)
      refine lv_iconst (v := 1) hx hb dX0_orderOf_15 (by decide) ?_
      exact ga_iretx hx hb hr rfl hlk hI hw (Nat.le_trans (Nat.le_add_right _ _) hbc) (Nat.le_trans (Nat.le_add_right _ _) hbs) dX0_orderOf_16
  · skip
    refine lv_i2l (v := r_6.toInt64) hx hb dX0_orderOf_8 rfl ?_
    obtain ⟨a_10, ea_10, hw⟩ := hw
    rewrite [ea_10]
    obtain ⟨n_11, f_12, hq, hi, hw⟩ := hw
    refine ga_stl hx hb hI hq hi dX0_orderOf_9 (fun H locs hI => ?_)
    obtain ⟨h_13, eh_13⟩ : ∃ z, z = ga_set h_5 a_10 (ga_Al n_11 (vp_updL f_12 (0 : Int32).toNatClampNeg r_6.toInt64)) := ⟨_, rfl⟩
    rw [← eh_13] at hI
    have hw := hw h_13 eh_13
    refine lv_goto (tgt := 21) hx hb dX0_orderOf_10 (by decide) ?_
    refine lv_iconst (v := 0) hx hb dX0_orderOf_21 (by decide) ?_
    exact ga_iretx hx hb hr rfl hlk hI hw (Nat.le_trans (Nat.le_add_right _ _) hbc) (Nat.le_trans (Nat.le_add_right _ _) hbs) dX0_orderOf_22
theorem hdG_X0_orderOf : yX0_orderOf.cls ≠ "java/lang/invoke/MethodHandle" ∧ yX0_orderOf.cls ≠ "java/lang/invoke/VarHandle" ∧ (parseMethodDescriptor yX0_orderOf.desc).map (fun d => d.parameters.length) = some 4 := by decide +kernel
def gw_X2_lying (K : ga_K) (p0 : Nat) (h : ga_H) (mc ms : Nat) (post : Option Nat → ga_H → Prop) : Prop :=
  1 ≤ mc ∧ 3 ≤ ms ∧ ∀ q_1 : Nat, h q_1 = none → ∀ h_2 : ga_H, h_2 = ga_set h q_1 (ga_O 13 [.int 0, va_rf none, .int 0]) → (gw_J2_init K q_1 h_2 (fun (h_3 : ga_H) => ∃ (fs_4 : List Value) (v_5 : Option Nat), h_3 p0 = some (ga_O 1 fs_4) ∧ fs_4[0]? = some (va_rf v_5) ∧ (∃ a_6 : Nat, v_5 = some a_6 ∧ ∃ (n_7 : Nat) (f_8 : Nat → Option Nat), h_3 a_6 = some (ga_Aq 6 n_7 f_8) ∧ (∃ (In_9 : Int32 → ga_H → Nat → Nat → Prop) (mu_9 : Int32 → ga_H → Nat → Nat → Nat), In_9 (0 : Int32) h_3 (mc - 1) (ms - 3) ∧ ∀ (x4_9 : Int32) (h_9 : ga_H) (bc_9 : Nat) (bs_9 : Nat), In_9 x4_9 h_9 bc_9 bs_9 → ((nI n_7 ≤ x4_9 → (post (some q_1) h_9)) ∧ (¬ nI n_7 ≤ x4_9 → (∃ a_11 : Nat, v_5 = some a_11 ∧ ∃ (n_12 : Nat) (f_13 : Nat → Option Nat), h_9 a_11 = some (ga_Aq 6 n_12 f_13) ∧ vp_in x4_9 n_12 ∧ ∀ v_14 : Option Nat, v_14 = f_13 x4_9.toNatClampNeg → (∃ a_15 : Nat, v_14 = some a_15 ∧ ∃ kc_16 ks_17 : Nat, kc_16 ≤ bc_9 ∧ ks_17 ≤ bs_9 ∧ ∃ fs_18 : List Value, ga_at K h_9 a_15 (ga_O 2 fs_18) ∧ gw_X3_reams K a_15 h_9 kc_16 ks_17 (fun (r_20 : Option Nat) (h_19 : ga_H) => ∃ kc_21 ks_22 : Nat, kc_21 ≤ (bc_9 - kc_16) ∧ ks_22 ≤ (bs_9 - ks_17) ∧ ∃ fs_23 : List Value, ga_at K h_19 q_1 (ga_O 13 fs_23) ∧ gw_J2_addAll K q_1 r_20 h_19 kc_21 ks_22 (fun (r_25 : Int32) (h_24 : ga_H) => In_9 (x4_9 + (1 : Int32)) h_24 ((bc_9 - kc_16) - kc_21) ((bs_9 - ks_17) - ks_22) ∧ mu_9 (x4_9 + (1 : Int32)) h_24 ((bc_9 - kc_16) - kc_21) ((bs_9 - ks_17) - ks_22) < mu_9 x4_9 h_9 bc_9 bs_9))))))))))
set_option maxHeartbeats 4000000 in
theorem gm_X2_lying (l : Launch) (g : ga_G) (p0 : Nat) (h : ga_H) (mc ms : Nat) (post : Option Nat → ga_H → Prop) (hw : gw_X2_lying g.2.2 p0 h mc ms post) : Met l yX2_lying (ws_ yX2_lying cX2_lying 6 (some (.object "java/util/List"))) ({ frames := 13, cells := mc, slots := ms, locals := 257 } : Room) (va_Pc [.ref p0] (ga_B g h)) (va_Qq post (ga_E g) (ga_A g)) mc ms (ga_A g) := by
  refine ga_met (own := "PaperStore$Store") (nm := "lying") (by decide) rfl rfl (by exact Nat.le_of_ble_eq_true rfl) (fun p e s m below meth c ls hC hI hl => ?_)
  have hl : lv_has ls 6 [(0, .ref p0)] := hl
  generalize ([.ref p0] : List Value).toArray = args at hC ⊢
  obtain ⟨hx, hb, hml, hown, hts, hr, hlk, hnm⟩ := hC
  unfold gw_X2_lying at hw
  obtain ⟨H, eH⟩ : ∃ z, z = s.heap := ⟨_, rfl⟩
  obtain ⟨locs, elo⟩ : ∃ z : List Loc, z = [] := ⟨_, rfl⟩
  rw [← eH, ← elo] at hI ⊢
  obtain ⟨cells, slots, hbc, hbs, e0, e1⟩ : ∃ a b : Nat, a + mc ≤ mc ∧ b + ms ≤ ms ∧ a = 0 ∧ b = 0 := ⟨0, 0, by omega, by omega, rfl, rfl⟩
  show W p l e ({ frames := 13, cells := mc, slots := ms, locals := 257 } : Room) s m args below meth c H locs 0 0 (MQ below (va_Qq post (ga_E g) (ga_A g)) args s mc ms (ga_A g)) (F0 m 0 ls [])
  suffices hgoal : W p l e ({ frames := 13, cells := mc, slots := ms, locals := 257 } : Room) s m args below meth c H locs cells slots (MQ below (va_Qq post (ga_E g) (ga_A g)) args s mc ms (ga_A g)) (F0 m 0 ls []) by rw [e0, e1] at hgoal; exact hgoal
  refine ga_new (ci := 13) (T := TJ2) hx hb hts hown hI in_J2 rfl tyJ2 tyJ2_ok q189 q190 q104 [.int 0, va_rf none, .int 0] ga_df_J2 hbc hbs hw.1 hw.2.1 dX2_lying_0 (fun q_1 H cells slots hn_q_1 hI hbc hbs => ?_)
  obtain ⟨h_2, eh_2⟩ : ∃ z, z = ga_set h q_1 (ga_O 13 [.int 0, va_rf none, .int 0]) := ⟨_, rfl⟩
  rw [← eh_2] at hI
  have hw := hw.2.2 q_1 hn_q_1 h_2 eh_2
  refine lv_dup hx hb dX2_lying_3 rfl ?_
  refine ga_callv (va_runI (As := []) (rest := [.ref q_1]) ⟨hx, hb, hml, hown, hts⟩ (gm_J2_init l g q_1 h_2 _ hw) (cwI 0 hts (lw_meth q193) rfl rfl rfl (hts _ q104) (hts _ q191) (hts _ q192) rfl hdG_J2_init ⟨Nat.le_of_ble_eq_true rfl, Nat.le_of_ble_eq_true rfl⟩) (ga_preS hI rfl) rfl rfl hl.1 rfl (ga_room (Nat.le_of_ble_eq_true rfl)) dX2_lying_4 ⟨Nat.le_trans (Nat.add_le_add_left (Nat.zero_le _) _) hbc, Nat.le_trans (Nat.add_le_add_left (Nat.zero_le _) _) hbs⟩) hI hbc hbs (Nat.zero_le _) (Nat.zero_le _) (fun h_3 H locs cells slots hw hI hbc hbs => ?_)
  refine lv_astore_n (i := 1) (lv' := [(1, .ref q_1), (0, .ref p0)]) hx hb dX2_lying_7 rfl hl (by decide) rfl (fun ls hl => ?_)
  refine lv_aload_n hx hb dX2_lying_8 rfl (lv_at hl 1 rfl) ?_
  obtain ⟨fs_4, v_5, hq, hv, hw⟩ := hw
  refine ga_get (ci := 1) (T := TX2) (v := va_rf v_5) hx hb hts hown hI in_X2 rfl 0 (by decide) q310 (fun _ z => z) (ga_at.h hq) hv dX2_lying_9 ?_
  refine ga_astore_n (i := 2) (x := v_5) (lv' := [(2, va_rf v_5), (1, .ref q_1), (0, .ref p0)]) hx hb dX2_lying_12 rfl hl (by decide) rfl (fun ls hl => ?_)
  refine ga_aload_n hx hb dX2_lying_13 rfl (lv_at hl 0 rfl) ?_
  obtain ⟨a_6, ea_6, hw⟩ := hw
  rewrite [ea_6]
  obtain ⟨n_7, f_8, hq, hw⟩ := hw
  refine ga_len hx hb hI (ga_at.h hq) rfl dX2_lying_14 ?_
  refine lv_istore_n (i := 3) (lv' := [(3, .int (nI n_7)), (2, va_rf v_5), (1, .ref q_1), (0, .ref p0)]) hx hb dX2_lying_15 rfl hl (by decide) (by simp [ga_rcat, ga_cat_r, ga_cat_i, ga_cat_f, ga_cat_l, ga_cat_d]) (fun ls hl => ?_)
  refine lv_iconst (v := 0) hx hb dX2_lying_16 (by decide) ?_
  refine lv_istore (lv' := [(4, .int (0 : Int32)), (3, .int (nI n_7)), (2, va_rf v_5), (1, .ref q_1), (0, .ref p0)]) hx hb dX2_lying_17 hl (by decide) rfl (fun ls hl => ?_)
  obtain ⟨In_9, mu_9, h0_9, hw⟩ := hw
  have hL_9 : ∀ (n : Nat) (x4_9 : Int32) (h_9 : ga_H) (bc_9 : Nat) (bs_9 : Nat) (H : Heap) (locs : List Loc) (cells slots : Nat) (ls : Array Slot), mu_9 x4_9 h_9 bc_9 bs_9 < n → In_9 x4_9 h_9 bc_9 bs_9 → ga_I g h_9 s H locs → cells + bc_9 ≤ mc → slots + bs_9 ≤ ms → lv_has ls 6 [(1, va_rf (some q_1)), (2, va_rf v_5), (3, .int (nI n_7)), (4, .int x4_9)] → W p l e ({ frames := 13, cells := mc, slots := ms, locals := 257 } : Room) s m args below meth c H locs cells slots (MQ below (va_Qq post (ga_E g) (ga_A g)) args s mc ms (ga_A g)) (F0 m 19 ls []) := by
    intro n
    induction n with
    | zero => intro x4_9 h_9 bc_9 bs_9 H locs cells slots ls hn _ _ _ _ _; exact absurd hn (Nat.not_lt_zero _)
    | succ n ih_9 =>
      intro x4_9 h_9 bc_9 bs_9 H locs cells slots ls hn_9 hi_9 hI hbc hbs hl
      have hw := hw x4_9 h_9 bc_9 bs_9 hi_9
      refine lv_iload hx hb dX2_lying_19 (lv_at hl 3 rfl) ?_
      refine lv_iload_n hx hb dX2_lying_21 rfl (lv_at hl 2 rfl) ?_
      refine lv_icmp_ge (tgt := 47) hx hb dX2_lying_22 (by decide) (fun hc_10 => ?_) (fun hc_10 => ?_)
      · have hw := hw.1 hc_10
        refine ga_aload_n hx hb dX2_lying_47 rfl (lv_at hl 0 rfl) ?_
        exact ga_qret (v := (some q_1)) hx hb hr (Or.inl ⟨_, rfl⟩) hlk hI hw (Nat.le_trans (Nat.le_add_right _ _) hbc) (Nat.le_trans (Nat.le_add_right _ _) hbs) dX2_lying_48
      · have hw := hw.2 hc_10
        refine ga_aload_n hx hb dX2_lying_25 rfl (lv_at hl 1 rfl) ?_
        refine lv_iload hx hb dX2_lying_26 (lv_at hl 3 rfl) ?_
        obtain ⟨a_11, ea_11, hw⟩ := hw
        rewrite [ea_11]
        obtain ⟨n_12, f_13, hq, hi, hw⟩ := hw
        refine ga_ldq hx hb hI (ga_at.h hq) rfl hi dX2_lying_28 ?_
        obtain ⟨v_14, ev_14⟩ : ∃ z, z = f_13 x4_9.toNatClampNeg := ⟨_, rfl⟩
        rw [← ev_14]
        have hw := hw v_14 ev_14
        refine ga_astore (x := v_14) (lv' := [(5, va_rf v_14), (1, va_rf (some q_1)), (2, va_rf v_5), (3, .int (nI n_7)), (4, .int x4_9)]) hx hb dX2_lying_29 hl (by decide) rfl (fun ls hl => ?_)
        refine ga_aload_n hx hb dX2_lying_31 rfl (lv_at hl 1 rfl) ?_
        refine ga_aload hx hb dX2_lying_32 (lv_at hl 0 rfl) ?_
        obtain ⟨a_15, ea_15, hw⟩ := hw
        rewrite [ea_15]
        obtain ⟨kc_16, ks_17, hk1, hk2, hw⟩ := hw
        obtain ⟨fs_18, hq, hw⟩ := hw
        refine ga_callq (va_runV (As := []) (rest := [va_rf (some q_1)]) ⟨hx, hb, hml, hown, hts⟩ (gm_X3_reams l g a_15 h_9 kc_16 ks_17 _ hw) (cwV 0 hts (lw_V q444 q445 q446 q107 q447) rfl rfl rfl ⟨rfl, hdG_X3_reams⟩ ⟨Nat.le_of_ble_eq_true rfl, Nat.le_of_ble_eq_true rfl⟩) (ga_preV hI hq rfl rfl) rfl rfl hl.1 rfl (ga_room (Nat.le_of_ble_eq_true rfl)) dX2_lying_34 ⟨Nat.le_trans (Nat.add_le_add_left hk1 _) hbc, Nat.le_trans (Nat.add_le_add_left hk2 _) hbs⟩) hI hbc hbs hk1 hk2 (fun r_20 h_19 H locs cells slots hw hI hbc hbs => ?_)
        obtain ⟨kc_21, ks_22, hk1, hk2, hw⟩ := hw
        obtain ⟨fs_23, hq, hw⟩ := hw
        refine ga_calli (va_runV (As := [va_rf r_20]) (rest := []) ⟨hx, hb, hml, hown, hts⟩ (gm_J2_addAll l g q_1 r_20 h_19 kc_21 ks_22 _ hw) (cwV 1 hts (lw_V q1166 q451 q452 q104 q453) rfl rfl rfl ⟨rfl, hdG_J2_addAll⟩ ⟨Nat.le_of_ble_eq_true rfl, Nat.le_of_ble_eq_true rfl⟩) (ga_preV hI hq rfl rfl) rfl rfl hl.1 rfl (ga_room (Nat.le_of_ble_eq_true rfl)) dX2_lying_37 ⟨Nat.le_trans (Nat.add_le_add_left hk1 _) hbc, Nat.le_trans (Nat.add_le_add_left hk2 _) hbs⟩) hI hbc hbs hk1 hk2 (fun r_25 h_24 H locs cells slots hw hI hbc hbs => ?_)
        refine lv_pop hx hb dX2_lying_40 rfl ?_
        refine lv_iinc (v := x4_9 + (1 : Int32)) (lv' := [(4, .int (x4_9 + (1 : Int32))), (5, va_rf v_14), (1, va_rf (some q_1)), (2, va_rf v_5), (3, .int (nI n_7))]) hx hb dX2_lying_41 hl (k := 4) rfl rfl (by decide) rfl (fun ls hl => ?_)
        refine lv_goto (tgt := 19) hx hb dX2_lying_44 (by decide) ?_
        exact ih_9 _ _ _ _ H locs cells slots ls (Nat.lt_of_lt_of_le hw.2 (Nat.le_of_lt_succ hn_9)) hw.1 hI hbc hbs (lv_sub hl [2, 3, 4, 0] rfl)
  exact hL_9 _ _ _ _ _ H locs cells slots ls (Nat.lt_succ_self _) h0_9 hI hbc hbs (lv_sub hl [3, 2, 1, 0] rfl)
theorem hdG_X2_lying : yX2_lying.cls ≠ "java/lang/invoke/MethodHandle" ∧ yX2_lying.cls ≠ "java/lang/invoke/VarHandle" ∧ (parseMethodDescriptor yX2_lying.desc).map (fun d => d.parameters.length) = some 0 := by decide +kernel
def gw_X2_stock_57 (K : ga_K) (post : Int32 → ga_H → Prop) (hd13 : Int32 → ga_H → Nat → Nat → Prop) (p0 : Nat) (t0 : Int32) (v1 : Option Nat) (v2 : Int32) (v3 : Int32) (v4 : Option Nat) (v5 : Option Nat) (h : ga_H) (bc bs : Nat) : Prop :=
  (t0 = (0 : Int32) → (hd13 (v3 + (0 : Int32)) h bc bs)) ∧ (¬ t0 = (0 : Int32) → (∃ a_33 : Nat, v5 = some a_33 ∧ ∃ (fs_34 : List Value) (v_35 : Int32), h a_33 = some (ga_O 4 fs_34) ∧ fs_34[2]? = some (.int v_35) ∧ (hd13 (v3 + v_35) h bc bs)))
set_option maxHeartbeats 4000000 in
theorem gj_X2_stock_57 {p : Program} {l : Launch} {e : Env} {s : State} {m : MethodId} {args : Array Value} {below : List Frame} {meth : Method} {c : Code} {mc ms : Nat} {H : Heap} {locs : List Loc} {cells slots : Nat} {ls : Array Slot} (g : ga_G) (post : Int32 → ga_H → Prop) (hd13 : Int32 → ga_H → Nat → Nat → Prop) (p0 : Nat) (t0 : Int32) (v1 : Option Nat) (v2 : Int32) (v3 : Int32) (v4 : Option Nat) (v5 : Option Nat) (h : ga_H) (bc bs : Nat) (hC : ga_Cx p s m args meth c cX2_stock 7 (some .int) "PaperStore$Store" "stock") (hw : gw_X2_stock_57 g.2.2 post hd13 p0 t0 v1 v2 v3 v4 v5 h bc bs) (hhd13 : ∀ (y0 : Int32) (T : ga_H) (B1 : Nat) (B2 : Nat) (H : Heap) (locs : List Loc) (cells slots : Nat) (ls : Array Slot), hd13 y0 T B1 B2 → ga_I g T s H locs → cells + B1 ≤ mc → slots + B2 ≤ ms → lv_has ls 7 [(1, va_rf v1), (2, .int v2), (3, .int y0), (4, va_rf v4)] → W p l e ({ frames := 14, cells := mc, slots := ms, locals := 282 } : Room) s m args below meth c H locs cells slots (MQ below (va_Qi post (ga_E g) (ga_A g)) args s mc ms (ga_A g)) (F0 m 13 ls [])) (hI : ga_I g h s H locs) (hbc : cells + bc ≤ mc) (hbs : slots + bs ≤ ms) (hl : lv_has ls 7 [(1, va_rf v1), (2, .int v2), (3, .int v3), (4, va_rf v4), (5, va_rf v5)]) : W p l e ({ frames := 14, cells := mc, slots := ms, locals := 282 } : Room) s m args below meth c H locs cells slots (MQ below (va_Qi post (ga_E g) (ga_A g)) args s mc ms (ga_A g)) (F0 m 57 ls [.int t0]) := by
  obtain ⟨hx, hb, hml, hown, hts, hr, hlk, hnm⟩ := hC
  unfold gw_X2_stock_57 at hw
  refine lv_istore (lv' := [(6, .int t0), (1, va_rf v1), (2, .int v2), (3, .int v3), (4, va_rf v4), (5, va_rf v5)]) hx hb dX2_stock_57 hl (by decide) (by simp [ga_rcat, ga_cat_r, ga_cat_i, ga_cat_f, ga_cat_l, ga_cat_d]) (fun ls hl => ?_)
  refine lv_iload_n hx hb dX2_stock_59 rfl (lv_at hl 3 rfl) ?_
  refine lv_iload hx hb dX2_stock_60 (lv_at hl 0 rfl) ?_
  refine lv_if_eq (tgt := 73) hx hb dX2_stock_62 (by decide) (fun hc_32 => ?_) (fun hc_32 => ?_)
  · have hw := hw.1 hc_32
    refine lv_iconst (v := 0) hx hb dX2_stock_73 (by decide) ?_
    refine lv_iadd hx hb dX2_stock_74 ?_
    refine lv_istore_n (i := 3) (lv' := [(3, .int (v3 + (0 : Int32))), (6, .int t0), (1, va_rf v1), (2, .int v2), (4, va_rf v4), (5, va_rf v5)]) hx hb dX2_stock_75 rfl hl (by decide) rfl (fun ls hl => ?_)
    refine lv_goto (tgt := 13) hx hb dX2_stock_76 (by decide) ?_
    exact hhd13 _ _ _ _ H locs cells slots ls hw hI hbc hbs (lv_sub hl [2, 3, 0, 4] rfl)
  · have hw := hw.2 hc_32
    refine ga_aload hx hb dX2_stock_65 (lv_at hl 5 rfl) ?_
    obtain ⟨a_33, ea_33, hw⟩ := hw
    rewrite [ea_33]
    obtain ⟨fs_34, v_35, hq, hv, hw⟩ := hw
    refine ga_getN (ci := 4) (T := TX6) (v := .int v_35) hx hb hts hown hI in_X6 rfl 2 (by decide) q1302 (fun _ z => z) (ga_at.h hq) hv dX2_stock_67 ?_
    refine lv_goto (tgt := 74) hx hb dX2_stock_70 (by decide) ?_
    refine lv_iadd hx hb dX2_stock_74 ?_
    refine lv_istore_n (i := 3) (lv' := [(3, .int (v3 + v_35)), (6, .int t0), (1, va_rf v1), (2, .int v2), (4, va_rf v4), (5, va_rf v5)]) hx hb dX2_stock_75 rfl hl (by decide) rfl (fun ls hl => ?_)
    refine lv_goto (tgt := 13) hx hb dX2_stock_76 (by decide) ?_
    exact hhd13 _ _ _ _ H locs cells slots ls hw hI hbc hbs (lv_sub hl [2, 3, 0, 4] rfl)
def gw_X2_stock (K : ga_K) (p0 : Nat) (p1 : Option Nat) (p2 : Int32) (h : ga_H) (mc ms : Nat) (post : Int32 → ga_H → Prop) : Prop :=
  ∃ kc_1 ks_2 : Nat, kc_1 ≤ mc ∧ ks_2 ≤ ms ∧ ∃ fs_3 : List Value, ga_at K h p0 (ga_O 1 fs_3) ∧ gw_X2_lying K p0 h kc_1 ks_2 (fun (r_5 : Option Nat) (h_4 : ga_H) => ∃ a_6 : Nat, r_5 = some a_6 ∧ ∃ kc_7 ks_8 : Nat, kc_7 ≤ (mc - kc_1) ∧ ks_8 ≤ (ms - ks_2) ∧ ∃ fs_9 : List Value, ga_at K h_4 a_6 (ga_O 13 fs_9) ∧ gw_J2_iterator K a_6 h_4 kc_7 ks_8 (fun (r_11 : Option Nat) (h_10 : ga_H) => ∃ (In_12 : Int32 → ga_H → Nat → Nat → Prop) (mu_12 : Int32 → ga_H → Nat → Nat → Nat), In_12 (0 : Int32) h_10 ((mc - kc_1) - kc_7) ((ms - ks_2) - ks_8) ∧ ∀ (x3_12 : Int32) (h_12 : ga_H) (bc_12 : Nat) (bs_12 : Nat), In_12 x3_12 h_12 bc_12 bs_12 → (∃ a_13 : Nat, r_11 = some a_13 ∧ ∃ fs_14 : List Value, ga_at K h_12 a_13 (ga_O 14 fs_14) ∧ gw_J16_hasNext K a_13 h_12 (fun (r_16 : Int32) (h_15 : ga_H) => (r_16 = (0 : Int32) → (post x3_12 h_15)) ∧ (¬ r_16 = (0 : Int32) → (∃ a_18 : Nat, r_11 = some a_18 ∧ ∃ kc_19 ks_20 : Nat, kc_19 ≤ bc_12 ∧ ks_20 ≤ bs_12 ∧ ∃ fs_21 : List Value, ga_at K h_15 a_18 (ga_O 14 fs_21) ∧ gw_J16_next K a_18 h_15 kc_19 ks_20 (fun (r_23 : Option Nat) (h_22 : ga_H) => ga_ok K h_22 "PaperStore$Ream" r_23 ∧ ((p2 = (0 : Int32) → (∃ a_25 : Nat, r_23 = some a_25 ∧ ∃ (fs_26 : List Value) (v_27 : Option Nat), h_22 a_25 = some (ga_O 4 fs_26) ∧ fs_26[1]? = some (va_rf v_27) ∧ (∃ a_28 : Nat, v_27 = some a_28 ∧ ∃ fs_29 : List Value, ga_at K h_22 a_28 (ga_O 9 fs_29) ∧ gw_X11_equals K a_28 p1 h_22 (fun (r_31 : Int32) (h_30 : ga_H) => gw_X2_stock_57 K post (fun (y0 : Int32) (T : ga_H) (B1 : Nat) (B2 : Nat) => In_12 y0 T B1 B2 ∧ mu_12 y0 T B1 B2 < mu_12 x3_12 h_12 bc_12 bs_12) p0 r_31 p1 p2 x3_12 r_11 r_23 h_30 (bc_12 - kc_19) (bs_12 - ks_20))))) ∧ (¬ p2 = (0 : Int32) → (∃ a_36 : Nat, r_23 = some a_36 ∧ ∃ fs_37 : List Value, ga_at K h_22 a_36 (ga_O 4 fs_37) ∧ gw_X6_isGood K a_36 p1 h_22 (fun (r_39 : Int32) (h_38 : ga_H) => gw_X2_stock_57 K post (fun (y0 : Int32) (T : ga_H) (B1 : Nat) (B2 : Nat) => In_12 y0 T B1 B2 ∧ mu_12 y0 T B1 B2 < mu_12 x3_12 h_12 bc_12 bs_12) p0 r_39 p1 p2 x3_12 r_11 r_23 h_38 (bc_12 - kc_19) (bs_12 - ks_20))))))))))))
set_option maxHeartbeats 4000000 in
theorem gm_X2_stock (l : Launch) (g : ga_G) (p0 : Nat) (p1 : Option Nat) (p2 : Int32) (h : ga_H) (mc ms : Nat) (post : Int32 → ga_H → Prop) (hw : gw_X2_stock g.2.2 p0 p1 p2 h mc ms post) : Met l yX2_stock (ws_ yX2_stock cX2_stock 7 (some .int)) ({ frames := 14, cells := mc, slots := ms, locals := 282 } : Room) (va_Pc [.ref p0, va_rf p1, .int p2] (ga_B g h)) (va_Qi post (ga_E g) (ga_A g)) mc ms (ga_A g) := by
  refine ga_met (own := "PaperStore$Store") (nm := "stock") (by decide) rfl rfl (by cases p1 <;> exact Nat.le_of_ble_eq_true rfl) (fun p e s m below meth c ls hC hI hl => ?_)
  have hl : lv_has ls 7 [(0, .ref p0), (1, va_rf p1), (2, .int p2)] := (by cases p1 <;> exact hl)
  generalize ([.ref p0, va_rf p1, .int p2] : List Value).toArray = args at hC ⊢
  obtain ⟨hx, hb, hml, hown, hts, hr, hlk, hnm⟩ := hC
  unfold gw_X2_stock at hw
  obtain ⟨H, eH⟩ : ∃ z, z = s.heap := ⟨_, rfl⟩
  obtain ⟨locs, elo⟩ : ∃ z : List Loc, z = [] := ⟨_, rfl⟩
  rw [← eH, ← elo] at hI ⊢
  obtain ⟨cells, slots, hbc, hbs, e0, e1⟩ : ∃ a b : Nat, a + mc ≤ mc ∧ b + ms ≤ ms ∧ a = 0 ∧ b = 0 := ⟨0, 0, by omega, by omega, rfl, rfl⟩
  show W p l e ({ frames := 14, cells := mc, slots := ms, locals := 282 } : Room) s m args below meth c H locs 0 0 (MQ below (va_Qi post (ga_E g) (ga_A g)) args s mc ms (ga_A g)) (F0 m 0 ls [])
  suffices hgoal : W p l e ({ frames := 14, cells := mc, slots := ms, locals := 282 } : Room) s m args below meth c H locs cells slots (MQ below (va_Qi post (ga_E g) (ga_A g)) args s mc ms (ga_A g)) (F0 m 0 ls []) by rw [e0, e1] at hgoal; exact hgoal
  refine lv_iconst (v := 0) hx hb dX2_stock_0 (by decide) ?_
  refine lv_istore_n (i := 3) (lv' := [(3, .int (0 : Int32)), (0, .ref p0), (1, va_rf p1), (2, .int p2)]) hx hb dX2_stock_1 rfl hl (by decide) rfl (fun ls hl => ?_)
  refine lv_aload_n hx hb dX2_stock_2 rfl (lv_at hl 1 rfl) ?_
  obtain ⟨kc_1, ks_2, hk1, hk2, hw⟩ := hw
  obtain ⟨fs_3, hq, hw⟩ := hw
  refine ga_callq (va_runV (As := []) (rest := []) ⟨hx, hb, hml, hown, hts⟩ (gm_X2_lying l g p0 h kc_1 ks_2 _ hw) (cwV 0 hts (lw_V q2575 q441 q442 q101 q443) rfl rfl rfl ⟨rfl, hdG_X2_lying⟩ ⟨Nat.le_of_ble_eq_true rfl, Nat.le_of_ble_eq_true rfl⟩) (ga_preV hI hq rfl rfl) rfl rfl hl.1 rfl (ga_room (Nat.le_of_ble_eq_true rfl)) dX2_stock_3 ⟨Nat.le_trans (Nat.add_le_add_left hk1 _) hbc, Nat.le_trans (Nat.add_le_add_left hk2 _) hbs⟩) hI hbc hbs hk1 hk2 (fun r_5 h_4 H locs cells slots hw hI hbc hbs => ?_)
  obtain ⟨a_6, ea_6, hw⟩ := hw
  rewrite [ea_6]
  obtain ⟨kc_7, ks_8, hk1, hk2, hw⟩ := hw
  obtain ⟨fs_9, hq, hw⟩ := hw
  refine ga_callFq (va_runF (As := []) (rest := []) (hI.2.1.1.1.1 13 _ rfl).2 ⟨hx, hb, hml, hown, hts⟩ (gm_J2_iterator l g a_6 h_4 kc_7 ks_8 _ hw) (va_cwF 0 hts (lw_app (List.forall_mem_cons.mpr ⟨q1333, List.forall_mem_cons.mpr ⟨q1171, List.forall_mem_cons.mpr ⟨q564, List.forall_mem_cons.mpr ⟨q104, fun _ h => absurd h List.not_mem_nil⟩⟩⟩⟩) (lw_meth q565)) rfl rfl rfl (hI.2.1.1.2.2 _ _ _ ⟨by decide +kernel, q1170, q1169, q1173, q1172, q836⟩) (by decide +kernel) ⟨Nat.le_of_ble_eq_true rfl, Nat.le_of_ble_eq_true rfl⟩) (ga_preV (C := "java/util/ArrayList") hI hq rfl rfl) rfl rfl hl.1 rfl (ga_room (Nat.le_of_ble_eq_true rfl)) dX2_stock_6 ⟨Nat.le_trans (Nat.add_le_add_left hk1 _) hbc, Nat.le_trans (Nat.add_le_add_left hk2 _) hbs⟩) hI hbc hbs hk1 hk2 (fun r_11 h_10 H locs cells slots hw hI hbc hbs => ?_)
  refine ga_astore (x := r_11) (lv' := [(4, va_rf r_11), (3, .int (0 : Int32)), (0, .ref p0), (1, va_rf p1), (2, .int p2)]) hx hb dX2_stock_11 hl (by decide) rfl (fun ls hl => ?_)
  obtain ⟨In_12, mu_12, h0_12, hw⟩ := hw
  have hL_12 : ∀ (n : Nat) (x3_12 : Int32) (h_12 : ga_H) (bc_12 : Nat) (bs_12 : Nat) (H : Heap) (locs : List Loc) (cells slots : Nat) (ls : Array Slot), mu_12 x3_12 h_12 bc_12 bs_12 < n → In_12 x3_12 h_12 bc_12 bs_12 → ga_I g h_12 s H locs → cells + bc_12 ≤ mc → slots + bs_12 ≤ ms → lv_has ls 7 [(1, va_rf p1), (2, .int p2), (3, .int x3_12), (4, va_rf r_11)] → W p l e ({ frames := 14, cells := mc, slots := ms, locals := 282 } : Room) s m args below meth c H locs cells slots (MQ below (va_Qi post (ga_E g) (ga_A g)) args s mc ms (ga_A g)) (F0 m 13 ls []) := by
    intro n
    induction n with
    | zero => intro x3_12 h_12 bc_12 bs_12 H locs cells slots ls hn _ _ _ _ _; exact absurd hn (Nat.not_lt_zero _)
    | succ n ih_12 =>
      intro x3_12 h_12 bc_12 bs_12 H locs cells slots ls hn_12 hi_12 hI hbc hbs hl
      have hw := hw x3_12 h_12 bc_12 bs_12 hi_12
      refine ga_aload hx hb dX2_stock_13 (lv_at hl 3 rfl) ?_
      obtain ⟨a_13, ea_13, hw⟩ := hw
      rewrite [ea_13]
      obtain ⟨fs_14, hq, hw⟩ := hw
      refine ga_callFi (va_runF (As := []) (rest := []) (hI.2.1.1.1.1 14 _ rfl).2 ⟨hx, hb, hml, hown, hts⟩ (gm_J16_hasNext l g a_13 h_12 _ hw) (va_cwF 0 hts (lw_app (List.forall_mem_cons.mpr ⟨q1247, List.forall_mem_cons.mpr ⟨q696, List.forall_mem_cons.mpr ⟨q698, List.forall_mem_cons.mpr ⟨q122, fun _ h => absurd h List.not_mem_nil⟩⟩⟩⟩) (lw_meth q700)) rfl rfl rfl (hI.2.1.1.2.2 _ _ _ ⟨by decide +kernel, q694, q693, q699, q697, q695⟩) (by decide +kernel) ⟨Nat.le_of_ble_eq_true rfl, Nat.le_of_ble_eq_true rfl⟩) (ga_preV (C := "java/util/ArrayList$Itr") hI hq rfl rfl) rfl rfl hl.1 rfl (ga_room (Nat.le_of_ble_eq_true rfl)) dX2_stock_15 ⟨Nat.le_trans (Nat.add_le_add_left (Nat.zero_le _) _) hbc, Nat.le_trans (Nat.add_le_add_left (Nat.zero_le _) _) hbs⟩) hI hbc hbs (Nat.zero_le _) (Nat.zero_le _) (fun r_16 h_15 H locs cells slots hw hI hbc hbs => ?_)
      refine lv_if_eq (tgt := 79) hx hb dX2_stock_20 (by decide) (fun hc_17 => ?_) (fun hc_17 => ?_)
      · have hw := hw.1 hc_17
        refine lv_iload_n hx hb dX2_stock_79 rfl (lv_at hl 2 rfl) ?_
        exact ga_iret hx hb hr rfl hlk hI hw (Nat.le_trans (Nat.le_add_right _ _) hbc) (Nat.le_trans (Nat.le_add_right _ _) hbs) dX2_stock_80
      · have hw := hw.2 hc_17
        refine ga_aload hx hb dX2_stock_23 (lv_at hl 3 rfl) ?_
        obtain ⟨a_18, ea_18, hw⟩ := hw
        rewrite [ea_18]
        obtain ⟨kc_19, ks_20, hk1, hk2, hw⟩ := hw
        obtain ⟨fs_21, hq, hw⟩ := hw
        refine ga_callFq (va_runF (As := []) (rest := []) (hI.2.1.1.1.1 14 _ rfl).2 ⟨hx, hb, hml, hown, hts⟩ (gm_J16_next l g a_18 h_15 kc_19 ks_20 _ hw) (va_cwF 0 hts (lw_app (List.forall_mem_cons.mpr ⟨q1249, List.forall_mem_cons.mpr ⟨q721, List.forall_mem_cons.mpr ⟨q723, List.forall_mem_cons.mpr ⟨q122, fun _ h => absurd h List.not_mem_nil⟩⟩⟩⟩) (lw_meth q725)) rfl rfl rfl (hI.2.1.1.2.2 _ _ _ ⟨by decide +kernel, q720, q719, q724, q722, q695⟩) (by decide +kernel) ⟨Nat.le_of_ble_eq_true rfl, Nat.le_of_ble_eq_true rfl⟩) (ga_preV (C := "java/util/ArrayList$Itr") hI hq rfl rfl) rfl rfl hl.1 rfl (ga_room (Nat.le_of_ble_eq_true rfl)) dX2_stock_25 ⟨Nat.le_trans (Nat.add_le_add_left hk1 _) hbc, Nat.le_trans (Nat.add_le_add_left hk2 _) hbs⟩) hI hbc hbs hk1 hk2 (fun r_23 h_22 H locs cells slots hw hI hbc hbs => ?_)
        refine ga_cast (x := r_23) hx hb hts hown hI q1334 hw.1 dX2_stock_30 ?_
        have hw := hw.2
        refine ga_astore (x := r_23) (lv' := [(5, va_rf r_23), (1, va_rf p1), (2, .int p2), (3, .int x3_12), (4, va_rf r_11)]) hx hb dX2_stock_33 hl (by decide) (by simp [ga_rcat, ga_cat_r, ga_cat_i, ga_cat_f, ga_cat_l, ga_cat_d]) (fun ls hl => ?_)
        refine lv_iload_n hx hb dX2_stock_35 rfl (lv_at hl 2 rfl) ?_
        refine lv_if_eq (tgt := 48) hx hb dX2_stock_36 (by decide) (fun hc_24 => ?_) (fun hc_24 => ?_)
        · have hw := hw.1 hc_24
          refine ga_aload hx hb dX2_stock_48 (lv_at hl 0 rfl) ?_
          obtain ⟨a_25, ea_25, hw⟩ := hw
          rewrite [ea_25]
          obtain ⟨fs_26, v_27, hq, hv, hw⟩ := hw
          refine ga_getN (ci := 4) (T := TX6) (v := va_rf v_27) hx hb hts hown hI in_X6 rfl 1 (by decide) q1297 (fun _ z => z) (ga_at.h hq) hv dX2_stock_50 ?_
          refine ga_aload_n hx hb dX2_stock_53 rfl (lv_at hl 1 rfl) ?_
          obtain ⟨a_28, ea_28, hw⟩ := hw
          rewrite [ea_28]
          obtain ⟨fs_29, hq, hw⟩ := hw
          refine ga_calli (va_runV (As := [va_rf p1]) (rest := []) ⟨hx, hb, hml, hown, hts⟩ (gm_X11_equals l g a_28 p1 h_22 _ hw) (cwV 1 hts (lw_V q2577 q1912 q4121 q153 q1913) rfl rfl rfl ⟨rfl, hdG_X11_equals⟩ ⟨Nat.le_of_ble_eq_true rfl, Nat.le_of_ble_eq_true rfl⟩) (ga_preV hI hq rfl rfl) rfl rfl hl.1 rfl (ga_room (Nat.le_of_ble_eq_true rfl)) dX2_stock_54 ⟨Nat.le_trans (Nat.add_le_add_left (Nat.zero_le _) _) hbc, Nat.le_trans (Nat.add_le_add_left (Nat.zero_le _) _) hbs⟩) hI hbc hbs (Nat.zero_le _) (Nat.zero_le _) (fun r_31 h_30 H locs cells slots hw hI hbc hbs => ?_)
          exact gj_X2_stock_57 g post (fun (y0 : Int32) (T : ga_H) (B1 : Nat) (B2 : Nat) => In_12 y0 T B1 B2 ∧ mu_12 y0 T B1 B2 < mu_12 x3_12 h_12 bc_12 bs_12) p0 r_31 p1 p2 x3_12 r_11 r_23 h_30 (bc_12 - kc_19) (bs_12 - ks_20) ⟨hx, hb, hml, hown, hts, hr, hlk, hnm⟩ hw (fun _y0 _y1 _y2 _y3 H locs cells slots ls hw hI hbc hbs hl => ih_12 _ _ _ _ H locs cells slots ls (Nat.lt_of_lt_of_le hw.2 (Nat.le_of_lt_succ hn_12)) hw.1 hI hbc hbs hl) hI hbc hbs (lv_sub hl [1, 2, 3, 4, 0] rfl)
        · have hw := hw.2 hc_24
          refine ga_aload hx hb dX2_stock_39 (lv_at hl 0 rfl) ?_
          refine ga_aload_n hx hb dX2_stock_41 rfl (lv_at hl 1 rfl) ?_
          obtain ⟨a_36, ea_36, hw⟩ := hw
          rewrite [ea_36]
          obtain ⟨fs_37, hq, hw⟩ := hw
          refine ga_calli (va_runV (As := [va_rf p1]) (rest := []) ⟨hx, hb, hml, hown, hts⟩ (gm_X6_isGood l g a_36 p1 h_22 _ hw) (cwV 1 hts (lw_V q2576 q2489 q2490 q137 q2491) rfl rfl rfl ⟨rfl, hdG_X6_isGood⟩ ⟨Nat.le_of_ble_eq_true rfl, Nat.le_of_ble_eq_true rfl⟩) (ga_preV hI hq rfl rfl) rfl rfl hl.1 rfl (ga_room (Nat.le_of_ble_eq_true rfl)) dX2_stock_42 ⟨Nat.le_trans (Nat.add_le_add_left (Nat.zero_le _) _) hbc, Nat.le_trans (Nat.add_le_add_left (Nat.zero_le _) _) hbs⟩) hI hbc hbs (Nat.zero_le _) (Nat.zero_le _) (fun r_39 h_38 H locs cells slots hw hI hbc hbs => ?_)
          refine lv_goto (tgt := 57) hx hb dX2_stock_45 (by decide) ?_
          exact gj_X2_stock_57 g post (fun (y0 : Int32) (T : ga_H) (B1 : Nat) (B2 : Nat) => In_12 y0 T B1 B2 ∧ mu_12 y0 T B1 B2 < mu_12 x3_12 h_12 bc_12 bs_12) p0 r_39 p1 p2 x3_12 r_11 r_23 h_38 (bc_12 - kc_19) (bs_12 - ks_20) ⟨hx, hb, hml, hown, hts, hr, hlk, hnm⟩ hw (fun _y0 _y1 _y2 _y3 H locs cells slots ls hw hI hbc hbs hl => ih_12 _ _ _ _ H locs cells slots ls (Nat.lt_of_lt_of_le hw.2 (Nat.le_of_lt_succ hn_12)) hw.1 hI hbc hbs hl) hI hbc hbs (lv_sub hl [1, 2, 3, 4, 0] rfl)
  exact hL_12 _ _ _ _ _ H locs cells slots ls (Nat.lt_succ_self _) h0_12 hI hbc hbs (lv_sub hl [3, 4, 1, 0] rfl)
theorem hdG_X2_stock : yX2_stock.cls ≠ "java/lang/invoke/MethodHandle" ∧ yX2_stock.cls ≠ "java/lang/invoke/VarHandle" ∧ (parseMethodDescriptor yX2_stock.desc).map (fun d => d.parameters.length) = some 2 := by decide +kernel
def gw_X2_lacking (K : ga_K) (p0 : Nat) (p1 : Int32) (h : ga_H) (mc ms : Nat) (post : Int32 → ga_H → Prop) : Prop :=
  ∃ (fs_1 : List Value) (v_2 : Option Nat), h p0 = some (ga_O 1 fs_1) ∧ fs_1[2]? = some (va_rf v_2) ∧ (∃ a_3 : Nat, v_2 = some a_3 ∧ ∃ fs_4 : List Value, ga_at K h a_3 (ga_O 13 fs_4) ∧ gw_J2_get K a_3 p1 h (fun (r_6 : Option Nat) (h_5 : ga_H) => ga_ok K h_5 "PaperStore$Order" r_6 ∧ (∃ a_7 : Nat, r_6 = some a_7 ∧ ∃ fs_8 : List Value, ga_at K h_5 a_7 (ga_O 6 fs_8) ∧ gw_X8_waits K a_7 h_5 (fun (r_10 : Int32) (h_9 : ga_H) => (r_10 = (0 : Int32) → (post (0 : Int32) h_9)) ∧ (¬ r_10 = (0 : Int32) → (∃ a_12 : Nat, r_6 = some a_12 ∧ ∃ fs_13 : List Value, ga_at K h_9 a_12 (ga_O 6 fs_13) ∧ gw_X8_lacks K a_12 h_9 (fun (r_15 : Int32) (h_14 : ga_H) => ∃ a_16 : Nat, r_6 = some a_16 ∧ ∃ (fs_17 : List Value) (v_18 : Option Nat), h_14 a_16 = some (ga_O 6 fs_17) ∧ fs_17[0]? = some (va_rf v_18) ∧ (∃ kc_19 ks_20 : Nat, kc_19 ≤ mc ∧ ks_20 ≤ ms ∧ ∃ fs_21 : List Value, ga_at K h_14 p0 (ga_O 1 fs_21) ∧ gw_X2_stock K p0 v_18 (1 : Int32) h_14 kc_19 ks_20 (fun (r_23 : Int32) (h_22 : ga_H) => ∀ r_24 : Int32, r_24 = (if (0 : Int32) < (r_15 - r_23) then (r_15 - r_23) else (0 : Int32)) → (post r_24 h_22))))))))))
set_option maxHeartbeats 4000000 in
theorem gm_X2_lacking (l : Launch) (g : ga_G) (p0 : Nat) (p1 : Int32) (h : ga_H) (mc ms : Nat) (post : Int32 → ga_H → Prop) (hw : gw_X2_lacking g.2.2 p0 p1 h mc ms post) : Met l yX2_lacking (ws_ yX2_lacking cX2_lacking 3 (some .int)) ({ frames := 15, cells := mc, slots := ms, locals := 308 } : Room) (va_Pc [.ref p0, .int p1] (ga_B g h)) (va_Qi post (ga_E g) (ga_A g)) mc ms (ga_A g) := by
  refine ga_met (own := "PaperStore$Store") (nm := "lacking") (by decide) rfl rfl (by exact Nat.le_of_ble_eq_true rfl) (fun p e s m below meth c ls hC hI hl => ?_)
  have hl : lv_has ls 3 [(0, .ref p0), (1, .int p1)] := hl
  generalize ([.ref p0, .int p1] : List Value).toArray = args at hC ⊢
  obtain ⟨hx, hb, hml, hown, hts, hr, hlk, hnm⟩ := hC
  unfold gw_X2_lacking at hw
  obtain ⟨H, eH⟩ : ∃ z, z = s.heap := ⟨_, rfl⟩
  obtain ⟨locs, elo⟩ : ∃ z : List Loc, z = [] := ⟨_, rfl⟩
  rw [← eH, ← elo] at hI ⊢
  obtain ⟨cells, slots, hbc, hbs, e0, e1⟩ : ∃ a b : Nat, a + mc ≤ mc ∧ b + ms ≤ ms ∧ a = 0 ∧ b = 0 := ⟨0, 0, by omega, by omega, rfl, rfl⟩
  show W p l e ({ frames := 15, cells := mc, slots := ms, locals := 308 } : Room) s m args below meth c H locs 0 0 (MQ below (va_Qi post (ga_E g) (ga_A g)) args s mc ms (ga_A g)) (F0 m 0 ls [])
  suffices hgoal : W p l e ({ frames := 15, cells := mc, slots := ms, locals := 308 } : Room) s m args below meth c H locs cells slots (MQ below (va_Qi post (ga_E g) (ga_A g)) args s mc ms (ga_A g)) (F0 m 0 ls []) by rw [e0, e1] at hgoal; exact hgoal
  refine lv_aload_n hx hb dX2_lacking_0 rfl (lv_at hl 0 rfl) ?_
  obtain ⟨fs_1, v_2, hq, hv, hw⟩ := hw
  refine ga_get (ci := 1) (T := TX2) (v := va_rf v_2) hx hb hts hown hI in_X2 rfl 2 (by decide) q314 (fun _ z => z) (ga_at.h hq) hv dX2_lacking_1 ?_
  refine lv_iload_n hx hb dX2_lacking_4 rfl (lv_at hl 1 rfl) ?_
  obtain ⟨a_3, ea_3, hw⟩ := hw
  rewrite [ea_3]
  obtain ⟨fs_4, hq, hw⟩ := hw
  refine ga_callq (va_runV (As := [.int p1]) (rest := []) ⟨hx, hb, hml, hown, hts⟩ (gm_J2_get l g a_3 p1 h _ hw) (cwV 1 hts (lw_V q2069 q839 q4120 q104 q841) rfl rfl rfl ⟨rfl, hdG_J2_get⟩ ⟨Nat.le_of_ble_eq_true rfl, Nat.le_of_ble_eq_true rfl⟩) (ga_preV hI hq rfl rfl) rfl rfl hl.1 rfl (ga_room (Nat.le_of_ble_eq_true rfl)) dX2_lacking_5 ⟨Nat.le_trans (Nat.add_le_add_left (Nat.zero_le _) _) hbc, Nat.le_trans (Nat.add_le_add_left (Nat.zero_le _) _) hbs⟩) hI hbc hbs (Nat.zero_le _) (Nat.zero_le _) (fun r_6 h_5 H locs cells slots hw hI hbc hbs => ?_)
  refine ga_cast (x := r_6) hx hb hts hown hI q1357 hw.1 dX2_lacking_8 ?_
  have hw := hw.2
  refine ga_astore_n (i := 2) (x := r_6) (lv' := [(2, va_rf r_6), (0, .ref p0), (1, .int p1)]) hx hb dX2_lacking_11 rfl hl (by decide) rfl (fun ls hl => ?_)
  refine ga_aload_n hx hb dX2_lacking_12 rfl (lv_at hl 0 rfl) ?_
  obtain ⟨a_7, ea_7, hw⟩ := hw
  rewrite [ea_7]
  obtain ⟨fs_8, hq, hw⟩ := hw
  refine ga_calli (va_runV (As := []) (rest := []) ⟨hx, hb, hml, hown, hts⟩ (gm_X8_waits l g a_7 h_5 _ hw) (cwV 0 hts (lw_V q2437 q2438 q2439 q139 q2440) rfl rfl rfl ⟨rfl, hdG_X8_waits⟩ ⟨Nat.le_of_ble_eq_true rfl, Nat.le_of_ble_eq_true rfl⟩) (ga_preV hI hq rfl rfl) rfl rfl hl.1 rfl (ga_room (Nat.le_of_ble_eq_true rfl)) dX2_lacking_13 ⟨Nat.le_trans (Nat.add_le_add_left (Nat.zero_le _) _) hbc, Nat.le_trans (Nat.add_le_add_left (Nat.zero_le _) _) hbs⟩) hI hbc hbs (Nat.zero_le _) (Nat.zero_le _) (fun r_10 h_9 H locs cells slots hw hI hbc hbs => ?_)
  refine lv_if_eq (tgt := 40) hx hb dX2_lacking_16 (by decide) (fun hc_11 => ?_) (fun hc_11 => ?_)
  · have hw := hw.1 hc_11
    refine lv_iconst (v := 0) hx hb dX2_lacking_40 (by decide) ?_
    exact ga_iret hx hb hr rfl hlk hI hw (Nat.le_trans (Nat.le_add_right _ _) hbc) (Nat.le_trans (Nat.le_add_right _ _) hbs) dX2_lacking_41
  · have hw := hw.2 hc_11
    refine lv_iconst (v := 0) hx hb dX2_lacking_19 (by decide) ?_
    refine ga_aload_n hx hb dX2_lacking_20 rfl (lv_at hl 0 rfl) ?_
    obtain ⟨a_12, ea_12, hw⟩ := hw
    rewrite [ea_12]
    obtain ⟨fs_13, hq, hw⟩ := hw
    refine ga_calli (va_runV (As := []) (rest := [.int (0 : Int32)]) ⟨hx, hb, hml, hown, hts⟩ (gm_X8_lacks l g a_12 h_9 _ hw) (cwV 0 hts (lw_V q2476 q2477 q2478 q139 q2479) rfl rfl rfl ⟨rfl, hdG_X8_lacks⟩ ⟨Nat.le_of_ble_eq_true rfl, Nat.le_of_ble_eq_true rfl⟩) (ga_preV hI hq rfl rfl) rfl rfl hl.1 rfl (ga_room (Nat.le_of_ble_eq_true rfl)) dX2_lacking_21 ⟨Nat.le_trans (Nat.add_le_add_left (Nat.zero_le _) _) hbc, Nat.le_trans (Nat.add_le_add_left (Nat.zero_le _) _) hbs⟩) hI hbc hbs (Nat.zero_le _) (Nat.zero_le _) (fun r_15 h_14 H locs cells slots hw hI hbc hbs => ?_)
    refine lv_aload_n hx hb dX2_lacking_24 rfl (lv_at hl 1 rfl) ?_
    refine ga_aload_n hx hb dX2_lacking_25 rfl (lv_at hl 0 rfl) ?_
    obtain ⟨a_16, ea_16, hw⟩ := hw
    rewrite [ea_16]
    obtain ⟨fs_17, v_18, hq, hv, hw⟩ := hw
    refine ga_getN (ci := 6) (T := TX8) (v := va_rf v_18) hx hb hts hown hI in_X8 rfl 0 (by decide) q1369 (fun _ z => z) (ga_at.h hq) hv dX2_lacking_26 ?_
    refine lv_iconst (v := 1) hx hb dX2_lacking_29 (by decide) ?_
    obtain ⟨kc_19, ks_20, hk1, hk2, hw⟩ := hw
    obtain ⟨fs_21, hq, hw⟩ := hw
    refine ga_calli (va_runV (As := [va_rf v_18, .int (1 : Int32)]) (rest := [.int r_15, .int (0 : Int32)]) ⟨hx, hb, hml, hown, hts⟩ (gm_X2_stock l g p0 v_18 (1 : Int32) h_14 kc_19 ks_20 _ hw) (cwV 2 hts (lw_V q2571 q2572 q2573 q101 q2574) rfl rfl rfl ⟨rfl, hdG_X2_stock⟩ ⟨Nat.le_of_ble_eq_true rfl, Nat.le_of_ble_eq_true rfl⟩) (ga_preV hI hq rfl rfl) rfl rfl hl.1 rfl (ga_room (Nat.le_of_ble_eq_true rfl)) dX2_lacking_30 ⟨Nat.le_trans (Nat.add_le_add_left hk1 _) hbc, Nat.le_trans (Nat.add_le_add_left hk2 _) hbs⟩) hI hbc hbs hk1 hk2 (fun r_23 h_22 H locs cells slots hw hI hbc hbs => ?_)
    refine lv_isub hx hb dX2_lacking_33 ?_
    refine va_mmax hx hb (hml.trans hl.1.symm) hown (hts _ q2578) (hts _ q899) (hts _ q119) (hts _ q900) (Nat.le_of_ble_eq_true rfl) (Nat.le_trans (Nat.add_le_add_right (ga_sum [] (Nat.le_of_ble_eq_true rfl)) _) (Nat.le_of_ble_eq_true rfl)) (Nat.le_trans (Nat.le_add_right _ _) hbc) (Nat.le_trans (Nat.le_add_right _ _) hbs) dX2_lacking_34 ?_
    refine lv_topi (fun r_24 er_24 => ?_)
    have hw := hw r_24 er_24
    refine lv_goto (tgt := 41) hx hb dX2_lacking_37 (by decide) ?_
    exact ga_iret hx hb hr rfl hlk hI hw (Nat.le_trans (Nat.le_add_right _ _) hbc) (Nat.le_trans (Nat.le_add_right _ _) hbs) dX2_lacking_41
theorem hdG_X2_lacking : yX2_lacking.cls ≠ "java/lang/invoke/MethodHandle" ∧ yX2_lacking.cls ≠ "java/lang/invoke/VarHandle" ∧ (parseMethodDescriptor yX2_lacking.desc).map (fun d => d.parameters.length) = some 1 := by decide +kernel
def gw_X1_lacking (K : ga_K) (p0 : Nat) (p1 : Int32) (h : ga_H) (mc ms : Nat) (post : Int32 → ga_H → Prop) (xp : String → Nat → ga_H → Prop) : Prop :=
  ∃ kc_1 ks_2 : Nat, kc_1 ≤ mc ∧ ks_2 ≤ ms ∧ ∃ fs_3 : List Value, ga_at K h p0 (ga_O 0 fs_3) ∧ gw_X1_orderAt K p0 p1 h kc_1 ks_2 (fun (r_5 : Option Nat) (h_4 : ga_H) => ∃ (fs_9 : List Value) (v_10 : Option Nat), h_4 p0 = some (ga_O 0 fs_9) ∧ fs_9[0]? = some (va_rf v_10) ∧ (∃ a_11 : Nat, v_10 = some a_11 ∧ ∃ kc_12 ks_13 : Nat, kc_12 ≤ (mc - kc_1) ∧ ks_13 ≤ (ms - ks_2) ∧ ∃ fs_14 : List Value, ga_at K h_4 a_11 (ga_O 1 fs_14) ∧ gw_X2_lacking K a_11 p1 h_4 kc_12 ks_13 (fun (r_16 : Int32) (h_15 : ga_H) => post r_16 h_15))) (fun (E_6 : String) (q_7 : Nat) (h_8 : ga_H) => xp E_6 q_7 h_8)
set_option maxHeartbeats 4000000 in
theorem gm_X1_lacking (l : Launch) (hst : l.stackTraces = false) (g : ga_G) (p0 : Nat) (p1 : Int32) (h : ga_H) (mc ms : Nat) (post : Int32 → ga_H → Prop) (xp : String → Nat → ga_H → Prop) (hw : gw_X1_lacking g.2.2 p0 p1 h mc ms post xp) : vx_Met l yX1_lacking (ws_ yX1_lacking cX1_lacking 3 (some .int)) ({ frames := 16, cells := mc, slots := ms, locals := 330 } : Room) (va_Pc [.ref p0, .int p1] (ga_B g h)) (va_Qi post (ga_E g) (ga_A g)) (ga_X g xp) mc ms (ga_A g) := by
  refine ga_metx (own := "PaperStore") (nm := "lacking") (by decide) rfl rfl (by exact Nat.le_of_ble_eq_true rfl) (fun p e s m below meth c ls hC htab hI hl => ?_)
  have hl : lv_has ls 3 [(0, .ref p0), (1, .int p1)] := hl
  generalize ([.ref p0, .int p1] : List Value).toArray = args at hC ⊢
  obtain ⟨hx, hb, hml, hown, hts, hr, hlk, hnm⟩ := hC
  unfold gw_X1_lacking at hw
  obtain ⟨H, eH⟩ : ∃ z, z = s.heap := ⟨_, rfl⟩
  obtain ⟨locs, elo⟩ : ∃ z : List Loc, z = [] := ⟨_, rfl⟩
  rw [← eH, ← elo] at hI ⊢
  obtain ⟨cells, slots, hbc, hbs, e0, e1⟩ : ∃ a b : Nat, a + mc ≤ mc ∧ b + ms ≤ ms ∧ a = 0 ∧ b = 0 := ⟨0, 0, by omega, by omega, rfl, rfl⟩
  show W p l e ({ frames := 16, cells := mc, slots := ms, locals := 330 } : Room) s m args below meth c H locs 0 0 (vx_MQ below (va_Qi post (ga_E g) (ga_A g)) (ga_X g xp) args s mc ms (ga_A g)) (F0 m 0 ls [])
  suffices hgoal : W p l e ({ frames := 16, cells := mc, slots := ms, locals := 330 } : Room) s m args below meth c H locs cells slots (vx_MQ below (va_Qi post (ga_E g) (ga_A g)) (ga_X g xp) args s mc ms (ga_A g)) (F0 m 0 ls []) by rw [e0, e1] at hgoal; exact hgoal
  refine lv_aload_n hx hb dX1_lacking_0 rfl (lv_at hl 0 rfl) ?_
  refine lv_iload_n hx hb dX1_lacking_1 rfl (lv_at hl 1 rfl) ?_
  obtain ⟨kc_1, ks_2, hk1, hk2, hw⟩ := hw
  obtain ⟨fs_3, hq, hw⟩ := hw
  refine ga_xcallq (vx_runV (As := [.int p1]) (rest := []) ⟨hx, hb, hml, hown, hts⟩ (gm_X1_orderAt l hst g p0 p1 h kc_1 ks_2 _ _ hw) (cwV 1 hts (lw_V q2420 q2422 qs14 q100 q2423) rfl rfl rfl ⟨rfl, hdG_X1_orderAt⟩ ⟨Nat.le_of_ble_eq_true rfl, Nat.le_of_ble_eq_true rfl⟩) (ga_preV hI hq rfl rfl) rfl rfl hl.1 rfl (ga_room (Nat.le_of_ble_eq_true rfl)) dX1_lacking_2 ⟨Nat.le_trans (Nat.add_le_add_left hk1 _) hbc, Nat.le_trans (Nat.add_le_add_left hk2 _) hbs⟩) hI hbc hbs hk1 hk2 (fun E_6 q_7 h_8 ce H locs cells slots hw hI hce hbc hbs => ?_) (fun r_5 h_4 H locs cells slots hw hI hbc hbs => ?_)
  · exact ga_out hown hlk hI hw (by rw [htab]; intro z hz; cases hz) hce (Nat.le_trans (Nat.le_add_right _ _) hbc) (Nat.le_trans (Nat.le_add_right _ _) hbs)
  · skip
    refine ga_astore_n (i := 2) (x := r_5) (lv' := [(2, va_rf r_5), (0, .ref p0), (1, .int p1)]) hx hb dX1_lacking_5 rfl hl (by decide) rfl (fun ls hl => ?_)
    refine lv_aload_n hx hb dX1_lacking_6 rfl (lv_at hl 1 rfl) ?_
    obtain ⟨fs_9, v_10, hq, hv, hw⟩ := hw
    refine ga_get (ci := 0) (T := TX1) (v := va_rf v_10) hx hb hts hown hI in_X1 rfl 0 (by decide) q387 (fun _ z => z) (ga_at.h hq) hv dX1_lacking_7 ?_
    refine lv_iload_n hx hb dX1_lacking_10 rfl (lv_at hl 2 rfl) ?_
    obtain ⟨a_11, ea_11, hw⟩ := hw
    rewrite [ea_11]
    obtain ⟨kc_12, ks_13, hk1, hk2, hw⟩ := hw
    obtain ⟨fs_14, hq, hw⟩ := hw
    refine ga_calli (va_runV (As := [.int p1]) (rest := []) ⟨hx, hb, hml, hown, hts⟩ (gm_X2_lacking l g a_11 p1 h_4 kc_12 ks_13 _ hw) (cwV 1 hts (lw_V q2567 q2568 q2569 q101 q2570) rfl rfl rfl ⟨rfl, hdG_X2_lacking⟩ ⟨Nat.le_of_ble_eq_true rfl, Nat.le_of_ble_eq_true rfl⟩) (ga_preV hI hq rfl rfl) rfl rfl hl.1 rfl (ga_room (Nat.le_of_ble_eq_true rfl)) dX1_lacking_11 ⟨Nat.le_trans (Nat.add_le_add_left hk1 _) hbc, Nat.le_trans (Nat.add_le_add_left hk2 _) hbs⟩) hI hbc hbs hk1 hk2 (fun r_16 h_15 H locs cells slots hw hI hbc hbs => ?_)
    exact ga_iretx hx hb hr rfl hlk hI hw (Nat.le_trans (Nat.le_add_right _ _) hbc) (Nat.le_trans (Nat.le_add_right _ _) hbs) dX1_lacking_14
theorem hdG_X1_lacking : yX1_lacking.cls ≠ "java/lang/invoke/MethodHandle" ∧ yX1_lacking.cls ≠ "java/lang/invoke/VarHandle" ∧ (parseMethodDescriptor yX1_lacking.desc).map (fun d => d.parameters.length) = some 1 := by decide +kernel
def gw_X0_lacking (K : ga_K) (p0 : Option Nat) (p1 : Int32) (p2 : Option Nat) (h : ga_H) (mc ms : Nat) (post : Int32 → ga_H → Prop) (xp : String → Nat → ga_H → Prop) : Prop :=
  ∃ a_1 : Nat, p0 = some a_1 ∧ ∃ kc_2 ks_3 : Nat, kc_2 ≤ mc ∧ ks_3 ≤ ms ∧ ∃ fs_4 : List Value, ga_at K h a_1 (ga_O 0 fs_4) ∧ gw_X1_lacking K a_1 p1 h kc_2 ks_3 (fun (r_6 : Int32) (h_5 : ga_H) => ∃ a_10 : Nat, p2 = some a_10 ∧ ∃ (n_11 : Nat) (f_12 : Nat → Int64), h_5 a_10 = some (ga_Al n_11 f_12) ∧ vp_in (0 : Int32) n_11 ∧ ∀ h_13 : ga_H, h_13 = ga_set h_5 a_10 (ga_Al n_11 (vp_updL f_12 (0 : Int32).toNatClampNeg r_6.toInt64)) → (post (0 : Int32) h_13)) (fun (E_7 : String) (q_8 : Nat) (h_9 : ga_H) => (E_7 = "java/lang/IndexOutOfBoundsException" ∧ (post (1 : Int32) h_9)))
set_option maxHeartbeats 4000000 in
theorem gm_X0_lacking (l : Launch) (hst : l.stackTraces = false) (g : ga_G) (p0 : Option Nat) (p1 : Int32) (p2 : Option Nat) (h : ga_H) (mc ms : Nat) (post : Int32 → ga_H → Prop) (xp : String → Nat → ga_H → Prop) (hw : gw_X0_lacking g.2.2 p0 p1 p2 h mc ms post xp) : vx_Met l yX0_lacking (wsW_ yX0_lacking cX0_lacking 4 (some .int) [(0, 9, 12, 21)]) ({ frames := 17, cells := mc, slots := ms, locals := 352 } : Room) (va_Pc [va_rf p0, .int p1, va_rf p2] (ga_B g h)) (va_Qi post (ga_E g) (ga_A g)) (ga_X g xp) mc ms (ga_A g) := by
  refine ga_metxW (own := "PaperStoreLaw") (nm := "lacking") (by decide) rfl rfl (by cases p0 <;> cases p2 <;> exact Nat.le_of_ble_eq_true rfl) (fun p e s m below meth c ls hC htab hI hl => ?_)
  have hl : lv_has ls 4 [(0, va_rf p0), (1, .int p1), (2, va_rf p2)] := (by cases p0 <;> cases p2 <;> exact hl)
  generalize ([va_rf p0, .int p1, va_rf p2] : List Value).toArray = args at hC ⊢
  obtain ⟨hx, hb, hml, hown, hts, hr, hlk, hnm⟩ := hC
  unfold gw_X0_lacking at hw
  obtain ⟨H, eH⟩ : ∃ z, z = s.heap := ⟨_, rfl⟩
  obtain ⟨locs, elo⟩ : ∃ z : List Loc, z = [] := ⟨_, rfl⟩
  rw [← eH, ← elo] at hI ⊢
  obtain ⟨cells, slots, hbc, hbs, e0, e1⟩ : ∃ a b : Nat, a + mc ≤ mc ∧ b + ms ≤ ms ∧ a = 0 ∧ b = 0 := ⟨0, 0, by omega, by omega, rfl, rfl⟩
  show W p l e ({ frames := 17, cells := mc, slots := ms, locals := 352 } : Room) s m args below meth c H locs 0 0 (vx_MQ below (va_Qi post (ga_E g) (ga_A g)) (ga_X g xp) args s mc ms (ga_A g)) (F0 m 0 ls [])
  suffices hgoal : W p l e ({ frames := 17, cells := mc, slots := ms, locals := 352 } : Room) s m args below meth c H locs cells slots (vx_MQ below (va_Qi post (ga_E g) (ga_A g)) (ga_X g xp) args s mc ms (ga_A g)) (F0 m 0 ls []) by rw [e0, e1] at hgoal; exact hgoal
  refine ga_aload_n hx hb dX0_lacking_0 rfl (lv_at hl 2 rfl) ?_
  refine lv_iconst (v := 0) hx hb dX0_lacking_1 (by decide) ?_
  refine ga_aload_n hx hb dX0_lacking_2 rfl (lv_at hl 0 rfl) ?_
  refine lv_iload_n hx hb dX0_lacking_3 rfl (lv_at hl 1 rfl) ?_
  obtain ⟨a_1, ea_1, hw⟩ := hw
  rewrite [ea_1]
  obtain ⟨kc_2, ks_3, hk1, hk2, hw⟩ := hw
  obtain ⟨fs_4, hq, hw⟩ := hw
  refine ga_xcalli (vx_runV (As := [.int p1]) (rest := [.int (0 : Int32), va_rf p2]) ⟨hx, hb, hml, hown, hts⟩ (gm_X1_lacking l hst g a_1 p1 h kc_2 ks_3 _ _ hw) (cwV 1 hts (lw_V q2563 q2564 q2565 q100 q2566) rfl rfl rfl ⟨rfl, hdG_X1_lacking⟩ ⟨Nat.le_of_ble_eq_true rfl, Nat.le_of_ble_eq_true rfl⟩) (ga_preV hI hq rfl rfl) rfl rfl hl.1 rfl (ga_room (Nat.le_of_ble_eq_true rfl)) dX0_lacking_4 ⟨Nat.le_trans (Nat.add_le_add_left hk1 _) hbc, Nat.le_trans (Nat.add_le_add_left hk2 _) hbs⟩) hI hbc hbs hk1 hk2 (fun E_7 q_8 h_9 ce H locs cells slots hw hI hce hbc hbs => ?_) (fun r_6 h_5 H locs cells slots hw hI hbc hbs => ?_)
  · obtain ⟨rfl, hw⟩ := hw
    refine ga_catch hown hts hI ([]) (⟨0, 9, 12, 21⟩) ([]) (by rw [htab]; rfl) (fun _ h => absurd h List.not_mem_nil) rfl (by decide) q2105 q866 hce ?_
    refine W.eq (g2 := F0 m 12 ls [.ref q_8]) rfl ?_
    refine lv_astore_n (i := 3) (lv' := [(3, .ref q_8), (0, va_rf p0), (1, .int p1), (2, va_rf p2)]) hx hb dX0_lacking_12 rfl hl (by decide) (by simp [ga_rcat, ga_cat_r, ga_cat_i, ga_cat_f, ga_cat_l, ga_cat_d]) (fun ls hl => ?_)
    refine lv_iconst (v := 1) hx hb dX0_lacking_13 (by decide) ?_
    exact ga_iretx hx hb hr rfl hlk hI hw (Nat.le_trans (Nat.le_add_right _ _) hbc) (Nat.le_trans (Nat.le_add_right _ _) hbs) dX0_lacking_14
  · skip
    refine lv_i2l (v := r_6.toInt64) hx hb dX0_lacking_7 rfl ?_
    obtain ⟨a_10, ea_10, hw⟩ := hw
    rewrite [ea_10]
    obtain ⟨n_11, f_12, hq, hi, hw⟩ := hw
    refine ga_stl hx hb hI hq hi dX0_lacking_8 (fun H locs hI => ?_)
    obtain ⟨h_13, eh_13⟩ : ∃ z, z = ga_set h_5 a_10 (ga_Al n_11 (vp_updL f_12 (0 : Int32).toNatClampNeg r_6.toInt64)) := ⟨_, rfl⟩
    rw [← eh_13] at hI
    have hw := hw h_13 eh_13
    refine lv_goto (tgt := 15) hx hb dX0_lacking_9 (by decide) ?_
    refine lv_iconst (v := 0) hx hb dX0_lacking_15 (by decide) ?_
    exact ga_iretx hx hb hr rfl hlk hI hw (Nat.le_trans (Nat.le_add_right _ _) hbc) (Nat.le_trans (Nat.le_add_right _ _) hbs) dX0_lacking_16
theorem hdG_X0_lacking : yX0_lacking.cls ≠ "java/lang/invoke/MethodHandle" ∧ yX0_lacking.cls ≠ "java/lang/invoke/VarHandle" ∧ (parseMethodDescriptor yX0_lacking.desc).map (fun d => d.parameters.length) = some 3 := by decide +kernel
