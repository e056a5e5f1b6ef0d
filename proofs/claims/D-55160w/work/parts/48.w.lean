set_option maxRecDepth 100000
def gw_J17_init_K (K : ga_K) (p0 : Nat) (p1 : Option Nat) (h : ga_H) (post : ga_H → Prop) : Prop :=
  ∃ fs_1 : List Value, h p0 = some (ga_O 20 fs_1) ∧ 4 < fs_1.length ∧ ∀ h_2 : ga_H, h_2 = ga_set h p0 (ga_O 20 (fs_1.set 4 (va_rf p1))) → (∃ a_3 : Nat, p1 = some a_3 ∧ ∃ (fs_4 : List Value) (v_5 : Int32), h_2 a_3 = some (ga_O 15 fs_4) ∧ fs_4[5]? = some (.int v_5) ∧ (∃ fs_6 : List Value, h_2 p0 = some (ga_O 20 fs_6) ∧ 2 < fs_6.length ∧ ∀ h_7 : ga_H, h_7 = ga_set h_2 p0 (ga_O 20 (fs_6.set 2 (.int v_5))) → (∃ a_8 : Nat, p1 = some a_8 ∧ ∃ (fs_9 : List Value) (v_10 : Option Nat), h_7 a_8 = some (ga_O 15 fs_9) ∧ fs_9[2]? = some (va_rf v_10) ∧ (∃ fs_11 : List Value, h_7 p0 = some (ga_O 20 fs_11) ∧ 0 < fs_11.length ∧ ∀ h_12 : ga_H, h_12 = ga_set h_7 p0 (ga_O 20 (fs_11.set 0 (va_rf none))) → (∃ fs_13 : List Value, h_12 p0 = some (ga_O 20 fs_13) ∧ 1 < fs_13.length ∧ ∀ h_14 : ga_H, h_14 = ga_set h_12 p0 (ga_O 20 (fs_13.set 1 (va_rf none))) → (∃ fs_15 : List Value, h_14 p0 = some (ga_O 20 fs_15) ∧ 3 < fs_15.length ∧ ∀ h_16 : ga_H, h_16 = ga_set h_14 p0 (ga_O 20 (fs_15.set 3 (.int (0 : Int32)))) → ((v_10 = none → (post h_16)) ∧ (∀ a_17 : Nat, v_10 = some a_17 → (∃ a_18 : Nat, p1 = some a_18 ∧ ∃ (fs_19 : List Value) (v_20 : Int32), h_16 a_18 = some (ga_O 15 fs_19) ∧ fs_19[4]? = some (.int v_20) ∧ ((v_20 ≤ (0 : Int32) → (post h_16)) ∧ (¬ v_20 ≤ (0 : Int32) → (∃ (In_22 : ga_H → Prop) (mu_22 : ga_H → Nat), In_22 h_16 ∧ ∀ (h_22 : ga_H), In_22 h_22 → (∃ (fs_23 : List Value) (v_24 : Int32), h_22 p0 = some (ga_O 20 fs_23) ∧ fs_23[3]? = some (.int v_24) ∧ (∃ a_25 : Nat, v_10 = some a_25 ∧ ∃ (n_26 : Nat) (f_27 : Nat → Option Nat), h_22 a_25 = some (ga_Aq 8 n_26 f_27) ∧ ((nI n_26 ≤ v_24 → (post h_22)) ∧ (¬ nI n_26 ≤ v_24 → (∃ (fs_29 : List Value) (v_30 : Int32), h_22 p0 = some (ga_O 20 fs_29) ∧ fs_29[3]? = some (.int v_30) ∧ (∃ fs_31 : List Value, h_22 p0 = some (ga_O 20 fs_31) ∧ 3 < fs_31.length ∧ ∀ h_32 : ga_H, h_32 = ga_set h_22 p0 (ga_O 20 (fs_31.set 3 (.int (v_30 + (1 : Int32))))) → (∃ a_33 : Nat, v_10 = some a_33 ∧ ∃ (n_34 : Nat) (f_35 : Nat → Option Nat), h_32 a_33 = some (ga_Aq 8 n_34 f_35) ∧ vp_in v_30 n_34 ∧ ∀ v_36 : Option Nat, v_36 = f_35 v_30.toNatClampNeg → (∃ fs_37 : List Value, h_32 p0 = some (ga_O 20 fs_37) ∧ 0 < fs_37.length ∧ ∀ h_38 : ga_H, h_38 = ga_set h_32 p0 (ga_O 20 (fs_37.set 0 (va_rf v_36))) → ((v_36 = none → (In_22 h_38 ∧ mu_22 h_38 < mu_22 h_22)) ∧ (∀ a_39 : Nat, v_36 = some a_39 → (post h_38)))))))))))))))))))))))
set_option maxHeartbeats 4000000 in
theorem gm_J17_init_K (l : Launch) (g : ga_G) (p0 : Nat) (p1 : Option Nat) (h : ga_H) (post : ga_H → Prop) (hw : gw_J17_init_K g.2.2 p0 p1 h post) : Met l yJ17_init (ws_ yJ17_init cJ17_init 3 none) ({ frames := 8, cells := 0, slots := 0, locals := 140 } : Room) (va_Pc [.ref p0, va_rf p1] (ga_B g h)) (va_Qv post (ga_E g) (ga_A g)) 0 0 (ga_A g) := by
  refine ga_met (own := "java/util/HashMap$HashIterator") (nm := "<init>") (by decide) rfl rfl (by cases p1 <;> exact Nat.le_of_ble_eq_true rfl) (fun p e s m below meth c ls hC hI hl => ?_)
  have hl : lv_has ls 3 [(0, .ref p0), (1, va_rf p1)] := (by cases p1 <;> exact hl)
  generalize ([.ref p0, va_rf p1] : List Value).toArray = args at hC ⊢
  obtain ⟨hx, hb, hml, hown, hts, hr, hlk, hnm⟩ := hC
  unfold gw_J17_init_K at hw
  obtain ⟨H, eH⟩ : ∃ z, z = s.heap := ⟨_, rfl⟩
  obtain ⟨locs, elo⟩ : ∃ z : List Loc, z = [] := ⟨_, rfl⟩
  rw [← eH, ← elo] at hI ⊢
  obtain ⟨cells, slots, hbc, hbs, e0, e1⟩ : ∃ a b : Nat, a ≤ 0 ∧ b ≤ 0 ∧ a = 0 ∧ b = 0 := ⟨0, 0, by omega, by omega, rfl, rfl⟩
  show W p l e ({ frames := 8, cells := 0, slots := 0, locals := 140 } : Room) s m args below meth c H locs 0 0 (MQ below (va_Qv post (ga_E g) (ga_A g)) args s 0 0 (ga_A g)) (F0 m 0 ls [])
  suffices hgoal : W p l e ({ frames := 8, cells := 0, slots := 0, locals := 140 } : Room) s m args below meth c H locs cells slots (MQ below (va_Qv post (ga_E g) (ga_A g)) args s 0 0 (ga_A g)) (F0 m 0 ls []) by rw [e0, e1] at hgoal; exact hgoal
  refine lv_aload_n hx hb dJ17_init_0 rfl (lv_at hl 0 rfl) ?_
  refine ga_aload_n hx hb dJ17_init_1 rfl (lv_at hl 1 rfl) ?_
  obtain ⟨fs_1, hq, hk, hw⟩ := hw
  refine ga_putF (ci := 20) (T := TJ19) (v := va_rf p1) (ty := tyJ19 4) hx hb hts hown hI in_J19 rfl tyJ19 tyJ19_ok nmJ19 4 (by decide) q601 (fun _ z => z) rfl hnm rfl (tyJ19_ok 4 (by decide)) (ga_nq _ _) (ga_fq _ _) hq hk dJ17_init_2 (fun H locs hI => ?_)
  obtain ⟨h_2, eh_2⟩ : ∃ z, z = ga_set h p0 (ga_O 20 (fs_1.set 4 (va_rf p1))) := ⟨_, rfl⟩
  rw [← eh_2] at hI
  have hw := hw h_2 eh_2
  refine lv_aload_n hx hb dJ17_init_5 rfl (lv_at hl 0 rfl) ?_
  refine W.objInit hx hb hown (hts _ q596) (hts _ q179) (hts _ q180) rfl (by rw [hml]; exact hl.1) rfl dJ17_init_6 (Nat.le_of_ble_eq_true rfl) (by have := ga_sum [] (Nat.le_of_ble_eq_true rfl); exact Nat.le_trans (Nat.add_le_add_right (Nat.add_le_add_left this 0) 12) (Nat.le_of_ble_eq_true rfl)) ?_
  refine W.eq (g2 := F0 m 9 ls []) rfl ?_
  refine lv_aload_n hx hb dJ17_init_9 rfl (lv_at hl 0 rfl) ?_
  refine ga_aload_n hx hb dJ17_init_10 rfl (lv_at hl 1 rfl) ?_
  obtain ⟨a_3, ea_3, hw⟩ := hw
  rewrite [ea_3]
  obtain ⟨fs_4, v_5, hq, hv, hw⟩ := hw
  refine ga_get (ci := 15) (T := TJ4) (v := .int v_5) hx hb hts hown hI in_J4 rfl 5 (by decide) q235 (fun _ z => z) (ga_at.h hq) hv dJ17_init_11 ?_
  obtain ⟨fs_6, hq, hk, hw⟩ := hw
  refine ga_put (ci := 20) (T := TJ19) (v := .int v_5) (ty := tyJ19 2) hx hb hts hown hI in_J19 rfl tyJ19 tyJ19_ok nmJ19 2 (by decide) q599 (fun _ z => z) rfl (tyJ19_ok 2 (by decide)) rfl rfl hq hk dJ17_init_14 (fun H locs hI => ?_)
  obtain ⟨h_7, eh_7⟩ : ∃ z, z = ga_set h_2 p0 (ga_O 20 (fs_6.set 2 (.int v_5))) := ⟨_, rfl⟩
  rw [← eh_7] at hI
  have hw := hw h_7 eh_7
  refine ga_aload_n hx hb dJ17_init_17 rfl (lv_at hl 1 rfl) ?_
  obtain ⟨a_8, ea_8, hw⟩ := hw
  rewrite [ea_8]
  obtain ⟨fs_9, v_10, hq, hv, hw⟩ := hw
  refine ga_get (ci := 15) (T := TJ4) (v := va_rf v_10) hx hb hts hown hI in_J4 rfl 2 (by decide) q228 (fun _ z => z) (ga_at.h hq) hv dJ17_init_18 ?_
  refine ga_astore_n (i := 2) (x := v_10) (lv' := [(2, va_rf v_10), (0, .ref p0), (1, va_rf p1)]) hx hb dJ17_init_21 rfl hl (by decide) (by simp [ga_rcat, ga_cat_r, ga_cat_i, ga_cat_f, ga_cat_l, ga_cat_d]) (fun ls hl => ?_)
  refine lv_aload_n hx hb dJ17_init_22 rfl (lv_at hl 1 rfl) ?_
  refine lv_aload_n hx hb dJ17_init_23 rfl (lv_at hl 1 rfl) ?_
  refine lv_null hx hb dJ17_init_24 ?_
  refine lv_dup_x1 hx hb dJ17_init_25 rfl rfl ?_
  obtain ⟨fs_11, hq, hk, hw⟩ := hw
  refine ga_put (ci := 20) (T := TJ19) (v := va_rf none) (ty := tyJ19 0) hx hb hts hown hI in_J19 rfl tyJ19 tyJ19_ok nmJ19 0 (by decide) q597 (fun _ z => z) rfl (tyJ19_ok 0 (by decide)) (ga_nq _ _) (ga_fq _ _) hq hk dJ17_init_26 (fun H locs hI => ?_)
  obtain ⟨h_12, eh_12⟩ : ∃ z, z = ga_set h_7 p0 (ga_O 20 (fs_11.set 0 (va_rf none))) := ⟨_, rfl⟩
  rw [← eh_12] at hI
  have hw := hw h_12 eh_12
  obtain ⟨fs_13, hq, hk, hw⟩ := hw
  refine ga_put (ci := 20) (T := TJ19) (v := va_rf none) (ty := tyJ19 1) hx hb hts hown hI in_J19 rfl tyJ19 tyJ19_ok nmJ19 1 (by decide) q598 (fun _ z => z) rfl (tyJ19_ok 1 (by decide)) (ga_nq _ _) (ga_fq _ _) hq hk dJ17_init_29 (fun H locs hI => ?_)
  obtain ⟨h_14, eh_14⟩ : ∃ z, z = ga_set h_12 p0 (ga_O 20 (fs_13.set 1 (va_rf none))) := ⟨_, rfl⟩
  rw [← eh_14] at hI
  have hw := hw h_14 eh_14
  refine lv_aload_n hx hb dJ17_init_32 rfl (lv_at hl 1 rfl) ?_
  refine lv_iconst (v := 0) hx hb dJ17_init_33 (by decide) ?_
  obtain ⟨fs_15, hq, hk, hw⟩ := hw
  refine ga_put (ci := 20) (T := TJ19) (v := .int (0 : Int32)) (ty := tyJ19 3) hx hb hts hown hI in_J19 rfl tyJ19 tyJ19_ok nmJ19 3 (by decide) q600 (fun _ z => z) rfl (tyJ19_ok 3 (by decide)) rfl rfl hq hk dJ17_init_34 (fun H locs hI => ?_)
  obtain ⟨h_16, eh_16⟩ : ∃ z, z = ga_set h_14 p0 (ga_O 20 (fs_15.set 3 (.int (0 : Int32)))) := ⟨_, rfl⟩
  rw [← eh_16] at hI
  have hw := hw h_16 eh_16
  refine ga_aload_n hx hb dJ17_init_37 rfl (lv_at hl 0 rfl) ?_
  refine ga_ifnull (tgt := 78) hx hb dJ17_init_38 (by decide) (fun hc_a_17 => ?_) (fun a_17 hc_a_17 => ?_)
  · have hw := hw.1 hc_a_17
    exact ga_vret hx hb hr hlk hI hw hbc hbs dJ17_init_78
  · have hw := hw.2 a_17 hc_a_17
    skip
    refine ga_aload_n hx hb dJ17_init_41 rfl (lv_at hl 2 rfl) ?_
    obtain ⟨a_18, ea_18, hw⟩ := hw
    rewrite [ea_18]
    obtain ⟨fs_19, v_20, hq, hv, hw⟩ := hw
    refine ga_get (ci := 15) (T := TJ4) (v := .int v_20) hx hb hts hown hI in_J4 rfl 4 (by decide) q231 (fun _ z => z) (ga_at.h hq) hv dJ17_init_42 ?_
    refine lv_if_le (tgt := 78) hx hb dJ17_init_45 (by decide) (fun hc_21 => ?_) (fun hc_21 => ?_)
    · have hw := hw.1 hc_21
      exact ga_vret hx hb hr hlk hI hw hbc hbs dJ17_init_78
    · have hw := hw.2 hc_21
      obtain ⟨In_22, mu_22, h0_22, hw⟩ := hw
      have hL_22 : ∀ (n : Nat) (h_22 : ga_H) (H : Heap) (locs : List Loc) (cells slots : Nat) (ls : Array Slot), mu_22 h_22 < n → In_22 h_22 → ga_I g h_22 s H locs → cells ≤ 0 → slots ≤ 0 → lv_has ls 3 [(0, .ref p0), (2, va_rf v_10)] → W p l e ({ frames := 8, cells := 0, slots := 0, locals := 140 } : Room) s m args below meth c H locs cells slots (MQ below (va_Qv post (ga_E g) (ga_A g)) args s 0 0 (ga_A g)) (F0 m 48 ls []) := by
        intro n
        induction n with
        | zero => intro h_22 H locs cells slots ls hn _ _ _ _ _; exact absurd hn (Nat.not_lt_zero _)
        | succ n ih_22 =>
          intro h_22 H locs cells slots ls hn_22 hi_22 hI hbc hbs hl
          have hw := hw h_22 hi_22
          refine lv_aload_n hx hb dJ17_init_48 rfl (lv_at hl 0 rfl) ?_
          obtain ⟨fs_23, v_24, hq, hv, hw⟩ := hw
          refine ga_get (ci := 20) (T := TJ19) (v := .int v_24) hx hb hts hown hI in_J19 rfl 3 (by decide) q600 (fun _ z => z) (ga_at.h hq) hv dJ17_init_49 ?_
          refine ga_aload_n hx hb dJ17_init_52 rfl (lv_at hl 1 rfl) ?_
          obtain ⟨a_25, ea_25, hw⟩ := hw
          rewrite [ea_25]
          obtain ⟨n_26, f_27, hq, hw⟩ := hw
          refine ga_len hx hb hI (ga_at.h hq) rfl dJ17_init_53 ?_
          refine lv_icmp_ge (tgt := 78) hx hb dJ17_init_54 (by decide) (fun hc_28 => ?_) (fun hc_28 => ?_)
          · have hw := hw.1 hc_28
            exact ga_vret hx hb hr hlk hI hw hbc hbs dJ17_init_78
          · have hw := hw.2 hc_28
            refine lv_aload_n hx hb dJ17_init_57 rfl (lv_at hl 0 rfl) ?_
            refine ga_aload_n hx hb dJ17_init_58 rfl (lv_at hl 1 rfl) ?_
            refine lv_aload_n hx hb dJ17_init_59 rfl (lv_at hl 0 rfl) ?_
            refine lv_dup hx hb dJ17_init_60 rfl ?_
            obtain ⟨fs_29, v_30, hq, hv, hw⟩ := hw
            refine ga_get (ci := 20) (T := TJ19) (v := .int v_30) hx hb hts hown hI in_J19 rfl 3 (by decide) q600 (fun _ z => z) (ga_at.h hq) hv dJ17_init_61 ?_
            refine lv_dup_x1 hx hb dJ17_init_64 rfl rfl ?_
            refine lv_iconst (v := 1) hx hb dJ17_init_65 (by decide) ?_
            refine lv_iadd hx hb dJ17_init_66 ?_
            obtain ⟨fs_31, hq, hk, hw⟩ := hw
            refine ga_put (ci := 20) (T := TJ19) (v := .int (v_30 + (1 : Int32))) (ty := tyJ19 3) hx hb hts hown hI in_J19 rfl tyJ19 tyJ19_ok nmJ19 3 (by decide) q600 (fun _ z => z) rfl (tyJ19_ok 3 (by decide)) rfl rfl hq hk dJ17_init_67 (fun H locs hI => ?_)
            obtain ⟨h_32, eh_32⟩ : ∃ z, z = ga_set h_22 p0 (ga_O 20 (fs_31.set 3 (.int (v_30 + (1 : Int32))))) := ⟨_, rfl⟩
            rw [← eh_32] at hI
            have hw := hw h_32 eh_32
            obtain ⟨a_33, ea_33, hw⟩ := hw
            rewrite [ea_33]
            obtain ⟨n_34, f_35, hq, hi, hw⟩ := hw
            refine ga_ldq hx hb hI (ga_at.h hq) rfl hi dJ17_init_70 ?_
            obtain ⟨v_36, ev_36⟩ : ∃ z, z = f_35 v_30.toNatClampNeg := ⟨_, rfl⟩
            rw [← ev_36]
            have hw := hw v_36 ev_36
            refine lv_dup_x1 hx hb dJ17_init_71 (ga_rcat _) rfl ?_
            obtain ⟨fs_37, hq, hk, hw⟩ := hw
            refine ga_put (ci := 20) (T := TJ19) (v := va_rf v_36) (ty := tyJ19 0) hx hb hts hown hI in_J19 rfl tyJ19 tyJ19_ok nmJ19 0 (by decide) q597 (fun _ z => z) rfl (tyJ19_ok 0 (by decide)) (ga_nq _ _) (ga_fq _ _) hq hk dJ17_init_72 (fun H locs hI => ?_)
            obtain ⟨h_38, eh_38⟩ : ∃ z, z = ga_set h_32 p0 (ga_O 20 (fs_37.set 0 (va_rf v_36))) := ⟨_, rfl⟩
            rw [← eh_38] at hI
            have hw := hw h_38 eh_38
            refine ga_ifnull (tgt := 48) hx hb dJ17_init_75 (by decide) (fun hc_a_39 => ?_) (fun a_39 hc_a_39 => ?_)
            · have hw := hw.1 hc_a_39
              exact ih_22 _ H locs cells slots ls (Nat.lt_of_lt_of_le hw.2 (Nat.le_of_lt_succ hn_22)) hw.1 hI hbc hbs (lv_sub hl [0, 1] rfl)
            · have hw := hw.2 a_39 hc_a_39
              skip
              exact ga_vret hx hb hr hlk hI hw hbc hbs dJ17_init_78
      exact hL_22 _ _ H locs cells slots ls (Nat.lt_succ_self _) h0_22 hI hbc hbs (lv_sub hl [1, 0] rfl)
theorem hdG_J17_init_K : yJ17_init.cls ≠ "java/lang/invoke/MethodHandle" ∧ yJ17_init.cls ≠ "java/lang/invoke/VarHandle" ∧ (parseMethodDescriptor yJ17_init.desc).map (fun d => d.parameters.length) = some 1 := by decide +kernel
def gw_J19_init (K : ga_K) (p0 : Nat) (p1 : Option Nat) (h : ga_H) (post : ga_H → Prop) : Prop :=
  gw_J17_init_K K p0 p1 h (fun (h_1 : ga_H) => post h_1)
set_option maxHeartbeats 4000000 in
theorem gm_J19_init (l : Launch) (g : ga_G) (p0 : Nat) (p1 : Option Nat) (h : ga_H) (post : ga_H → Prop) (hw : gw_J19_init g.2.2 p0 p1 h post) : Met l yJ19_init (ws_ yJ19_init cJ19_init 2 none) ({ frames := 9, cells := 0, slots := 0, locals := 162 } : Room) (va_Pc [.ref p0, va_rf p1] (ga_B g h)) (va_Qv post (ga_E g) (ga_A g)) 0 0 (ga_A g) := by
  refine ga_met (own := "java/util/HashMap$KeyIterator") (nm := "<init>") (by decide) rfl rfl (by cases p1 <;> exact Nat.le_of_ble_eq_true rfl) (fun p e s m below meth c ls hC hI hl => ?_)
  have hl : lv_has ls 2 [(0, .ref p0), (1, va_rf p1)] := (by cases p1 <;> exact hl)
  generalize ([.ref p0, va_rf p1] : List Value).toArray = args at hC ⊢
  obtain ⟨hx, hb, hml, hown, hts, hr, hlk, hnm⟩ := hC
  unfold gw_J19_init at hw
  obtain ⟨H, eH⟩ : ∃ z, z = s.heap := ⟨_, rfl⟩
  obtain ⟨locs, elo⟩ : ∃ z : List Loc, z = [] := ⟨_, rfl⟩
  rw [← eH, ← elo] at hI ⊢
  obtain ⟨cells, slots, hbc, hbs, e0, e1⟩ : ∃ a b : Nat, a ≤ 0 ∧ b ≤ 0 ∧ a = 0 ∧ b = 0 := ⟨0, 0, by omega, by omega, rfl, rfl⟩
  show W p l e ({ frames := 9, cells := 0, slots := 0, locals := 162 } : Room) s m args below meth c H locs 0 0 (MQ below (va_Qv post (ga_E g) (ga_A g)) args s 0 0 (ga_A g)) (F0 m 0 ls [])
  suffices hgoal : W p l e ({ frames := 9, cells := 0, slots := 0, locals := 162 } : Room) s m args below meth c H locs cells slots (MQ below (va_Qv post (ga_E g) (ga_A g)) args s 0 0 (ga_A g)) (F0 m 0 ls []) by rw [e0, e1] at hgoal; exact hgoal
  refine lv_aload_n hx hb dJ19_init_0 rfl (lv_at hl 0 rfl) ?_
  refine ga_aload_n hx hb dJ19_init_1 rfl (lv_at hl 1 rfl) ?_
  refine ga_callv (va_runI (As := [va_rf p1]) (rest := []) ⟨hx, hb, hml, hown, hts⟩ (gm_J17_init_K l g p0 p1 h _ hw) (cwI 1 hts (lw_meth q595) rfl rfl rfl (hts _ q123) (hts _ q621) (hts _ q594) rfl hdG_J17_init_K ⟨Nat.le_of_ble_eq_true rfl, Nat.le_of_ble_eq_true rfl⟩) (ga_preS hI rfl) rfl rfl hl.1 rfl (ga_room (Nat.le_of_ble_eq_true rfl)) dJ19_init_2 ⟨hbc, hbs⟩) hI (bc := 0) (bs := 0) hbc hbs (Nat.zero_le _) (Nat.zero_le _) (fun h_1 H locs cells slots hw hI hbc hbs => ?_)
  exact ga_vret hx hb hr hlk hI hw hbc hbs dJ19_init_5
theorem hdG_J19_init : yJ19_init.cls ≠ "java/lang/invoke/MethodHandle" ∧ yJ19_init.cls ≠ "java/lang/invoke/VarHandle" ∧ (parseMethodDescriptor yJ19_init.desc).map (fun d => d.parameters.length) = some 1 := by decide +kernel
def gw_J21_iterator (K : ga_K) (p0 : Nat) (h : ga_H) (mc ms : Nat) (post : Option Nat → ga_H → Prop) : Prop :=
  1 ≤ mc ∧ 5 ≤ ms ∧ ∀ q_1 : Nat, h q_1 = none → ∀ h_2 : ga_H, h_2 = ga_set h q_1 (ga_O 20 [va_rf none, va_rf none, .int 0, .int 0, va_rf none]) → (∃ (fs_3 : List Value) (v_4 : Option Nat), h_2 p0 = some (ga_O 19 fs_3) ∧ fs_3[0]? = some (va_rf v_4) ∧ (gw_J19_init K q_1 v_4 h_2 (fun (h_5 : ga_H) => post (some q_1) h_5)))
set_option maxHeartbeats 4000000 in
theorem gm_J21_iterator (l : Launch) (g : ga_G) (p0 : Nat) (h : ga_H) (mc ms : Nat) (post : Option Nat → ga_H → Prop) (hw : gw_J21_iterator g.2.2 p0 h mc ms post) : Met l yJ21_iterator (ws_ yJ21_iterator cJ21_iterator 1 (some (.object "java/util/Iterator"))) ({ frames := 10, cells := mc, slots := ms, locals := 183 } : Room) (va_Pc [.ref p0] (ga_B g h)) (va_Qq post (ga_E g) (ga_A g)) mc ms (ga_A g) := by
  refine ga_met (own := "java/util/HashMap$KeySet") (nm := "iterator") (by decide) rfl rfl (by exact Nat.le_of_ble_eq_true rfl) (fun p e s m below meth c ls hC hI hl => ?_)
  have hl : lv_has ls 1 [(0, .ref p0)] := hl
  generalize ([.ref p0] : List Value).toArray = args at hC ⊢
  obtain ⟨hx, hb, hml, hown, hts, hr, hlk, hnm⟩ := hC
  unfold gw_J21_iterator at hw
  obtain ⟨H, eH⟩ : ∃ z, z = s.heap := ⟨_, rfl⟩
  obtain ⟨locs, elo⟩ : ∃ z : List Loc, z = [] := ⟨_, rfl⟩
  rw [← eH, ← elo] at hI ⊢
  obtain ⟨cells, slots, hbc, hbs, e0, e1⟩ : ∃ a b : Nat, a + mc ≤ mc ∧ b + ms ≤ ms ∧ a = 0 ∧ b = 0 := ⟨0, 0, by omega, by omega, rfl, rfl⟩
  show W p l e ({ frames := 10, cells := mc, slots := ms, locals := 183 } : Room) s m args below meth c H locs 0 0 (MQ below (va_Qq post (ga_E g) (ga_A g)) args s mc ms (ga_A g)) (F0 m 0 ls [])
  suffices hgoal : W p l e ({ frames := 10, cells := mc, slots := ms, locals := 183 } : Room) s m args below meth c H locs cells slots (MQ below (va_Qq post (ga_E g) (ga_A g)) args s mc ms (ga_A g)) (F0 m 0 ls []) by rw [e0, e1] at hgoal; exact hgoal
  refine ga_new (ci := 20) (T := TJ19) hx hb hts hown hI in_J19 rfl tyJ19 tyJ19_ok q616 q617 q125 [va_rf none, va_rf none, .int 0, .int 0, va_rf none] ga_df_J19 hbc hbs hw.1 hw.2.1 dJ21_iterator_0 (fun q_1 H cells slots hn_q_1 hI hbc hbs => ?_)
  obtain ⟨h_2, eh_2⟩ : ∃ z, z = ga_set h q_1 (ga_O 20 [va_rf none, va_rf none, .int 0, .int 0, va_rf none]) := ⟨_, rfl⟩
  rw [← eh_2] at hI
  have hw := hw.2.2 q_1 hn_q_1 h_2 eh_2
  refine lv_dup hx hb dJ21_iterator_3 rfl ?_
  refine lv_aload_n hx hb dJ21_iterator_4 rfl (lv_at hl 0 rfl) ?_
  obtain ⟨fs_3, v_4, hq, hv, hw⟩ := hw
  refine ga_get (ci := 19) (T := TJ21) (v := va_rf v_4) hx hb hts hown hI in_J21 rfl 0 (by decide) q644 (fun _ z => z) (ga_at.h hq) hv dJ21_iterator_5 ?_
  refine ga_callv (va_runI (As := [va_rf v_4]) (rest := [.ref q_1]) ⟨hx, hb, hml, hown, hts⟩ (gm_J19_init l g q_1 v_4 h_2 _ hw) (cwI 1 hts (lw_meth q620) rfl rfl rfl (hts _ q125) (hts _ q618) (hts _ q619) rfl hdG_J19_init ⟨Nat.le_of_ble_eq_true rfl, Nat.le_of_ble_eq_true rfl⟩) (ga_preS hI rfl) rfl rfl hl.1 rfl (ga_room (Nat.le_of_ble_eq_true rfl)) dJ21_iterator_8 ⟨Nat.le_trans (Nat.add_le_add_left (Nat.zero_le _) _) hbc, Nat.le_trans (Nat.add_le_add_left (Nat.zero_le _) _) hbs⟩) hI hbc hbs (Nat.zero_le _) (Nat.zero_le _) (fun h_5 H locs cells slots hw hI hbc hbs => ?_)
  exact ga_qret (v := (some q_1)) hx hb hr (Or.inl ⟨_, rfl⟩) hlk hI hw (Nat.le_trans (Nat.le_add_right _ _) hbc) (Nat.le_trans (Nat.le_add_right _ _) hbs) dJ21_iterator_11
theorem hdG_J21_iterator : yJ21_iterator.cls ≠ "java/lang/invoke/MethodHandle" ∧ yJ21_iterator.cls ≠ "java/lang/invoke/VarHandle" ∧ (parseMethodDescriptor yJ21_iterator.desc).map (fun d => d.parameters.length) = some 0 := by decide +kernel
def gw_J44_iterator (K : ga_K) (p0 : Nat) (h : ga_H) (mc ms : Nat) (post : Option Nat → ga_H → Prop) : Prop :=
  ∃ (fs_1 : List Value) (v_2 : Option Nat), h p0 = some (ga_O 21 fs_1) ∧ fs_1[0]? = some (va_rf v_2) ∧ (∃ a_3 : Nat, v_2 = some a_3 ∧ ∃ kc_4 ks_5 : Nat, kc_4 ≤ mc ∧ ks_5 ≤ ms ∧ ∃ fs_6 : List Value, ga_at K h a_3 (ga_O 15 fs_6) ∧ gw_J4_keySet K a_3 h kc_4 ks_5 (fun (r_8 : Option Nat) (h_7 : ga_H) => ∃ a_9 : Nat, r_8 = some a_9 ∧ ∃ kc_10 ks_11 : Nat, kc_10 ≤ (mc - kc_4) ∧ ks_11 ≤ (ms - ks_5) ∧ ∃ fs_12 : List Value, ga_at K h_7 a_9 (ga_O 19 fs_12) ∧ gw_J21_iterator K a_9 h_7 kc_10 ks_11 (fun (r_14 : Option Nat) (h_13 : ga_H) => post r_14 h_13)))
set_option maxHeartbeats 4000000 in
theorem gm_J44_iterator (l : Launch) (g : ga_G) (p0 : Nat) (h : ga_H) (mc ms : Nat) (post : Option Nat → ga_H → Prop) (hw : gw_J44_iterator g.2.2 p0 h mc ms post) : Met l yJ44_iterator (ws_ yJ44_iterator cJ44_iterator 1 (some (.object "java/util/Iterator"))) ({ frames := 12, cells := mc, slots := ms, locals := 222 } : Room) (va_Pc [.ref p0] (ga_B g h)) (va_Qq post (ga_E g) (ga_A g)) mc ms (ga_A g) := by
  refine ga_met (own := "java/util/HashSet") (nm := "iterator") (by decide) rfl rfl (by exact Nat.le_of_ble_eq_true rfl) (fun p e s m below meth c ls hC hI hl => ?_)
  have hl : lv_has ls 1 [(0, .ref p0)] := hl
  generalize ([.ref p0] : List Value).toArray = args at hC ⊢
  obtain ⟨hx, hb, hml, hown, hts, hr, hlk, hnm⟩ := hC
  unfold gw_J44_iterator at hw
  obtain ⟨H, eH⟩ : ∃ z, z = s.heap := ⟨_, rfl⟩
  obtain ⟨locs, elo⟩ : ∃ z : List Loc, z = [] := ⟨_, rfl⟩
  rw [← eH, ← elo] at hI ⊢
  obtain ⟨cells, slots, hbc, hbs, e0, e1⟩ : ∃ a b : Nat, a + mc ≤ mc ∧ b + ms ≤ ms ∧ a = 0 ∧ b = 0 := ⟨0, 0, by omega, by omega, rfl, rfl⟩
  show W p l e ({ frames := 12, cells := mc, slots := ms, locals := 222 } : Room) s m args below meth c H locs 0 0 (MQ below (va_Qq post (ga_E g) (ga_A g)) args s mc ms (ga_A g)) (F0 m 0 ls [])
  suffices hgoal : W p l e ({ frames := 12, cells := mc, slots := ms, locals := 222 } : Room) s m args below meth c H locs cells slots (MQ below (va_Qq post (ga_E g) (ga_A g)) args s mc ms (ga_A g)) (F0 m 0 ls []) by rw [e0, e1] at hgoal; exact hgoal
  refine lv_aload_n hx hb dJ44_iterator_0 rfl (lv_at hl 0 rfl) ?_
  obtain ⟨fs_1, v_2, hq, hv, hw⟩ := hw
  refine ga_get (ci := 21) (T := TJ44) (v := va_rf v_2) hx hb hts hown hI in_J44 rfl 0 (by decide) q3450 (fun _ z => z) (ga_at.h hq) hv dJ44_iterator_1 ?_
  obtain ⟨a_3, ea_3, hw⟩ := hw
  rewrite [ea_3]
  obtain ⟨kc_4, ks_5, hk1, hk2, hw⟩ := hw
  obtain ⟨fs_6, hq, hw⟩ := hw
  refine ga_callq (va_runV (As := []) (rest := []) ⟨hx, hb, hml, hown, hts⟩ (gm_J4_keySet l g a_3 h kc_4 ks_5 _ hw) (cwV 0 hts (lw_V q631 q632 q633 q106 q634) rfl rfl rfl ⟨rfl, hdG_J4_keySet⟩ ⟨Nat.le_of_ble_eq_true rfl, Nat.le_of_ble_eq_true rfl⟩) (ga_preV hI hq rfl rfl) rfl rfl hl.1 rfl (ga_room (Nat.le_of_ble_eq_true rfl)) dJ44_iterator_4 ⟨Nat.le_trans (Nat.add_le_add_left hk1 _) hbc, Nat.le_trans (Nat.add_le_add_left hk2 _) hbs⟩) hI hbc hbs hk1 hk2 (fun r_8 h_7 H locs cells slots hw hI hbc hbs => ?_)
  obtain ⟨a_9, ea_9, hw⟩ := hw
  rewrite [ea_9]
  obtain ⟨kc_10, ks_11, hk1, hk2, hw⟩ := hw
  obtain ⟨fs_12, hq, hw⟩ := hw
  refine ga_callFq (va_runF (As := []) (rest := []) (hI.2.1.1.1.1 19 _ rfl).2 ⟨hx, hb, hml, hown, hts⟩ (gm_J21_iterator l g a_9 h_7 kc_10 ks_11 _ hw) (va_cwF 0 hts (lw_app (List.forall_mem_cons.mpr ⟨q649, List.forall_mem_cons.mpr ⟨q657, List.forall_mem_cons.mpr ⟨q614, List.forall_mem_cons.mpr ⟨q127, fun _ h => absurd h List.not_mem_nil⟩⟩⟩⟩) (lw_meth q615)) rfl rfl rfl (hI.2.1.1.2.2 _ _ _ ⟨by decide +kernel, q651, q650, q659, q658, q656⟩) (by decide +kernel) ⟨Nat.le_of_ble_eq_true rfl, Nat.le_of_ble_eq_true rfl⟩) (ga_preV (C := "java/util/HashMap$KeySet") hI hq rfl rfl) rfl rfl hl.1 rfl (ga_room (Nat.le_of_ble_eq_true rfl)) dJ44_iterator_7 ⟨Nat.le_trans (Nat.add_le_add_left hk1 _) hbc, Nat.le_trans (Nat.add_le_add_left hk2 _) hbs⟩) hI hbc hbs hk1 hk2 (fun r_14 h_13 H locs cells slots hw hI hbc hbs => ?_)
  exact ga_qret (v := r_14) hx hb hr (Or.inl ⟨_, rfl⟩) hlk hI hw (Nat.le_trans (Nat.le_add_right _ _) hbc) (Nat.le_trans (Nat.le_add_right _ _) hbs) dJ44_iterator_12
theorem hdG_J44_iterator : yJ44_iterator.cls ≠ "java/lang/invoke/MethodHandle" ∧ yJ44_iterator.cls ≠ "java/lang/invoke/VarHandle" ∧ (parseMethodDescriptor yJ44_iterator.desc).map (fun d => d.parameters.length) = some 0 := by decide +kernel
def gw_J17_hasNext_K (K : ga_K) (p0 : Nat) (h : ga_H) (post : Int32 → ga_H → Prop) : Prop :=
  ∃ (fs_1 : List Value) (v_2 : Option Nat), h p0 = some (ga_O 20 fs_1) ∧ fs_1[0]? = some (va_rf v_2) ∧ ((v_2 = none → (post (0 : Int32) h)) ∧ (∀ a_3 : Nat, v_2 = some a_3 → (post (1 : Int32) h)))
set_option maxHeartbeats 4000000 in
theorem gm_J17_hasNext_K (l : Launch) (g : ga_G) (p0 : Nat) (h : ga_H) (post : Int32 → ga_H → Prop) (hw : gw_J17_hasNext_K g.2.2 p0 h post) : Met l yJ17_hasNext (ws_ yJ17_hasNext cJ17_hasNext 1 (some .boolean)) ({ frames := 8, cells := 0, slots := 0, locals := 140 } : Room) (va_Pc [.ref p0] (ga_B g h)) (va_Qi post (ga_E g) (ga_A g)) 0 0 (ga_A g) := by
  refine ga_met (own := "java/util/HashMap$HashIterator") (nm := "hasNext") (by decide) rfl rfl (by exact Nat.le_of_ble_eq_true rfl) (fun p e s m below meth c ls hC hI hl => ?_)
  have hl : lv_has ls 1 [(0, .ref p0)] := hl
  generalize ([.ref p0] : List Value).toArray = args at hC ⊢
  obtain ⟨hx, hb, hml, hown, hts, hr, hlk, hnm⟩ := hC
  unfold gw_J17_hasNext_K at hw
  obtain ⟨H, eH⟩ : ∃ z, z = s.heap := ⟨_, rfl⟩
  obtain ⟨locs, elo⟩ : ∃ z : List Loc, z = [] := ⟨_, rfl⟩
  rw [← eH, ← elo] at hI ⊢
  obtain ⟨cells, slots, hbc, hbs, e0, e1⟩ : ∃ a b : Nat, a ≤ 0 ∧ b ≤ 0 ∧ a = 0 ∧ b = 0 := ⟨0, 0, by omega, by omega, rfl, rfl⟩
  show W p l e ({ frames := 8, cells := 0, slots := 0, locals := 140 } : Room) s m args below meth c H locs 0 0 (MQ below (va_Qi post (ga_E g) (ga_A g)) args s 0 0 (ga_A g)) (F0 m 0 ls [])
  suffices hgoal : W p l e ({ frames := 8, cells := 0, slots := 0, locals := 140 } : Room) s m args below meth c H locs cells slots (MQ below (va_Qi post (ga_E g) (ga_A g)) args s 0 0 (ga_A g)) (F0 m 0 ls []) by rw [e0, e1] at hgoal; exact hgoal
  refine lv_aload_n hx hb dJ17_hasNext_0 rfl (lv_at hl 0 rfl) ?_
  obtain ⟨fs_1, v_2, hq, hv, hw⟩ := hw
  refine ga_get (ci := 20) (T := TJ19) (v := va_rf v_2) hx hb hts hown hI in_J19 rfl 0 (by decide) q597 (fun _ z => z) (ga_at.h hq) hv dJ17_hasNext_1 ?_
  refine ga_ifnull (tgt := 11) hx hb dJ17_hasNext_4 (by decide) (fun hc_a_3 => ?_) (fun a_3 hc_a_3 => ?_)
  · have hw := hw.1 hc_a_3
    refine lv_iconst (v := 0) hx hb dJ17_hasNext_11 (by decide) ?_
    exact ga_iret hx hb hr rfl hlk hI hw hbc hbs dJ17_hasNext_12
  · have hw := hw.2 a_3 hc_a_3
    skip
    refine lv_iconst (v := 1) hx hb dJ17_hasNext_7 (by decide) ?_
    refine lv_goto (tgt := 12) hx hb dJ17_hasNext_8 (by decide) ?_
    exact ga_iret hx hb hr rfl hlk hI hw hbc hbs dJ17_hasNext_12
theorem hdG_J17_hasNext_K : yJ17_hasNext.cls ≠ "java/lang/invoke/MethodHandle" ∧ yJ17_hasNext.cls ≠ "java/lang/invoke/VarHandle" ∧ (parseMethodDescriptor yJ17_hasNext.desc).map (fun d => d.parameters.length) = some 0 := by decide +kernel
def gw_J17_nextNode_K (K : ga_K) (p0 : Nat) (h : ga_H) (mc ms : Nat) (post : Option Nat → ga_H → Prop) : Prop :=
  ∃ (fs_1 : List Value) (v_2 : Option Nat), h p0 = some (ga_O 20 fs_1) ∧ fs_1[0]? = some (va_rf v_2) ∧ (∃ (fs_3 : List Value) (v_4 : Option Nat), h p0 = some (ga_O 20 fs_3) ∧ fs_3[4]? = some (va_rf v_4) ∧ (∃ a_5 : Nat, v_4 = some a_5 ∧ ∃ (fs_6 : List Value) (v_7 : Int32), h a_5 = some (ga_O 15 fs_6) ∧ fs_6[5]? = some (.int v_7) ∧ (∃ (fs_8 : List Value) (v_9 : Int32), h p0 = some (ga_O 20 fs_8) ∧ fs_8[2]? = some (.int v_9) ∧ ((v_7 = v_9 → ((v_2 = none → False) ∧ (∀ a_11 : Nat, v_2 = some a_11 → (∃ fs_12 : List Value, h p0 = some (ga_O 20 fs_12) ∧ 1 < fs_12.length ∧ ∀ h_13 : ga_H, h_13 = ga_set h p0 (ga_O 20 (fs_12.set 1 (va_rf v_2))) → (∃ a_14 : Nat, v_2 = some a_14 ∧ ∃ (fs_15 : List Value) (v_16 : Option Nat), h_13 a_14 = some (ga_O 16 fs_15) ∧ fs_15[3]? = some (va_rf v_16) ∧ (∃ fs_17 : List Value, h_13 p0 = some (ga_O 20 fs_17) ∧ 0 < fs_17.length ∧ ∀ h_18 : ga_H, h_18 = ga_set h_13 p0 (ga_O 20 (fs_17.set 0 (va_rf v_16))) → ((v_16 = none → (∃ (fs_20 : List Value) (v_21 : Option Nat), h_18 p0 = some (ga_O 20 fs_20) ∧ fs_20[4]? = some (va_rf v_21) ∧ (∃ a_22 : Nat, v_21 = some a_22 ∧ ∃ (fs_23 : List Value) (v_24 : Option Nat), h_18 a_22 = some (ga_O 15 fs_23) ∧ fs_23[2]? = some (va_rf v_24) ∧ ((v_24 = none → (post v_2 h_18)) ∧ (∀ a_25 : Nat, v_24 = some a_25 → (∃ (In_26 : ga_H → Prop) (mu_26 : ga_H → Nat), In_26 h_18 ∧ ∀ (h_26 : ga_H), In_26 h_26 → (∃ (fs_27 : List Value) (v_28 : Int32), h_26 p0 = some (ga_O 20 fs_27) ∧ fs_27[3]? = some (.int v_28) ∧ (∃ a_29 : Nat, v_24 = some a_29 ∧ ∃ (n_30 : Nat) (f_31 : Nat → Option Nat), h_26 a_29 = some (ga_Aq 8 n_30 f_31) ∧ ((nI n_30 ≤ v_28 → (post v_2 h_26)) ∧ (¬ nI n_30 ≤ v_28 → (∃ (fs_33 : List Value) (v_34 : Int32), h_26 p0 = some (ga_O 20 fs_33) ∧ fs_33[3]? = some (.int v_34) ∧ (∃ fs_35 : List Value, h_26 p0 = some (ga_O 20 fs_35) ∧ 3 < fs_35.length ∧ ∀ h_36 : ga_H, h_36 = ga_set h_26 p0 (ga_O 20 (fs_35.set 3 (.int (v_34 + (1 : Int32))))) → (∃ a_37 : Nat, v_24 = some a_37 ∧ ∃ (n_38 : Nat) (f_39 : Nat → Option Nat), h_36 a_37 = some (ga_Aq 8 n_38 f_39) ∧ vp_in v_34 n_38 ∧ ∀ v_40 : Option Nat, v_40 = f_39 v_34.toNatClampNeg → (∃ fs_41 : List Value, h_36 p0 = some (ga_O 20 fs_41) ∧ 0 < fs_41.length ∧ ∀ h_42 : ga_H, h_42 = ga_set h_36 p0 (ga_O 20 (fs_41.set 0 (va_rf v_40))) → ((v_40 = none → (In_26 h_42 ∧ mu_26 h_42 < mu_26 h_26)) ∧ (∀ a_43 : Nat, v_40 = some a_43 → (post v_2 h_42))))))))))))))))) ∧ (∀ a_19 : Nat, v_16 = some a_19 → (post v_2 h_18))))))))) ∧ (¬ v_7 = v_9 → False)))))
set_option maxHeartbeats 4000000 in
theorem gm_J17_nextNode_K (l : Launch) (g : ga_G) (p0 : Nat) (h : ga_H) (mc ms : Nat) (post : Option Nat → ga_H → Prop) (hw : gw_J17_nextNode_K g.2.2 p0 h mc ms post) : Met l yJ17_nextNode (ws_ yJ17_nextNode cJ17_nextNode 3 (some (.object "java/util/HashMap$Node"))) ({ frames := 8, cells := mc, slots := ms, locals := 140 } : Room) (va_Pc [.ref p0] (ga_B g h)) (va_Qq post (ga_E g) (ga_A g)) mc ms (ga_A g) := by
  refine ga_met (own := "java/util/HashMap$HashIterator") (nm := "nextNode") (by decide) rfl rfl (by exact Nat.le_of_ble_eq_true rfl) (fun p e s m below meth c ls hC hI hl => ?_)
  have hl : lv_has ls 3 [(0, .ref p0)] := hl
  generalize ([.ref p0] : List Value).toArray = args at hC ⊢
  obtain ⟨hx, hb, hml, hown, hts, hr, hlk, hnm⟩ := hC
  unfold gw_J17_nextNode_K at hw
  obtain ⟨H, eH⟩ : ∃ z, z = s.heap := ⟨_, rfl⟩
  obtain ⟨locs, elo⟩ : ∃ z : List Loc, z = [] := ⟨_, rfl⟩
  rw [← eH, ← elo] at hI ⊢
  obtain ⟨cells, slots, hbc, hbs, e0, e1⟩ : ∃ a b : Nat, a + mc ≤ mc ∧ b + ms ≤ ms ∧ a = 0 ∧ b = 0 := ⟨0, 0, by omega, by omega, rfl, rfl⟩
  show W p l e ({ frames := 8, cells := mc, slots := ms, locals := 140 } : Room) s m args below meth c H locs 0 0 (MQ below (va_Qq post (ga_E g) (ga_A g)) args s mc ms (ga_A g)) (F0 m 0 ls [])
  suffices hgoal : W p l e ({ frames := 8, cells := mc, slots := ms, locals := 140 } : Room) s m args below meth c H locs cells slots (MQ below (va_Qq post (ga_E g) (ga_A g)) args s mc ms (ga_A g)) (F0 m 0 ls []) by rw [e0, e1] at hgoal; exact hgoal
  refine lv_aload_n hx hb dJ17_nextNode_0 rfl (lv_at hl 0 rfl) ?_
  obtain ⟨fs_1, v_2, hq, hv, hw⟩ := hw
  refine ga_get (ci := 20) (T := TJ19) (v := va_rf v_2) hx hb hts hown hI in_J19 rfl 0 (by decide) q597 (fun _ z => z) (ga_at.h hq) hv dJ17_nextNode_1 ?_
  refine ga_astore_n (i := 2) (x := v_2) (lv' := [(2, va_rf v_2), (0, .ref p0)]) hx hb dJ17_nextNode_4 rfl hl (by decide) rfl (fun ls hl => ?_)
  refine lv_aload_n hx hb dJ17_nextNode_5 rfl (lv_at hl 1 rfl) ?_
  obtain ⟨fs_3, v_4, hq, hv, hw⟩ := hw
  refine ga_get (ci := 20) (T := TJ19) (v := va_rf v_4) hx hb hts hown hI in_J19 rfl 4 (by decide) q601 (fun _ z => z) (ga_at.h hq) hv dJ17_nextNode_6 ?_
  obtain ⟨a_5, ea_5, hw⟩ := hw
  rewrite [ea_5]
  obtain ⟨fs_6, v_7, hq, hv, hw⟩ := hw
  refine ga_get (ci := 15) (T := TJ4) (v := .int v_7) hx hb hts hown hI in_J4 rfl 5 (by decide) q235 (fun _ z => z) (ga_at.h hq) hv dJ17_nextNode_9 ?_
  refine lv_aload_n hx hb dJ17_nextNode_12 rfl (lv_at hl 1 rfl) ?_
  obtain ⟨fs_8, v_9, hq, hv, hw⟩ := hw
  refine ga_get (ci := 20) (T := TJ19) (v := .int v_9) hx hb hts hown hI in_J19 rfl 2 (by decide) q599 (fun _ z => z) (ga_at.h hq) hv dJ17_nextNode_13 ?_
  refine lv_icmp_eq (tgt := 27) hx hb dJ17_nextNode_16 (by decide) (fun hc_10 => ?_) (fun hc_10 => ?_)
  · have hw := hw.1 hc_10
    refine ga_aload_n hx hb dJ17_nextNode_27 rfl (lv_at hl 0 rfl) ?_
    refine ga_ifnonnull (tgt := 39) hx hb dJ17_nextNode_28 (by decide) (fun a_11 hc_a_11 => ?_) (fun hc_a_11 => ?_)
    · have hw := hw.2 a_11 hc_a_11
      skip
      refine lv_aload_n hx hb dJ17_nextNode_39 rfl (lv_at hl 1 rfl) ?_
      refine lv_aload_n hx hb dJ17_nextNode_40 rfl (lv_at hl 1 rfl) ?_
      refine ga_aload_n hx hb dJ17_nextNode_41 rfl (lv_at hl 0 rfl) ?_
      refine lv_dup_x1 hx hb dJ17_nextNode_42 (ga_rcat _) rfl ?_
      obtain ⟨fs_12, hq, hk, hw⟩ := hw
      refine ga_put (ci := 20) (T := TJ19) (v := va_rf v_2) (ty := tyJ19 1) hx hb hts hown hI in_J19 rfl tyJ19 tyJ19_ok nmJ19 1 (by decide) q598 (fun _ z => z) rfl (tyJ19_ok 1 (by decide)) (ga_nq _ _) (ga_fq _ _) hq hk dJ17_nextNode_43 (fun H locs hI => ?_)
      obtain ⟨h_13, eh_13⟩ : ∃ z, z = ga_set h p0 (ga_O 20 (fs_12.set 1 (va_rf v_2))) := ⟨_, rfl⟩
      rw [← eh_13] at hI
      have hw := hw h_13 eh_13
      obtain ⟨a_14, ea_14, hw⟩ := hw
      rewrite [ea_14]
      obtain ⟨fs_15, v_16, hq, hv, hw⟩ := hw
      refine ga_get (ci := 16) (T := TJ32) (v := va_rf v_16) hx hb hts hown hI in_J32 rfl 3 (by decide) q1509 (fun _ z => z) (ga_at.h hq) hv dJ17_nextNode_46 ?_
      refine lv_dup_x1 hx hb dJ17_nextNode_49 (ga_rcat _) rfl ?_
      obtain ⟨fs_17, hq, hk, hw⟩ := hw
      refine ga_put (ci := 20) (T := TJ19) (v := va_rf v_16) (ty := tyJ19 0) hx hb hts hown hI in_J19 rfl tyJ19 tyJ19_ok nmJ19 0 (by decide) q597 (fun _ z => z) rfl (tyJ19_ok 0 (by decide)) (ga_nq _ _) (ga_fq _ _) hq hk dJ17_nextNode_50 (fun H locs hI => ?_)
      obtain ⟨h_18, eh_18⟩ : ∃ z, z = ga_set h_13 p0 (ga_O 20 (fs_17.set 0 (va_rf v_16))) := ⟨_, rfl⟩
      rw [← eh_18] at hI
      have hw := hw h_18 eh_18
      refine ga_ifnonnull (tgt := 98) hx hb dJ17_nextNode_53 (by decide) (fun a_19 hc_a_19 => ?_) (fun hc_a_19 => ?_)
      · have hw := hw.2 a_19 hc_a_19
        skip
        refine ga_aload_n hx hb dJ17_nextNode_98 rfl (lv_at hl 0 rfl) ?_
        exact ga_qret (v := v_2) hx hb hr (Or.inl ⟨_, rfl⟩) hlk hI hw (Nat.le_trans (Nat.le_add_right _ _) hbc) (Nat.le_trans (Nat.le_add_right _ _) hbs) dJ17_nextNode_99
      · have hw := hw.1 hc_a_19
        refine lv_aload_n hx hb dJ17_nextNode_56 rfl (lv_at hl 1 rfl) ?_
        obtain ⟨fs_20, v_21, hq, hv, hw⟩ := hw
        refine ga_get (ci := 20) (T := TJ19) (v := va_rf v_21) hx hb hts hown hI in_J19 rfl 4 (by decide) q601 (fun _ z => z) (ga_at.h hq) hv dJ17_nextNode_57 ?_
        obtain ⟨a_22, ea_22, hw⟩ := hw
        rewrite [ea_22]
        obtain ⟨fs_23, v_24, hq, hv, hw⟩ := hw
        refine ga_get (ci := 15) (T := TJ4) (v := va_rf v_24) hx hb hts hown hI in_J4 rfl 2 (by decide) q228 (fun _ z => z) (ga_at.h hq) hv dJ17_nextNode_60 ?_
        refine lv_dup hx hb dJ17_nextNode_63 (ga_rcat _) ?_
        refine ga_astore_n (i := 1) (x := v_24) (lv' := [(1, va_rf v_24), (2, va_rf v_2), (0, .ref p0)]) hx hb dJ17_nextNode_64 rfl hl (by decide) rfl (fun ls hl => ?_)
        refine ga_ifnull (tgt := 98) hx hb dJ17_nextNode_65 (by decide) (fun hc_a_25 => ?_) (fun a_25 hc_a_25 => ?_)
        · have hw := hw.1 hc_a_25
          refine ga_aload_n hx hb dJ17_nextNode_98 rfl (lv_at hl 1 rfl) ?_
          exact ga_qret (v := v_2) hx hb hr (Or.inl ⟨_, rfl⟩) hlk hI hw (Nat.le_trans (Nat.le_add_right _ _) hbc) (Nat.le_trans (Nat.le_add_right _ _) hbs) dJ17_nextNode_99
        · have hw := hw.2 a_25 hc_a_25
          skip
          obtain ⟨In_26, mu_26, h0_26, hw⟩ := hw
          have hL_26 : ∀ (n : Nat) (h_26 : ga_H) (H : Heap) (locs : List Loc) (cells slots : Nat) (ls : Array Slot), mu_26 h_26 < n → In_26 h_26 → ga_I g h_26 s H locs → cells + mc ≤ mc → slots + ms ≤ ms → lv_has ls 3 [(0, .ref p0), (1, va_rf v_24), (2, va_rf v_2)] → W p l e ({ frames := 8, cells := mc, slots := ms, locals := 140 } : Room) s m args below meth c H locs cells slots (MQ below (va_Qq post (ga_E g) (ga_A g)) args s mc ms (ga_A g)) (F0 m 68 ls []) := by
            intro n
            induction n with
            | zero => intro h_26 H locs cells slots ls hn _ _ _ _ _; exact absurd hn (Nat.not_lt_zero _)
            | succ n ih_26 =>
              intro h_26 H locs cells slots ls hn_26 hi_26 hI hbc hbs hl
              have hw := hw h_26 hi_26
              refine lv_aload_n hx hb dJ17_nextNode_68 rfl (lv_at hl 0 rfl) ?_
              obtain ⟨fs_27, v_28, hq, hv, hw⟩ := hw
              refine ga_get (ci := 20) (T := TJ19) (v := .int v_28) hx hb hts hown hI in_J19 rfl 3 (by decide) q600 (fun _ z => z) (ga_at.h hq) hv dJ17_nextNode_69 ?_
              refine ga_aload_n hx hb dJ17_nextNode_72 rfl (lv_at hl 1 rfl) ?_
              obtain ⟨a_29, ea_29, hw⟩ := hw
              rewrite [ea_29]
              obtain ⟨n_30, f_31, hq, hw⟩ := hw
              refine ga_len hx hb hI (ga_at.h hq) rfl dJ17_nextNode_73 ?_
              refine lv_icmp_ge (tgt := 98) hx hb dJ17_nextNode_74 (by decide) (fun hc_32 => ?_) (fun hc_32 => ?_)
              · have hw := hw.1 hc_32
                refine ga_aload_n hx hb dJ17_nextNode_98 rfl (lv_at hl 2 rfl) ?_
                exact ga_qret (v := v_2) hx hb hr (Or.inl ⟨_, rfl⟩) hlk hI hw (Nat.le_trans (Nat.le_add_right _ _) hbc) (Nat.le_trans (Nat.le_add_right _ _) hbs) dJ17_nextNode_99
              · have hw := hw.2 hc_32
                refine lv_aload_n hx hb dJ17_nextNode_77 rfl (lv_at hl 0 rfl) ?_
                refine ga_aload_n hx hb dJ17_nextNode_78 rfl (lv_at hl 1 rfl) ?_
                refine lv_aload_n hx hb dJ17_nextNode_79 rfl (lv_at hl 0 rfl) ?_
                refine lv_dup hx hb dJ17_nextNode_80 rfl ?_
                obtain ⟨fs_33, v_34, hq, hv, hw⟩ := hw
                refine ga_get (ci := 20) (T := TJ19) (v := .int v_34) hx hb hts hown hI in_J19 rfl 3 (by decide) q600 (fun _ z => z) (ga_at.h hq) hv dJ17_nextNode_81 ?_
                refine lv_dup_x1 hx hb dJ17_nextNode_84 rfl rfl ?_
                refine lv_iconst (v := 1) hx hb dJ17_nextNode_85 (by decide) ?_
                refine lv_iadd hx hb dJ17_nextNode_86 ?_
                obtain ⟨fs_35, hq, hk, hw⟩ := hw
                refine ga_put (ci := 20) (T := TJ19) (v := .int (v_34 + (1 : Int32))) (ty := tyJ19 3) hx hb hts hown hI in_J19 rfl tyJ19 tyJ19_ok nmJ19 3 (by decide) q600 (fun _ z => z) rfl (tyJ19_ok 3 (by decide)) rfl rfl hq hk dJ17_nextNode_87 (fun H locs hI => ?_)
                obtain ⟨h_36, eh_36⟩ : ∃ z, z = ga_set h_26 p0 (ga_O 20 (fs_35.set 3 (.int (v_34 + (1 : Int32))))) := ⟨_, rfl⟩
                rw [← eh_36] at hI
                have hw := hw h_36 eh_36
                obtain ⟨a_37, ea_37, hw⟩ := hw
                rewrite [ea_37]
                obtain ⟨n_38, f_39, hq, hi, hw⟩ := hw
                refine ga_ldq hx hb hI (ga_at.h hq) rfl hi dJ17_nextNode_90 ?_
                obtain ⟨v_40, ev_40⟩ : ∃ z, z = f_39 v_34.toNatClampNeg := ⟨_, rfl⟩
                rw [← ev_40]
                have hw := hw v_40 ev_40
                refine lv_dup_x1 hx hb dJ17_nextNode_91 (ga_rcat _) rfl ?_
                obtain ⟨fs_41, hq, hk, hw⟩ := hw
                refine ga_put (ci := 20) (T := TJ19) (v := va_rf v_40) (ty := tyJ19 0) hx hb hts hown hI in_J19 rfl tyJ19 tyJ19_ok nmJ19 0 (by decide) q597 (fun _ z => z) rfl (tyJ19_ok 0 (by decide)) (ga_nq _ _) (ga_fq _ _) hq hk dJ17_nextNode_92 (fun H locs hI => ?_)
                obtain ⟨h_42, eh_42⟩ : ∃ z, z = ga_set h_36 p0 (ga_O 20 (fs_41.set 0 (va_rf v_40))) := ⟨_, rfl⟩
                rw [← eh_42] at hI
                have hw := hw h_42 eh_42
                refine ga_ifnull (tgt := 68) hx hb dJ17_nextNode_95 (by decide) (fun hc_a_43 => ?_) (fun a_43 hc_a_43 => ?_)
                · have hw := hw.1 hc_a_43
                  exact ih_26 _ H locs cells slots ls (Nat.lt_of_lt_of_le hw.2 (Nat.le_of_lt_succ hn_26)) hw.1 hI hbc hbs (lv_sub hl [0, 1, 2] rfl)
                · have hw := hw.2 a_43 hc_a_43
                  skip
                  refine ga_aload_n hx hb dJ17_nextNode_98 rfl (lv_at hl 2 rfl) ?_
                  exact ga_qret (v := v_2) hx hb hr (Or.inl ⟨_, rfl⟩) hlk hI hw (Nat.le_trans (Nat.le_add_right _ _) hbc) (Nat.le_trans (Nat.le_add_right _ _) hbs) dJ17_nextNode_99
          exact hL_26 _ _ H locs cells slots ls (Nat.lt_succ_self _) h0_26 hI hbc hbs (lv_sub hl [2, 0, 1] rfl)
    · have hw := hw.1 hc_a_11
      exact hw.elim
  · have hw := hw.2 hc_10
    exact hw.elim
theorem hdG_J17_nextNode_K : yJ17_nextNode.cls ≠ "java/lang/invoke/MethodHandle" ∧ yJ17_nextNode.cls ≠ "java/lang/invoke/VarHandle" ∧ (parseMethodDescriptor yJ17_nextNode.desc).map (fun d => d.parameters.length) = some 0 := by decide +kernel
def gw_J19_next (K : ga_K) (p0 : Nat) (h : ga_H) (mc ms : Nat) (post : Option Nat → ga_H → Prop) : Prop :=
  ∃ kc_1 ks_2 : Nat, kc_1 ≤ mc ∧ ks_2 ≤ ms ∧ ∃ fs_3 : List Value, ga_at K h p0 (ga_O 20 fs_3) ∧ gw_J17_nextNode_K K p0 h kc_1 ks_2 (fun (r_5 : Option Nat) (h_4 : ga_H) => ∃ a_6 : Nat, r_5 = some a_6 ∧ ∃ (fs_7 : List Value) (v_8 : Option Nat), h_4 a_6 = some (ga_O 16 fs_7) ∧ fs_7[1]? = some (va_rf v_8) ∧ (post v_8 h_4))
set_option maxHeartbeats 4000000 in
theorem gm_J19_next (l : Launch) (g : ga_G) (p0 : Nat) (h : ga_H) (mc ms : Nat) (post : Option Nat → ga_H → Prop) (hw : gw_J19_next g.2.2 p0 h mc ms post) : Met l yJ19_next (ws_ yJ19_next cJ19_next 1 (some (.object "java/lang/Object"))) ({ frames := 9, cells := mc, slots := ms, locals := 162 } : Room) (va_Pc [.ref p0] (ga_B g h)) (va_Qq post (ga_E g) (ga_A g)) mc ms (ga_A g) := by
  refine ga_met (own := "java/util/HashMap$KeyIterator") (nm := "next") (by decide) rfl rfl (by exact Nat.le_of_ble_eq_true rfl) (fun p e s m below meth c ls hC hI hl => ?_)
  have hl : lv_has ls 1 [(0, .ref p0)] := hl
  generalize ([.ref p0] : List Value).toArray = args at hC ⊢
  obtain ⟨hx, hb, hml, hown, hts, hr, hlk, hnm⟩ := hC
  unfold gw_J19_next at hw
  obtain ⟨H, eH⟩ : ∃ z, z = s.heap := ⟨_, rfl⟩
  obtain ⟨locs, elo⟩ : ∃ z : List Loc, z = [] := ⟨_, rfl⟩
  rw [← eH, ← elo] at hI ⊢
  obtain ⟨cells, slots, hbc, hbs, e0, e1⟩ : ∃ a b : Nat, a + mc ≤ mc ∧ b + ms ≤ ms ∧ a = 0 ∧ b = 0 := ⟨0, 0, by omega, by omega, rfl, rfl⟩
  show W p l e ({ frames := 9, cells := mc, slots := ms, locals := 162 } : Room) s m args below meth c H locs 0 0 (MQ below (va_Qq post (ga_E g) (ga_A g)) args s mc ms (ga_A g)) (F0 m 0 ls [])
  suffices hgoal : W p l e ({ frames := 9, cells := mc, slots := ms, locals := 162 } : Room) s m args below meth c H locs cells slots (MQ below (va_Qq post (ga_E g) (ga_A g)) args s mc ms (ga_A g)) (F0 m 0 ls []) by rw [e0, e1] at hgoal; exact hgoal
  refine lv_aload_n hx hb dJ19_next_0 rfl (lv_at hl 0 rfl) ?_
  obtain ⟨kc_1, ks_2, hk1, hk2, hw⟩ := hw
  obtain ⟨fs_3, hq, hw⟩ := hw
  refine ga_callq (va_runU (As := []) (rest := []) ⟨hx, hb, hml, hown, hts⟩ (gm_J17_nextNode_K l g p0 h kc_1 ks_2 _ hw) (va_cwU 0 hts (lw_app (List.forall_mem_cons.mpr ⟨q824, List.forall_mem_cons.mpr ⟨q825, List.forall_mem_cons.mpr ⟨q826, List.forall_mem_cons.mpr ⟨q815, List.forall_mem_cons.mpr ⟨q123, fun _ h => absurd h List.not_mem_nil⟩⟩⟩⟩⟩) (lw_meth q816)) rfl rfl rfl rfl hdG_J17_nextNode_K ⟨Nat.le_of_ble_eq_true rfl, Nat.le_of_ble_eq_true rfl⟩) (ga_preV (C := "java/util/HashMap$KeyIterator") hI hq rfl rfl) rfl rfl hl.1 rfl (ga_room (Nat.le_of_ble_eq_true rfl)) dJ19_next_1 ⟨Nat.le_trans (Nat.add_le_add_left hk1 _) hbc, Nat.le_trans (Nat.add_le_add_left hk2 _) hbs⟩) hI hbc hbs hk1 hk2 (fun r_5 h_4 H locs cells slots hw hI hbc hbs => ?_)
  obtain ⟨a_6, ea_6, hw⟩ := hw
  rewrite [ea_6]
  obtain ⟨fs_7, v_8, hq, hv, hw⟩ := hw
  refine ga_get (ci := 16) (T := TJ32) (v := va_rf v_8) hx hb hts hown hI in_J32 rfl 1 (by decide) q1502 (fun _ z => z) (ga_at.h hq) hv dJ19_next_4 ?_
  exact ga_qret (v := v_8) hx hb hr (Or.inl ⟨_, rfl⟩) hlk hI hw (Nat.le_trans (Nat.le_add_right _ _) hbc) (Nat.le_trans (Nat.le_add_right _ _) hbs) dJ19_next_7
theorem hdG_J19_next : yJ19_next.cls ≠ "java/lang/invoke/MethodHandle" ∧ yJ19_next.cls ≠ "java/lang/invoke/VarHandle" ∧ (parseMethodDescriptor yJ19_next.desc).map (fun d => d.parameters.length) = some 0 := by decide +kernel
def gw_J34_numberOfLeadingZeros (K : ga_K) (p0 : Int64) (h : ga_H) (post : Int32 → ga_H → Prop) : Prop :=
  ∀ x_1 : Int32, x_1 = ((p0.toUInt64 >>> ((32 : Int32).toInt64.toUInt64 &&& Int64.toUInt64 63)).toInt64).toInt32 → ((¬ x_1 = (0 : Int32) → (gw_J30_numberOfLeadingZeros K x_1 h (fun (r_4 : Int32) (h_3 : ga_H) => post r_4 h_3))) ∧ (x_1 = (0 : Int32) → (gw_J30_numberOfLeadingZeros K p0.toInt32 h (fun (r_6 : Int32) (h_5 : ga_H) => post ((32 : Int32) + r_6) h_5))))
set_option maxHeartbeats 4000000 in
theorem gm_J34_numberOfLeadingZeros (l : Launch) (g : ga_G) (p0 : Int64) (h : ga_H) (post : Int32 → ga_H → Prop) (hw : gw_J34_numberOfLeadingZeros g.2.2 p0 h post) : Met l yJ34_numberOfLeadingZeros (ws_ yJ34_numberOfLeadingZeros cJ34_numberOfLeadingZeros 3 (some .int)) ({ frames := 9, cells := 0, slots := 0, locals := 161 } : Room) (va_Pc [.long p0] (ga_B g h)) (va_Qi post (ga_E g) (ga_A g)) 0 0 (ga_A g) := by
  refine ga_met (own := "java/lang/Long") (nm := "numberOfLeadingZeros") (by decide) rfl rfl (by exact Nat.le_of_ble_eq_true rfl) (fun p e s m below meth c ls hC hI hl => ?_)
  have hl : lv_has ls 3 [(0, .long p0)] := hl
  generalize ([.long p0] : List Value).toArray = args at hC ⊢
  obtain ⟨hx, hb, hml, hown, hts, hr, hlk, hnm⟩ := hC
  unfold gw_J34_numberOfLeadingZeros at hw
  obtain ⟨H, eH⟩ : ∃ z, z = s.heap := ⟨_, rfl⟩
  obtain ⟨locs, elo⟩ : ∃ z : List Loc, z = [] := ⟨_, rfl⟩
  rw [← eH, ← elo] at hI ⊢
  obtain ⟨cells, slots, hbc, hbs, e0, e1⟩ : ∃ a b : Nat, a ≤ 0 ∧ b ≤ 0 ∧ a = 0 ∧ b = 0 := ⟨0, 0, by omega, by omega, rfl, rfl⟩
  show W p l e ({ frames := 9, cells := 0, slots := 0, locals := 161 } : Room) s m args below meth c H locs 0 0 (MQ below (va_Qi post (ga_E g) (ga_A g)) args s 0 0 (ga_A g)) (F0 m 0 ls [])
  suffices hgoal : W p l e ({ frames := 9, cells := 0, slots := 0, locals := 161 } : Room) s m args below meth c H locs cells slots (MQ below (va_Qi post (ga_E g) (ga_A g)) args s 0 0 (ga_A g)) (F0 m 0 ls []) by rw [e0, e1] at hgoal; exact hgoal
  refine lv_lload_n hx hb dJ34_numberOfLeadingZeros_0 rfl (lv_at hl 0 rfl) ?_
  refine lv_bipush (v := 32) hx hb dJ34_numberOfLeadingZeros_1 (by decide) ?_
  refine lv_lushr (v := (p0.toUInt64 >>> ((32 : Int32).toInt64.toUInt64 &&& Int64.toUInt64 63)).toInt64) hx hb dJ34_numberOfLeadingZeros_3 rfl ?_
  refine lv_l2i (v := ((p0.toUInt64 >>> ((32 : Int32).toInt64.toUInt64 &&& Int64.toUInt64 63)).toInt64).toInt32) hx hb dJ34_numberOfLeadingZeros_4 rfl ?_
  refine lv_topi (fun x_1 ex_1 => ?_)
  have hw := hw x_1 ex_1
  refine lv_istore_n (i := 2) (lv' := [(2, .int x_1), (0, .long p0)]) hx hb dJ34_numberOfLeadingZeros_5 rfl hl (by decide) rfl (fun ls hl => ?_)
  refine lv_iload_n hx hb dJ34_numberOfLeadingZeros_6 rfl (lv_at hl 0 rfl) ?_
  refine lv_if_ne (tgt := 21) hx hb dJ34_numberOfLeadingZeros_7 (by decide) (fun hc_2 => ?_) (fun hc_2 => ?_)
  · have hw := hw.1 hc_2
    refine lv_iload_n hx hb dJ34_numberOfLeadingZeros_21 rfl (lv_at hl 0 rfl) ?_
    refine ga_calli (va_runS (As := [.int x_1]) (rest := []) ⟨hx, hb, hml, hown, hts⟩ (gm_J30_numberOfLeadingZeros l g x_1 h _ hw) (va_cwS 1 hts (lw_S q1644 q1468 q136 q1469) rfl rfl rfl hdG_J30_numberOfLeadingZeros ⟨Nat.le_of_ble_eq_true rfl, Nat.le_of_ble_eq_true rfl⟩) (ga_preS hI rfl) rfl rfl hl.1 rfl (ga_room (Nat.le_of_ble_eq_true rfl)) dJ34_numberOfLeadingZeros_22 ⟨hbc, hbs⟩) hI (bc := 0) (bs := 0) hbc hbs (Nat.zero_le _) (Nat.zero_le _) (fun r_4 h_3 H locs cells slots hw hI hbc hbs => ?_)
    exact ga_iret hx hb hr rfl hlk hI hw hbc hbs dJ34_numberOfLeadingZeros_25
  · have hw := hw.2 hc_2
    refine lv_bipush (v := 32) hx hb dJ34_numberOfLeadingZeros_10 (by decide) ?_
    refine lv_lload_n hx hb dJ34_numberOfLeadingZeros_12 rfl (lv_at hl 1 rfl) ?_
    refine lv_l2i (v := p0.toInt32) hx hb dJ34_numberOfLeadingZeros_13 rfl ?_
    refine ga_calli (va_runS (As := [.int p0.toInt32]) (rest := [.int (32 : Int32)]) ⟨hx, hb, hml, hown, hts⟩ (gm_J30_numberOfLeadingZeros l g p0.toInt32 h _ hw) (va_cwS 1 hts (lw_S q1644 q1468 q136 q1469) rfl rfl rfl hdG_J30_numberOfLeadingZeros ⟨Nat.le_of_ble_eq_true rfl, Nat.le_of_ble_eq_true rfl⟩) (ga_preS hI rfl) rfl rfl hl.1 rfl (ga_room (Nat.le_of_ble_eq_true rfl)) dJ34_numberOfLeadingZeros_14 ⟨hbc, hbs⟩) hI (bc := 0) (bs := 0) hbc hbs (Nat.zero_le _) (Nat.zero_le _) (fun r_6 h_5 H locs cells slots hw hI hbc hbs => ?_)
    refine lv_iadd hx hb dJ34_numberOfLeadingZeros_17 ?_
    refine lv_goto (tgt := 25) hx hb dJ34_numberOfLeadingZeros_18 (by decide) ?_
    exact ga_iret hx hb hr rfl hlk hI hw hbc hbs dJ34_numberOfLeadingZeros_25
theorem hdG_J34_numberOfLeadingZeros : yJ34_numberOfLeadingZeros.cls ≠ "java/lang/invoke/MethodHandle" ∧ yJ34_numberOfLeadingZeros.cls ≠ "java/lang/invoke/VarHandle" ∧ (parseMethodDescriptor yJ34_numberOfLeadingZeros.desc).map (fun d => d.parameters.length) = some 1 := by decide +kernel
def gw_J30_numberOfTrailingZeros_62 (K : ga_K) (post : Int32 → ga_H → Prop) (v0 : Int32) (v1 : Int32) (h : ga_H) : Prop :=
  (v0 ≤ (4 : Int32) → (post (v1 + ((v0.toUInt32 >>> ((1 : Int32).toUInt32 &&& Int32.toUInt32 31)).toInt32)) h)) ∧ (¬ v0 ≤ (4 : Int32) → (∀ x_6 : Int32, x_6 = (v0.toUInt32 >>> ((2 : Int32).toUInt32 &&& Int32.toUInt32 31)).toInt32 → (post ((v1 + (2 : Int32)) + ((x_6.toUInt32 >>> ((1 : Int32).toUInt32 &&& Int32.toUInt32 31)).toInt32)) h)))
set_option maxHeartbeats 4000000 in
theorem gj_J30_numberOfTrailingZeros_62 {p : Program} {l : Launch} {e : Env} {s : State} {m : MethodId} {args : Array Value} {below : List Frame} {meth : Method} {c : Code} {H : Heap} {locs : List Loc} {cells slots : Nat} {ls : Array Slot} (g : ga_G) (post : Int32 → ga_H → Prop) (v0 : Int32) (v1 : Int32) (h : ga_H) (hC : ga_Cx p s m args meth c cJ30_numberOfTrailingZeros 2 (some .int) "java/lang/Integer" "numberOfTrailingZeros") (hw : gw_J30_numberOfTrailingZeros_62 g.2.2 post v0 v1 h) (hI : ga_I g h s H locs) (hbc : cells ≤ 0) (hbs : slots ≤ 0) (hl : lv_has ls 2 [(0, .int v0), (1, .int v1)]) : W p l e ({ frames := 8, cells := 0, slots := 0, locals := 140 } : Room) s m args below meth c H locs cells slots (MQ below (va_Qi post (ga_E g) (ga_A g)) args s 0 0 (ga_A g)) (F0 m 62 ls []) := by
  obtain ⟨hx, hb, hml, hown, hts, hr, hlk, hnm⟩ := hC
  unfold gw_J30_numberOfTrailingZeros_62 at hw
  refine lv_iload_n hx hb dJ30_numberOfTrailingZeros_62 rfl (lv_at hl 0 rfl) ?_
  refine lv_iconst (v := 4) hx hb dJ30_numberOfTrailingZeros_63 (by decide) ?_
  refine lv_icmp_le (tgt := 74) hx hb dJ30_numberOfTrailingZeros_64 (by decide) (fun hc_5 => ?_) (fun hc_5 => ?_)
  · have hw := hw.1 hc_5
    refine lv_iload_n hx hb dJ30_numberOfTrailingZeros_74 rfl (lv_at hl 1 rfl) ?_
    refine lv_iload_n hx hb dJ30_numberOfTrailingZeros_75 rfl (lv_at hl 0 rfl) ?_
    refine lv_iconst (v := 1) hx hb dJ30_numberOfTrailingZeros_76 (by decide) ?_
    refine lv_iushr (v := (v0.toUInt32 >>> ((1 : Int32).toUInt32 &&& Int32.toUInt32 31)).toInt32) hx hb dJ30_numberOfTrailingZeros_77 rfl ?_
    refine lv_iadd hx hb dJ30_numberOfTrailingZeros_78 ?_
    exact ga_iret hx hb hr rfl hlk hI hw hbc hbs dJ30_numberOfTrailingZeros_79
  · have hw := hw.2 hc_5
    refine lv_iinc (v := v1 + (2 : Int32)) (lv' := [(1, .int (v1 + (2 : Int32))), (0, .int v0)]) hx hb dJ30_numberOfTrailingZeros_67 hl (k := 1) rfl rfl (by decide) rfl (fun ls hl => ?_)
    refine lv_iload_n hx hb dJ30_numberOfTrailingZeros_70 rfl (lv_at hl 1 rfl) ?_
    refine lv_iconst (v := 2) hx hb dJ30_numberOfTrailingZeros_71 (by decide) ?_
    refine lv_iushr (v := (v0.toUInt32 >>> ((2 : Int32).toUInt32 &&& Int32.toUInt32 31)).toInt32) hx hb dJ30_numberOfTrailingZeros_72 rfl ?_
    refine lv_topi (fun x_6 ex_6 => ?_)
    have hw := hw x_6 ex_6
    refine lv_istore_n (i := 0) (lv' := [(0, .int x_6), (1, .int (v1 + (2 : Int32)))]) hx hb dJ30_numberOfTrailingZeros_73 rfl hl (by decide) rfl (fun ls hl => ?_)
    refine lv_iload_n hx hb dJ30_numberOfTrailingZeros_74 rfl (lv_at hl 1 rfl) ?_
    refine lv_iload_n hx hb dJ30_numberOfTrailingZeros_75 rfl (lv_at hl 0 rfl) ?_
    refine lv_iconst (v := 1) hx hb dJ30_numberOfTrailingZeros_76 (by decide) ?_
    refine lv_iushr (v := (x_6.toUInt32 >>> ((1 : Int32).toUInt32 &&& Int32.toUInt32 31)).toInt32) hx hb dJ30_numberOfTrailingZeros_77 rfl ?_
    refine lv_iadd hx hb dJ30_numberOfTrailingZeros_78 ?_
    exact ga_iret hx hb hr rfl hlk hI hw hbc hbs dJ30_numberOfTrailingZeros_79
def gw_J30_numberOfTrailingZeros_49 (K : ga_K) (post : Int32 → ga_H → Prop) (v0 : Int32) (v1 : Int32) (h : ga_H) : Prop :=
  (v0 ≤ (16 : Int32) → (gw_J30_numberOfTrailingZeros_62 K post v0 v1 h)) ∧ (¬ v0 ≤ (16 : Int32) → (∀ x_7 : Int32, x_7 = (v0.toUInt32 >>> ((4 : Int32).toUInt32 &&& Int32.toUInt32 31)).toInt32 → (gw_J30_numberOfTrailingZeros_62 K post x_7 (v1 + (4 : Int32)) h)))
set_option maxHeartbeats 4000000 in
theorem gj_J30_numberOfTrailingZeros_49 {p : Program} {l : Launch} {e : Env} {s : State} {m : MethodId} {args : Array Value} {below : List Frame} {meth : Method} {c : Code} {H : Heap} {locs : List Loc} {cells slots : Nat} {ls : Array Slot} (g : ga_G) (post : Int32 → ga_H → Prop) (v0 : Int32) (v1 : Int32) (h : ga_H) (hC : ga_Cx p s m args meth c cJ30_numberOfTrailingZeros 2 (some .int) "java/lang/Integer" "numberOfTrailingZeros") (hw : gw_J30_numberOfTrailingZeros_49 g.2.2 post v0 v1 h) (hI : ga_I g h s H locs) (hbc : cells ≤ 0) (hbs : slots ≤ 0) (hl : lv_has ls 2 [(0, .int v0), (1, .int v1)]) : W p l e ({ frames := 8, cells := 0, slots := 0, locals := 140 } : Room) s m args below meth c H locs cells slots (MQ below (va_Qi post (ga_E g) (ga_A g)) args s 0 0 (ga_A g)) (F0 m 49 ls []) := by
  obtain ⟨hx, hb, hml, hown, hts, hr, hlk, hnm⟩ := hC
  unfold gw_J30_numberOfTrailingZeros_49 at hw
  refine lv_iload_n hx hb dJ30_numberOfTrailingZeros_49 rfl (lv_at hl 0 rfl) ?_
  refine lv_bipush (v := 16) hx hb dJ30_numberOfTrailingZeros_50 (by decide) ?_
  refine lv_icmp_le (tgt := 62) hx hb dJ30_numberOfTrailingZeros_52 (by decide) (fun hc_4 => ?_) (fun hc_4 => ?_)
  · have hw := hw.1 hc_4
    exact gj_J30_numberOfTrailingZeros_62 g post v0 v1 h ⟨hx, hb, hml, hown, hts, hr, hlk, hnm⟩ hw hI hbc hbs (lv_sub hl [0, 1] rfl)
  · have hw := hw.2 hc_4
    refine lv_iinc (v := v1 + (4 : Int32)) (lv' := [(1, .int (v1 + (4 : Int32))), (0, .int v0)]) hx hb dJ30_numberOfTrailingZeros_55 hl (k := 1) rfl rfl (by decide) rfl (fun ls hl => ?_)
    refine lv_iload_n hx hb dJ30_numberOfTrailingZeros_58 rfl (lv_at hl 1 rfl) ?_
    refine lv_iconst (v := 4) hx hb dJ30_numberOfTrailingZeros_59 (by decide) ?_
    refine lv_iushr (v := (v0.toUInt32 >>> ((4 : Int32).toUInt32 &&& Int32.toUInt32 31)).toInt32) hx hb dJ30_numberOfTrailingZeros_60 rfl ?_
    refine lv_topi (fun x_7 ex_7 => ?_)
    have hw := hw x_7 ex_7
    refine lv_istore_n (i := 0) (lv' := [(0, .int x_7), (1, .int (v1 + (4 : Int32)))]) hx hb dJ30_numberOfTrailingZeros_61 rfl hl (by decide) rfl (fun ls hl => ?_)
    exact gj_J30_numberOfTrailingZeros_62 g post x_7 (v1 + (4 : Int32)) h ⟨hx, hb, hml, hown, hts, hr, hlk, hnm⟩ hw hI hbc hbs (lv_sub hl [0, 1] rfl)
def gw_J30_numberOfTrailingZeros_34 (K : ga_K) (post : Int32 → ga_H → Prop) (v0 : Int32) (v1 : Int32) (h : ga_H) : Prop :=
  (v0 ≤ (256 : Int32) → (gw_J30_numberOfTrailingZeros_49 K post v0 v1 h)) ∧ (¬ v0 ≤ (256 : Int32) → (∀ x_8 : Int32, x_8 = (v0.toUInt32 >>> ((8 : Int32).toUInt32 &&& Int32.toUInt32 31)).toInt32 → (gw_J30_numberOfTrailingZeros_49 K post x_8 (v1 + (8 : Int32)) h)))
set_option maxHeartbeats 4000000 in
theorem gj_J30_numberOfTrailingZeros_34 {p : Program} {l : Launch} {e : Env} {s : State} {m : MethodId} {args : Array Value} {below : List Frame} {meth : Method} {c : Code} {H : Heap} {locs : List Loc} {cells slots : Nat} {ls : Array Slot} (g : ga_G) (post : Int32 → ga_H → Prop) (v0 : Int32) (v1 : Int32) (h : ga_H) (hC : ga_Cx p s m args meth c cJ30_numberOfTrailingZeros 2 (some .int) "java/lang/Integer" "numberOfTrailingZeros") (hw : gw_J30_numberOfTrailingZeros_34 g.2.2 post v0 v1 h) (hI : ga_I g h s H locs) (hbc : cells ≤ 0) (hbs : slots ≤ 0) (hl : lv_has ls 2 [(0, .int v0), (1, .int v1)]) : W p l e ({ frames := 8, cells := 0, slots := 0, locals := 140 } : Room) s m args below meth c H locs cells slots (MQ below (va_Qi post (ga_E g) (ga_A g)) args s 0 0 (ga_A g)) (F0 m 34 ls []) := by
  obtain ⟨hx, hb, hml, hown, hts, hr, hlk, hnm⟩ := hC
  unfold gw_J30_numberOfTrailingZeros_34 at hw
  refine lv_iload_n hx hb dJ30_numberOfTrailingZeros_34 rfl (lv_at hl 0 rfl) ?_
  refine lv_sipush (v := 256) hx hb dJ30_numberOfTrailingZeros_35 (by decide) ?_
  refine lv_icmp_le (tgt := 49) hx hb dJ30_numberOfTrailingZeros_38 (by decide) (fun hc_3 => ?_) (fun hc_3 => ?_)
  · have hw := hw.1 hc_3
    exact gj_J30_numberOfTrailingZeros_49 g post v0 v1 h ⟨hx, hb, hml, hown, hts, hr, hlk, hnm⟩ hw hI hbc hbs (lv_sub hl [0, 1] rfl)
  · have hw := hw.2 hc_3
    refine lv_iinc (v := v1 + (8 : Int32)) (lv' := [(1, .int (v1 + (8 : Int32))), (0, .int v0)]) hx hb dJ30_numberOfTrailingZeros_41 hl (k := 1) rfl rfl (by decide) rfl (fun ls hl => ?_)
    refine lv_iload_n hx hb dJ30_numberOfTrailingZeros_44 rfl (lv_at hl 1 rfl) ?_
    refine lv_bipush (v := 8) hx hb dJ30_numberOfTrailingZeros_45 (by decide) ?_
    refine lv_iushr (v := (v0.toUInt32 >>> ((8 : Int32).toUInt32 &&& Int32.toUInt32 31)).toInt32) hx hb dJ30_numberOfTrailingZeros_47 rfl ?_
    refine lv_topi (fun x_8 ex_8 => ?_)
    have hw := hw x_8 ex_8
    refine lv_istore_n (i := 0) (lv' := [(0, .int x_8), (1, .int (v1 + (8 : Int32)))]) hx hb dJ30_numberOfTrailingZeros_48 rfl hl (by decide) rfl (fun ls hl => ?_)
    exact gj_J30_numberOfTrailingZeros_49 g post x_8 (v1 + (8 : Int32)) h ⟨hx, hb, hml, hown, hts, hr, hlk, hnm⟩ hw hI hbc hbs (lv_sub hl [0, 1] rfl)
def gw_J30_numberOfTrailingZeros (K : ga_K) (p0 : Int32) (h : ga_H) (post : Int32 → ga_H → Prop) : Prop :=
  ((0 : Int32) < (p0 ^^^ (-1 : Int32)) &&& (p0 - (1 : Int32)) → (((p0 ^^^ (-1 : Int32)) &&& (p0 - (1 : Int32)) ≤ (65536 : Int32) → (gw_J30_numberOfTrailingZeros_34 K post ((p0 ^^^ (-1 : Int32)) &&& (p0 - (1 : Int32))) (1 : Int32) h)) ∧ (¬ (p0 ^^^ (-1 : Int32)) &&& (p0 - (1 : Int32)) ≤ (65536 : Int32) → (∀ x_9 : Int32, x_9 = (((p0 ^^^ (-1 : Int32)) &&& (p0 - (1 : Int32))).toUInt32 >>> ((16 : Int32).toUInt32 &&& Int32.toUInt32 31)).toInt32 → (gw_J30_numberOfTrailingZeros_34 K post x_9 ((1 : Int32) + (16 : Int32)) h))))) ∧ (¬ (0 : Int32) < (p0 ^^^ (-1 : Int32)) &&& (p0 - (1 : Int32)) → (post (((p0 ^^^ (-1 : Int32)) &&& (p0 - (1 : Int32))) &&& (32 : Int32)) h))
set_option maxHeartbeats 4000000 in
theorem gm_J30_numberOfTrailingZeros (l : Launch) (g : ga_G) (p0 : Int32) (h : ga_H) (post : Int32 → ga_H → Prop) (hw : gw_J30_numberOfTrailingZeros g.2.2 p0 h post) : Met l yJ30_numberOfTrailingZeros (ws_ yJ30_numberOfTrailingZeros cJ30_numberOfTrailingZeros 2 (some .int)) ({ frames := 8, cells := 0, slots := 0, locals := 140 } : Room) (va_Pc [.int p0] (ga_B g h)) (va_Qi post (ga_E g) (ga_A g)) 0 0 (ga_A g) := by
  refine ga_met (own := "java/lang/Integer") (nm := "numberOfTrailingZeros") (by decide) rfl rfl (by exact Nat.le_of_ble_eq_true rfl) (fun p e s m below meth c ls hC hI hl => ?_)
  have hl : lv_has ls 2 [(0, .int p0)] := hl
  generalize ([.int p0] : List Value).toArray = args at hC ⊢
  obtain ⟨hx, hb, hml, hown, hts, hr, hlk, hnm⟩ := hC
  unfold gw_J30_numberOfTrailingZeros at hw
  obtain ⟨H, eH⟩ : ∃ z, z = s.heap := ⟨_, rfl⟩
  obtain ⟨locs, elo⟩ : ∃ z : List Loc, z = [] := ⟨_, rfl⟩
  rw [← eH, ← elo] at hI ⊢
  obtain ⟨cells, slots, hbc, hbs, e0, e1⟩ : ∃ a b : Nat, a ≤ 0 ∧ b ≤ 0 ∧ a = 0 ∧ b = 0 := ⟨0, 0, by omega, by omega, rfl, rfl⟩
  show W p l e ({ frames := 8, cells := 0, slots := 0, locals := 140 } : Room) s m args below meth c H locs 0 0 (MQ below (va_Qi post (ga_E g) (ga_A g)) args s 0 0 (ga_A g)) (F0 m 0 ls [])
  suffices hgoal : W p l e ({ frames := 8, cells := 0, slots := 0, locals := 140 } : Room) s m args below meth c H locs cells slots (MQ below (va_Qi post (ga_E g) (ga_A g)) args s 0 0 (ga_A g)) (F0 m 0 ls []) by rw [e0, e1] at hgoal; exact hgoal
  refine lv_iload_n hx hb dJ30_numberOfTrailingZeros_0 rfl (lv_at hl 0 rfl) ?_
  refine lv_iconst (v := -1) hx hb dJ30_numberOfTrailingZeros_1 (by decide) ?_
  refine lv_ixor hx hb dJ30_numberOfTrailingZeros_2 ?_
  refine lv_iload_n hx hb dJ30_numberOfTrailingZeros_3 rfl (lv_at hl 0 rfl) ?_
  refine lv_iconst (v := 1) hx hb dJ30_numberOfTrailingZeros_4 (by decide) ?_
  refine lv_isub hx hb dJ30_numberOfTrailingZeros_5 ?_
  refine lv_iand hx hb dJ30_numberOfTrailingZeros_6 ?_
  refine lv_istore_n (i := 0) (lv' := [(0, .int ((p0 ^^^ (-1 : Int32)) &&& (p0 - (1 : Int32))))]) hx hb dJ30_numberOfTrailingZeros_7 rfl hl (by decide) rfl (fun ls hl => ?_)
  refine lv_iload_n hx hb dJ30_numberOfTrailingZeros_8 rfl (lv_at hl 0 rfl) ?_
  refine lv_if_gt (tgt := 17) hx hb dJ30_numberOfTrailingZeros_9 (by decide) (fun hc_1 => ?_) (fun hc_1 => ?_)
  · have hw := hw.1 hc_1
    refine lv_iconst (v := 1) hx hb dJ30_numberOfTrailingZeros_17 (by decide) ?_
    refine lv_istore_n (i := 1) (lv' := [(1, .int (1 : Int32)), (0, .int ((p0 ^^^ (-1 : Int32)) &&& (p0 - (1 : Int32))))]) hx hb dJ30_numberOfTrailingZeros_18 rfl hl (by decide) rfl (fun ls hl => ?_)
    refine lv_iload_n hx hb dJ30_numberOfTrailingZeros_19 rfl (lv_at hl 1 rfl) ?_
    refine lv_ldcw (v := 65536) hx hb hown (hts _ q1235) dJ30_numberOfTrailingZeros_20 ?_
    refine lv_icmp_le (tgt := 34) hx hb dJ30_numberOfTrailingZeros_23 (by decide) (fun hc_2 => ?_) (fun hc_2 => ?_)
    · have hw := hw.1 hc_2
      exact gj_J30_numberOfTrailingZeros_34 g post ((p0 ^^^ (-1 : Int32)) &&& (p0 - (1 : Int32))) (1 : Int32) h ⟨hx, hb, hml, hown, hts, hr, hlk, hnm⟩ hw hI hbc hbs (lv_sub hl [1, 0] rfl)
    · have hw := hw.2 hc_2
      refine lv_iinc (v := (1 : Int32) + (16 : Int32)) (lv' := [(1, .int ((1 : Int32) + (16 : Int32))), (0, .int ((p0 ^^^ (-1 : Int32)) &&& (p0 - (1 : Int32))))]) hx hb dJ30_numberOfTrailingZeros_26 hl (k := 0) rfl rfl (by decide) rfl (fun ls hl => ?_)
      refine lv_iload_n hx hb dJ30_numberOfTrailingZeros_29 rfl (lv_at hl 1 rfl) ?_
      refine lv_bipush (v := 16) hx hb dJ30_numberOfTrailingZeros_30 (by decide) ?_
      refine lv_iushr (v := (((p0 ^^^ (-1 : Int32)) &&& (p0 - (1 : Int32))).toUInt32 >>> ((16 : Int32).toUInt32 &&& Int32.toUInt32 31)).toInt32) hx hb dJ30_numberOfTrailingZeros_32 rfl ?_
      refine lv_topi (fun x_9 ex_9 => ?_)
      have hw := hw x_9 ex_9
      refine lv_istore_n (i := 0) (lv' := [(0, .int x_9), (1, .int ((1 : Int32) + (16 : Int32)))]) hx hb dJ30_numberOfTrailingZeros_33 rfl hl (by decide) rfl (fun ls hl => ?_)
      exact gj_J30_numberOfTrailingZeros_34 g post x_9 ((1 : Int32) + (16 : Int32)) h ⟨hx, hb, hml, hown, hts, hr, hlk, hnm⟩ hw hI hbc hbs (lv_sub hl [0, 1] rfl)
  · have hw := hw.2 hc_1
    refine lv_iload_n hx hb dJ30_numberOfTrailingZeros_12 rfl (lv_at hl 0 rfl) ?_
    refine lv_bipush (v := 32) hx hb dJ30_numberOfTrailingZeros_13 (by decide) ?_
    refine lv_iand hx hb dJ30_numberOfTrailingZeros_15 ?_
    exact ga_iret hx hb hr rfl hlk hI hw hbc hbs dJ30_numberOfTrailingZeros_16
theorem hdG_J30_numberOfTrailingZeros : yJ30_numberOfTrailingZeros.cls ≠ "java/lang/invoke/MethodHandle" ∧ yJ30_numberOfTrailingZeros.cls ≠ "java/lang/invoke/VarHandle" ∧ (parseMethodDescriptor yJ30_numberOfTrailingZeros.desc).map (fun d => d.parameters.length) = some 1 := by decide +kernel
def gw_J34_numberOfTrailingZeros (K : ga_K) (p0 : Int64) (h : ga_H) (post : Int32 → ga_H → Prop) : Prop :=
  (¬ p0.toInt32 = (0 : Int32) → (gw_J30_numberOfTrailingZeros K p0.toInt32 h (fun (r_3 : Int32) (h_2 : ga_H) => post r_3 h_2))) ∧ (p0.toInt32 = (0 : Int32) → (gw_J30_numberOfTrailingZeros K (((p0.toUInt64 >>> ((32 : Int32).toInt64.toUInt64 &&& Int64.toUInt64 63)).toInt64).toInt32) h (fun (r_5 : Int32) (h_4 : ga_H) => post ((32 : Int32) + r_5) h_4)))
set_option maxHeartbeats 4000000 in
theorem gm_J34_numberOfTrailingZeros (l : Launch) (g : ga_G) (p0 : Int64) (h : ga_H) (post : Int32 → ga_H → Prop) (hw : gw_J34_numberOfTrailingZeros g.2.2 p0 h post) : Met l yJ34_numberOfTrailingZeros (ws_ yJ34_numberOfTrailingZeros cJ34_numberOfTrailingZeros 3 (some .int)) ({ frames := 9, cells := 0, slots := 0, locals := 161 } : Room) (va_Pc [.long p0] (ga_B g h)) (va_Qi post (ga_E g) (ga_A g)) 0 0 (ga_A g) := by
  refine ga_met (own := "java/lang/Long") (nm := "numberOfTrailingZeros") (by decide) rfl rfl (by exact Nat.le_of_ble_eq_true rfl) (fun p e s m below meth c ls hC hI hl => ?_)
  have hl : lv_has ls 3 [(0, .long p0)] := hl
  generalize ([.long p0] : List Value).toArray = args at hC ⊢
  obtain ⟨hx, hb, hml, hown, hts, hr, hlk, hnm⟩ := hC
  unfold gw_J34_numberOfTrailingZeros at hw
  obtain ⟨H, eH⟩ : ∃ z, z = s.heap := ⟨_, rfl⟩
  obtain ⟨locs, elo⟩ : ∃ z : List Loc, z = [] := ⟨_, rfl⟩
  rw [← eH, ← elo] at hI ⊢
  obtain ⟨cells, slots, hbc, hbs, e0, e1⟩ : ∃ a b : Nat, a ≤ 0 ∧ b ≤ 0 ∧ a = 0 ∧ b = 0 := ⟨0, 0, by omega, by omega, rfl, rfl⟩
  show W p l e ({ frames := 9, cells := 0, slots := 0, locals := 161 } : Room) s m args below meth c H locs 0 0 (MQ below (va_Qi post (ga_E g) (ga_A g)) args s 0 0 (ga_A g)) (F0 m 0 ls [])
  suffices hgoal : W p l e ({ frames := 9, cells := 0, slots := 0, locals := 161 } : Room) s m args below meth c H locs cells slots (MQ below (va_Qi post (ga_E g) (ga_A g)) args s 0 0 (ga_A g)) (F0 m 0 ls []) by rw [e0, e1] at hgoal; exact hgoal
  refine lv_lload_n hx hb dJ34_numberOfTrailingZeros_0 rfl (lv_at hl 0 rfl) ?_
  refine lv_l2i (v := p0.toInt32) hx hb dJ34_numberOfTrailingZeros_1 rfl ?_
  refine lv_istore_n (i := 2) (lv' := [(2, .int p0.toInt32), (0, .long p0)]) hx hb dJ34_numberOfTrailingZeros_2 rfl hl (by decide) rfl (fun ls hl => ?_)
  refine lv_iload_n hx hb dJ34_numberOfTrailingZeros_3 rfl (lv_at hl 0 rfl) ?_
  refine lv_if_ne (tgt := 21) hx hb dJ34_numberOfTrailingZeros_4 (by decide) (fun hc_1 => ?_) (fun hc_1 => ?_)
  · have hw := hw.1 hc_1
    refine lv_iload_n hx hb dJ34_numberOfTrailingZeros_21 rfl (lv_at hl 0 rfl) ?_
    refine ga_calli (va_runS (As := [.int p0.toInt32]) (rest := []) ⟨hx, hb, hml, hown, hts⟩ (gm_J30_numberOfTrailingZeros l g p0.toInt32 h _ hw) (va_cwS 1 hts (lw_S q1232 q1233 q136 q1234) rfl rfl rfl hdG_J30_numberOfTrailingZeros ⟨Nat.le_of_ble_eq_true rfl, Nat.le_of_ble_eq_true rfl⟩) (ga_preS hI rfl) rfl rfl hl.1 rfl (ga_room (Nat.le_of_ble_eq_true rfl)) dJ34_numberOfTrailingZeros_22 ⟨hbc, hbs⟩) hI (bc := 0) (bs := 0) hbc hbs (Nat.zero_le _) (Nat.zero_le _) (fun r_3 h_2 H locs cells slots hw hI hbc hbs => ?_)
    exact ga_iret hx hb hr rfl hlk hI hw hbc hbs dJ34_numberOfTrailingZeros_25
  · have hw := hw.2 hc_1
    refine lv_bipush (v := 32) hx hb dJ34_numberOfTrailingZeros_7 (by decide) ?_
    refine lv_lload_n hx hb dJ34_numberOfTrailingZeros_9 rfl (lv_at hl 1 rfl) ?_
    refine lv_bipush (v := 32) hx hb dJ34_numberOfTrailingZeros_10 (by decide) ?_
    refine lv_lushr (v := (p0.toUInt64 >>> ((32 : Int32).toInt64.toUInt64 &&& Int64.toUInt64 63)).toInt64) hx hb dJ34_numberOfTrailingZeros_12 rfl ?_
    refine lv_l2i (v := ((p0.toUInt64 >>> ((32 : Int32).toInt64.toUInt64 &&& Int64.toUInt64 63)).toInt64).toInt32) hx hb dJ34_numberOfTrailingZeros_13 rfl ?_
    refine ga_calli (va_runS (As := [.int (((p0.toUInt64 >>> ((32 : Int32).toInt64.toUInt64 &&& Int64.toUInt64 63)).toInt64).toInt32)]) (rest := [.int (32 : Int32)]) ⟨hx, hb, hml, hown, hts⟩ (gm_J30_numberOfTrailingZeros l g (((p0.toUInt64 >>> ((32 : Int32).toInt64.toUInt64 &&& Int64.toUInt64 63)).toInt64).toInt32) h _ hw) (va_cwS 1 hts (lw_S q1232 q1233 q136 q1234) rfl rfl rfl hdG_J30_numberOfTrailingZeros ⟨Nat.le_of_ble_eq_true rfl, Nat.le_of_ble_eq_true rfl⟩) (ga_preS hI rfl) rfl rfl hl.1 rfl (ga_room (Nat.le_of_ble_eq_true rfl)) dJ34_numberOfTrailingZeros_14 ⟨hbc, hbs⟩) hI (bc := 0) (bs := 0) hbc hbs (Nat.zero_le _) (Nat.zero_le _) (fun r_5 h_4 H locs cells slots hw hI hbc hbs => ?_)
    refine lv_iadd hx hb dJ34_numberOfTrailingZeros_17 ?_
    refine lv_goto (tgt := 25) hx hb dJ34_numberOfTrailingZeros_18 (by decide) ?_
    exact ga_iret hx hb hr rfl hlk hI hw hbc hbs dJ34_numberOfTrailingZeros_25
theorem hdG_J34_numberOfTrailingZeros : yJ34_numberOfTrailingZeros.cls ≠ "java/lang/invoke/MethodHandle" ∧ yJ34_numberOfTrailingZeros.cls ≠ "java/lang/invoke/VarHandle" ∧ (parseMethodDescriptor yJ34_numberOfTrailingZeros.desc).map (fun d => d.parameters.length) = some 1 := by decide +kernel
def gw_J27_vectorizedMismatch (K : ga_K) (p0 : Option Nat) (p1 : Int64) (p3 : Option Nat) (p4 : Int64) (p6 : Int32) (p7 : Int32) (h : ga_H) (post : Int32 → ga_H → Prop) : Prop :=
  False
set_option maxHeartbeats 4000000 in
theorem gm_J27_vectorizedMismatch (l : Launch) (g : ga_G) (p0 : Option Nat) (p1 : Int64) (p3 : Option Nat) (p4 : Int64) (p6 : Int32) (p7 : Int32) (h : ga_H) (post : Int32 → ga_H → Prop) (hw : gw_J27_vectorizedMismatch g.2.2 p0 p1 p3 p4 p6 p7 h post) : Met l yJ27_vectorizedMismatch (ws_ yJ27_vectorizedMismatch cJ27_vectorizedMismatch 19 (some .int)) ({ frames := 10, cells := 0, slots := 0, locals := 183 } : Room) (va_Pc [va_rf p0, .long p1, va_rf p3, .long p4, .int p6, .int p7] (ga_B g h)) (va_Qi post (ga_E g) (ga_A g)) 0 0 (ga_A g) := by
  refine ga_met (own := "jdk/internal/util/ArraysSupport") (nm := "vectorizedMismatch") (by decide) rfl rfl (by cases p0 <;> cases p3 <;> exact Nat.le_of_ble_eq_true rfl) (fun p e s m below meth c ls hC hI hl => ?_)
  have hl : lv_has ls 19 [(0, va_rf p0), (1, .long p1), (3, va_rf p3), (4, .long p4), (6, .int p6), (7, .int p7)] := (by cases p0 <;> cases p3 <;> exact hl)
  generalize ([va_rf p0, .long p1, va_rf p3, .long p4, .int p6, .int p7] : List Value).toArray = args at hC ⊢
  obtain ⟨hx, hb, hml, hown, hts, hr, hlk, hnm⟩ := hC
  unfold gw_J27_vectorizedMismatch at hw
  obtain ⟨H, eH⟩ : ∃ z, z = s.heap := ⟨_, rfl⟩
  obtain ⟨locs, elo⟩ : ∃ z : List Loc, z = [] := ⟨_, rfl⟩
  rw [← eH, ← elo] at hI ⊢
  obtain ⟨cells, slots, hbc, hbs, e0, e1⟩ : ∃ a b : Nat, a ≤ 0 ∧ b ≤ 0 ∧ a = 0 ∧ b = 0 := ⟨0, 0, by omega, by omega, rfl, rfl⟩
  show W p l e ({ frames := 10, cells := 0, slots := 0, locals := 183 } : Room) s m args below meth c H locs 0 0 (MQ below (va_Qi post (ga_E g) (ga_A g)) args s 0 0 (ga_A g)) (F0 m 0 ls [])
  suffices hgoal : W p l e ({ frames := 10, cells := 0, slots := 0, locals := 183 } : Room) s m args below meth c H locs cells slots (MQ below (va_Qi post (ga_E g) (ga_A g)) args s 0 0 (ga_A g)) (F0 m 0 ls []) by rw [e0, e1] at hgoal; exact hgoal
  exact hw.elim
theorem hdG_J27_vectorizedMismatch : yJ27_vectorizedMismatch.cls ≠ "java/lang/invoke/MethodHandle" ∧ yJ27_vectorizedMismatch.cls ≠ "java/lang/invoke/VarHandle" ∧ (parseMethodDescriptor yJ27_vectorizedMismatch.desc).map (fun d => d.parameters.length) = some 6 := by decide +kernel
def gw_J27_mismatch_2 (K : ga_K) (p0 : Option Nat) (p1 : Int32) (p2 : Option Nat) (p3 : Int32) (p4 : Int32) (h : ga_H) (post : Int32 → ga_H → Prop) : Prop :=
  (p4 ≤ (7 : Int32) → (∃ (In_2 : Int32 → Prop) (mu_2 : Int32 → Nat), In_2 (0 : Int32) ∧ ∀ (x5_2 : Int32), In_2 x5_2 → ((p4 ≤ x5_2 → (post (-1 : Int32) h)) ∧ (¬ p4 ≤ x5_2 → (∃ a_4 : Nat, p0 = some a_4 ∧ ∃ (n_5 : Nat) (f_6 : Nat → Int32), ga_at K h a_4 (ga_Ab n_5 f_6) ∧ vp_in (p1 + x5_2) n_5 ∧ (∃ a_7 : Nat, p2 = some a_7 ∧ ∃ (n_8 : Nat) (f_9 : Nat → Int32), ga_at K h a_7 (ga_Ab n_8 f_9) ∧ vp_in (p3 + x5_2) n_8 ∧ ((f_6 (p1 + x5_2).toNatClampNeg = f_9 (p3 + x5_2).toNatClampNeg → (In_2 (x5_2 + (1 : Int32)) ∧ mu_2 (x5_2 + (1 : Int32)) < mu_2 x5_2)) ∧ (¬ f_6 (p1 + x5_2).toNatClampNeg = f_9 (p3 + x5_2).toNatClampNeg → (post x5_2 h))))))))) ∧ (¬ p4 ≤ (7 : Int32) → (∃ a_11 : Nat, p0 = some a_11 ∧ ∃ (n_12 : Nat) (f_13 : Nat → Int32), ga_at K h a_11 (ga_Ab n_12 f_13) ∧ vp_in p1 n_12 ∧ (∃ a_14 : Nat, p2 = some a_14 ∧ ∃ (n_15 : Nat) (f_16 : Nat → Int32), ga_at K h a_14 (ga_Ab n_15 f_16) ∧ vp_in p3 n_15 ∧ ((f_13 p1.toNatClampNeg = f_16 p3.toNatClampNeg → False) ∧ (¬ f_13 p1.toNatClampNeg = f_16 p3.toNatClampNeg → (post (0 : Int32) h))))))
set_option maxHeartbeats 4000000 in
theorem gm_J27_mismatch_2 (l : Launch) (g : ga_G) (p0 : Option Nat) (p1 : Int32) (p2 : Option Nat) (p3 : Int32) (p4 : Int32) (h : ga_H) (post : Int32 → ga_H → Prop) (hw : gw_J27_mismatch_2 g.2.2 p0 p1 p2 p3 p4 h post) : Met l yJ27_mismatch_2 (ws_ yJ27_mismatch_2 cJ27_mismatch_2 8 (some .int)) ({ frames := 11, cells := 0, slots := 0, locals := 221 } : Room) (va_Pc [va_rf p0, .int p1, va_rf p2, .int p3, .int p4] (ga_B g h)) (va_Qi post (ga_E g) (ga_A g)) 0 0 (ga_A g) := by
  refine ga_met (own := "jdk/internal/util/ArraysSupport") (nm := "mismatch") (by decide) rfl rfl (by cases p0 <;> cases p2 <;> exact Nat.le_of_ble_eq_true rfl) (fun p e s m below meth c ls hC hI hl => ?_)
  have hl : lv_has ls 8 [(0, va_rf p0), (1, .int p1), (2, va_rf p2), (3, .int p3), (4, .int p4)] := (by cases p0 <;> cases p2 <;> exact hl)
  generalize ([va_rf p0, .int p1, va_rf p2, .int p3, .int p4] : List Value).toArray = args at hC ⊢
  obtain ⟨hx, hb, hml, hown, hts, hr, hlk, hnm⟩ := hC
  unfold gw_J27_mismatch_2 at hw
  obtain ⟨H, eH⟩ : ∃ z, z = s.heap := ⟨_, rfl⟩
  obtain ⟨locs, elo⟩ : ∃ z : List Loc, z = [] := ⟨_, rfl⟩
  rw [← eH, ← elo] at hI ⊢
  obtain ⟨cells, slots, hbc, hbs, e0, e1⟩ : ∃ a b : Nat, a ≤ 0 ∧ b ≤ 0 ∧ a = 0 ∧ b = 0 := ⟨0, 0, by omega, by omega, rfl, rfl⟩
  show W p l e ({ frames := 11, cells := 0, slots := 0, locals := 221 } : Room) s m args below meth c H locs 0 0 (MQ below (va_Qi post (ga_E g) (ga_A g)) args s 0 0 (ga_A g)) (F0 m 0 ls [])
  suffices hgoal : W p l e ({ frames := 11, cells := 0, slots := 0, locals := 221 } : Room) s m args below meth c H locs cells slots (MQ below (va_Qi post (ga_E g) (ga_A g)) args s 0 0 (ga_A g)) (F0 m 0 ls []) by rw [e0, e1] at hgoal; exact hgoal
  refine lv_iconst (v := 0) hx hb dJ27_mismatch_2_0 (by decide) ?_
  refine lv_istore (lv' := [(5, .int (0 : Int32)), (0, va_rf p0), (1, .int p1), (2, va_rf p2), (3, .int p3), (4, .int p4)]) hx hb dJ27_mismatch_2_1 hl (by decide) rfl (fun ls hl => ?_)
  refine lv_iload hx hb dJ27_mismatch_2_3 (lv_at hl 5 rfl) ?_
  refine lv_bipush (v := 7) hx hb dJ27_mismatch_2_5 (by decide) ?_
  refine lv_icmp_le (tgt := 70) hx hb dJ27_mismatch_2_7 (by decide) (fun hc_1 => ?_) (fun hc_1 => ?_)
  · have hw := hw.1 hc_1
    obtain ⟨In_2, mu_2, h0_2, hw⟩ := hw
    have hL_2 : ∀ (n : Nat) (x5_2 : Int32) (ls : Array Slot), mu_2 x5_2 < n → In_2 x5_2 → lv_has ls 8 [(0, va_rf p0), (1, .int p1), (2, va_rf p2), (3, .int p3), (4, .int p4), (5, .int x5_2)] → W p l e ({ frames := 11, cells := 0, slots := 0, locals := 221 } : Room) s m args below meth c H locs cells slots (MQ below (va_Qi post (ga_E g) (ga_A g)) args s 0 0 (ga_A g)) (F0 m 70 ls []) := by
      intro n
      induction n with
      | zero => intro x5_2 ls hn _ _; exact absurd hn (Nat.not_lt_zero _)
      | succ n ih_2 =>
        intro x5_2 ls hn_2 hi_2 hl
        have hw := hw x5_2 hi_2
        refine lv_iload hx hb dJ27_mismatch_2_70 (lv_at hl 5 rfl) ?_
        refine lv_iload hx hb dJ27_mismatch_2_72 (lv_at hl 4 rfl) ?_
        refine lv_icmp_ge (tgt := 101) hx hb dJ27_mismatch_2_74 (by decide) (fun hc_3 => ?_) (fun hc_3 => ?_)
        · have hw := hw.1 hc_3
          refine lv_iconst (v := -1) hx hb dJ27_mismatch_2_101 (by decide) ?_
          exact ga_iret hx hb hr rfl hlk hI hw hbc hbs dJ27_mismatch_2_102
        · have hw := hw.2 hc_3
          refine ga_aload_n hx hb dJ27_mismatch_2_77 rfl (lv_at hl 0 rfl) ?_
          refine lv_iload_n hx hb dJ27_mismatch_2_78 rfl (lv_at hl 1 rfl) ?_
          refine lv_iload hx hb dJ27_mismatch_2_79 (lv_at hl 5 rfl) ?_
          refine lv_iadd hx hb dJ27_mismatch_2_81 ?_
          obtain ⟨a_4, ea_4, hw⟩ := hw
          rewrite [ea_4]
          obtain ⟨n_5, f_6, hq, hi, hw⟩ := hw
          refine ga_ldb hx hb hI hq hi dJ27_mismatch_2_82 ?_
          refine ga_aload_n hx hb dJ27_mismatch_2_83 rfl (lv_at hl 2 rfl) ?_
          refine lv_iload_n hx hb dJ27_mismatch_2_84 rfl (lv_at hl 3 rfl) ?_
          refine lv_iload hx hb dJ27_mismatch_2_85 (lv_at hl 5 rfl) ?_
          refine lv_iadd hx hb dJ27_mismatch_2_87 ?_
          obtain ⟨a_7, ea_7, hw⟩ := hw
          rewrite [ea_7]
          obtain ⟨n_8, f_9, hq, hi, hw⟩ := hw
          refine ga_ldb hx hb hI hq hi dJ27_mismatch_2_88 ?_
          refine lv_icmp_eq (tgt := 95) hx hb dJ27_mismatch_2_89 (by decide) (fun hc_10 => ?_) (fun hc_10 => ?_)
          · have hw := hw.1 hc_10
            refine lv_iinc (v := x5_2 + (1 : Int32)) (lv' := [(5, .int (x5_2 + (1 : Int32))), (0, va_rf p0), (1, .int p1), (2, va_rf p2), (3, .int p3), (4, .int p4)]) hx hb dJ27_mismatch_2_95 hl (k := 5) rfl rfl (by decide) rfl (fun ls hl => ?_)
            refine lv_goto (tgt := 70) hx hb dJ27_mismatch_2_98 (by decide) ?_
            exact ih_2 _ ls (Nat.lt_of_lt_of_le hw.2 (Nat.le_of_lt_succ hn_2)) hw.1 (lv_sub hl [1, 2, 3, 4, 5, 0] rfl)
          · have hw := hw.2 hc_10
            refine lv_iload hx hb dJ27_mismatch_2_92 (lv_at hl 5 rfl) ?_
            exact ga_iret hx hb hr rfl hlk hI hw hbc hbs dJ27_mismatch_2_94
    exact hL_2 _ _ ls (Nat.lt_succ_self _) h0_2 (lv_sub hl [1, 2, 3, 4, 5, 0] rfl)
  · have hw := hw.2 hc_1
    refine ga_aload_n hx hb dJ27_mismatch_2_10 rfl (lv_at hl 1 rfl) ?_
    refine lv_iload_n hx hb dJ27_mismatch_2_11 rfl (lv_at hl 2 rfl) ?_
    obtain ⟨a_11, ea_11, hw⟩ := hw
    rewrite [ea_11]
    obtain ⟨n_12, f_13, hq, hi, hw⟩ := hw
    refine ga_ldb hx hb hI hq hi dJ27_mismatch_2_12 ?_
    refine ga_aload_n hx hb dJ27_mismatch_2_13 rfl (lv_at hl 3 rfl) ?_
    refine lv_iload_n hx hb dJ27_mismatch_2_14 rfl (lv_at hl 4 rfl) ?_
    obtain ⟨a_14, ea_14, hw⟩ := hw
    rewrite [ea_14]
    obtain ⟨n_15, f_16, hq, hi, hw⟩ := hw
    refine ga_ldb hx hb hI hq hi dJ27_mismatch_2_15 ?_
    refine lv_icmp_eq (tgt := 21) hx hb dJ27_mismatch_2_16 (by decide) (fun hc_17 => ?_) (fun hc_17 => ?_)
    · have hw := hw.1 hc_17
      exact hw.elim
    · have hw := hw.2 hc_17
      refine lv_iconst (v := 0) hx hb dJ27_mismatch_2_19 (by decide) ?_
      exact ga_iret hx hb hr rfl hlk hI hw hbc hbs dJ27_mismatch_2_20
theorem hdG_J27_mismatch_2 : yJ27_mismatch_2.cls ≠ "java/lang/invoke/MethodHandle" ∧ yJ27_mismatch_2.cls ≠ "java/lang/invoke/VarHandle" ∧ (parseMethodDescriptor yJ27_mismatch_2.desc).map (fun d => d.parameters.length) = some 5 := by decide +kernel
def gw_J7_startsWith_2_63 (K : ga_K) (post : Int32 → ga_H → Prop) (p0 : Nat) (v2 : Int32) (v3 : Option Nat) (v4 : Option Nat) (v6 : Int32) (h : ga_H) : Prop :=
  gw_J27_mismatch_2 K v3 v2 v4 (0 : Int32) v6 h (fun (r_31 : Int32) (h_30 : ga_H) => ((0 : Int32) ≤ r_31 → (post (0 : Int32) h_30)) ∧ (¬ (0 : Int32) ≤ r_31 → (post (1 : Int32) h_30)))
set_option maxHeartbeats 4000000 in
theorem gj_J7_startsWith_2_63 {p : Program} {l : Launch} {e : Env} {s : State} {m : MethodId} {args : Array Value} {below : List Frame} {meth : Method} {c : Code} {H : Heap} {locs : List Loc} {cells slots : Nat} {ls : Array Slot} (g : ga_G) (post : Int32 → ga_H → Prop) (p0 : Nat) (v2 : Int32) (v3 : Option Nat) (v4 : Option Nat) (v6 : Int32) (h : ga_H) (hC : ga_Cx p s m args meth c cJ7_startsWith_2 8 (some .boolean) "java/lang/String" "startsWith") (hw : gw_J7_startsWith_2_63 g.2.2 post p0 v2 v3 v4 v6 h) (hI : ga_I g h s H locs) (hbc : cells ≤ 0) (hbs : slots ≤ 0) (hl : lv_has ls 8 [(2, .int v2), (3, va_rf v3), (4, va_rf v4), (6, .int v6)]) : W p l e ({ frames := 12, cells := 0, slots := 0, locals := 248 } : Room) s m args below meth c H locs cells slots (MQ below (va_Qi post (ga_E g) (ga_A g)) args s 0 0 (ga_A g)) (F0 m 63 ls []) := by
  obtain ⟨hx, hb, hml, hown, hts, hr, hlk, hnm⟩ := hC
  unfold gw_J7_startsWith_2_63 at hw
  refine ga_aload_n hx hb dJ7_startsWith_2_63 rfl (lv_at hl 1 rfl) ?_
  refine lv_iload_n hx hb dJ7_startsWith_2_64 rfl (lv_at hl 0 rfl) ?_
  refine ga_aload hx hb dJ7_startsWith_2_65 (lv_at hl 2 rfl) ?_
  refine lv_iconst (v := 0) hx hb dJ7_startsWith_2_67 (by decide) ?_
  refine lv_iload hx hb dJ7_startsWith_2_68 (lv_at hl 3 rfl) ?_
  refine ga_calli (va_runS (As := [va_rf v3, .int v2, va_rf v4, .int (0 : Int32), .int v6]) (rest := []) ⟨hx, hb, hml, hown, hts⟩ (gm_J27_mismatch_2 l g v3 v2 v4 (0 : Int32) v6 h _ hw) (va_cwS 5 hts (lw_S q3518 q3519 q133 q3520) rfl rfl rfl hdG_J27_mismatch_2 ⟨Nat.le_of_ble_eq_true rfl, Nat.le_of_ble_eq_true rfl⟩) (ga_preS hI rfl) rfl rfl hl.1 rfl (ga_room (Nat.le_of_ble_eq_true rfl)) dJ7_startsWith_2_70 ⟨hbc, hbs⟩) hI (bc := 0) (bs := 0) hbc hbs (Nat.zero_le _) (Nat.zero_le _) (fun r_31 h_30 H locs cells slots hw hI hbc hbs => ?_)
  refine lv_if_ge (tgt := 80) hx hb dJ7_startsWith_2_73 (by decide) (fun hc_32 => ?_) (fun hc_32 => ?_)
  · have hw := hw.1 hc_32
    refine lv_iconst (v := 0) hx hb dJ7_startsWith_2_80 (by decide) ?_
    exact ga_iret hx hb hr rfl hlk hI hw hbc hbs dJ7_startsWith_2_81
  · have hw := hw.2 hc_32
    refine lv_iconst (v := 1) hx hb dJ7_startsWith_2_76 (by decide) ?_
    refine lv_goto (tgt := 81) hx hb dJ7_startsWith_2_77 (by decide) ?_
    exact ga_iret hx hb hr rfl hlk hI hw hbc hbs dJ7_startsWith_2_81
def gw_J7_startsWith_2 (K : ga_K) (p0 : Nat) (p1 : Option Nat) (p2 : Int32) (h : ga_H) (post : Int32 → ga_H → Prop) : Prop :=
  (p2 < (0 : Int32) → (post (0 : Int32) h)) ∧ (¬ p2 < (0 : Int32) → (∃ fs_2 : List Value, ga_at K h p0 (ga_O 23 fs_2) ∧ gw_J7_length K p0 h (fun (r_4 : Int32) (h_3 : ga_H) => ∃ a_5 : Nat, p1 = some a_5 ∧ ∃ fs_6 : List Value, ga_at K h_3 a_5 (ga_O 23 fs_6) ∧ gw_J7_length K a_5 h_3 (fun (r_8 : Int32) (h_7 : ga_H) => (p2 ≤ r_4 - r_8 → (∃ (fs_10 : List Value) (v_11 : Option Nat), ga_at K h_7 p0 (ga_O 23 fs_10) ∧ fs_10[0]? = some (va_rf v_11) ∧ (∃ a_12 : Nat, p1 = some a_12 ∧ ∃ (fs_13 : List Value) (v_14 : Option Nat), ga_at K h_7 a_12 (ga_O 23 fs_13) ∧ fs_13[0]? = some (va_rf v_14) ∧ (∃ a_15 : Nat, v_14 = some a_15 ∧ ∃ (n_16 : Nat) (f_17 : Nat → Int32), ga_at K h_7 a_15 (ga_Ab n_16 f_17) ∧ (∃ fs_18 : List Value, ga_at K h_7 p0 (ga_O 23 fs_18) ∧ gw_J7_coder K p0 h_7 (fun (r_20 : Int32) (h_19 : ga_H) => ∃ a_21 : Nat, p1 = some a_21 ∧ ∃ fs_22 : List Value, ga_at K h_19 a_21 (ga_O 23 fs_22) ∧ gw_J7_coder K a_21 h_19 (fun (r_24 : Int32) (h_23 : ga_H) => (¬ r_20 = r_24 → ((¬ r_20 = (0 : Int32) → (∃ (In_27 : Int32 → Int32 → ga_H → Prop) (mu_27 : Int32 → Int32 → ga_H → Nat), In_27 p2 (0 : Int32) h_23 ∧ ∀ (x2_27 : Int32) (x5_27 : Int32) (h_27 : ga_H), In_27 x2_27 x5_27 h_27 → ((nI n_16 ≤ x5_27 → (post (1 : Int32) h_27)) ∧ (¬ nI n_16 ≤ x5_27 → False)))) ∧ (r_20 = (0 : Int32) → (post (0 : Int32) h_23)))) ∧ (r_20 = r_24 → ((¬ r_20 = (1 : Int32) → (gw_J7_startsWith_2_63 K post p0 p2 v_11 v_14 (nI n_16) h_23)) ∧ (r_20 = (1 : Int32) → (gw_J7_startsWith_2_63 K post p0 (p2 <<< ((1 : Int32) &&& 31)) v_11 v_14 (nI n_16) h_23))))))))))) ∧ (¬ p2 ≤ r_4 - r_8 → (post (0 : Int32) h_7))))))
set_option maxHeartbeats 4000000 in
theorem gm_J7_startsWith_2 (l : Launch) (g : ga_G) (p0 : Nat) (p1 : Option Nat) (p2 : Int32) (h : ga_H) (post : Int32 → ga_H → Prop) (hw : gw_J7_startsWith_2 g.2.2 p0 p1 p2 h post) : Met l yJ7_startsWith_2 (ws_ yJ7_startsWith_2 cJ7_startsWith_2 8 (some .boolean)) ({ frames := 12, cells := 0, slots := 0, locals := 248 } : Room) (va_Pc [.ref p0, va_rf p1, .int p2] (ga_B g h)) (va_Qi post (ga_E g) (ga_A g)) 0 0 (ga_A g) := by
  refine ga_met (own := "java/lang/String") (nm := "startsWith") (by decide) rfl rfl (by cases p1 <;> exact Nat.le_of_ble_eq_true rfl) (fun p e s m below meth c ls hC hI hl => ?_)
  have hl : lv_has ls 8 [(0, .ref p0), (1, va_rf p1), (2, .int p2)] := (by cases p1 <;> exact hl)
  generalize ([.ref p0, va_rf p1, .int p2] : List Value).toArray = args at hC ⊢
  obtain ⟨hx, hb, hml, hown, hts, hr, hlk, hnm⟩ := hC
  unfold gw_J7_startsWith_2 at hw
  obtain ⟨H, eH⟩ : ∃ z, z = s.heap := ⟨_, rfl⟩
  obtain ⟨locs, elo⟩ : ∃ z : List Loc, z = [] := ⟨_, rfl⟩
  rw [← eH, ← elo] at hI ⊢
  obtain ⟨cells, slots, hbc, hbs, e0, e1⟩ : ∃ a b : Nat, a ≤ 0 ∧ b ≤ 0 ∧ a = 0 ∧ b = 0 := ⟨0, 0, by omega, by omega, rfl, rfl⟩
  show W p l e ({ frames := 12, cells := 0, slots := 0, locals := 248 } : Room) s m args below meth c H locs 0 0 (MQ below (va_Qi post (ga_E g) (ga_A g)) args s 0 0 (ga_A g)) (F0 m 0 ls [])
  suffices hgoal : W p l e ({ frames := 12, cells := 0, slots := 0, locals := 248 } : Room) s m args below meth c H locs cells slots (MQ below (va_Qi post (ga_E g) (ga_A g)) args s 0 0 (ga_A g)) (F0 m 0 ls []) by rw [e0, e1] at hgoal; exact hgoal
  refine lv_iload_n hx hb dJ7_startsWith_2_0 rfl (lv_at hl 2 rfl) ?_
  refine lv_if_lt (tgt := 17) hx hb dJ7_startsWith_2_1 (by decide) (fun hc_1 => ?_) (fun hc_1 => ?_)
  · have hw := hw.1 hc_1
    refine lv_iconst (v := 0) hx hb dJ7_startsWith_2_17 (by decide) ?_
    exact ga_iret hx hb hr rfl hlk hI hw hbc hbs dJ7_startsWith_2_18
  · have hw := hw.2 hc_1
    refine lv_iload_n hx hb dJ7_startsWith_2_4 rfl (lv_at hl 2 rfl) ?_
    refine lv_aload_n hx hb dJ7_startsWith_2_5 rfl (lv_at hl 0 rfl) ?_
    obtain ⟨fs_2, hq, hw⟩ := hw
    refine ga_calli (va_runV (As := []) (rest := [.int p2]) ⟨hx, hb, hml, hown, hts⟩ (gm_J7_length l g p0 h _ hw) (cwV 0 hts (lw_V q3517 q948 q949 q111 q950) rfl rfl rfl ⟨rfl, hdG_J7_length⟩ ⟨Nat.le_of_ble_eq_true rfl, Nat.le_of_ble_eq_true rfl⟩) (ga_preV hI hq rfl rfl) rfl rfl hl.1 rfl (ga_room (Nat.le_of_ble_eq_true rfl)) dJ7_startsWith_2_6 ⟨hbc, hbs⟩) hI (bc := 0) (bs := 0) hbc hbs (Nat.zero_le _) (Nat.zero_le _) (fun r_4 h_3 H locs cells slots hw hI hbc hbs => ?_)
    refine ga_aload_n hx hb dJ7_startsWith_2_9 rfl (lv_at hl 1 rfl) ?_
    obtain ⟨a_5, ea_5, hw⟩ := hw
    rewrite [ea_5]
    obtain ⟨fs_6, hq, hw⟩ := hw
    refine ga_calli (va_runV (As := []) (rest := [.int r_4, .int p2]) ⟨hx, hb, hml, hown, hts⟩ (gm_J7_length l g a_5 h_3 _ hw) (cwV 0 hts (lw_V q3517 q948 q949 q111 q950) rfl rfl rfl ⟨rfl, hdG_J7_length⟩ ⟨Nat.le_of_ble_eq_true rfl, Nat.le_of_ble_eq_true rfl⟩) (ga_preV hI hq rfl rfl) rfl rfl hl.1 rfl (ga_room (Nat.le_of_ble_eq_true rfl)) dJ7_startsWith_2_10 ⟨hbc, hbs⟩) hI (bc := 0) (bs := 0) hbc hbs (Nat.zero_le _) (Nat.zero_le _) (fun r_8 h_7 H locs cells slots hw hI hbc hbs => ?_)
    refine lv_isub hx hb dJ7_startsWith_2_13 ?_
    refine lv_icmp_le (tgt := 19) hx hb dJ7_startsWith_2_14 (by decide) (fun hc_9 => ?_) (fun hc_9 => ?_)
    · have hw := hw.1 hc_9
      refine lv_aload_n hx hb dJ7_startsWith_2_19 rfl (lv_at hl 0 rfl) ?_
      obtain ⟨fs_10, v_11, hq, hv, hw⟩ := hw
      refine ga_get (ci := 23) (T := TJ7) (v := va_rf v_11) hx hb hts hown hI in_J7 rfl 0 (by decide) q1094 (fun _ z => z) hq hv dJ7_startsWith_2_20 ?_
      refine ga_astore_n (i := 3) (x := v_11) (lv' := [(3, va_rf v_11), (0, .ref p0), (1, va_rf p1), (2, .int p2)]) hx hb dJ7_startsWith_2_23 rfl hl (by decide) rfl (fun ls hl => ?_)
      refine ga_aload_n hx hb dJ7_startsWith_2_24 rfl (lv_at hl 2 rfl) ?_
      obtain ⟨a_12, ea_12, hw⟩ := hw
      rewrite [ea_12]
      obtain ⟨fs_13, v_14, hq, hv, hw⟩ := hw
      refine ga_get (ci := 23) (T := TJ7) (v := va_rf v_14) hx hb hts hown hI in_J7 rfl 0 (by decide) q1094 (fun _ z => z) hq hv dJ7_startsWith_2_25 ?_
      refine ga_astore (x := v_14) (lv' := [(4, va_rf v_14), (3, va_rf v_11), (0, .ref p0), (1, va_rf p1), (2, .int p2)]) hx hb dJ7_startsWith_2_28 hl (by decide) (by simp [ga_rcat, ga_cat_r, ga_cat_i, ga_cat_f, ga_cat_l, ga_cat_d]) (fun ls hl => ?_)
      refine lv_iconst (v := 0) hx hb dJ7_startsWith_2_30 (by decide) ?_
      refine lv_istore (lv' := [(5, .int (0 : Int32)), (4, va_rf v_14), (3, va_rf v_11), (0, .ref p0), (1, va_rf p1), (2, .int p2)]) hx hb dJ7_startsWith_2_31 hl (by decide) (by simp [ga_rcat, ga_cat_r, ga_cat_i, ga_cat_f, ga_cat_l, ga_cat_d]) (fun ls hl => ?_)
      refine ga_aload hx hb dJ7_startsWith_2_33 (lv_at hl 1 rfl) ?_
      obtain ⟨a_15, ea_15, hw⟩ := hw
      rewrite [ea_15]
      obtain ⟨n_16, f_17, hq, hw⟩ := hw
      refine ga_len hx hb hI hq rfl dJ7_startsWith_2_35 ?_
      refine lv_istore (lv' := [(6, .int (nI n_16)), (5, .int (0 : Int32)), (4, va_rf v_14), (3, va_rf v_11), (0, .ref p0), (1, va_rf p1), (2, .int p2)]) hx hb dJ7_startsWith_2_36 hl (by decide) rfl (fun ls hl => ?_)
      refine lv_aload_n hx hb dJ7_startsWith_2_38 rfl (lv_at hl 4 rfl) ?_
      obtain ⟨fs_18, hq, hw⟩ := hw
      refine ga_calli (va_runV (As := []) (rest := []) ⟨hx, hb, hml, hown, hts⟩ (gm_J7_coder l g p0 h_7 _ hw) (cwV 0 hts (lw_V q951 q952 q953 q111 q954) rfl rfl rfl ⟨rfl, hdG_J7_coder⟩ ⟨Nat.le_of_ble_eq_true rfl, Nat.le_of_ble_eq_true rfl⟩) (ga_preV hI hq rfl rfl) rfl rfl hl.1 rfl (ga_room (Nat.le_of_ble_eq_true rfl)) dJ7_startsWith_2_39 ⟨hbc, hbs⟩) hI (bc := 0) (bs := 0) hbc hbs (Nat.zero_le _) (Nat.zero_le _) (fun r_20 h_19 H locs cells slots hw hI hbc hbs => ?_)
      refine lv_istore (lv' := [(7, .int r_20), (6, .int (nI n_16)), (5, .int (0 : Int32)), (4, va_rf v_14), (3, va_rf v_11), (0, .ref p0), (1, va_rf p1), (2, .int p2)]) hx hb dJ7_startsWith_2_42 hl (by decide) rfl (fun ls hl => ?_)
      refine lv_iload hx hb dJ7_startsWith_2_44 (lv_at hl 0 rfl) ?_
      refine ga_aload_n hx hb dJ7_startsWith_2_46 rfl (lv_at hl 6 rfl) ?_
      obtain ⟨a_21, ea_21, hw⟩ := hw
      rewrite [ea_21]
      obtain ⟨fs_22, hq, hw⟩ := hw
      refine ga_calli (va_runV (As := []) (rest := [.int r_20]) ⟨hx, hb, hml, hown, hts⟩ (gm_J7_coder l g a_21 h_19 _ hw) (cwV 0 hts (lw_V q951 q952 q953 q111 q954) rfl rfl rfl ⟨rfl, hdG_J7_coder⟩ ⟨Nat.le_of_ble_eq_true rfl, Nat.le_of_ble_eq_true rfl⟩) (ga_preV hI hq rfl rfl) rfl rfl hl.1 rfl (ga_room (Nat.le_of_ble_eq_true rfl)) dJ7_startsWith_2_47 ⟨hbc, hbs⟩) hI (bc := 0) (bs := 0) hbc hbs (Nat.zero_le _) (Nat.zero_le _) (fun r_24 h_23 H locs cells slots hw hI hbc hbs => ?_)
      refine lv_icmp_ne (tgt := 82) hx hb dJ7_startsWith_2_50 (by decide) (fun hc_25 => ?_) (fun hc_25 => ?_)
      · have hw := hw.1 hc_25
        refine lv_iload hx hb dJ7_startsWith_2_82 (lv_at hl 0 rfl) ?_
        refine lv_if_ne (tgt := 89) hx hb dJ7_startsWith_2_84 (by decide) (fun hc_26 => ?_) (fun hc_26 => ?_)
        · have hw := hw.1 hc_26
          obtain ⟨In_27, mu_27, h0_27, hw⟩ := hw
          have hL_27 : ∀ (n : Nat) (x2_27 : Int32) (x5_27 : Int32) (h_27 : ga_H) (H : Heap) (locs : List Loc) (cells slots : Nat) (ls : Array Slot), mu_27 x2_27 x5_27 h_27 < n → In_27 x2_27 x5_27 h_27 → ga_I g h_27 s H locs → cells ≤ 0 → slots ≤ 0 → lv_has ls 8 [(2, .int x2_27), (3, va_rf v_11), (4, va_rf v_14), (5, .int x5_27), (6, .int (nI n_16))] → W p l e ({ frames := 12, cells := 0, slots := 0, locals := 248 } : Room) s m args below meth c H locs cells slots (MQ below (va_Qi post (ga_E g) (ga_A g)) args s 0 0 (ga_A g)) (F0 m 89 ls []) := by
            intro n
            induction n with
            | zero => intro x2_27 x5_27 h_27 H locs cells slots ls hn _ _ _ _ _; exact absurd hn (Nat.not_lt_zero _)
            | succ n ih_27 =>
              intro x2_27 x5_27 h_27 H locs cells slots ls hn_27 hi_27 hI hbc hbs hl
              have hw := hw x2_27 x5_27 h_27 hi_27
              refine lv_iload hx hb dJ7_startsWith_2_89 (lv_at hl 3 rfl) ?_
              refine lv_iload hx hb dJ7_startsWith_2_91 (lv_at hl 4 rfl) ?_
              refine lv_icmp_ge (tgt := 121) hx hb dJ7_startsWith_2_93 (by decide) (fun hc_28 => ?_) (fun hc_28 => ?_)
              · have hw := hw.1 hc_28
                refine lv_iconst (v := 1) hx hb dJ7_startsWith_2_121 (by decide) ?_
                exact ga_iret hx hb hr rfl hlk hI hw hbc hbs dJ7_startsWith_2_122
              · have hw := hw.2 hc_28
                exact hw.elim
          exact hL_27 _ _ _ _ H locs cells slots ls (Nat.lt_succ_self _) h0_27 hI hbc hbs (lv_sub hl [7, 4, 3, 2, 1] rfl)
        · have hw := hw.2 hc_26
          refine lv_iconst (v := 0) hx hb dJ7_startsWith_2_87 (by decide) ?_
          exact ga_iret hx hb hr rfl hlk hI hw hbc hbs dJ7_startsWith_2_88
      · have hw := hw.2 hc_25
        refine lv_iload hx hb dJ7_startsWith_2_53 (lv_at hl 0 rfl) ?_
        refine lv_iconst (v := 1) hx hb dJ7_startsWith_2_55 (by decide) ?_
        refine lv_icmp_ne (tgt := 63) hx hb dJ7_startsWith_2_56 (by decide) (fun hc_29 => ?_) (fun hc_29 => ?_)
        · have hw := hw.1 hc_29
          exact gj_J7_startsWith_2_63 g post p0 p2 v_11 v_14 (nI n_16) h_23 ⟨hx, hb, hml, hown, hts, hr, hlk, hnm⟩ hw hI hbc hbs (lv_sub hl [7, 4, 3, 1] rfl)
        · have hw := hw.2 hc_29
          refine lv_iload_n hx hb dJ7_startsWith_2_59 rfl (lv_at hl 7 rfl) ?_
          refine lv_iconst (v := 1) hx hb dJ7_startsWith_2_60 (by decide) ?_
          refine lv_ishl hx hb dJ7_startsWith_2_61 ?_
          refine lv_istore_n (i := 2) (lv' := [(2, .int (p2 <<< ((1 : Int32) &&& 31))), (7, .int r_20), (6, .int (nI n_16)), (5, .int (0 : Int32)), (4, va_rf v_14), (3, va_rf v_11), (0, .ref p0), (1, va_rf p1)]) hx hb dJ7_startsWith_2_62 rfl hl (by decide) (by simp [ga_rcat, ga_cat_r, ga_cat_i, ga_cat_f, ga_cat_l, ga_cat_d]) (fun ls hl => ?_)
          exact gj_J7_startsWith_2_63 g post p0 (p2 <<< ((1 : Int32) &&& 31)) v_11 v_14 (nI n_16) h_23 ⟨hx, hb, hml, hown, hts, hr, hlk, hnm⟩ hw hI hbc hbs (lv_sub hl [0, 5, 4, 2] rfl)
    · have hw := hw.2 hc_9
      refine lv_iconst (v := 0) hx hb dJ7_startsWith_2_17 (by decide) ?_
      exact ga_iret hx hb hr rfl hlk hI hw hbc hbs dJ7_startsWith_2_18
theorem hdG_J7_startsWith_2 : yJ7_startsWith_2.cls ≠ "java/lang/invoke/MethodHandle" ∧ yJ7_startsWith_2.cls ≠ "java/lang/invoke/VarHandle" ∧ (parseMethodDescriptor yJ7_startsWith_2.desc).map (fun d => d.parameters.length) = some 2 := by decide +kernel
def gw_J7_startsWith (K : ga_K) (p0 : Nat) (p1 : Option Nat) (h : ga_H) (post : Int32 → ga_H → Prop) : Prop :=
  ∃ fs_1 : List Value, ga_at K h p0 (ga_O 23 fs_1) ∧ gw_J7_startsWith_2 K p0 p1 (0 : Int32) h (fun (r_3 : Int32) (h_2 : ga_H) => zt_nar .boolean r_3 ∧ post r_3 h_2)
set_option maxHeartbeats 4000000 in
theorem gm_J7_startsWith (l : Launch) (g : ga_G) (p0 : Nat) (p1 : Option Nat) (h : ga_H) (post : Int32 → ga_H → Prop) (hw : gw_J7_startsWith g.2.2 p0 p1 h post) : Met l yJ7_startsWith (ws_ yJ7_startsWith cJ7_startsWith 2 (some .boolean)) ({ frames := 13, cells := 0, slots := 0, locals := 275 } : Room) (va_Pc [.ref p0, va_rf p1] (ga_B g h)) (va_Qi post (ga_E g) (ga_A g)) 0 0 (ga_A g) := by
  refine ga_met (own := "java/lang/String") (nm := "startsWith") (by decide) rfl rfl (by cases p1 <;> exact Nat.le_of_ble_eq_true rfl) (fun p e s m below meth c ls hC hI hl => ?_)
  have hl : lv_has ls 2 [(0, .ref p0), (1, va_rf p1)] := (by cases p1 <;> exact hl)
  generalize ([.ref p0, va_rf p1] : List Value).toArray = args at hC ⊢
  obtain ⟨hx, hb, hml, hown, hts, hr, hlk, hnm⟩ := hC
  unfold gw_J7_startsWith at hw
  obtain ⟨H, eH⟩ : ∃ z, z = s.heap := ⟨_, rfl⟩
  obtain ⟨locs, elo⟩ : ∃ z : List Loc, z = [] := ⟨_, rfl⟩
  rw [← eH, ← elo] at hI ⊢
  obtain ⟨cells, slots, hbc, hbs, e0, e1⟩ : ∃ a b : Nat, a ≤ 0 ∧ b ≤ 0 ∧ a = 0 ∧ b = 0 := ⟨0, 0, by omega, by omega, rfl, rfl⟩
  show W p l e ({ frames := 13, cells := 0, slots := 0, locals := 275 } : Room) s m args below meth c H locs 0 0 (MQ below (va_Qi post (ga_E g) (ga_A g)) args s 0 0 (ga_A g)) (F0 m 0 ls [])
  suffices hgoal : W p l e ({ frames := 13, cells := 0, slots := 0, locals := 275 } : Room) s m args below meth c H locs cells slots (MQ below (va_Qi post (ga_E g) (ga_A g)) args s 0 0 (ga_A g)) (F0 m 0 ls []) by rw [e0, e1] at hgoal; exact hgoal
  refine lv_aload_n hx hb dJ7_startsWith_0 rfl (lv_at hl 0 rfl) ?_
  refine ga_aload_n hx hb dJ7_startsWith_1 rfl (lv_at hl 1 rfl) ?_
  refine lv_iconst (v := 0) hx hb dJ7_startsWith_2 (by decide) ?_
  obtain ⟨fs_1, hq, hw⟩ := hw
  refine ga_calli (va_runV (As := [va_rf p1, .int (0 : Int32)]) (rest := []) ⟨hx, hb, hml, hown, hts⟩ (gm_J7_startsWith_2 l g p0 p1 (0 : Int32) h _ hw) (cwV 2 hts (lw_V q3513 q3514 q3515 q111 q3516) rfl rfl rfl ⟨rfl, hdG_J7_startsWith_2⟩ ⟨Nat.le_of_ble_eq_true rfl, Nat.le_of_ble_eq_true rfl⟩) (ga_preV hI hq rfl rfl) rfl rfl hl.1 rfl (ga_room (Nat.le_of_ble_eq_true rfl)) dJ7_startsWith_3 ⟨hbc, hbs⟩) hI (bc := 0) (bs := 0) hbc hbs (Nat.zero_le _) (Nat.zero_le _) (fun r_3 h_2 H locs cells slots hw hI hbc hbs => ?_)
  exact ga_iret hx hb hr hw.1 hlk hI hw.2 hbc hbs dJ7_startsWith_6
theorem hdG_J7_startsWith : yJ7_startsWith.cls ≠ "java/lang/invoke/MethodHandle" ∧ yJ7_startsWith.cls ≠ "java/lang/invoke/VarHandle" ∧ (parseMethodDescriptor yJ7_startsWith.desc).map (fun d => d.parameters.length) = some 1 := by decide +kernel
def gw_X12_isBegun (K : ga_K) (p0 : Option Nat) (p1 : Option Nat) (h : ga_H) (mc ms : Nat) (post : Int32 → ga_H → Prop) : Prop :=
  ∃ a_1 : Nat, p0 = some a_1 ∧ ∃ kc_2 ks_3 : Nat, kc_2 ≤ mc ∧ ks_3 ≤ ms ∧ ∃ fs_4 : List Value, ga_at K h a_1 (ga_O 21 fs_4) ∧ gw_J44_iterator K a_1 h kc_2 ks_3 (fun (r_6 : Option Nat) (h_5 : ga_H) => ∃ (In_7 : ga_H → Nat → Nat → Prop) (mu_7 : ga_H → Nat → Nat → Nat), In_7 h_5 (mc - kc_2) (ms - ks_3) ∧ ∀ (h_7 : ga_H) (bc_7 : Nat) (bs_7 : Nat), In_7 h_7 bc_7 bs_7 → (∃ a_8 : Nat, r_6 = some a_8 ∧ ∃ fs_9 : List Value, ga_at K h_7 a_8 (ga_O 20 fs_9) ∧ gw_J17_hasNext_K K a_8 h_7 (fun (r_11 : Int32) (h_10 : ga_H) => (r_11 = (0 : Int32) → (post (0 : Int32) h_10)) ∧ (¬ r_11 = (0 : Int32) → (∃ a_13 : Nat, r_6 = some a_13 ∧ ∃ kc_14 ks_15 : Nat, kc_14 ≤ bc_7 ∧ ks_15 ≤ bs_7 ∧ ∃ fs_16 : List Value, ga_at K h_10 a_13 (ga_O 20 fs_16) ∧ gw_J19_next K a_13 h_10 kc_14 ks_15 (fun (r_18 : Option Nat) (h_17 : ga_H) => ga_ok K h_17 "java/lang/String" r_18 ∧ (∃ a_19 : Nat, r_18 = some a_19 ∧ ∃ fs_20 : List Value, ga_at K h_17 a_19 (ga_O 23 fs_20) ∧ gw_J7_startsWith K a_19 p1 h_17 (fun (r_22 : Int32) (h_21 : ga_H) => (r_22 = (0 : Int32) → (In_7 h_21 (bc_7 - kc_14) (bs_7 - ks_15) ∧ mu_7 h_21 (bc_7 - kc_14) (bs_7 - ks_15) < mu_7 h_7 bc_7 bs_7)) ∧ (¬ r_22 = (0 : Int32) → (post (1 : Int32) h_21))))))))))
set_option maxHeartbeats 4000000 in
theorem gm_X12_isBegun (l : Launch) (g : ga_G) (p0 : Option Nat) (p1 : Option Nat) (h : ga_H) (mc ms : Nat) (post : Int32 → ga_H → Prop) (hw : gw_X12_isBegun g.2.2 p0 p1 h mc ms post) : Met l yX12_isBegun (ws_ yX12_isBegun cX12_isBegun 4 (some .boolean)) ({ frames := 14, cells := mc, slots := ms, locals := 296 } : Room) (va_Pc [va_rf p0, va_rf p1] (ga_B g h)) (va_Qi post (ga_E g) (ga_A g)) mc ms (ga_A g) := by
  refine ga_met (own := "PaperStore$Parser") (nm := "isBegun") (by decide) rfl rfl (by cases p0 <;> cases p1 <;> exact Nat.le_of_ble_eq_true rfl) (fun p e s m below meth c ls hC hI hl => ?_)
  have hl : lv_has ls 4 [(0, va_rf p0), (1, va_rf p1)] := (by cases p0 <;> cases p1 <;> exact hl)
  generalize ([va_rf p0, va_rf p1] : List Value).toArray = args at hC ⊢
  obtain ⟨hx, hb, hml, hown, hts, hr, hlk, hnm⟩ := hC
  unfold gw_X12_isBegun at hw
  obtain ⟨H, eH⟩ : ∃ z, z = s.heap := ⟨_, rfl⟩
  obtain ⟨locs, elo⟩ : ∃ z : List Loc, z = [] := ⟨_, rfl⟩
  rw [← eH, ← elo] at hI ⊢
  obtain ⟨cells, slots, hbc, hbs, e0, e1⟩ : ∃ a b : Nat, a + mc ≤ mc ∧ b + ms ≤ ms ∧ a = 0 ∧ b = 0 := ⟨0, 0, by omega, by omega, rfl, rfl⟩
  show W p l e ({ frames := 14, cells := mc, slots := ms, locals := 296 } : Room) s m args below meth c H locs 0 0 (MQ below (va_Qi post (ga_E g) (ga_A g)) args s mc ms (ga_A g)) (F0 m 0 ls [])
  suffices hgoal : W p l e ({ frames := 14, cells := mc, slots := ms, locals := 296 } : Room) s m args below meth c H locs cells slots (MQ below (va_Qi post (ga_E g) (ga_A g)) args s mc ms (ga_A g)) (F0 m 0 ls []) by rw [e0, e1] at hgoal; exact hgoal
  refine ga_aload_n hx hb dX12_isBegun_0 rfl (lv_at hl 0 rfl) ?_
  obtain ⟨a_1, ea_1, hw⟩ := hw
  rewrite [ea_1]
  obtain ⟨kc_2, ks_3, hk1, hk2, hw⟩ := hw
  obtain ⟨fs_4, hq, hw⟩ := hw
  refine ga_callFq (va_runF (As := []) (rest := []) (hI.2.1.1.1.1 21 _ rfl).2 ⟨hx, hb, hml, hown, hts⟩ (gm_J44_iterator l g a_1 h kc_2 ks_3 _ hw) (va_cwF 0 hts (lw_app (List.forall_mem_cons.mpr ⟨q3503, List.forall_mem_cons.mpr ⟨q661, List.forall_mem_cons.mpr ⟨q629, List.forall_mem_cons.mpr ⟨q160, fun _ h => absurd h List.not_mem_nil⟩⟩⟩⟩) (lw_meth q630)) rfl rfl rfl (hI.2.1.1.2.2 _ _ _ ⟨by decide +kernel, q651, q650, q663, q662, q660⟩) (by decide +kernel) ⟨Nat.le_of_ble_eq_true rfl, Nat.le_of_ble_eq_true rfl⟩) (ga_preV (C := "java/util/HashSet") hI hq rfl rfl) rfl rfl hl.1 rfl (ga_room (Nat.le_of_ble_eq_true rfl)) dX12_isBegun_1 ⟨Nat.le_trans (Nat.add_le_add_left hk1 _) hbc, Nat.le_trans (Nat.add_le_add_left hk2 _) hbs⟩) hI hbc hbs hk1 hk2 (fun r_6 h_5 H locs cells slots hw hI hbc hbs => ?_)
  refine ga_astore_n (i := 2) (x := r_6) (lv' := [(2, va_rf r_6), (0, va_rf p0), (1, va_rf p1)]) hx hb dX12_isBegun_6 rfl hl (by decide) (by simp [ga_rcat, ga_cat_r, ga_cat_i, ga_cat_f, ga_cat_l, ga_cat_d]) (fun ls hl => ?_)
  obtain ⟨In_7, mu_7, h0_7, hw⟩ := hw
  have hL_7 : ∀ (n : Nat) (h_7 : ga_H) (bc_7 : Nat) (bs_7 : Nat) (H : Heap) (locs : List Loc) (cells slots : Nat) (ls : Array Slot), mu_7 h_7 bc_7 bs_7 < n → In_7 h_7 bc_7 bs_7 → ga_I g h_7 s H locs → cells + bc_7 ≤ mc → slots + bs_7 ≤ ms → lv_has ls 4 [(1, va_rf p1), (2, va_rf r_6)] → W p l e ({ frames := 14, cells := mc, slots := ms, locals := 296 } : Room) s m args below meth c H locs cells slots (MQ below (va_Qi post (ga_E g) (ga_A g)) args s mc ms (ga_A g)) (F0 m 7 ls []) := by
    intro n
    induction n with
    | zero => intro h_7 bc_7 bs_7 H locs cells slots ls hn _ _ _ _ _; exact absurd hn (Nat.not_lt_zero _)
    | succ n ih_7 =>
      intro h_7 bc_7 bs_7 H locs cells slots ls hn_7 hi_7 hI hbc hbs hl
      have hw := hw h_7 bc_7 bs_7 hi_7
      refine ga_aload_n hx hb dX12_isBegun_7 rfl (lv_at hl 1 rfl) ?_
      obtain ⟨a_8, ea_8, hw⟩ := hw
      rewrite [ea_8]
      obtain ⟨fs_9, hq, hw⟩ := hw
      refine ga_callFi (va_runF (As := []) (rest := []) (hI.2.1.1.1.1 20 _ rfl).2 ⟨hx, hb, hml, hown, hts⟩ (gm_J17_hasNext_K l g a_8 h_7 _ hw) (va_cwF 0 hts (lw_app (List.forall_mem_cons.mpr ⟨q3505, List.forall_mem_cons.mpr ⟨q708, List.forall_mem_cons.mpr ⟨q704, List.forall_mem_cons.mpr ⟨q123, fun _ h => absurd h List.not_mem_nil⟩⟩⟩⟩) (lw_meth q706)) rfl rfl rfl (hI.2.1.1.2.2 _ _ _ ⟨by decide +kernel, q694, q693, q705, q709, q707⟩) (by decide +kernel) ⟨Nat.le_of_ble_eq_true rfl, Nat.le_of_ble_eq_true rfl⟩) (ga_preV (C := "java/util/HashMap$KeyIterator") hI hq rfl rfl) rfl rfl hl.1 rfl (ga_room (Nat.le_of_ble_eq_true rfl)) dX12_isBegun_8 ⟨Nat.le_trans (Nat.add_le_add_left (Nat.zero_le _) _) hbc, Nat.le_trans (Nat.add_le_add_left (Nat.zero_le _) _) hbs⟩) hI hbc hbs (Nat.zero_le _) (Nat.zero_le _) (fun r_11 h_10 H locs cells slots hw hI hbc hbs => ?_)
      refine lv_if_eq (tgt := 39) hx hb dX12_isBegun_13 (by decide) (fun hc_12 => ?_) (fun hc_12 => ?_)
      · have hw := hw.1 hc_12
        refine lv_iconst (v := 0) hx hb dX12_isBegun_39 (by decide) ?_
        exact ga_iret hx hb hr rfl hlk hI hw (Nat.le_trans (Nat.le_add_right _ _) hbc) (Nat.le_trans (Nat.le_add_right _ _) hbs) dX12_isBegun_40
      · have hw := hw.2 hc_12
        refine ga_aload_n hx hb dX12_isBegun_16 rfl (lv_at hl 1 rfl) ?_
        obtain ⟨a_13, ea_13, hw⟩ := hw
        rewrite [ea_13]
        obtain ⟨kc_14, ks_15, hk1, hk2, hw⟩ := hw
        obtain ⟨fs_16, hq, hw⟩ := hw
        refine ga_callFq (va_runF (As := []) (rest := []) (hI.2.1.1.1.1 20 _ rfl).2 ⟨hx, hb, hml, hown, hts⟩ (gm_J19_next l g a_13 h_10 kc_14 ks_15 _ hw) (va_cwF 0 hts (lw_app (List.forall_mem_cons.mpr ⟨q3507, List.forall_mem_cons.mpr ⟨q819, List.forall_mem_cons.mpr ⟨q821, List.forall_mem_cons.mpr ⟨q125, fun _ h => absurd h List.not_mem_nil⟩⟩⟩⟩) (lw_meth q823)) rfl rfl rfl (hI.2.1.1.2.2 _ _ _ ⟨by decide +kernel, q720, q719, q822, q820, q707⟩) (by decide +kernel) ⟨Nat.le_of_ble_eq_true rfl, Nat.le_of_ble_eq_true rfl⟩) (ga_preV (C := "java/util/HashMap$KeyIterator") hI hq rfl rfl) rfl rfl hl.1 rfl (ga_room (Nat.le_of_ble_eq_true rfl)) dX12_isBegun_17 ⟨Nat.le_trans (Nat.add_le_add_left hk1 _) hbc, Nat.le_trans (Nat.add_le_add_left hk2 _) hbs⟩) hI hbc hbs hk1 hk2 (fun r_18 h_17 H locs cells slots hw hI hbc hbs => ?_)
        refine ga_cast (x := r_18) hx hb hts hown hI q3508 hw.1 dX12_isBegun_22 ?_
        have hw := hw.2
        refine ga_astore_n (i := 3) (x := r_18) (lv' := [(3, va_rf r_18), (1, va_rf p1), (2, va_rf r_6)]) hx hb dX12_isBegun_25 rfl hl (by decide) (by simp [ga_rcat, ga_cat_r, ga_cat_i, ga_cat_f, ga_cat_l, ga_cat_d]) (fun ls hl => ?_)
        refine ga_aload_n hx hb dX12_isBegun_26 rfl (lv_at hl 0 rfl) ?_
        refine ga_aload_n hx hb dX12_isBegun_27 rfl (lv_at hl 1 rfl) ?_
        obtain ⟨a_19, ea_19, hw⟩ := hw
        rewrite [ea_19]
        obtain ⟨fs_20, hq, hw⟩ := hw
        refine ga_calli (va_runV (As := [va_rf p1]) (rest := []) ⟨hx, hb, hml, hown, hts⟩ (gm_J7_startsWith l g a_19 p1 h_17 _ hw) (cwV 1 hts (lw_V q3509 q3510 q3511 q111 q3512) rfl rfl rfl ⟨rfl, hdG_J7_startsWith⟩ ⟨Nat.le_of_ble_eq_true rfl, Nat.le_of_ble_eq_true rfl⟩) (ga_preV hI hq rfl rfl) rfl rfl hl.1 rfl (ga_room (Nat.le_of_ble_eq_true rfl)) dX12_isBegun_28 ⟨Nat.le_trans (Nat.add_le_add_left (Nat.zero_le _) _) hbc, Nat.le_trans (Nat.add_le_add_left (Nat.zero_le _) _) hbs⟩) hI hbc hbs (Nat.zero_le _) (Nat.zero_le _) (fun r_22 h_21 H locs cells slots hw hI hbc hbs => ?_)
        refine lv_if_eq (tgt := 36) hx hb dX12_isBegun_31 (by decide) (fun hc_23 => ?_) (fun hc_23 => ?_)
        · have hw := hw.1 hc_23
          refine lv_goto (tgt := 7) hx hb dX12_isBegun_36 (by decide) ?_
          exact ih_7 _ _ _ H locs cells slots ls (Nat.lt_of_lt_of_le hw.2 (Nat.le_of_lt_succ hn_7)) hw.1 hI hbc hbs (lv_sub hl [1, 2] rfl)
        · have hw := hw.2 hc_23
          refine lv_iconst (v := 1) hx hb dX12_isBegun_34 (by decide) ?_
          exact ga_iret hx hb hr rfl hlk hI hw (Nat.le_trans (Nat.le_add_right _ _) hbc) (Nat.le_trans (Nat.le_add_right _ _) hbs) dX12_isBegun_35
  exact hL_7 _ _ _ _ H locs cells slots ls (Nat.lt_succ_self _) h0_7 hI hbc hbs (lv_sub hl [2, 0] rfl)
theorem hdG_X12_isBegun : yX12_isBegun.cls ≠ "java/lang/invoke/MethodHandle" ∧ yX12_isBegun.cls ≠ "java/lang/invoke/VarHandle" ∧ (parseMethodDescriptor yX12_isBegun.desc).map (fun d => d.parameters.length) = some 2 := by decide +kernel
def gw_X13_init (K : ga_K) (p0 : Nat) (p1 : Int32) (h : ga_H) (post : ga_H → Prop) (xp : String → Nat → ga_H → Prop) : Prop :=
  ∃ fs_1 : List Value, h p0 = some (ga_O 11 fs_1) ∧ fs_1.length = 7 ∧ ∀ fs_2 : List Value, fs_2.length = 7 → (∀ k : Nat, 3 ≤ k → fs_2[k]? = fs_1[k]?) → ∀ h_3 : ga_H, h_3 = ga_set h p0 (ga_O 11 fs_2) → (∃ fs_4 : List Value, h_3 p0 = some (ga_O 11 fs_4) ∧ 6 < fs_4.length ∧ ∀ h_5 : ga_H, h_5 = ga_set h_3 p0 (ga_O 11 (fs_4.set 6 (.int p1))) → (post h_5))
set_option maxHeartbeats 4000000 in
theorem gm_X13_init (l : Launch) (hst : l.stackTraces = false) (g : ga_G) (p0 : Nat) (p1 : Int32) (h : ga_H) (post : ga_H → Prop) (xp : String → Nat → ga_H → Prop) (hw : gw_X13_init g.2.2 p0 p1 h post xp) : vx_Met l yX13_init (ws_ yX13_init cX13_init 2 none) ({ frames := 8, cells := 0, slots := 0, locals := 140 } : Room) (va_Pc [.ref p0, .int p1] (fun U => ga_B g h U ∧ ga_rawH U "PaperStore$BadText" p0 U.heap)) (va_Qv post (ga_E g) (ga_A g)) (ga_X g xp) 0 0 (ga_A g) := by
  refine ga_metxP (own := "PaperStore$BadText") (nm := "<init>") (by decide) rfl rfl (by exact Nat.le_of_ble_eq_true rfl) (fun p e s m below meth c ls hC htab hI hraw hl => ?_)
  have hl : lv_has ls 2 [(0, .ref p0), (1, .int p1)] := hl
  generalize ([.ref p0, .int p1] : List Value).toArray = args at hC ⊢
  obtain ⟨hx, hb, hml, hown, hts, hr, hlk, hnm⟩ := hC
  unfold gw_X13_init at hw
  obtain ⟨H, eH⟩ : ∃ z, z = s.heap := ⟨_, rfl⟩
  obtain ⟨locs, elo⟩ : ∃ z : List Loc, z = [] := ⟨_, rfl⟩
  rw [← eH, ← elo] at hI ⊢
  rw [← eH] at hraw
  obtain ⟨cells, slots, hbc, hbs, e0, e1⟩ : ∃ a b : Nat, a ≤ 0 ∧ b ≤ 0 ∧ a = 0 ∧ b = 0 := ⟨0, 0, by omega, by omega, rfl, rfl⟩
  show W p l e ({ frames := 8, cells := 0, slots := 0, locals := 140 } : Room) s m args below meth c H locs 0 0 (vx_MQ below (va_Qv post (ga_E g) (ga_A g)) (ga_X g xp) args s 0 0 (ga_A g)) (F0 m 0 ls [])
  suffices hgoal : W p l e ({ frames := 8, cells := 0, slots := 0, locals := 140 } : Room) s m args below meth c H locs cells slots (vx_MQ below (va_Qv post (ga_E g) (ga_A g)) (ga_X g xp) args s 0 0 (ga_A g)) (F0 m 0 ls []) by rw [e0, e1] at hgoal; exact hgoal
  refine lv_aload_n hx hb dX13_init_0 rfl (lv_at hl 0 rfl) ?_
  obtain ⟨fs_1, hq, hlen, hw⟩ := hw
  refine ga_exinit (ci := 11) (T := TX13) ga_exw_X13 hx hb hst hts hown hI (hl.1.trans hml.symm) in_X13 tyX13 tyX13_ok nmX13 rfl (by decide) ⟨rfl, rfl, rfl⟩ ⟨rfl, rfl, rfl⟩ ⟨rfl, rfl, rfl⟩ hq hlen hraw dX13_init_1 (Nat.le_of_ble_eq_true rfl) (Nat.le_trans (Nat.add_le_add_right (ga_sum [] (Nat.le_of_ble_eq_true rfl)) 81) (Nat.le_of_ble_eq_true rfl)) hbc hbs (fun fs_2 H locs k1 k2 hI => ?_)
  obtain ⟨h_3, eh_3⟩ : ∃ z, z = ga_set h p0 (ga_O 11 fs_2) := ⟨_, rfl⟩
  rw [← eh_3] at hI
  have hw := hw fs_2 k1 k2 h_3 eh_3
  refine lv_aload_n hx hb dX13_init_4 rfl (lv_at hl 0 rfl) ?_
  refine lv_iload_n hx hb dX13_init_5 rfl (lv_at hl 1 rfl) ?_
  obtain ⟨fs_4, hq, hk, hw⟩ := hw
  refine ga_putF (ci := 11) (T := TX13) (v := .int p1) (ty := tyX13 6) hx hb hts hown hI in_X13 rfl tyX13 tyX13_ok nmX13 6 (by decide) q3535 (fun _ z => z) rfl hnm rfl (tyX13_ok 6 (by decide)) rfl rfl hq hk dX13_init_6 (fun H locs hI => ?_)
  obtain ⟨h_5, eh_5⟩ : ∃ z, z = ga_set h_3 p0 (ga_O 11 (fs_4.set 6 (.int p1))) := ⟨_, rfl⟩
  rw [← eh_5] at hI
  have hw := hw h_5 eh_5
  exact ga_vretx hx hb hr hlk hI hw hbc hbs dX13_init_9
theorem hdG_X13_init : yX13_init.cls ≠ "java/lang/invoke/MethodHandle" ∧ yX13_init.cls ≠ "java/lang/invoke/VarHandle" ∧ (parseMethodDescriptor yX13_init.desc).map (fun d => d.parameters.length) = some 1 := by decide +kernel
def gw_X12_word (K : ga_K) (p0 : Nat) (h : ga_H) (mc ms : Nat) (post : Option Nat → ga_H → Prop) (xp : String → Nat → ga_H → Prop) : Prop :=
  1 ≤ mc ∧ 1 ≤ ms ∧ ∀ q_1 : Nat, h q_1 = none → ∀ h_2 : ga_H, h_2 = ga_set h q_1 (ga_O 21 [va_rf none]) → (∃ kc_3 ks_4 : Nat, kc_3 ≤ (mc - 1) ∧ ks_4 ≤ (ms - 1) ∧ gw_J45_of K (some (K.2 25)) (some (K.2 26)) (some (K.2 27)) (some (K.2 28)) (some (K.2 29)) (some (K.2 30)) h_2 kc_3 ks_4 (fun (r_6 : Option Nat) (h_5 : ga_H) => ∃ kc_7 ks_8 : Nat, kc_7 ≤ ((mc - 1) - kc_3) ∧ ks_8 ≤ ((ms - 1) - ks_4) ∧ gw_J44_init K q_1 r_6 h_5 kc_7 ks_8 (fun (h_9 : ga_H) => 1 ≤ (((mc - 1) - kc_3) - kc_7) ∧ 4 ≤ (((ms - 1) - ks_4) - ks_8) ∧ ∀ q_13 : Nat, h_9 q_13 = none → ∀ h_14 : ga_H, h_14 = ga_set h_9 q_13 (ga_O 22 [va_rf none, .int 0, .int 0, .int 0]) → (∃ kc_15 ks_16 : Nat, kc_15 ≤ ((((mc - 1) - kc_3) - kc_7) - 1) ∧ ks_16 ≤ ((((ms - 1) - ks_4) - ks_8) - 4) ∧ gw_J6_init K q_13 h_14 kc_15 ks_16 (fun (h_17 : ga_H) => ∃ (In_18 : ga_H → Nat → Nat → Prop) (mu_18 : ga_H → Nat → Nat → Nat), In_18 h_17 (((((mc - 1) - kc_3) - kc_7) - 1) - kc_15) (((((ms - 1) - ks_4) - ks_8) - 4) - ks_16) ∧ ∀ (h_18 : ga_H) (bc_18 : Nat) (bs_18 : Nat), In_18 h_18 bc_18 bs_18 → (∃ kc_19 ks_20 : Nat, kc_19 ≤ bc_18 ∧ ks_20 ≤ bs_18 ∧ ∃ fs_21 : List Value, ga_at K h_18 q_13 (ga_O 22 fs_21) ∧ gw_J6_toString K q_13 h_18 kc_19 ks_20 (fun (r_23 : Option Nat) (h_22 : ga_H) => ∃ kc_24 ks_25 : Nat, kc_24 ≤ (bc_18 - kc_19) ∧ ks_25 ≤ (bs_18 - ks_20) ∧ ∃ fs_26 : List Value, ga_at K h_22 q_1 (ga_O 21 fs_26) ∧ gw_J44_contains K q_1 r_23 h_22 kc_24 ks_25 (fun (r_28 : Int32) (h_27 : ga_H) => (¬ r_28 = (0 : Int32) → (∃ kc_30 ks_31 : Nat, kc_30 ≤ ((bc_18 - kc_19) - kc_24) ∧ ks_31 ≤ ((bs_18 - ks_20) - ks_25) ∧ ∃ fs_32 : List Value, ga_at K h_27 q_13 (ga_O 22 fs_32) ∧ gw_J6_toString K q_13 h_27 kc_30 ks_31 (fun (r_34 : Option Nat) (h_33 : ga_H) => post r_34 h_33))) ∧ (r_28 = (0 : Int32) → (∃ fs_35 : List Value, ga_at K h_27 p0 (ga_O 10 fs_35) ∧ gw_X12_peek K p0 h_27 (fun (r_37 : Int32) (h_36 : ga_H) => ∃ kc_38 ks_39 : Nat, kc_38 ≤ ((bc_18 - kc_19) - kc_24) ∧ ks_39 ≤ ((bs_18 - ks_20) - ks_25) ∧ ∃ fs_40 : List Value, ga_at K h_36 q_13 (ga_O 22 fs_40) ∧ gw_J6_append_6 K q_13 r_37 h_36 kc_38 ks_39 (fun (r_42 : Option Nat) (h_41 : ga_H) => ∃ a_43 : Nat, r_42 = some a_43 ∧ ∃ kc_44 ks_45 : Nat, kc_44 ≤ (((bc_18 - kc_19) - kc_24) - kc_38) ∧ ks_45 ≤ (((bs_18 - ks_20) - ks_25) - ks_39) ∧ ∃ fs_46 : List Value, ga_at K h_41 a_43 (ga_O 22 fs_46) ∧ gw_J6_toString K a_43 h_41 kc_44 ks_45 (fun (r_48 : Option Nat) (h_47 : ga_H) => ∃ kc_49 ks_50 : Nat, kc_49 ≤ ((((bc_18 - kc_19) - kc_24) - kc_38) - kc_44) ∧ ks_50 ≤ ((((bs_18 - ks_20) - ks_25) - ks_39) - ks_45) ∧ gw_X12_isBegun K (some q_1) r_48 h_47 kc_49 ks_50 (fun (r_52 : Int32) (h_51 : ga_H) => (¬ r_52 = (0 : Int32) → (∃ (fs_54 : List Value) (v_55 : Int32), h_51 p0 = some (ga_O 10 fs_54) ∧ fs_54[3]? = some (.int v_55) ∧ (∃ fs_56 : List Value, h_51 p0 = some (ga_O 10 fs_56) ∧ 3 < fs_56.length ∧ ∀ h_57 : ga_H, h_57 = ga_set h_51 p0 (ga_O 10 (fs_56.set 3 (.int (v_55 + (1 : Int32))))) → (In_18 h_57 (((((bc_18 - kc_19) - kc_24) - kc_38) - kc_44) - kc_49) (((((bs_18 - ks_20) - ks_25) - ks_39) - ks_45) - ks_50) ∧ mu_18 h_57 (((((bc_18 - kc_19) - kc_24) - kc_38) - kc_44) - kc_49) (((((bs_18 - ks_20) - ks_25) - ks_39) - ks_45) - ks_50) < mu_18 h_18 bc_18 bs_18)))) ∧ (r_52 = (0 : Int32) → (1 ≤ (((((bc_18 - kc_19) - kc_24) - kc_38) - kc_44) - kc_49) ∧ 7 ≤ (((((bs_18 - ks_20) - ks_25) - ks_39) - ks_45) - ks_50) ∧ ∀ q_58 : Nat, h_51 q_58 = none → ∀ h_59 : ga_H, h_59 = ga_set h_51 q_58 (ga_O 11 [va_rf none, va_rf none, va_rf none, va_rf none, va_rf none, .int 0, .int 0]) → (∃ (fs_60 : List Value) (v_61 : Int32), h_59 p0 = some (ga_O 10 fs_60) ∧ fs_60[3]? = some (.int v_61) ∧ (gw_X13_init K q_58 v_61 h_59 (fun (h_62 : ga_H) => ∃ fs_66 : List Value, h_62 q_58 = some (ga_O 11 fs_66) ∧ (xp "PaperStore$BadText" q_58 h_62)) (fun (E_63 : String) (q_64 : Nat) (h_65 : ga_H) => False))))))))))))))))) (fun (E_10 : String) (q_11 : Nat) (h_12 : ga_H) => False)))
set_option maxHeartbeats 4000000 in
theorem gm_X12_word (l : Launch) (hst : l.stackTraces = false) (g : ga_G) (p0 : Nat) (h : ga_H) (mc ms : Nat) (post : Option Nat → ga_H → Prop) (xp : String → Nat → ga_H → Prop) (hw : gw_X12_word g.2.2 p0 h mc ms post xp) : vx_Met l yX12_word (ws_ yX12_word cX12_word 3 (some (.object "java/lang/String"))) ({ frames := 28, cells := mc, slots := ms, locals := 1377 } : Room) (va_Pc [.ref p0] (ga_B g h)) (va_Qq post (ga_E g) (ga_A g)) (ga_X g xp) mc ms (ga_A g) := by
  refine ga_metx (own := "PaperStore$Parser") (nm := "word") (by decide) rfl rfl (by exact Nat.le_of_ble_eq_true rfl) (fun p e s m below meth c ls hC htab hI hl => ?_)
  have hl : lv_has ls 3 [(0, .ref p0)] := hl
  generalize ([.ref p0] : List Value).toArray = args at hC ⊢
  obtain ⟨hx, hb, hml, hown, hts, hr, hlk, hnm⟩ := hC
  unfold gw_X12_word at hw
  obtain ⟨H, eH⟩ : ∃ z, z = s.heap := ⟨_, rfl⟩
  obtain ⟨locs, elo⟩ : ∃ z : List Loc, z = [] := ⟨_, rfl⟩
  rw [← eH, ← elo] at hI ⊢
  obtain ⟨cells, slots, hbc, hbs, e0, e1⟩ : ∃ a b : Nat, a + mc ≤ mc ∧ b + ms ≤ ms ∧ a = 0 ∧ b = 0 := ⟨0, 0, by omega, by omega, rfl, rfl⟩
  show W p l e ({ frames := 28, cells := mc, slots := ms, locals := 1377 } : Room) s m args below meth c H locs 0 0 (vx_MQ below (va_Qq post (ga_E g) (ga_A g)) (ga_X g xp) args s mc ms (ga_A g)) (F0 m 0 ls [])
  suffices hgoal : W p l e ({ frames := 28, cells := mc, slots := ms, locals := 1377 } : Room) s m args below meth c H locs cells slots (vx_MQ below (va_Qq post (ga_E g) (ga_A g)) (ga_X g xp) args s mc ms (ga_A g)) (F0 m 0 ls []) by rw [e0, e1] at hgoal; exact hgoal
  refine ga_new (ci := 21) (T := TJ44) hx hb hts hown hI in_J44 rfl tyJ44 tyJ44_ok q2877 q2878 q160 [va_rf none] ga_df_J44 hbc hbs hw.1 hw.2.1 dX12_word_0 (fun q_1 H cells slots hn_q_1 hI hbc hbs => ?_)
  obtain ⟨h_2, eh_2⟩ : ∃ z, z = ga_set h q_1 (ga_O 21 [va_rf none]) := ⟨_, rfl⟩
  rw [← eh_2] at hI
  have hw := hw.2.2 q_1 hn_q_1 h_2 eh_2
  refine lv_dup hx hb dX12_word_3 rfl ?_
  refine ga_ldcs hx hb hI 5 hown rfl dX12_word_4 ?_
  refine ga_ldcs hx hb hI 6 hown rfl dX12_word_6 ?_
  refine ga_ldcs hx hb hI 7 hown rfl dX12_word_8 ?_
  refine ga_ldcs hx hb hI 8 hown rfl dX12_word_10 ?_
  refine ga_ldcs hx hb hI 9 hown rfl dX12_word_12 ?_
  refine ga_ldcs hx hb hI 10 hown rfl dX12_word_14 ?_
  obtain ⟨kc_3, ks_4, hk1, hk2, hw⟩ := hw
  refine ga_callq (va_runS (As := [va_rf (some (g.2.2.2 25)), va_rf (some (g.2.2.2 26)), va_rf (some (g.2.2.2 27)), va_rf (some (g.2.2.2 28)), va_rf (some (g.2.2.2 29)), va_rf (some (g.2.2.2 30))]) (rest := [.ref q_1, .ref q_1]) ⟨hx, hb, hml, hown, hts⟩ (gm_J45_of l g (some (g.2.2.2 25)) (some (g.2.2.2 26)) (some (g.2.2.2 27)) (some (g.2.2.2 28)) (some (g.2.2.2 29)) (some (g.2.2.2 30)) h_2 kc_3 ks_4 _ hw) (va_cwS 6 hts (lw_S q2885 q2886 q161 q2887) rfl rfl rfl hdG_J45_of ⟨Nat.le_of_ble_eq_true rfl, Nat.le_of_ble_eq_true rfl⟩) (ga_preS hI rfl) rfl rfl hl.1 rfl (ga_room (Nat.le_of_ble_eq_true rfl)) dX12_word_16 ⟨Nat.le_trans (Nat.add_le_add_left hk1 _) hbc, Nat.le_trans (Nat.add_le_add_left hk2 _) hbs⟩) hI hbc hbs hk1 hk2 (fun r_6 h_5 H locs cells slots hw hI hbc hbs => ?_)
  obtain ⟨kc_7, ks_8, hk1, hk2, hw⟩ := hw
  refine ga_xcallv (vx_runI (As := [va_rf r_6]) (rest := [.ref q_1]) ⟨hx, hb, hml, hown, hts⟩ (gm_J44_init l hst g q_1 r_6 h_5 kc_7 ks_8 _ _ hw) (cwI 1 hts (lw_meth q2936) rfl rfl rfl (hts _ q160) (hts _ q2934) (hts _ q2935) rfl hdG_J44_init ⟨Nat.le_of_ble_eq_true rfl, Nat.le_of_ble_eq_true rfl⟩) (ga_preS hI rfl) rfl rfl hl.1 rfl (ga_room (Nat.le_of_ble_eq_true rfl)) dX12_word_19 ⟨Nat.le_trans (Nat.add_le_add_left hk1 _) hbc, Nat.le_trans (Nat.add_le_add_left hk2 _) hbs⟩) hI hbc hbs hk1 hk2 (fun E_10 q_11 h_12 ce H locs cells slots hw hI hce hbc hbs => ?_) (fun h_9 H locs cells slots hw hI hbc hbs => ?_)
  · exact hw.elim
  · skip
    refine lv_astore_n (i := 1) (lv' := [(1, .ref q_1), (0, .ref p0)]) hx hb dX12_word_22 rfl hl (by decide) rfl (fun ls hl => ?_)
    refine ga_new (ci := 22) (T := TJ6) hx hb hts hown hI in_J6 rfl tyJ6 tyJ6_ok q3454 q354 q110 [va_rf none, .int 0, .int 0, .int 0] ga_df_J6 hbc hbs hw.1 hw.2.1 dX12_word_23 (fun q_13 H cells slots hn_q_13 hI hbc hbs => ?_)
    obtain ⟨h_14, eh_14⟩ : ∃ z, z = ga_set h_9 q_13 (ga_O 22 [va_rf none, .int 0, .int 0, .int 0]) := ⟨_, rfl⟩
    rw [← eh_14] at hI
    have hw := hw.2.2 q_13 hn_q_13 h_14 eh_14
    refine lv_dup hx hb dX12_word_26 rfl ?_
    obtain ⟨kc_15, ks_16, hk1, hk2, hw⟩ := hw
    refine ga_callv (va_runI (As := []) (rest := [.ref q_13]) ⟨hx, hb, hml, hown, hts⟩ (gm_J6_init l g q_13 h_14 kc_15 ks_16 _ hw) (cwI 0 hts (lw_meth q357) rfl rfl rfl (hts _ q110) (hts _ q3455) (hts _ q356) rfl hdG_J6_init ⟨Nat.le_of_ble_eq_true rfl, Nat.le_of_ble_eq_true rfl⟩) (ga_preS hI rfl) rfl rfl hl.1 rfl (ga_room (Nat.le_of_ble_eq_true rfl)) dX12_word_27 ⟨Nat.le_trans (Nat.add_le_add_left hk1 _) hbc, Nat.le_trans (Nat.add_le_add_left hk2 _) hbs⟩) hI hbc hbs hk1 hk2 (fun h_17 H locs cells slots hw hI hbc hbs => ?_)
    refine lv_astore_n (i := 2) (lv' := [(2, .ref q_13), (1, .ref q_1), (0, .ref p0)]) hx hb dX12_word_30 rfl hl (by decide) rfl (fun ls hl => ?_)
    obtain ⟨In_18, mu_18, h0_18, hw⟩ := hw
    have hL_18 : ∀ (n : Nat) (h_18 : ga_H) (bc_18 : Nat) (bs_18 : Nat) (H : Heap) (locs : List Loc) (cells slots : Nat) (ls : Array Slot), mu_18 h_18 bc_18 bs_18 < n → In_18 h_18 bc_18 bs_18 → ga_I g h_18 s H locs → cells + bc_18 ≤ mc → slots + bs_18 ≤ ms → lv_has ls 3 [(0, .ref p0), (1, va_rf (some q_1)), (2, va_rf (some q_13))] → W p l e ({ frames := 28, cells := mc, slots := ms, locals := 1377 } : Room) s m args below meth c H locs cells slots (vx_MQ below (va_Qq post (ga_E g) (ga_A g)) (ga_X g xp) args s mc ms (ga_A g)) (F0 m 31 ls []) := by
      intro n
      induction n with
      | zero => intro h_18 bc_18 bs_18 H locs cells slots ls hn _ _ _ _ _; exact absurd hn (Nat.not_lt_zero _)
      | succ n ih_18 =>
        intro h_18 bc_18 bs_18 H locs cells slots ls hn_18 hi_18 hI hbc hbs hl
        have hw := hw h_18 bc_18 bs_18 hi_18
        refine ga_aload_n hx hb dX12_word_31 rfl (lv_at hl 1 rfl) ?_
        refine ga_aload_n hx hb dX12_word_32 rfl (lv_at hl 2 rfl) ?_
        obtain ⟨kc_19, ks_20, hk1, hk2, hw⟩ := hw
        obtain ⟨fs_21, hq, hw⟩ := hw
        refine ga_callq (va_runV (As := []) (rest := [va_rf (some q_1)]) ⟨hx, hb, hml, hown, hts⟩ (gm_J6_toString l g q_13 h_18 kc_19 ks_20 _ hw) (cwV 0 hts (lw_V q3456 q1017 q1018 q110 q1019) rfl rfl rfl ⟨rfl, hdG_J6_toString⟩ ⟨Nat.le_of_ble_eq_true rfl, Nat.le_of_ble_eq_true rfl⟩) (ga_preV hI hq rfl rfl) rfl rfl hl.1 rfl (ga_room (Nat.le_of_ble_eq_true rfl)) dX12_word_33 ⟨Nat.le_trans (Nat.add_le_add_left hk1 _) hbc, Nat.le_trans (Nat.add_le_add_left hk2 _) hbs⟩) hI hbc hbs hk1 hk2 (fun r_23 h_22 H locs cells slots hw hI hbc hbs => ?_)
        obtain ⟨kc_24, ks_25, hk1, hk2, hw⟩ := hw
        obtain ⟨fs_26, hq, hw⟩ := hw
        refine ga_callFi (va_runF (As := [va_rf r_23]) (rest := []) (hI.2.1.1.1.1 21 _ rfl).2 ⟨hx, hb, hml, hown, hts⟩ (gm_J44_contains l g q_1 r_23 h_22 kc_24 ks_25 _ hw) (va_cwF 1 hts (lw_app (List.forall_mem_cons.mpr ⟨q3458, List.forall_mem_cons.mpr ⟨q3488, List.forall_mem_cons.mpr ⟨q3490, List.forall_mem_cons.mpr ⟨q160, fun _ h => absurd h List.not_mem_nil⟩⟩⟩⟩) (lw_meth q3492)) rfl rfl rfl (hI.2.1.1.2.2 _ _ _ ⟨by decide +kernel, q3460, q3459, q3491, q3489, q660⟩) (by decide +kernel) ⟨Nat.le_of_ble_eq_true rfl, Nat.le_of_ble_eq_true rfl⟩) (ga_preV (C := "java/util/HashSet") hI hq rfl rfl) rfl rfl hl.1 rfl (ga_room (Nat.le_of_ble_eq_true rfl)) dX12_word_36 ⟨Nat.le_trans (Nat.add_le_add_left hk1 _) hbc, Nat.le_trans (Nat.add_le_add_left hk2 _) hbs⟩) hI hbc hbs hk1 hk2 (fun r_28 h_27 H locs cells slots hw hI hbc hbs => ?_)
        refine lv_if_ne (tgt := 87) hx hb dX12_word_41 (by decide) (fun hc_29 => ?_) (fun hc_29 => ?_)
        · have hw := hw.1 hc_29
          refine ga_aload_n hx hb dX12_word_87 rfl (lv_at hl 2 rfl) ?_
          obtain ⟨kc_30, ks_31, hk1, hk2, hw⟩ := hw
          obtain ⟨fs_32, hq, hw⟩ := hw
          refine ga_callq (va_runV (As := []) (rest := []) ⟨hx, hb, hml, hown, hts⟩ (gm_J6_toString l g q_13 h_27 kc_30 ks_31 _ hw) (cwV 0 hts (lw_V q3456 q1017 q1018 q110 q1019) rfl rfl rfl ⟨rfl, hdG_J6_toString⟩ ⟨Nat.le_of_ble_eq_true rfl, Nat.le_of_ble_eq_true rfl⟩) (ga_preV hI hq rfl rfl) rfl rfl hl.1 rfl (ga_room (Nat.le_of_ble_eq_true rfl)) dX12_word_88 ⟨Nat.le_trans (Nat.add_le_add_left hk1 _) hbc, Nat.le_trans (Nat.add_le_add_left hk2 _) hbs⟩) hI hbc hbs hk1 hk2 (fun r_34 h_33 H locs cells slots hw hI hbc hbs => ?_)
          exact ga_qretx (v := r_34) hx hb hr (Or.inl ⟨_, rfl⟩) hlk hI hw (Nat.le_trans (Nat.le_add_right _ _) hbc) (Nat.le_trans (Nat.le_add_right _ _) hbs) dX12_word_91
        · have hw := hw.2 hc_29
          refine ga_aload_n hx hb dX12_word_44 rfl (lv_at hl 1 rfl) ?_
          refine ga_aload_n hx hb dX12_word_45 rfl (lv_at hl 2 rfl) ?_
          refine lv_aload_n hx hb dX12_word_46 rfl (lv_at hl 0 rfl) ?_
          obtain ⟨fs_35, hq, hw⟩ := hw
          refine ga_calli (va_runV (As := []) (rest := [va_rf (some q_13), va_rf (some q_1)]) ⟨hx, hb, hml, hown, hts⟩ (gm_X12_peek l g p0 h_27 _ hw) (cwV 0 hts (lw_V q3494 q3496 qs35 q159 q3497) rfl rfl rfl ⟨rfl, hdG_X12_peek⟩ ⟨Nat.le_of_ble_eq_true rfl, Nat.le_of_ble_eq_true rfl⟩) (ga_preV hI hq rfl rfl) rfl rfl hl.1 rfl (ga_room (Nat.le_of_ble_eq_true rfl)) dX12_word_47 ⟨Nat.le_trans (Nat.add_le_add_left (Nat.zero_le _) _) hbc, Nat.le_trans (Nat.add_le_add_left (Nat.zero_le _) _) hbs⟩) hI hbc hbs (Nat.zero_le _) (Nat.zero_le _) (fun r_37 h_36 H locs cells slots hw hI hbc hbs => ?_)
          obtain ⟨kc_38, ks_39, hk1, hk2, hw⟩ := hw
          obtain ⟨fs_40, hq, hw⟩ := hw
          refine ga_callq (va_runV (As := [.int r_37]) (rest := [va_rf (some q_1)]) ⟨hx, hb, hml, hown, hts⟩ (gm_J6_append_6 l g q_13 r_37 h_36 kc_38 ks_39 _ hw) (cwV 1 hts (lw_V q3498 q3138 q3139 q110 q3140) rfl rfl rfl ⟨rfl, hdG_J6_append_6⟩ ⟨Nat.le_of_ble_eq_true rfl, Nat.le_of_ble_eq_true rfl⟩) (ga_preV hI hq rfl rfl) rfl rfl hl.1 rfl (ga_room (Nat.le_of_ble_eq_true rfl)) dX12_word_50 ⟨Nat.le_trans (Nat.add_le_add_left hk1 _) hbc, Nat.le_trans (Nat.add_le_add_left hk2 _) hbs⟩) hI hbc hbs hk1 hk2 (fun r_42 h_41 H locs cells slots hw hI hbc hbs => ?_)
          obtain ⟨a_43, ea_43, hw⟩ := hw
          rewrite [ea_43]
          obtain ⟨kc_44, ks_45, hk1, hk2, hw⟩ := hw
          obtain ⟨fs_46, hq, hw⟩ := hw
          refine ga_callq (va_runV (As := []) (rest := [va_rf (some q_1)]) ⟨hx, hb, hml, hown, hts⟩ (gm_J6_toString l g a_43 h_41 kc_44 ks_45 _ hw) (cwV 0 hts (lw_V q3456 q1017 q1018 q110 q1019) rfl rfl rfl ⟨rfl, hdG_J6_toString⟩ ⟨Nat.le_of_ble_eq_true rfl, Nat.le_of_ble_eq_true rfl⟩) (ga_preV hI hq rfl rfl) rfl rfl hl.1 rfl (ga_room (Nat.le_of_ble_eq_true rfl)) dX12_word_53 ⟨Nat.le_trans (Nat.add_le_add_left hk1 _) hbc, Nat.le_trans (Nat.add_le_add_left hk2 _) hbs⟩) hI hbc hbs hk1 hk2 (fun r_48 h_47 H locs cells slots hw hI hbc hbs => ?_)
          obtain ⟨kc_49, ks_50, hk1, hk2, hw⟩ := hw
          refine ga_calli (va_runS (As := [va_rf (some q_1), va_rf r_48]) (rest := []) ⟨hx, hb, hml, hown, hts⟩ (gm_X12_isBegun l g (some q_1) r_48 h_47 kc_49 ks_50 _ hw) (va_cwS 2 hts (lw_S q3499 q3500 q159 q3501) rfl rfl rfl hdG_X12_isBegun ⟨Nat.le_of_ble_eq_true rfl, Nat.le_of_ble_eq_true rfl⟩) (ga_preS hI rfl) rfl rfl hl.1 rfl (ga_room (Nat.le_of_ble_eq_true rfl)) dX12_word_56 ⟨Nat.le_trans (Nat.add_le_add_left hk1 _) hbc, Nat.le_trans (Nat.add_le_add_left hk2 _) hbs⟩) hI hbc hbs hk1 hk2 (fun r_52 h_51 H locs cells slots hw hI hbc hbs => ?_)
          refine lv_if_ne (tgt := 74) hx hb dX12_word_59 (by decide) (fun hc_53 => ?_) (fun hc_53 => ?_)
          · have hw := hw.1 hc_53
            refine lv_aload_n hx hb dX12_word_74 rfl (lv_at hl 0 rfl) ?_
            refine lv_dup hx hb dX12_word_75 rfl ?_
            obtain ⟨fs_54, v_55, hq, hv, hw⟩ := hw
            refine ga_get (ci := 10) (T := TX12) (v := .int v_55) hx hb hts hown hI in_X12 rfl 3 (by decide) q2855 (fun _ z => z) (ga_at.h hq) hv dX12_word_76 ?_
            refine lv_iconst (v := 1) hx hb dX12_word_79 (by decide) ?_
            refine lv_iadd hx hb dX12_word_80 ?_
            obtain ⟨fs_56, hq, hk, hw⟩ := hw
            refine ga_put (ci := 10) (T := TX12) (v := .int (v_55 + (1 : Int32))) (ty := tyX12 3) hx hb hts hown hI in_X12 rfl tyX12 tyX12_ok nmX12 3 (by decide) q2855 (fun _ z => z) rfl (tyX12_ok 3 (by decide)) rfl rfl hq hk dX12_word_81 (fun H locs hI => ?_)
            obtain ⟨h_57, eh_57⟩ : ∃ z, z = ga_set h_51 p0 (ga_O 10 (fs_56.set 3 (.int (v_55 + (1 : Int32))))) := ⟨_, rfl⟩
            rw [← eh_57] at hI
            have hw := hw h_57 eh_57
            refine lv_goto (tgt := 31) hx hb dX12_word_84 (by decide) ?_
            exact ih_18 _ _ _ H locs cells slots ls (Nat.lt_of_lt_of_le hw.2 (Nat.le_of_lt_succ hn_18)) hw.1 hI hbc hbs (lv_sub hl [0, 1, 2] rfl)
          · have hw := hw.2 hc_53
            refine ga_newR (ci := 11) (T := TX13) hx hb hts hown hI in_X13 rfl tyX13 tyX13_ok q3522 q3523 q171 [va_rf none, va_rf none, va_rf none, va_rf none, va_rf none, .int 0, .int 0] ga_df_X13 hbc hbs hw.1 hw.2.1 dX12_word_62 (fun q_58 H cells slots hn_q_58 hI hraw hbc hbs => ?_)
            obtain ⟨h_59, eh_59⟩ : ∃ z, z = ga_set h_51 q_58 (ga_O 11 [va_rf none, va_rf none, va_rf none, va_rf none, va_rf none, .int 0, .int 0]) := ⟨_, rfl⟩
            rw [← eh_59] at hI
            have hw := hw.2.2 q_58 hn_q_58 h_59 eh_59
            refine lv_dup hx hb dX12_word_65 rfl ?_
            refine lv_aload_n hx hb dX12_word_66 rfl (lv_at hl 0 rfl) ?_
            obtain ⟨fs_60, v_61, hq, hv, hw⟩ := hw
            refine ga_get (ci := 10) (T := TX12) (v := .int v_61) hx hb hts hown hI in_X12 rfl 3 (by decide) q2855 (fun _ z => z) (ga_at.h hq) hv dX12_word_67 ?_
            refine ga_xcallv (vx_runI (As := [.int v_61]) (rest := [.ref q_58]) ⟨hx, hb, hml, hown, hts⟩ (gm_X13_init l hst g q_58 v_61 h_59 _ _ hw) (cwI 1 hts (lw_meth q3533) rfl rfl rfl (hts _ q171) (hts _ q3531) (hts _ q3532) rfl hdG_X13_init ⟨Nat.le_of_ble_eq_true rfl, Nat.le_of_ble_eq_true rfl⟩) (ga_preSP hI hraw rfl) rfl rfl hl.1 rfl (ga_room (Nat.le_of_ble_eq_true rfl)) dX12_word_70 ⟨Nat.le_trans (Nat.add_le_add_left (Nat.zero_le _) _) hbc, Nat.le_trans (Nat.add_le_add_left (Nat.zero_le _) _) hbs⟩) hI hbc hbs (Nat.zero_le _) (Nat.zero_le _) (fun E_63 q_64 h_65 ce H locs cells slots hw hI hce hbc hbs => ?_) (fun h_62 H locs cells slots hw hI hbc hbs => ?_)
            · exact hw.elim
            · skip
              obtain ⟨fs_66, hq, hw⟩ := hw
              refine ga_athrow (ci := 11) hx hb hI (ga_at.h hq) rfl dX12_word_73 (fun ce hce => ?_)
              exact ga_out hown hlk hI hw (by rw [htab]; intro z hz; cases hz) hce (Nat.le_trans (Nat.le_add_right _ _) hbc) (Nat.le_trans (Nat.le_add_right _ _) hbs)
    exact hL_18 _ _ _ _ H locs cells slots ls (Nat.lt_succ_self _) h0_18 hI hbc hbs (lv_sub hl [2, 1, 0] rfl)
theorem hdG_X12_word : yX12_word.cls ≠ "java/lang/invoke/MethodHandle" ∧ yX12_word.cls ≠ "java/lang/invoke/VarHandle" ∧ (parseMethodDescriptor yX12_word.desc).map (fun d => d.parameters.length) = some 0 := by decide +kernel
def gw_X12_manyNumbers_83 (K : ga_K) (post : Int32 → ga_H → Prop) (v2 : Int32) (h : ga_H) (bc bs : Nat) : Prop :=
  (v2 = (0 : Int32) → (post (3 : Int32) h)) ∧ (¬ v2 = (0 : Int32) → ((v2 = (1 : Int32) → (post (1 : Int32) h)) ∧ (¬ v2 = (1 : Int32) → ((v2 = (2 : Int32) → (post (1 : Int32) h)) ∧ (¬ v2 = (2 : Int32) → (post (2 : Int32) h))))))
set_option maxHeartbeats 4000000 in
theorem gj_X12_manyNumbers_83 {p : Program} {l : Launch} {e : Env} {s : State} {m : MethodId} {args : Array Value} {below : List Frame} {meth : Method} {c : Code} {mc ms : Nat} {H : Heap} {locs : List Loc} {cells slots : Nat} {ls : Array Slot} (g : ga_G) (post : Int32 → ga_H → Prop) (v2 : Int32) (h : ga_H) (bc bs : Nat) (hC : ga_Cx p s m args meth c cX12_manyNumbers 3 (some .int) "PaperStore$Parser" "manyNumbers") (hw : gw_X12_manyNumbers_83 g.2.2 post v2 h bc bs) (hI : ga_I g h s H locs) (hbc : cells + bc ≤ mc) (hbs : slots + bs ≤ ms) (hl : lv_has ls 3 [(2, .int v2)]) : W p l e ({ frames := 23, cells := mc, slots := ms, locals := 472 } : Room) s m args below meth c H locs cells slots (MQ below (va_Qi post (ga_E g) (ga_A g)) args s mc ms (ga_A g)) (F0 m 83 ls []) := by
  obtain ⟨hx, hb, hml, hown, hts, hr, hlk, hnm⟩ := hC
  unfold gw_X12_manyNumbers_83 at hw
  refine lv_iload_n hx hb dX12_manyNumbers_83 rfl (lv_at hl 0 rfl) ?_
  by_cases hc_13 : v2 = (0 : Int32)
  · have hw := hw.1 hc_13
    refine lv_tableIn (tgt := 112) hx hb dX12_manyNumbers_84 (by rw [hc_13]; decide) (by rw [hc_13]; decide) (off := 28) (by rw [hc_13]; rfl) (by decide) ?_
    refine lv_iconst (v := 3) hx hb dX12_manyNumbers_112 (by decide) ?_
    exact ga_iret hx hb hr rfl hlk hI hw (Nat.le_trans (Nat.le_add_right _ _) hbc) (Nat.le_trans (Nat.le_add_right _ _) hbs) dX12_manyNumbers_113
  have hw := hw.2 hc_13
  by_cases hc_14 : v2 = (1 : Int32)
  · have hw := hw.1 hc_14
    refine lv_tableIn (tgt := 114) hx hb dX12_manyNumbers_84 (by rw [hc_14]; decide) (by rw [hc_14]; decide) (off := 30) (by rw [hc_14]; rfl) (by decide) ?_
    refine lv_iconst (v := 1) hx hb dX12_manyNumbers_114 (by decide) ?_
    exact ga_iret hx hb hr rfl hlk hI hw (Nat.le_trans (Nat.le_add_right _ _) hbc) (Nat.le_trans (Nat.le_add_right _ _) hbs) dX12_manyNumbers_115
  have hw := hw.2 hc_14
  by_cases hc_15 : v2 = (2 : Int32)
  · have hw := hw.1 hc_15
    refine lv_tableIn (tgt := 114) hx hb dX12_manyNumbers_84 (by rw [hc_15]; decide) (by rw [hc_15]; decide) (off := 30) (by rw [hc_15]; rfl) (by decide) ?_
    refine lv_iconst (v := 1) hx hb dX12_manyNumbers_114 (by decide) ?_
    exact ga_iret hx hb hr rfl hlk hI hw (Nat.le_trans (Nat.le_add_right _ _) hbc) (Nat.le_trans (Nat.le_add_right _ _) hbs) dX12_manyNumbers_115
  have hw := hw.2 hc_15
  refine lv_tableOut (tgt := 116) hx hb dX12_manyNumbers_84 (zs_out 0 2 3 [0, 1, 2] (by decide) (by decide) (List.forall_mem_cons.mpr ⟨hc_13, List.forall_mem_cons.mpr ⟨hc_14, List.forall_mem_cons.mpr ⟨hc_15, fun _ h => absurd h List.not_mem_nil⟩⟩⟩)) (by decide) ?_
  refine lv_iconst (v := 2) hx hb dX12_manyNumbers_116 (by decide) ?_
  exact ga_iret hx hb hr rfl hlk hI hw (Nat.le_trans (Nat.le_add_right _ _) hbc) (Nat.le_trans (Nat.le_add_right _ _) hbs) dX12_manyNumbers_117
def gw_X12_manyNumbers (K : ga_K) (p0 : Option Nat) (h : ga_H) (mc ms : Nat) (post : Int32 → ga_H → Prop) : Prop :=
  ∃ a_1 : Nat, p0 = some a_1 ∧ ∃ kc_2 ks_3 : Nat, kc_2 ≤ mc ∧ ks_3 ≤ ms ∧ ∃ fs_4 : List Value, ga_at K h a_1 (ga_O 23 fs_4) ∧ gw_J7_hashCode K a_1 h kc_2 ks_3 (fun (r_6 : Int32) (h_5 : ga_H) => (r_6 = (-1253024261 : Int32) → (∃ a_8 : Nat, p0 = some a_8 ∧ ∃ fs_9 : List Value, ga_at K h_5 a_8 (ga_O 23 fs_9) ∧ gw_J7_equals K a_8 (some (K.2 26)) h_5 (fun (r_11 : Int32) (h_10 : ga_H) => (r_11 = (0 : Int32) → (gw_X12_manyNumbers_83 K post (-1 : Int32) h_10 (mc - kc_2) (ms - ks_3))) ∧ (¬ r_11 = (0 : Int32) → (gw_X12_manyNumbers_83 K post (0 : Int32) h_10 (mc - kc_2) (ms - ks_3)))))) ∧ (¬ r_6 = (-1253024261 : Int32) → ((r_6 = (3076183 : Int32) → (∃ a_17 : Nat, p0 = some a_17 ∧ ∃ fs_18 : List Value, ga_at K h_5 a_17 (ga_O 23 fs_18) ∧ gw_J7_equals K a_17 (some (K.2 30)) h_5 (fun (r_20 : Int32) (h_19 : ga_H) => (r_20 = (0 : Int32) → (gw_X12_manyNumbers_83 K post (-1 : Int32) h_19 (mc - kc_2) (ms - ks_3))) ∧ (¬ r_20 = (0 : Int32) → (gw_X12_manyNumbers_83 K post (2 : Int32) h_19 (mc - kc_2) (ms - ks_3)))))) ∧ (¬ r_6 = (3076183 : Int32) → ((r_6 = (3526536 : Int32) → (∃ a_23 : Nat, p0 = some a_23 ∧ ∃ fs_24 : List Value, ga_at K h_5 a_23 (ga_O 23 fs_24) ∧ gw_J7_equals K a_23 (some (K.2 27)) h_5 (fun (r_26 : Int32) (h_25 : ga_H) => (r_26 = (0 : Int32) → (gw_X12_manyNumbers_83 K post (-1 : Int32) h_25 (mc - kc_2) (ms - ks_3))) ∧ (¬ r_26 = (0 : Int32) → (gw_X12_manyNumbers_83 K post (1 : Int32) h_25 (mc - kc_2) (ms - ks_3)))))) ∧ (¬ r_6 = (3526536 : Int32) → (gw_X12_manyNumbers_83 K post (-1 : Int32) h_5 (mc - kc_2) (ms - ks_3))))))))
set_option maxHeartbeats 4000000 in
theorem gm_X12_manyNumbers (l : Launch) (g : ga_G) (p0 : Option Nat) (h : ga_H) (mc ms : Nat) (post : Int32 → ga_H → Prop) (hw : gw_X12_manyNumbers g.2.2 p0 h mc ms post) : Met l yX12_manyNumbers (ws_ yX12_manyNumbers cX12_manyNumbers 3 (some .int)) ({ frames := 23, cells := mc, slots := ms, locals := 472 } : Room) (va_Pc [va_rf p0] (ga_B g h)) (va_Qi post (ga_E g) (ga_A g)) mc ms (ga_A g) := by
  refine ga_met (own := "PaperStore$Parser") (nm := "manyNumbers") (by decide) rfl rfl (by cases p0 <;> exact Nat.le_of_ble_eq_true rfl) (fun p e s m below meth c ls hC hI hl => ?_)
  have hl : lv_has ls 3 [(0, va_rf p0)] := (by cases p0 <;> exact hl)
  generalize ([va_rf p0] : List Value).toArray = args at hC ⊢
  obtain ⟨hx, hb, hml, hown, hts, hr, hlk, hnm⟩ := hC
  unfold gw_X12_manyNumbers at hw
  obtain ⟨H, eH⟩ : ∃ z, z = s.heap := ⟨_, rfl⟩
  obtain ⟨locs, elo⟩ : ∃ z : List Loc, z = [] := ⟨_, rfl⟩
  rw [← eH, ← elo] at hI ⊢
  obtain ⟨cells, slots, hbc, hbs, e0, e1⟩ : ∃ a b : Nat, a + mc ≤ mc ∧ b + ms ≤ ms ∧ a = 0 ∧ b = 0 := ⟨0, 0, by omega, by omega, rfl, rfl⟩
  show W p l e ({ frames := 23, cells := mc, slots := ms, locals := 472 } : Room) s m args below meth c H locs 0 0 (MQ below (va_Qi post (ga_E g) (ga_A g)) args s mc ms (ga_A g)) (F0 m 0 ls [])
  suffices hgoal : W p l e ({ frames := 23, cells := mc, slots := ms, locals := 472 } : Room) s m args below meth c H locs cells slots (MQ below (va_Qi post (ga_E g) (ga_A g)) args s mc ms (ga_A g)) (F0 m 0 ls []) by rw [e0, e1] at hgoal; exact hgoal
  refine ga_aload_n hx hb dX12_manyNumbers_0 rfl (lv_at hl 0 rfl) ?_
  refine ga_astore_n (i := 1) (x := p0) (lv' := [(1, va_rf p0), (0, va_rf p0)]) hx hb dX12_manyNumbers_1 rfl hl (by decide) (by simp [ga_rcat, ga_cat_r, ga_cat_i, ga_cat_f, ga_cat_l, ga_cat_d]) (fun ls hl => ?_)
  refine lv_iconst (v := -1) hx hb dX12_manyNumbers_2 (by decide) ?_
  refine lv_istore_n (i := 2) (lv' := [(2, .int (-1 : Int32)), (1, va_rf p0), (0, va_rf p0)]) hx hb dX12_manyNumbers_3 rfl hl (by decide) (by simp [ga_rcat, ga_cat_r, ga_cat_i, ga_cat_f, ga_cat_l, ga_cat_d]) (fun ls hl => ?_)
  refine ga_aload_n hx hb dX12_manyNumbers_4 rfl (lv_at hl 1 rfl) ?_
  obtain ⟨a_1, ea_1, hw⟩ := hw
  rewrite [ea_1]
  obtain ⟨kc_2, ks_3, hk1, hk2, hw⟩ := hw
  obtain ⟨fs_4, hq, hw⟩ := hw
  refine ga_calli (va_runV (As := []) (rest := []) ⟨hx, hb, hml, hown, hts⟩ (gm_J7_hashCode l g a_1 h kc_2 ks_3 _ hw) (cwV 0 hts (lw_V q3544 q1826 q4135 q111 q1827) rfl rfl rfl ⟨rfl, hdG_J7_hashCode⟩ ⟨Nat.le_of_ble_eq_true rfl, Nat.le_of_ble_eq_true rfl⟩) (ga_preV hI hq rfl rfl) rfl rfl hl.1 rfl (ga_room (Nat.le_of_ble_eq_true rfl)) dX12_manyNumbers_5 ⟨Nat.le_trans (Nat.add_le_add_left hk1 _) hbc, Nat.le_trans (Nat.add_le_add_left hk2 _) hbs⟩) hI hbc hbs hk1 hk2 (fun r_6 h_5 H locs cells slots hw hI hbc hbs => ?_)
  by_cases hc_7 : r_6 = (-1253024261 : Int32)
  · have hw := hw.1 hc_7
    refine lv_lookup (tgt := 44) (off := 36) hx hb dX12_manyNumbers_8 (by decide) (by rw [hc_7]; decide) (by decide) ?_
    refine ga_aload_n hx hb dX12_manyNumbers_44 rfl (lv_at hl 1 rfl) ?_
    refine ga_ldcs hx hb hI 6 hown rfl dX12_manyNumbers_45 ?_
    obtain ⟨a_8, ea_8, hw⟩ := hw
    rewrite [ea_8]
    obtain ⟨fs_9, hq, hw⟩ := hw
    refine ga_calli (va_runV (As := [va_rf (some (g.2.2.2 26))]) (rest := []) ⟨hx, hb, hml, hown, hts⟩ (gm_J7_equals l g a_8 (some (g.2.2.2 26)) h_5 _ hw) (cwV 1 hts (lw_V q3545 q1935 q4136 q111 q1936) rfl rfl rfl ⟨rfl, hdG_J7_equals⟩ ⟨Nat.le_of_ble_eq_true rfl, Nat.le_of_ble_eq_true rfl⟩) (ga_preV hI hq rfl rfl) rfl rfl hl.1 rfl (ga_room (Nat.le_of_ble_eq_true rfl)) dX12_manyNumbers_47 ⟨Nat.le_trans (Nat.add_le_add_left (Nat.zero_le _) _) hbc, Nat.le_trans (Nat.add_le_add_left (Nat.zero_le _) _) hbs⟩) hI hbc hbs (Nat.zero_le _) (Nat.zero_le _) (fun r_11 h_10 H locs cells slots hw hI hbc hbs => ?_)
    refine lv_if_eq (tgt := 83) hx hb dX12_manyNumbers_50 (by decide) (fun hc_12 => ?_) (fun hc_12 => ?_)
    · have hw := hw.1 hc_12
      exact gj_X12_manyNumbers_83 g post (-1 : Int32) h_10 (mc - kc_2) (ms - ks_3) ⟨hx, hb, hml, hown, hts, hr, hlk, hnm⟩ hw hI hbc hbs (lv_sub hl [0] rfl)
    · have hw := hw.2 hc_12
      refine lv_iconst (v := 0) hx hb dX12_manyNumbers_53 (by decide) ?_
      refine lv_istore_n (i := 2) (lv' := [(2, .int (0 : Int32)), (1, va_rf p0), (0, va_rf p0)]) hx hb dX12_manyNumbers_54 rfl hl (by decide) (by simp [ga_rcat, ga_cat_r, ga_cat_i, ga_cat_f, ga_cat_l, ga_cat_d]) (fun ls hl => ?_)
      refine lv_goto (tgt := 83) hx hb dX12_manyNumbers_55 (by decide) ?_
      exact gj_X12_manyNumbers_83 g post (0 : Int32) h_10 (mc - kc_2) (ms - ks_3) ⟨hx, hb, hml, hown, hts, hr, hlk, hnm⟩ hw hI hbc hbs (lv_sub hl [0] rfl)
  have hw := hw.2 hc_7
  by_cases hc_16 : r_6 = (3076183 : Int32)
  · have hw := hw.1 hc_16
    refine lv_lookup (tgt := 72) (off := 64) hx hb dX12_manyNumbers_8 (by decide) (by rw [hc_16]; decide) (by decide) ?_
    refine ga_aload_n hx hb dX12_manyNumbers_72 rfl (lv_at hl 1 rfl) ?_
    refine ga_ldcs hx hb hI 10 hown rfl dX12_manyNumbers_73 ?_
    obtain ⟨a_17, ea_17, hw⟩ := hw
    rewrite [ea_17]
    obtain ⟨fs_18, hq, hw⟩ := hw
    refine ga_calli (va_runV (As := [va_rf (some (g.2.2.2 30))]) (rest := []) ⟨hx, hb, hml, hown, hts⟩ (gm_J7_equals l g a_17 (some (g.2.2.2 30)) h_5 _ hw) (cwV 1 hts (lw_V q3545 q1935 q4136 q111 q1936) rfl rfl rfl ⟨rfl, hdG_J7_equals⟩ ⟨Nat.le_of_ble_eq_true rfl, Nat.le_of_ble_eq_true rfl⟩) (ga_preV hI hq rfl rfl) rfl rfl hl.1 rfl (ga_room (Nat.le_of_ble_eq_true rfl)) dX12_manyNumbers_75 ⟨Nat.le_trans (Nat.add_le_add_left (Nat.zero_le _) _) hbc, Nat.le_trans (Nat.add_le_add_left (Nat.zero_le _) _) hbs⟩) hI hbc hbs (Nat.zero_le _) (Nat.zero_le _) (fun r_20 h_19 H locs cells slots hw hI hbc hbs => ?_)
    refine lv_if_eq (tgt := 83) hx hb dX12_manyNumbers_78 (by decide) (fun hc_21 => ?_) (fun hc_21 => ?_)
    · have hw := hw.1 hc_21
      exact gj_X12_manyNumbers_83 g post (-1 : Int32) h_19 (mc - kc_2) (ms - ks_3) ⟨hx, hb, hml, hown, hts, hr, hlk, hnm⟩ hw hI hbc hbs (lv_sub hl [0] rfl)
    · have hw := hw.2 hc_21
      refine lv_iconst (v := 2) hx hb dX12_manyNumbers_81 (by decide) ?_
      refine lv_istore_n (i := 2) (lv' := [(2, .int (2 : Int32)), (1, va_rf p0), (0, va_rf p0)]) hx hb dX12_manyNumbers_82 rfl hl (by decide) (by simp [ga_rcat, ga_cat_r, ga_cat_i, ga_cat_f, ga_cat_l, ga_cat_d]) (fun ls hl => ?_)
      exact gj_X12_manyNumbers_83 g post (2 : Int32) h_19 (mc - kc_2) (ms - ks_3) ⟨hx, hb, hml, hown, hts, hr, hlk, hnm⟩ hw hI hbc hbs (lv_sub hl [0] rfl)
  have hw := hw.2 hc_16
  by_cases hc_22 : r_6 = (3526536 : Int32)
  · have hw := hw.1 hc_22
    refine lv_lookup (tgt := 58) (off := 50) hx hb dX12_manyNumbers_8 (by decide) (by rw [hc_22]; decide) (by decide) ?_
    refine ga_aload_n hx hb dX12_manyNumbers_58 rfl (lv_at hl 1 rfl) ?_
    refine ga_ldcs hx hb hI 7 hown rfl dX12_manyNumbers_59 ?_
    obtain ⟨a_23, ea_23, hw⟩ := hw
    rewrite [ea_23]
    obtain ⟨fs_24, hq, hw⟩ := hw
    refine ga_calli (va_runV (As := [va_rf (some (g.2.2.2 27))]) (rest := []) ⟨hx, hb, hml, hown, hts⟩ (gm_J7_equals l g a_23 (some (g.2.2.2 27)) h_5 _ hw) (cwV 1 hts (lw_V q3545 q1935 q4136 q111 q1936) rfl rfl rfl ⟨rfl, hdG_J7_equals⟩ ⟨Nat.le_of_ble_eq_true rfl, Nat.le_of_ble_eq_true rfl⟩) (ga_preV hI hq rfl rfl) rfl rfl hl.1 rfl (ga_room (Nat.le_of_ble_eq_true rfl)) dX12_manyNumbers_61 ⟨Nat.le_trans (Nat.add_le_add_left (Nat.zero_le _) _) hbc, Nat.le_trans (Nat.add_le_add_left (Nat.zero_le _) _) hbs⟩) hI hbc hbs (Nat.zero_le _) (Nat.zero_le _) (fun r_26 h_25 H locs cells slots hw hI hbc hbs => ?_)
    refine lv_if_eq (tgt := 83) hx hb dX12_manyNumbers_64 (by decide) (fun hc_27 => ?_) (fun hc_27 => ?_)
    · have hw := hw.1 hc_27
      exact gj_X12_manyNumbers_83 g post (-1 : Int32) h_25 (mc - kc_2) (ms - ks_3) ⟨hx, hb, hml, hown, hts, hr, hlk, hnm⟩ hw hI hbc hbs (lv_sub hl [0] rfl)
    · have hw := hw.2 hc_27
      refine lv_iconst (v := 1) hx hb dX12_manyNumbers_67 (by decide) ?_
      refine lv_istore_n (i := 2) (lv' := [(2, .int (1 : Int32)), (1, va_rf p0), (0, va_rf p0)]) hx hb dX12_manyNumbers_68 rfl hl (by decide) (by simp [ga_rcat, ga_cat_r, ga_cat_i, ga_cat_f, ga_cat_l, ga_cat_d]) (fun ls hl => ?_)
      refine lv_goto (tgt := 83) hx hb dX12_manyNumbers_69 (by decide) ?_
      exact gj_X12_manyNumbers_83 g post (1 : Int32) h_25 (mc - kc_2) (ms - ks_3) ⟨hx, hb, hml, hown, hts, hr, hlk, hnm⟩ hw hI hbc hbs (lv_sub hl [0] rfl)
  have hw := hw.2 hc_22
  refine lv_lookup (tgt := 83) (off := 75) hx hb dX12_manyNumbers_8 (by decide) ((lv_osw hc_7 (by decide)).trans ((lv_osw hc_16 (by decide)).trans ((lv_osw hc_22 (by decide)).trans (rfl)))) (by decide) ?_
  exact gj_X12_manyNumbers_83 g post (-1 : Int32) h_5 (mc - kc_2) (ms - ks_3) ⟨hx, hb, hml, hown, hts, hr, hlk, hnm⟩ hw hI hbc hbs (lv_sub hl [0] rfl)
theorem hdG_X12_manyNumbers : yX12_manyNumbers.cls ≠ "java/lang/invoke/MethodHandle" ∧ yX12_manyNumbers.cls ≠ "java/lang/invoke/VarHandle" ∧ (parseMethodDescriptor yX12_manyNumbers.desc).map (fun d => d.parameters.length) = some 1 := by decide +kernel
def gw_X12_next (K : ga_K) (p0 : Nat) (p1 : Int32) (p2 : Int32) (h : ga_H) (mc ms : Nat) (post : Int32 → ga_H → Prop) (xp : String → Nat → ga_H → Prop) : Prop :=
  ∃ fs_1 : List Value, ga_at K h p0 (ga_O 10 fs_1) ∧ gw_X12_peek K p0 h (fun (r_3 : Int32) (h_2 : ga_H) => gw_X1_isIn r_3 p1 p2 (fun (r_4 : Int32) => (¬ r_4 = (0 : Int32) → (∃ (fs_6 : List Value) (v_7 : Int32), h_2 p0 = some (ga_O 10 fs_6) ∧ fs_6[3]? = some (.int v_7) ∧ (∃ fs_8 : List Value, h_2 p0 = some (ga_O 10 fs_8) ∧ 3 < fs_8.length ∧ ∀ h_9 : ga_H, h_9 = ga_set h_2 p0 (ga_O 10 (fs_8.set 3 (.int (v_7 + (1 : Int32))))) → (∃ (fs_10 : List Value) (v_11 : Option Nat), h_9 p0 = some (ga_O 10 fs_10) ∧ fs_10[0]? = some (va_rf v_11) ∧ (∃ (fs_12 : List Value) (v_13 : Int32), h_9 p0 = some (ga_O 10 fs_12) ∧ fs_12[3]? = some (.int v_13) ∧ (∃ a_14 : Nat, v_11 = some a_14 ∧ ∃ (n_15 : Nat) (f_16 : Nat → Int32), h_9 a_14 = some (ga_Ac n_15 f_16) ∧ vp_in (v_13 - (1 : Int32)) n_15 ∧ (post ((f_16 (v_13 - (1 : Int32)).toNatClampNeg) - (48 : Int32)) h_9))))))) ∧ (r_4 = (0 : Int32) → (1 ≤ mc ∧ 7 ≤ ms ∧ ∀ q_17 : Nat, h_2 q_17 = none → ∀ h_18 : ga_H, h_18 = ga_set h_2 q_17 (ga_O 11 [va_rf none, va_rf none, va_rf none, va_rf none, va_rf none, .int 0, .int 0]) → (∃ (fs_19 : List Value) (v_20 : Int32), h_18 p0 = some (ga_O 10 fs_19) ∧ fs_19[3]? = some (.int v_20) ∧ (gw_X13_init K q_17 v_20 h_18 (fun (h_21 : ga_H) => ∃ fs_25 : List Value, h_21 q_17 = some (ga_O 11 fs_25) ∧ (xp "PaperStore$BadText" q_17 h_21)) (fun (E_22 : String) (q_23 : Nat) (h_24 : ga_H) => False)))))))
set_option maxHeartbeats 4000000 in
theorem gm_X12_next (l : Launch) (hst : l.stackTraces = false) (g : ga_G) (p0 : Nat) (p1 : Int32) (p2 : Int32) (h : ga_H) (mc ms : Nat) (post : Int32 → ga_H → Prop) (xp : String → Nat → ga_H → Prop) (hw : gw_X12_next g.2.2 p0 p1 p2 h mc ms post xp) : vx_Met l yX12_next (ws_ yX12_next cX12_next 3 (some .int)) ({ frames := 9, cells := mc, slots := ms, locals := 162 } : Room) (va_Pc [.ref p0, .int p1, .int p2] (ga_B g h)) (va_Qi post (ga_E g) (ga_A g)) (ga_X g xp) mc ms (ga_A g) := by
  refine ga_metx (own := "PaperStore$Parser") (nm := "next") (by decide) rfl rfl (by exact Nat.le_of_ble_eq_true rfl) (fun p e s m below meth c ls hC htab hI hl => ?_)
  have hl : lv_has ls 3 [(0, .ref p0), (1, .int p1), (2, .int p2)] := hl
  generalize ([.ref p0, .int p1, .int p2] : List Value).toArray = args at hC ⊢
  obtain ⟨hx, hb, hml, hown, hts, hr, hlk, hnm⟩ := hC
  unfold gw_X12_next at hw
  obtain ⟨H, eH⟩ : ∃ z, z = s.heap := ⟨_, rfl⟩
  obtain ⟨locs, elo⟩ : ∃ z : List Loc, z = [] := ⟨_, rfl⟩
  rw [← eH, ← elo] at hI ⊢
  obtain ⟨cells, slots, hbc, hbs, e0, e1⟩ : ∃ a b : Nat, a + mc ≤ mc ∧ b + ms ≤ ms ∧ a = 0 ∧ b = 0 := ⟨0, 0, by omega, by omega, rfl, rfl⟩
  show W p l e ({ frames := 9, cells := mc, slots := ms, locals := 162 } : Room) s m args below meth c H locs 0 0 (vx_MQ below (va_Qi post (ga_E g) (ga_A g)) (ga_X g xp) args s mc ms (ga_A g)) (F0 m 0 ls [])
  suffices hgoal : W p l e ({ frames := 9, cells := mc, slots := ms, locals := 162 } : Room) s m args below meth c H locs cells slots (vx_MQ below (va_Qi post (ga_E g) (ga_A g)) (ga_X g xp) args s mc ms (ga_A g)) (F0 m 0 ls []) by rw [e0, e1] at hgoal; exact hgoal
  refine lv_aload_n hx hb dX12_next_0 rfl (lv_at hl 0 rfl) ?_
  obtain ⟨fs_1, hq, hw⟩ := hw
  refine ga_calli (va_runV (As := []) (rest := []) ⟨hx, hb, hml, hown, hts⟩ (gm_X12_peek l g p0 h _ hw) (cwV 0 hts (lw_V q3494 q3496 qs35 q159 q3497) rfl rfl rfl ⟨rfl, hdG_X12_peek⟩ ⟨Nat.le_of_ble_eq_true rfl, Nat.le_of_ble_eq_true rfl⟩) (ga_preV hI hq rfl rfl) rfl rfl hl.1 rfl (ga_room (Nat.le_of_ble_eq_true rfl)) dX12_next_1 ⟨Nat.le_trans (Nat.add_le_add_left (Nat.zero_le _) _) hbc, Nat.le_trans (Nat.add_le_add_left (Nat.zero_le _) _) hbs⟩) hI hbc hbs (Nat.zero_le _) (Nat.zero_le _) (fun r_3 h_2 H locs cells slots hw hI hbc hbs => ?_)
  refine lv_iload_n hx hb dX12_next_4 rfl (lv_at hl 1 rfl) ?_
  refine lv_iload_n hx hb dX12_next_5 rfl (lv_at hl 2 rfl) ?_
  refine ga_callSN (As := [.int r_3, .int p1, .int p2]) (rest := []) ⟨hx, hb, hml, hown, hts⟩ (gm_X1_isIn l r_3 p1 p2 _ hw) (⟨va_cnB 3 hts (lw_meth q2026) rfl rfl rfl (hI.2.1.1.2.1 _ (ga_nin q3554 rfl)) (hts _ q100) hdG_X1_isIn ⟨Nat.le_of_ble_eq_true rfl, Nat.le_of_ble_eq_true rfl⟩, hts _ q2025, trivial⟩) rfl hl.1 rfl (ga_room (Nat.le_of_ble_eq_true rfl)) dX12_next_6 hbc hbs (fun r_4 hw => ?_)
  refine lv_if_ne (tgt := 24) hx hb dX12_next_9 (by decide) (fun hc_5 => ?_) (fun hc_5 => ?_)
  · have hw := hw.1 hc_5
    refine lv_aload_n hx hb dX12_next_24 rfl (lv_at hl 0 rfl) ?_
    refine lv_dup hx hb dX12_next_25 rfl ?_
    obtain ⟨fs_6, v_7, hq, hv, hw⟩ := hw
    refine ga_get (ci := 10) (T := TX12) (v := .int v_7) hx hb hts hown hI in_X12 rfl 3 (by decide) q2855 (fun _ z => z) (ga_at.h hq) hv dX12_next_26 ?_
    refine lv_iconst (v := 1) hx hb dX12_next_29 (by decide) ?_
    refine lv_iadd hx hb dX12_next_30 ?_
    obtain ⟨fs_8, hq, hk, hw⟩ := hw
    refine ga_put (ci := 10) (T := TX12) (v := .int (v_7 + (1 : Int32))) (ty := tyX12 3) hx hb hts hown hI in_X12 rfl tyX12 tyX12_ok nmX12 3 (by decide) q2855 (fun _ z => z) rfl (tyX12_ok 3 (by decide)) rfl rfl hq hk dX12_next_31 (fun H locs hI => ?_)
    obtain ⟨h_9, eh_9⟩ : ∃ z, z = ga_set h_2 p0 (ga_O 10 (fs_8.set 3 (.int (v_7 + (1 : Int32))))) := ⟨_, rfl⟩
    rw [← eh_9] at hI
    have hw := hw h_9 eh_9
    refine lv_aload_n hx hb dX12_next_34 rfl (lv_at hl 0 rfl) ?_
    obtain ⟨fs_10, v_11, hq, hv, hw⟩ := hw
    refine ga_get (ci := 10) (T := TX12) (v := va_rf v_11) hx hb hts hown hI in_X12 rfl 0 (by decide) q2851 (fun _ z => z) (ga_at.h hq) hv dX12_next_35 ?_
    refine lv_aload_n hx hb dX12_next_38 rfl (lv_at hl 0 rfl) ?_
    obtain ⟨fs_12, v_13, hq, hv, hw⟩ := hw
    refine ga_get (ci := 10) (T := TX12) (v := .int v_13) hx hb hts hown hI in_X12 rfl 3 (by decide) q2855 (fun _ z => z) (ga_at.h hq) hv dX12_next_39 ?_
    refine lv_iconst (v := 1) hx hb dX12_next_42 (by decide) ?_
    refine lv_isub hx hb dX12_next_43 ?_
    obtain ⟨a_14, ea_14, hw⟩ := hw
    rewrite [ea_14]
    obtain ⟨n_15, f_16, hq, hi, hw⟩ := hw
    refine ga_ldc hx hb hI (ga_at.h hq) hi dX12_next_44 ?_
    refine lv_bipush (v := 48) hx hb dX12_next_45 (by decide) ?_
    refine lv_isub hx hb dX12_next_47 ?_
    exact ga_iretx hx hb hr rfl hlk hI hw (Nat.le_trans (Nat.le_add_right _ _) hbc) (Nat.le_trans (Nat.le_add_right _ _) hbs) dX12_next_48
  · have hw := hw.2 hc_5
    refine ga_newR (ci := 11) (T := TX13) hx hb hts hown hI in_X13 rfl tyX13 tyX13_ok q3522 q3523 q171 [va_rf none, va_rf none, va_rf none, va_rf none, va_rf none, .int 0, .int 0] ga_df_X13 hbc hbs hw.1 hw.2.1 dX12_next_12 (fun q_17 H cells slots hn_q_17 hI hraw hbc hbs => ?_)
    obtain ⟨h_18, eh_18⟩ : ∃ z, z = ga_set h_2 q_17 (ga_O 11 [va_rf none, va_rf none, va_rf none, va_rf none, va_rf none, .int 0, .int 0]) := ⟨_, rfl⟩
    rw [← eh_18] at hI
    have hw := hw.2.2 q_17 hn_q_17 h_18 eh_18
    refine lv_dup hx hb dX12_next_15 rfl ?_
    refine lv_aload_n hx hb dX12_next_16 rfl (lv_at hl 0 rfl) ?_
    obtain ⟨fs_19, v_20, hq, hv, hw⟩ := hw
    refine ga_get (ci := 10) (T := TX12) (v := .int v_20) hx hb hts hown hI in_X12 rfl 3 (by decide) q2855 (fun _ z => z) (ga_at.h hq) hv dX12_next_17 ?_
    refine ga_xcallv (vx_runI (As := [.int v_20]) (rest := [.ref q_17]) ⟨hx, hb, hml, hown, hts⟩ (gm_X13_init l hst g q_17 v_20 h_18 _ _ hw) (cwI 1 hts (lw_meth q3533) rfl rfl rfl (hts _ q171) (hts _ q3531) (hts _ q3532) rfl hdG_X13_init ⟨Nat.le_of_ble_eq_true rfl, Nat.le_of_ble_eq_true rfl⟩) (ga_preSP hI hraw rfl) rfl rfl hl.1 rfl (ga_room (Nat.le_of_ble_eq_true rfl)) dX12_next_20 ⟨Nat.le_trans (Nat.add_le_add_left (Nat.zero_le _) _) hbc, Nat.le_trans (Nat.add_le_add_left (Nat.zero_le _) _) hbs⟩) hI hbc hbs (Nat.zero_le _) (Nat.zero_le _) (fun E_22 q_23 h_24 ce H locs cells slots hw hI hce hbc hbs => ?_) (fun h_21 H locs cells slots hw hI hbc hbs => ?_)
    · exact hw.elim
    · skip
      obtain ⟨fs_25, hq, hw⟩ := hw
      refine ga_athrow (ci := 11) hx hb hI (ga_at.h hq) rfl dX12_next_23 (fun ce hce => ?_)
      exact ga_out hown hlk hI hw (by rw [htab]; intro z hz; cases hz) hce (Nat.le_trans (Nat.le_add_right _ _) hbc) (Nat.le_trans (Nat.le_add_right _ _) hbs)
theorem hdG_X12_next : yX12_next.cls ≠ "java/lang/invoke/MethodHandle" ∧ yX12_next.cls ≠ "java/lang/invoke/VarHandle" ∧ (parseMethodDescriptor yX12_next.desc).map (fun d => d.parameters.length) = some 2 := by decide +kernel
def gw_X12_number (K : ga_K) (p0 : Nat) (h : ga_H) (mc ms : Nat) (post : Int32 → ga_H → Prop) (xp : String → Nat → ga_H → Prop) : Prop :=
  ∃ kc_1 ks_2 : Nat, kc_1 ≤ mc ∧ ks_2 ≤ ms ∧ ∃ fs_3 : List Value, ga_at K h p0 (ga_O 10 fs_3) ∧ gw_X12_next K p0 (32 : Int32) (32 : Int32) h kc_1 ks_2 (fun (r_5 : Int32) (h_4 : ga_H) => ∃ kc_9 ks_10 : Nat, kc_9 ≤ (mc - kc_1) ∧ ks_10 ≤ (ms - ks_2) ∧ ∃ fs_11 : List Value, ga_at K h_4 p0 (ga_O 10 fs_11) ∧ gw_X12_next K p0 (48 : Int32) (57 : Int32) h_4 kc_9 ks_10 (fun (r_13 : Int32) (h_12 : ga_H) => ∃ fs_17 : List Value, ga_at K h_12 p0 (ga_O 10 fs_17) ∧ gw_X12_peek K p0 h_12 (fun (r_19 : Int32) (h_18 : ga_H) => gw_X1_isIn r_19 (48 : Int32) (57 : Int32) (fun (r_20 : Int32) => (r_20 = (0 : Int32) → (post r_13 h_18)) ∧ (¬ r_20 = (0 : Int32) → (∃ kc_22 ks_23 : Nat, kc_22 ≤ ((mc - kc_1) - kc_9) ∧ ks_23 ≤ ((ms - ks_2) - ks_10) ∧ ∃ fs_24 : List Value, ga_at K h_18 p0 (ga_O 10 fs_24) ∧ gw_X12_next K p0 (48 : Int32) (57 : Int32) h_18 kc_22 ks_23 (fun (r_26 : Int32) (h_25 : ga_H) => post (((10 : Int32) * r_13) + r_26) h_25) (fun (E_27 : String) (q_28 : Nat) (h_29 : ga_H) => xp E_27 q_28 h_29)))))) (fun (E_14 : String) (q_15 : Nat) (h_16 : ga_H) => xp E_14 q_15 h_16)) (fun (E_6 : String) (q_7 : Nat) (h_8 : ga_H) => xp E_6 q_7 h_8)
set_option maxHeartbeats 4000000 in
theorem gm_X12_number (l : Launch) (hst : l.stackTraces = false) (g : ga_G) (p0 : Nat) (h : ga_H) (mc ms : Nat) (post : Int32 → ga_H → Prop) (xp : String → Nat → ga_H → Prop) (hw : gw_X12_number g.2.2 p0 h mc ms post xp) : vx_Met l yX12_number (ws_ yX12_number cX12_number 3 (some .int)) ({ frames := 10, cells := mc, slots := ms, locals := 184 } : Room) (va_Pc [.ref p0] (ga_B g h)) (va_Qi post (ga_E g) (ga_A g)) (ga_X g xp) mc ms (ga_A g) := by
  refine ga_metx (own := "PaperStore$Parser") (nm := "number") (by decide) rfl rfl (by exact Nat.le_of_ble_eq_true rfl) (fun p e s m below meth c ls hC htab hI hl => ?_)
  have hl : lv_has ls 3 [(0, .ref p0)] := hl
  generalize ([.ref p0] : List Value).toArray = args at hC ⊢
  obtain ⟨hx, hb, hml, hown, hts, hr, hlk, hnm⟩ := hC
  unfold gw_X12_number at hw
  obtain ⟨H, eH⟩ : ∃ z, z = s.heap := ⟨_, rfl⟩
  obtain ⟨locs, elo⟩ : ∃ z : List Loc, z = [] := ⟨_, rfl⟩
  rw [← eH, ← elo] at hI ⊢
  obtain ⟨cells, slots, hbc, hbs, e0, e1⟩ : ∃ a b : Nat, a + mc ≤ mc ∧ b + ms ≤ ms ∧ a = 0 ∧ b = 0 := ⟨0, 0, by omega, by omega, rfl, rfl⟩
  show W p l e ({ frames := 10, cells := mc, slots := ms, locals := 184 } : Room) s m args below meth c H locs 0 0 (vx_MQ below (va_Qi post (ga_E g) (ga_A g)) (ga_X g xp) args s mc ms (ga_A g)) (F0 m 0 ls [])
  suffices hgoal : W p l e ({ frames := 10, cells := mc, slots := ms, locals := 184 } : Room) s m args below meth c H locs cells slots (vx_MQ below (va_Qi post (ga_E g) (ga_A g)) (ga_X g xp) args s mc ms (ga_A g)) (F0 m 0 ls []) by rw [e0, e1] at hgoal; exact hgoal
  refine lv_aload_n hx hb dX12_number_0 rfl (lv_at hl 0 rfl) ?_
  refine lv_bipush (v := 32) hx hb dX12_number_1 (by decide) ?_
  refine lv_bipush (v := 32) hx hb dX12_number_3 (by decide) ?_
  obtain ⟨kc_1, ks_2, hk1, hk2, hw⟩ := hw
  obtain ⟨fs_3, hq, hw⟩ := hw
  refine ga_xcalli (vx_runV (As := [.int (32 : Int32), .int (32 : Int32)]) (rest := []) ⟨hx, hb, hml, hown, hts⟩ (gm_X12_next l hst g p0 (32 : Int32) (32 : Int32) h kc_1 ks_2 _ _ hw) (cwV 2 hts (lw_V q3550 q3552 qs37 q159 q3553) rfl rfl rfl ⟨rfl, hdG_X12_next⟩ ⟨Nat.le_of_ble_eq_true rfl, Nat.le_of_ble_eq_true rfl⟩) (ga_preV hI hq rfl rfl) rfl rfl hl.1 rfl (ga_room (Nat.le_of_ble_eq_true rfl)) dX12_number_5 ⟨Nat.le_trans (Nat.add_le_add_left hk1 _) hbc, Nat.le_trans (Nat.add_le_add_left hk2 _) hbs⟩) hI hbc hbs hk1 hk2 (fun E_6 q_7 h_8 ce H locs cells slots hw hI hce hbc hbs => ?_) (fun r_5 h_4 H locs cells slots hw hI hbc hbs => ?_)
  · exact ga_out hown hlk hI hw (by rw [htab]; intro z hz; cases hz) hce (Nat.le_trans (Nat.le_add_right _ _) hbc) (Nat.le_trans (Nat.le_add_right _ _) hbs)
  · skip
    refine lv_istore_n (i := 1) (lv' := [(1, .int r_5), (0, .ref p0)]) hx hb dX12_number_8 rfl hl (by decide) rfl (fun ls hl => ?_)
    refine lv_aload_n hx hb dX12_number_9 rfl (lv_at hl 1 rfl) ?_
    refine lv_bipush (v := 48) hx hb dX12_number_10 (by decide) ?_
    refine lv_bipush (v := 57) hx hb dX12_number_12 (by decide) ?_
    obtain ⟨kc_9, ks_10, hk1, hk2, hw⟩ := hw
    obtain ⟨fs_11, hq, hw⟩ := hw
    refine ga_xcalli (vx_runV (As := [.int (48 : Int32), .int (57 : Int32)]) (rest := []) ⟨hx, hb, hml, hown, hts⟩ (gm_X12_next l hst g p0 (48 : Int32) (57 : Int32) h_4 kc_9 ks_10 _ _ hw) (cwV 2 hts (lw_V q3550 q3552 qs37 q159 q3553) rfl rfl rfl ⟨rfl, hdG_X12_next⟩ ⟨Nat.le_of_ble_eq_true rfl, Nat.le_of_ble_eq_true rfl⟩) (ga_preV hI hq rfl rfl) rfl rfl hl.1 rfl (ga_room (Nat.le_of_ble_eq_true rfl)) dX12_number_14 ⟨Nat.le_trans (Nat.add_le_add_left hk1 _) hbc, Nat.le_trans (Nat.add_le_add_left hk2 _) hbs⟩) hI hbc hbs hk1 hk2 (fun E_14 q_15 h_16 ce H locs cells slots hw hI hce hbc hbs => ?_) (fun r_13 h_12 H locs cells slots hw hI hbc hbs => ?_)
    · exact ga_out hown hlk hI hw (by rw [htab]; intro z hz; cases hz) hce (Nat.le_trans (Nat.le_add_right _ _) hbc) (Nat.le_trans (Nat.le_add_right _ _) hbs)
    · skip
      refine lv_istore_n (i := 2) (lv' := [(2, .int r_13), (1, .int r_5), (0, .ref p0)]) hx hb dX12_number_17 rfl hl (by decide) rfl (fun ls hl => ?_)
      refine lv_aload_n hx hb dX12_number_18 rfl (lv_at hl 2 rfl) ?_
      obtain ⟨fs_17, hq, hw⟩ := hw
      refine ga_calli (va_runV (As := []) (rest := []) ⟨hx, hb, hml, hown, hts⟩ (gm_X12_peek l g p0 h_12 _ hw) (cwV 0 hts (lw_V q3494 q3496 qs35 q159 q3497) rfl rfl rfl ⟨rfl, hdG_X12_peek⟩ ⟨Nat.le_of_ble_eq_true rfl, Nat.le_of_ble_eq_true rfl⟩) (ga_preV hI hq rfl rfl) rfl rfl hl.1 rfl (ga_room (Nat.le_of_ble_eq_true rfl)) dX12_number_19 ⟨Nat.le_trans (Nat.add_le_add_left (Nat.zero_le _) _) hbc, Nat.le_trans (Nat.add_le_add_left (Nat.zero_le _) _) hbs⟩) hI hbc hbs (Nat.zero_le _) (Nat.zero_le _) (fun r_19 h_18 H locs cells slots hw hI hbc hbs => ?_)
      refine lv_bipush (v := 48) hx hb dX12_number_22 (by decide) ?_
      refine lv_bipush (v := 57) hx hb dX12_number_24 (by decide) ?_
      refine ga_callSN (As := [.int r_19, .int (48 : Int32), .int (57 : Int32)]) (rest := []) ⟨hx, hb, hml, hown, hts⟩ (gm_X1_isIn l r_19 (48 : Int32) (57 : Int32) _ hw) (⟨va_cnB 3 hts (lw_meth q2026) rfl rfl rfl (hI.2.1.1.2.1 _ (ga_nin q3554 rfl)) (hts _ q100) hdG_X1_isIn ⟨Nat.le_of_ble_eq_true rfl, Nat.le_of_ble_eq_true rfl⟩, hts _ q2025, trivial⟩) rfl hl.1 rfl (ga_room (Nat.le_of_ble_eq_true rfl)) dX12_number_26 hbc hbs (fun r_20 hw => ?_)
      refine lv_if_eq (tgt := 48) hx hb dX12_number_29 (by decide) (fun hc_21 => ?_) (fun hc_21 => ?_)
      · have hw := hw.1 hc_21
        refine lv_iload_n hx hb dX12_number_48 rfl (lv_at hl 0 rfl) ?_
        exact ga_iretx hx hb hr rfl hlk hI hw (Nat.le_trans (Nat.le_add_right _ _) hbc) (Nat.le_trans (Nat.le_add_right _ _) hbs) dX12_number_49
      · have hw := hw.2 hc_21
        refine lv_bipush (v := 10) hx hb dX12_number_32 (by decide) ?_
        refine lv_iload_n hx hb dX12_number_34 rfl (lv_at hl 0 rfl) ?_
        refine lv_imul hx hb dX12_number_35 ?_
        refine lv_aload_n hx hb dX12_number_36 rfl (lv_at hl 2 rfl) ?_
        refine lv_bipush (v := 48) hx hb dX12_number_37 (by decide) ?_
        refine lv_bipush (v := 57) hx hb dX12_number_39 (by decide) ?_
        obtain ⟨kc_22, ks_23, hk1, hk2, hw⟩ := hw
        obtain ⟨fs_24, hq, hw⟩ := hw
        refine ga_xcalli (vx_runV (As := [.int (48 : Int32), .int (57 : Int32)]) (rest := [.int ((10 : Int32) * r_13)]) ⟨hx, hb, hml, hown, hts⟩ (gm_X12_next l hst g p0 (48 : Int32) (57 : Int32) h_18 kc_22 ks_23 _ _ hw) (cwV 2 hts (lw_V q3550 q3552 qs37 q159 q3553) rfl rfl rfl ⟨rfl, hdG_X12_next⟩ ⟨Nat.le_of_ble_eq_true rfl, Nat.le_of_ble_eq_true rfl⟩) (ga_preV hI hq rfl rfl) rfl rfl hl.1 rfl (ga_room (Nat.le_of_ble_eq_true rfl)) dX12_number_41 ⟨Nat.le_trans (Nat.add_le_add_left hk1 _) hbc, Nat.le_trans (Nat.add_le_add_left hk2 _) hbs⟩) hI hbc hbs hk1 hk2 (fun E_27 q_28 h_29 ce H locs cells slots hw hI hce hbc hbs => ?_) (fun r_26 h_25 H locs cells slots hw hI hbc hbs => ?_)
        · exact ga_out hown hlk hI hw (by rw [htab]; intro z hz; cases hz) hce (Nat.le_trans (Nat.le_add_right _ _) hbc) (Nat.le_trans (Nat.le_add_right _ _) hbs)
        · skip
          refine lv_iadd hx hb dX12_number_44 ?_
          refine lv_goto (tgt := 49) hx hb dX12_number_45 (by decide) ?_
          exact ga_iretx hx hb hr rfl hlk hI hw (Nat.le_trans (Nat.le_add_right _ _) hbc) (Nat.le_trans (Nat.le_add_right _ _) hbs) dX12_number_49
theorem hdG_X12_number : yX12_number.cls ≠ "java/lang/invoke/MethodHandle" ∧ yX12_number.cls ≠ "java/lang/invoke/VarHandle" ∧ (parseMethodDescriptor yX12_number.desc).map (fun d => d.parameters.length) = some 0 := by decide +kernel
def gw_X14_init (K : ga_K) (p0 : Nat) (p1 : Option Nat) (p2 : Option Nat) (h : ga_H) (post : ga_H → Prop) : Prop :=
  ∃ fs_1 : List Value, h p0 = some (ga_O 12 fs_1) ∧ 0 < fs_1.length ∧ ∀ h_2 : ga_H, h_2 = ga_set h p0 (ga_O 12 (fs_1.set 0 (va_rf p1))) → (∃ fs_3 : List Value, h_2 p0 = some (ga_O 12 fs_3) ∧ 1 < fs_3.length ∧ ∀ h_4 : ga_H, h_4 = ga_set h_2 p0 (ga_O 12 (fs_3.set 1 (va_rf p2))) → (post h_4))
set_option maxHeartbeats 4000000 in
theorem gm_X14_init (l : Launch) (g : ga_G) (p0 : Nat) (p1 : Option Nat) (p2 : Option Nat) (h : ga_H) (post : ga_H → Prop) (hw : gw_X14_init g.2.2 p0 p1 p2 h post) : Met l yX14_init (ws_ yX14_init cX14_init 3 none) ({ frames := 8, cells := 0, slots := 0, locals := 140 } : Room) (va_Pc [.ref p0, va_rf p1, va_rf p2] (ga_B g h)) (va_Qv post (ga_E g) (ga_A g)) 0 0 (ga_A g) := by
  refine ga_met (own := "PaperStore$Command") (nm := "<init>") (by decide) rfl rfl (by cases p1 <;> cases p2 <;> exact Nat.le_of_ble_eq_true rfl) (fun p e s m below meth c ls hC hI hl => ?_)
  have hl : lv_has ls 3 [(0, .ref p0), (1, va_rf p1), (2, va_rf p2)] := (by cases p1 <;> cases p2 <;> exact hl)
  generalize ([.ref p0, va_rf p1, va_rf p2] : List Value).toArray = args at hC ⊢
  obtain ⟨hx, hb, hml, hown, hts, hr, hlk, hnm⟩ := hC
  unfold gw_X14_init at hw
  obtain ⟨H, eH⟩ : ∃ z, z = s.heap := ⟨_, rfl⟩
  obtain ⟨locs, elo⟩ : ∃ z : List Loc, z = [] := ⟨_, rfl⟩
  rw [← eH, ← elo] at hI ⊢
  obtain ⟨cells, slots, hbc, hbs, e0, e1⟩ : ∃ a b : Nat, a ≤ 0 ∧ b ≤ 0 ∧ a = 0 ∧ b = 0 := ⟨0, 0, by omega, by omega, rfl, rfl⟩
  show W p l e ({ frames := 8, cells := 0, slots := 0, locals := 140 } : Room) s m args below meth c H locs 0 0 (MQ below (va_Qv post (ga_E g) (ga_A g)) args s 0 0 (ga_A g)) (F0 m 0 ls [])
  suffices hgoal : W p l e ({ frames := 8, cells := 0, slots := 0, locals := 140 } : Room) s m args below meth c H locs cells slots (MQ below (va_Qv post (ga_E g) (ga_A g)) args s 0 0 (ga_A g)) (F0 m 0 ls []) by rw [e0, e1] at hgoal; exact hgoal
  refine lv_aload_n hx hb dX14_init_0 rfl (lv_at hl 0 rfl) ?_
  refine W.objInit hx hb hown (hts _ q3560) (hts _ q179) (hts _ q180) rfl (by rw [hml]; exact hl.1) rfl dX14_init_1 (Nat.le_of_ble_eq_true rfl) (by have := ga_sum [] (Nat.le_of_ble_eq_true rfl); exact Nat.le_trans (Nat.add_le_add_right (Nat.add_le_add_left this 0) 12) (Nat.le_of_ble_eq_true rfl)) ?_
  refine W.eq (g2 := F0 m 4 ls []) rfl ?_
  refine lv_aload_n hx hb dX14_init_4 rfl (lv_at hl 0 rfl) ?_
  refine ga_aload_n hx hb dX14_init_5 rfl (lv_at hl 1 rfl) ?_
  obtain ⟨fs_1, hq, hk, hw⟩ := hw
  refine ga_putF (ci := 12) (T := TX14) (v := va_rf p1) (ty := tyX14 0) hx hb hts hown hI in_X14 rfl tyX14 tyX14_ok nmX14 0 (by decide) q3561 (fun _ z => z) rfl hnm rfl (tyX14_ok 0 (by decide)) (ga_nq _ _) (ga_fq _ _) hq hk dX14_init_6 (fun H locs hI => ?_)
  obtain ⟨h_2, eh_2⟩ : ∃ z, z = ga_set h p0 (ga_O 12 (fs_1.set 0 (va_rf p1))) := ⟨_, rfl⟩
  rw [← eh_2] at hI
  have hw := hw h_2 eh_2
  refine lv_aload_n hx hb dX14_init_9 rfl (lv_at hl 0 rfl) ?_
  refine ga_aload_n hx hb dX14_init_10 rfl (lv_at hl 2 rfl) ?_
  obtain ⟨fs_3, hq, hk, hw⟩ := hw
  refine ga_putF (ci := 12) (T := TX14) (v := va_rf p2) (ty := tyX14 1) hx hb hts hown hI in_X14 rfl tyX14 tyX14_ok nmX14 1 (by decide) q3562 (fun _ z => z) rfl hnm rfl (tyX14_ok 1 (by decide)) (ga_nq' _ _) (ga_fq' _ _) hq hk dX14_init_11 (fun H locs hI => ?_)
  obtain ⟨h_4, eh_4⟩ : ∃ z, z = ga_set h_2 p0 (ga_O 12 (fs_3.set 1 (va_rf p2))) := ⟨_, rfl⟩
  rw [← eh_4] at hI
  have hw := hw h_4 eh_4
  exact ga_vret hx hb hr hlk hI hw hbc hbs dX14_init_14
theorem hdG_X14_init : yX14_init.cls ≠ "java/lang/invoke/MethodHandle" ∧ yX14_init.cls ≠ "java/lang/invoke/VarHandle" ∧ (parseMethodDescriptor yX14_init.desc).map (fun d => d.parameters.length) = some 2 := by decide +kernel
def gw_X12_command (K : ga_K) (p0 : Nat) (h : ga_H) (mc ms : Nat) (post : Option Nat → ga_H → Prop) (xp : String → Nat → ga_H → Prop) : Prop :=
  ∃ kc_1 ks_2 : Nat, kc_1 ≤ mc ∧ ks_2 ≤ ms ∧ ∃ fs_3 : List Value, ga_at K h p0 (ga_O 10 fs_3) ∧ gw_X12_word K p0 h kc_1 ks_2 (fun (r_5 : Option Nat) (h_4 : ga_H) => ∃ kc_9 ks_10 : Nat, kc_9 ≤ (mc - kc_1) ∧ ks_10 ≤ (ms - ks_2) ∧ gw_X12_manyNumbers K r_5 h_4 kc_9 ks_10 (fun (r_12 : Int32) (h_11 : ga_H) => ¬ r_12 < 0 ∧ r_12.toNatClampNeg ≤ 1000000 ∧ 1 ≤ ((mc - kc_1) - kc_9) ∧ r_12.toNatClampNeg ≤ ((ms - ks_2) - ks_10) ∧ ∀ q_13 : Nat, h_11 q_13 = none → ∀ h_14 : ga_H, h_14 = ga_set h_11 q_13 (ga_Ai (r_12.toNatClampNeg) (fun _ => 0)) → (∃ (In_15 : Int32 → ga_H → Nat → Nat → Prop) (mu_15 : Int32 → ga_H → Nat → Nat → Nat), In_15 (0 : Int32) h_14 (((mc - kc_1) - kc_9) - 1) (((ms - ks_2) - ks_10) - (r_12.toNatClampNeg)) ∧ ∀ (x3_15 : Int32) (h_15 : ga_H) (bc_15 : Nat) (bs_15 : Nat), In_15 x3_15 h_15 bc_15 bs_15 → (∃ (n_16 : Nat) (f_17 : Nat → Int32), h_15 q_13 = some (ga_Ai n_16 f_17) ∧ ((nI n_16 ≤ x3_15 → (1 ≤ bc_15 ∧ 2 ≤ bs_15 ∧ ∀ q_19 : Nat, h_15 q_19 = none → ∀ h_20 : ga_H, h_20 = ga_set h_15 q_19 (ga_O 12 [va_rf none, va_rf none]) → (gw_X14_init K q_19 r_5 (some q_13) h_20 (fun (h_21 : ga_H) => post (some q_19) h_21)))) ∧ (¬ nI n_16 ≤ x3_15 → (∃ kc_22 ks_23 : Nat, kc_22 ≤ bc_15 ∧ ks_23 ≤ bs_15 ∧ ∃ fs_24 : List Value, ga_at K h_15 p0 (ga_O 10 fs_24) ∧ gw_X12_number K p0 h_15 kc_22 ks_23 (fun (r_26 : Int32) (h_25 : ga_H) => ∃ (n_30 : Nat) (f_31 : Nat → Int32), h_25 q_13 = some (ga_Ai n_30 f_31) ∧ vp_in x3_15 n_30 ∧ ∀ h_32 : ga_H, h_32 = ga_set h_25 q_13 (ga_Ai n_30 (upd f_31 x3_15.toNatClampNeg r_26)) → (In_15 (x3_15 + (1 : Int32)) h_32 (bc_15 - kc_22) (bs_15 - ks_23) ∧ mu_15 (x3_15 + (1 : Int32)) h_32 (bc_15 - kc_22) (bs_15 - ks_23) < mu_15 x3_15 h_15 bc_15 bs_15)) (fun (E_27 : String) (q_28 : Nat) (h_29 : ga_H) => xp E_27 q_28 h_29)))))))) (fun (E_6 : String) (q_7 : Nat) (h_8 : ga_H) => xp E_6 q_7 h_8)
set_option maxHeartbeats 4000000 in
theorem gm_X12_command (l : Launch) (hst : l.stackTraces = false) (g : ga_G) (p0 : Nat) (h : ga_H) (mc ms : Nat) (post : Option Nat → ga_H → Prop) (xp : String → Nat → ga_H → Prop) (hw : gw_X12_command g.2.2 p0 h mc ms post xp) : vx_Met l yX12_command (ws_ yX12_command cX12_command 4 (some (.object "PaperStore$Command"))) ({ frames := 29, cells := mc, slots := ms, locals := 1399 } : Room) (va_Pc [.ref p0] (ga_B g h)) (va_Qq post (ga_E g) (ga_A g)) (ga_X g xp) mc ms (ga_A g) := by
  refine ga_metx (own := "PaperStore$Parser") (nm := "command") (by decide) rfl rfl (by exact Nat.le_of_ble_eq_true rfl) (fun p e s m below meth c ls hC htab hI hl => ?_)
  have hl : lv_has ls 4 [(0, .ref p0)] := hl
  generalize ([.ref p0] : List Value).toArray = args at hC ⊢
  obtain ⟨hx, hb, hml, hown, hts, hr, hlk, hnm⟩ := hC
  unfold gw_X12_command at hw
  obtain ⟨H, eH⟩ : ∃ z, z = s.heap := ⟨_, rfl⟩
  obtain ⟨locs, elo⟩ : ∃ z : List Loc, z = [] := ⟨_, rfl⟩
  rw [← eH, ← elo] at hI ⊢
  obtain ⟨cells, slots, hbc, hbs, e0, e1⟩ : ∃ a b : Nat, a + mc ≤ mc ∧ b + ms ≤ ms ∧ a = 0 ∧ b = 0 := ⟨0, 0, by omega, by omega, rfl, rfl⟩
  show W p l e ({ frames := 29, cells := mc, slots := ms, locals := 1399 } : Room) s m args below meth c H locs 0 0 (vx_MQ below (va_Qq post (ga_E g) (ga_A g)) (ga_X g xp) args s mc ms (ga_A g)) (F0 m 0 ls [])
  suffices hgoal : W p l e ({ frames := 29, cells := mc, slots := ms, locals := 1399 } : Room) s m args below meth c H locs cells slots (vx_MQ below (va_Qq post (ga_E g) (ga_A g)) (ga_X g xp) args s mc ms (ga_A g)) (F0 m 0 ls []) by rw [e0, e1] at hgoal; exact hgoal
  refine lv_aload_n hx hb dX12_command_0 rfl (lv_at hl 0 rfl) ?_
  obtain ⟨kc_1, ks_2, hk1, hk2, hw⟩ := hw
  obtain ⟨fs_3, hq, hw⟩ := hw
  refine ga_xcallq (vx_runV (As := []) (rest := []) ⟨hx, hb, hml, hown, hts⟩ (gm_X12_word l hst g p0 h kc_1 ks_2 _ _ hw) (cwV 0 hts (lw_V q2873 q2875 qs21 q159 q2876) rfl rfl rfl ⟨rfl, hdG_X12_word⟩ ⟨Nat.le_of_ble_eq_true rfl, Nat.le_of_ble_eq_true rfl⟩) (ga_preV hI hq rfl rfl) rfl rfl hl.1 rfl (ga_room (Nat.le_of_ble_eq_true rfl)) dX12_command_1 ⟨Nat.le_trans (Nat.add_le_add_left hk1 _) hbc, Nat.le_trans (Nat.add_le_add_left hk2 _) hbs⟩) hI hbc hbs hk1 hk2 (fun E_6 q_7 h_8 ce H locs cells slots hw hI hce hbc hbs => ?_) (fun r_5 h_4 H locs cells slots hw hI hbc hbs => ?_)
  · exact ga_out hown hlk hI hw (by rw [htab]; intro z hz; cases hz) hce (Nat.le_trans (Nat.le_add_right _ _) hbc) (Nat.le_trans (Nat.le_add_right _ _) hbs)
  · skip
    refine ga_astore_n (i := 1) (x := r_5) (lv' := [(1, va_rf r_5), (0, .ref p0)]) hx hb dX12_command_4 rfl hl (by decide) rfl (fun ls hl => ?_)
    refine ga_aload_n hx hb dX12_command_5 rfl (lv_at hl 0 rfl) ?_
    obtain ⟨kc_9, ks_10, hk1, hk2, hw⟩ := hw
    refine ga_calli (va_runS (As := [va_rf r_5]) (rest := []) ⟨hx, hb, hml, hown, hts⟩ (gm_X12_manyNumbers l g r_5 h_4 kc_9 ks_10 _ hw) (va_cwS 1 hts (lw_S q3541 q3542 q159 q3543) rfl rfl rfl hdG_X12_manyNumbers ⟨Nat.le_of_ble_eq_true rfl, Nat.le_of_ble_eq_true rfl⟩) (ga_preS hI rfl) rfl rfl hl.1 rfl (ga_room (Nat.le_of_ble_eq_true rfl)) dX12_command_6 ⟨Nat.le_trans (Nat.add_le_add_left hk1 _) hbc, Nat.le_trans (Nat.add_le_add_left hk2 _) hbs⟩) hI hbc hbs hk1 hk2 (fun r_12 h_11 H locs cells slots hw hI hbc hbs => ?_)
    refine ga_nai hx hb hts hI q3568 hbc hbs hw.1 (N := r_12.toNatClampNeg) rfl hw.2.1 hw.2.2.1 hw.2.2.2.1 dX12_command_9 (fun q_13 H cells slots hn_q_13 hI hbc hbs => ?_)
    obtain ⟨h_14, eh_14⟩ : ∃ z, z = ga_set h_11 q_13 (ga_Ai (r_12.toNatClampNeg) (fun _ => 0)) := ⟨_, rfl⟩
    rw [← eh_14] at hI
    have hw := hw.2.2.2.2 q_13 hn_q_13 h_14 eh_14
    refine lv_astore_n (i := 2) (lv' := [(2, .ref q_13), (1, va_rf r_5), (0, .ref p0)]) hx hb dX12_command_11 rfl hl (by decide) (by simp [ga_rcat, ga_cat_r, ga_cat_i, ga_cat_f, ga_cat_l, ga_cat_d]) (fun ls hl => ?_)
    refine lv_iconst (v := 0) hx hb dX12_command_12 (by decide) ?_
    refine lv_istore_n (i := 3) (lv' := [(3, .int (0 : Int32)), (2, .ref q_13), (1, va_rf r_5), (0, .ref p0)]) hx hb dX12_command_13 rfl hl (by decide) rfl (fun ls hl => ?_)
    obtain ⟨In_15, mu_15, h0_15, hw⟩ := hw
    have hL_15 : ∀ (n : Nat) (x3_15 : Int32) (h_15 : ga_H) (bc_15 : Nat) (bs_15 : Nat) (H : Heap) (locs : List Loc) (cells slots : Nat) (ls : Array Slot), mu_15 x3_15 h_15 bc_15 bs_15 < n → In_15 x3_15 h_15 bc_15 bs_15 → ga_I g h_15 s H locs → cells + bc_15 ≤ mc → slots + bs_15 ≤ ms → lv_has ls 4 [(0, .ref p0), (1, va_rf r_5), (2, va_rf (some q_13)), (3, .int x3_15)] → W p l e ({ frames := 29, cells := mc, slots := ms, locals := 1399 } : Room) s m args below meth c H locs cells slots (vx_MQ below (va_Qq post (ga_E g) (ga_A g)) (ga_X g xp) args s mc ms (ga_A g)) (F0 m 14 ls []) := by
      intro n
      induction n with
      | zero => intro x3_15 h_15 bc_15 bs_15 H locs cells slots ls hn _ _ _ _ _; exact absurd hn (Nat.not_lt_zero _)
      | succ n ih_15 =>
        intro x3_15 h_15 bc_15 bs_15 H locs cells slots ls hn_15 hi_15 hI hbc hbs hl
        have hw := hw x3_15 h_15 bc_15 bs_15 hi_15
        refine lv_iload_n hx hb dX12_command_14 rfl (lv_at hl 3 rfl) ?_
        refine ga_aload_n hx hb dX12_command_15 rfl (lv_at hl 2 rfl) ?_
        obtain ⟨n_16, f_17, hq, hw⟩ := hw
        refine ga_len hx hb hI (ga_at.h hq) rfl dX12_command_16 ?_
        refine lv_icmp_ge (tgt := 33) hx hb dX12_command_17 (by decide) (fun hc_18 => ?_) (fun hc_18 => ?_)
        · have hw := hw.1 hc_18
          refine ga_new (ci := 12) (T := TX14) hx hb hts hown hI in_X14 rfl tyX14 tyX14_ok q3555 q3556 q172 [va_rf none, va_rf none] ga_df_X14 hbc hbs hw.1 hw.2.1 dX12_command_33 (fun q_19 H cells slots hn_q_19 hI hbc hbs => ?_)
          obtain ⟨h_20, eh_20⟩ : ∃ z, z = ga_set h_15 q_19 (ga_O 12 [va_rf none, va_rf none]) := ⟨_, rfl⟩
          rw [← eh_20] at hI
          have hw := hw.2.2 q_19 hn_q_19 h_20 eh_20
          refine lv_dup hx hb dX12_command_36 rfl ?_
          refine ga_aload_n hx hb dX12_command_37 rfl (lv_at hl 1 rfl) ?_
          refine ga_aload_n hx hb dX12_command_38 rfl (lv_at hl 2 rfl) ?_
          refine ga_callv (va_runI (As := [va_rf r_5, va_rf (some q_13)]) (rest := [.ref q_19]) ⟨hx, hb, hml, hown, hts⟩ (gm_X14_init l g q_19 r_5 (some q_13) h_20 _ hw) (cwI 2 hts (lw_meth q3559) rfl rfl rfl (hts _ q172) (hts _ q3557) (hts _ q3558) rfl hdG_X14_init ⟨Nat.le_of_ble_eq_true rfl, Nat.le_of_ble_eq_true rfl⟩) (ga_preS hI rfl) rfl rfl hl.1 rfl (ga_room (Nat.le_of_ble_eq_true rfl)) dX12_command_39 ⟨Nat.le_trans (Nat.add_le_add_left (Nat.zero_le _) _) hbc, Nat.le_trans (Nat.add_le_add_left (Nat.zero_le _) _) hbs⟩) hI hbc hbs (Nat.zero_le _) (Nat.zero_le _) (fun h_21 H locs cells slots hw hI hbc hbs => ?_)
          exact ga_qretx (v := (some q_19)) hx hb hr (Or.inl ⟨_, rfl⟩) hlk hI hw (Nat.le_trans (Nat.le_add_right _ _) hbc) (Nat.le_trans (Nat.le_add_right _ _) hbs) dX12_command_42
        · have hw := hw.2 hc_18
          refine ga_aload_n hx hb dX12_command_20 rfl (lv_at hl 2 rfl) ?_
          refine lv_iload_n hx hb dX12_command_21 rfl (lv_at hl 3 rfl) ?_
          refine lv_aload_n hx hb dX12_command_22 rfl (lv_at hl 0 rfl) ?_
          obtain ⟨kc_22, ks_23, hk1, hk2, hw⟩ := hw
          obtain ⟨fs_24, hq, hw⟩ := hw
          refine ga_xcalli (vx_runV (As := []) (rest := [.int x3_15, va_rf (some q_13)]) ⟨hx, hb, hml, hown, hts⟩ (gm_X12_number l hst g p0 h_15 kc_22 ks_23 _ _ hw) (cwV 0 hts (lw_V q3546 q3548 qs36 q159 q3549) rfl rfl rfl ⟨rfl, hdG_X12_number⟩ ⟨Nat.le_of_ble_eq_true rfl, Nat.le_of_ble_eq_true rfl⟩) (ga_preV hI hq rfl rfl) rfl rfl hl.1 rfl (ga_room (Nat.le_of_ble_eq_true rfl)) dX12_command_23 ⟨Nat.le_trans (Nat.add_le_add_left hk1 _) hbc, Nat.le_trans (Nat.add_le_add_left hk2 _) hbs⟩) hI hbc hbs hk1 hk2 (fun E_27 q_28 h_29 ce H locs cells slots hw hI hce hbc hbs => ?_) (fun r_26 h_25 H locs cells slots hw hI hbc hbs => ?_)
          · exact ga_out hown hlk hI hw (by rw [htab]; intro z hz; cases hz) hce (Nat.le_trans (Nat.le_add_right _ _) hbc) (Nat.le_trans (Nat.le_add_right _ _) hbs)
          · skip
            obtain ⟨n_30, f_31, hq, hi, hw⟩ := hw
            refine ga_sti hx hb hI hq hi dX12_command_26 (fun H locs hI => ?_)
            obtain ⟨h_32, eh_32⟩ : ∃ z, z = ga_set h_25 q_13 (ga_Ai n_30 (upd f_31 x3_15.toNatClampNeg r_26)) := ⟨_, rfl⟩
            rw [← eh_32] at hI
            have hw := hw h_32 eh_32
            refine lv_iinc (v := x3_15 + (1 : Int32)) (lv' := [(3, .int (x3_15 + (1 : Int32))), (0, .ref p0), (1, va_rf r_5), (2, va_rf (some q_13))]) hx hb dX12_command_27 hl (k := 3) rfl rfl (by decide) rfl (fun ls hl => ?_)
            refine lv_goto (tgt := 14) hx hb dX12_command_30 (by decide) ?_
            exact ih_15 _ _ _ _ H locs cells slots ls (Nat.lt_of_lt_of_le hw.2 (Nat.le_of_lt_succ hn_15)) hw.1 hI hbc hbs (lv_sub hl [1, 2, 3, 0] rfl)
    exact hL_15 _ _ _ _ _ H locs cells slots ls (Nat.lt_succ_self _) h0_15 hI hbc hbs (lv_sub hl [3, 2, 1, 0] rfl)
theorem hdG_X12_command : yX12_command.cls ≠ "java/lang/invoke/MethodHandle" ∧ yX12_command.cls ≠ "java/lang/invoke/VarHandle" ∧ (parseMethodDescriptor yX12_command.desc).map (fun d => d.parameters.length) = some 0 := by decide +kernel
def gw_X12_all (K : ga_K) (p0 : Nat) (h : ga_H) (mc ms : Nat) (post : ga_H → Prop) (xp : String → Nat → ga_H → Prop) : Prop :=
  ∃ (fs_1 : List Value) (v_2 : Option Nat), h p0 = some (ga_O 10 fs_1) ∧ fs_1[2]? = some (va_rf v_2) ∧ (∃ kc_3 ks_4 : Nat, kc_3 ≤ mc ∧ ks_4 ≤ ms ∧ ∃ fs_5 : List Value, ga_at K h p0 (ga_O 10 fs_5) ∧ gw_X12_command K p0 h kc_3 ks_4 (fun (r_7 : Option Nat) (h_6 : ga_H) => ∃ a_11 : Nat, v_2 = some a_11 ∧ ∃ kc_12 ks_13 : Nat, kc_12 ≤ (mc - kc_3) ∧ ks_13 ≤ (ms - ks_4) ∧ ∃ fs_14 : List Value, ga_at K h_6 a_11 (ga_O 13 fs_14) ∧ gw_J2_add K a_11 r_7 h_6 kc_12 ks_13 (fun (r_16 : Int32) (h_15 : ga_H) => ∃ (In_17 : ga_H → Nat → Nat → Prop) (mu_17 : ga_H → Nat → Nat → Nat), In_17 h_15 ((mc - kc_3) - kc_12) ((ms - ks_4) - ks_13) ∧ ∀ (h_17 : ga_H) (bc_17 : Nat) (bs_17 : Nat), In_17 h_17 bc_17 bs_17 → (∃ (fs_18 : List Value) (v_19 : Int32), h_17 p0 = some (ga_O 10 fs_18) ∧ fs_18[3]? = some (.int v_19) ∧ (∃ (fs_20 : List Value) (v_21 : Int32), h_17 p0 = some (ga_O 10 fs_20) ∧ fs_20[1]? = some (.int v_21) ∧ ((v_21 ≤ v_19 → (post h_17)) ∧ (¬ v_21 ≤ v_19 → (∃ kc_23 ks_24 : Nat, kc_23 ≤ bc_17 ∧ ks_24 ≤ bs_17 ∧ ∃ fs_25 : List Value, ga_at K h_17 p0 (ga_O 10 fs_25) ∧ gw_X12_next K p0 (59 : Int32) (59 : Int32) h_17 kc_23 ks_24 (fun (r_27 : Int32) (h_26 : ga_H) => ∃ (fs_31 : List Value) (v_32 : Option Nat), h_26 p0 = some (ga_O 10 fs_31) ∧ fs_31[2]? = some (va_rf v_32) ∧ (∃ kc_33 ks_34 : Nat, kc_33 ≤ (bc_17 - kc_23) ∧ ks_34 ≤ (bs_17 - ks_24) ∧ ∃ fs_35 : List Value, ga_at K h_26 p0 (ga_O 10 fs_35) ∧ gw_X12_command K p0 h_26 kc_33 ks_34 (fun (r_37 : Option Nat) (h_36 : ga_H) => ∃ a_41 : Nat, v_32 = some a_41 ∧ ∃ kc_42 ks_43 : Nat, kc_42 ≤ ((bc_17 - kc_23) - kc_33) ∧ ks_43 ≤ ((bs_17 - ks_24) - ks_34) ∧ ∃ fs_44 : List Value, ga_at K h_36 a_41 (ga_O 13 fs_44) ∧ gw_J2_add K a_41 r_37 h_36 kc_42 ks_43 (fun (r_46 : Int32) (h_45 : ga_H) => In_17 h_45 (((bc_17 - kc_23) - kc_33) - kc_42) (((bs_17 - ks_24) - ks_34) - ks_43) ∧ mu_17 h_45 (((bc_17 - kc_23) - kc_33) - kc_42) (((bs_17 - ks_24) - ks_34) - ks_43) < mu_17 h_17 bc_17 bs_17)) (fun (E_38 : String) (q_39 : Nat) (h_40 : ga_H) => xp E_38 q_39 h_40))) (fun (E_28 : String) (q_29 : Nat) (h_30 : ga_H) => xp E_28 q_29 h_30)))))))) (fun (E_8 : String) (q_9 : Nat) (h_10 : ga_H) => xp E_8 q_9 h_10))
set_option maxHeartbeats 4000000 in
theorem gm_X12_all (l : Launch) (hst : l.stackTraces = false) (g : ga_G) (p0 : Nat) (h : ga_H) (mc ms : Nat) (post : ga_H → Prop) (xp : String → Nat → ga_H → Prop) (hw : gw_X12_all g.2.2 p0 h mc ms post xp) : vx_Met l yX12_all (ws_ yX12_all cX12_all 2 none) ({ frames := 30, cells := mc, slots := ms, locals := 1422 } : Room) (va_Pc [.ref p0] (ga_B g h)) (va_Qv post (ga_E g) (ga_A g)) (ga_X g xp) mc ms (ga_A g) := by
  refine ga_metx (own := "PaperStore$Parser") (nm := "all") (by decide) rfl rfl (by exact Nat.le_of_ble_eq_true rfl) (fun p e s m below meth c ls hC htab hI hl => ?_)
  have hl : lv_has ls 2 [(0, .ref p0)] := hl
  generalize ([.ref p0] : List Value).toArray = args at hC ⊢
  obtain ⟨hx, hb, hml, hown, hts, hr, hlk, hnm⟩ := hC
  unfold gw_X12_all at hw
  obtain ⟨H, eH⟩ : ∃ z, z = s.heap := ⟨_, rfl⟩
  obtain ⟨locs, elo⟩ : ∃ z : List Loc, z = [] := ⟨_, rfl⟩
  rw [← eH, ← elo] at hI ⊢
  obtain ⟨cells, slots, hbc, hbs, e0, e1⟩ : ∃ a b : Nat, a + mc ≤ mc ∧ b + ms ≤ ms ∧ a = 0 ∧ b = 0 := ⟨0, 0, by omega, by omega, rfl, rfl⟩
  show W p l e ({ frames := 30, cells := mc, slots := ms, locals := 1422 } : Room) s m args below meth c H locs 0 0 (vx_MQ below (va_Qv post (ga_E g) (ga_A g)) (ga_X g xp) args s mc ms (ga_A g)) (F0 m 0 ls [])
  suffices hgoal : W p l e ({ frames := 30, cells := mc, slots := ms, locals := 1422 } : Room) s m args below meth c H locs cells slots (vx_MQ below (va_Qv post (ga_E g) (ga_A g)) (ga_X g xp) args s mc ms (ga_A g)) (F0 m 0 ls []) by rw [e0, e1] at hgoal; exact hgoal
  refine lv_aload_n hx hb dX12_all_0 rfl (lv_at hl 0 rfl) ?_
  obtain ⟨fs_1, v_2, hq, hv, hw⟩ := hw
  refine ga_get (ci := 10) (T := TX12) (v := va_rf v_2) hx hb hts hown hI in_X12 rfl 2 (by decide) q2853 (fun _ z => z) (ga_at.h hq) hv dX12_all_1 ?_
  refine lv_aload_n hx hb dX12_all_4 rfl (lv_at hl 0 rfl) ?_
  obtain ⟨kc_3, ks_4, hk1, hk2, hw⟩ := hw
  obtain ⟨fs_5, hq, hw⟩ := hw
  refine ga_xcallq (vx_runV (As := []) (rest := [va_rf v_2]) ⟨hx, hb, hml, hown, hts⟩ (gm_X12_command l hst g p0 h kc_3 ks_4 _ _ hw) (cwV 0 hts (lw_V q2869 q2871 qs20 q159 q2872) rfl rfl rfl ⟨rfl, hdG_X12_command⟩ ⟨Nat.le_of_ble_eq_true rfl, Nat.le_of_ble_eq_true rfl⟩) (ga_preV hI hq rfl rfl) rfl rfl hl.1 rfl (ga_room (Nat.le_of_ble_eq_true rfl)) dX12_all_5 ⟨Nat.le_trans (Nat.add_le_add_left hk1 _) hbc, Nat.le_trans (Nat.add_le_add_left hk2 _) hbs⟩) hI hbc hbs hk1 hk2 (fun E_8 q_9 h_10 ce H locs cells slots hw hI hce hbc hbs => ?_) (fun r_7 h_6 H locs cells slots hw hI hbc hbs => ?_)
  · exact ga_out hown hlk hI hw (by rw [htab]; intro z hz; cases hz) hce (Nat.le_trans (Nat.le_add_right _ _) hbc) (Nat.le_trans (Nat.le_add_right _ _) hbs)
  · skip
    obtain ⟨a_11, ea_11, hw⟩ := hw
    rewrite [ea_11]
    obtain ⟨kc_12, ks_13, hk1, hk2, hw⟩ := hw
    obtain ⟨fs_14, hq, hw⟩ := hw
    refine ga_calli (va_runV (As := [va_rf r_7]) (rest := []) ⟨hx, hb, hml, hown, hts⟩ (gm_J2_add l g a_11 r_7 h_6 kc_12 ks_13 _ hw) (cwV 1 hts (lw_V q3569 q1321 q1322 q104 q1323) rfl rfl rfl ⟨rfl, hdG_J2_add⟩ ⟨Nat.le_of_ble_eq_true rfl, Nat.le_of_ble_eq_true rfl⟩) (ga_preV hI hq rfl rfl) rfl rfl hl.1 rfl (ga_room (Nat.le_of_ble_eq_true rfl)) dX12_all_8 ⟨Nat.le_trans (Nat.add_le_add_left hk1 _) hbc, Nat.le_trans (Nat.add_le_add_left hk2 _) hbs⟩) hI hbc hbs hk1 hk2 (fun r_16 h_15 H locs cells slots hw hI hbc hbs => ?_)
    refine lv_pop hx hb dX12_all_11 rfl ?_
    obtain ⟨In_17, mu_17, h0_17, hw⟩ := hw
    have hL_17 : ∀ (n : Nat) (h_17 : ga_H) (bc_17 : Nat) (bs_17 : Nat) (H : Heap) (locs : List Loc) (cells slots : Nat) (ls : Array Slot), mu_17 h_17 bc_17 bs_17 < n → In_17 h_17 bc_17 bs_17 → ga_I g h_17 s H locs → cells + bc_17 ≤ mc → slots + bs_17 ≤ ms → lv_has ls 2 [(0, .ref p0)] → W p l e ({ frames := 30, cells := mc, slots := ms, locals := 1422 } : Room) s m args below meth c H locs cells slots (vx_MQ below (va_Qv post (ga_E g) (ga_A g)) (ga_X g xp) args s mc ms (ga_A g)) (F0 m 12 ls []) := by
      intro n
      induction n with
      | zero => intro h_17 bc_17 bs_17 H locs cells slots ls hn _ _ _ _ _; exact absurd hn (Nat.not_lt_zero _)
      | succ n ih_17 =>
        intro h_17 bc_17 bs_17 H locs cells slots ls hn_17 hi_17 hI hbc hbs hl
        have hw := hw h_17 bc_17 bs_17 hi_17
        refine lv_aload_n hx hb dX12_all_12 rfl (lv_at hl 0 rfl) ?_
        obtain ⟨fs_18, v_19, hq, hv, hw⟩ := hw
        refine ga_get (ci := 10) (T := TX12) (v := .int v_19) hx hb hts hown hI in_X12 rfl 3 (by decide) q2855 (fun _ z => z) (ga_at.h hq) hv dX12_all_13 ?_
        refine lv_aload_n hx hb dX12_all_16 rfl (lv_at hl 0 rfl) ?_
        obtain ⟨fs_20, v_21, hq, hv, hw⟩ := hw
        refine ga_get (ci := 10) (T := TX12) (v := .int v_21) hx hb hts hown hI in_X12 rfl 1 (by decide) q2852 (fun _ z => z) (ga_at.h hq) hv dX12_all_17 ?_
        refine lv_icmp_ge (tgt := 47) hx hb dX12_all_20 (by decide) (fun hc_22 => ?_) (fun hc_22 => ?_)
        · have hw := hw.1 hc_22
          exact ga_vretx hx hb hr hlk hI hw (Nat.le_trans (Nat.le_add_right _ _) hbc) (Nat.le_trans (Nat.le_add_right _ _) hbs) dX12_all_47
        · have hw := hw.2 hc_22
          refine lv_aload_n hx hb dX12_all_23 rfl (lv_at hl 0 rfl) ?_
          refine lv_bipush (v := 59) hx hb dX12_all_24 (by decide) ?_
          refine lv_bipush (v := 59) hx hb dX12_all_26 (by decide) ?_
          obtain ⟨kc_23, ks_24, hk1, hk2, hw⟩ := hw
          obtain ⟨fs_25, hq, hw⟩ := hw
          refine ga_xcalli (vx_runV (As := [.int (59 : Int32), .int (59 : Int32)]) (rest := []) ⟨hx, hb, hml, hown, hts⟩ (gm_X12_next l hst g p0 (59 : Int32) (59 : Int32) h_17 kc_23 ks_24 _ _ hw) (cwV 2 hts (lw_V q3550 q3552 qs37 q159 q3553) rfl rfl rfl ⟨rfl, hdG_X12_next⟩ ⟨Nat.le_of_ble_eq_true rfl, Nat.le_of_ble_eq_true rfl⟩) (ga_preV hI hq rfl rfl) rfl rfl hl.1 rfl (ga_room (Nat.le_of_ble_eq_true rfl)) dX12_all_28 ⟨Nat.le_trans (Nat.add_le_add_left hk1 _) hbc, Nat.le_trans (Nat.add_le_add_left hk2 _) hbs⟩) hI hbc hbs hk1 hk2 (fun E_28 q_29 h_30 ce H locs cells slots hw hI hce hbc hbs => ?_) (fun r_27 h_26 H locs cells slots hw hI hbc hbs => ?_)
          · exact ga_out hown hlk hI hw (by rw [htab]; intro z hz; cases hz) hce (Nat.le_trans (Nat.le_add_right _ _) hbc) (Nat.le_trans (Nat.le_add_right _ _) hbs)
          · skip
            refine lv_istore_n (i := 1) (lv' := [(1, .int r_27), (0, .ref p0)]) hx hb dX12_all_31 rfl hl (by decide) rfl (fun ls hl => ?_)
            refine lv_aload_n hx hb dX12_all_32 rfl (lv_at hl 1 rfl) ?_
            obtain ⟨fs_31, v_32, hq, hv, hw⟩ := hw
            refine ga_get (ci := 10) (T := TX12) (v := va_rf v_32) hx hb hts hown hI in_X12 rfl 2 (by decide) q2853 (fun _ z => z) (ga_at.h hq) hv dX12_all_33 ?_
            refine lv_aload_n hx hb dX12_all_36 rfl (lv_at hl 1 rfl) ?_
            obtain ⟨kc_33, ks_34, hk1, hk2, hw⟩ := hw
            obtain ⟨fs_35, hq, hw⟩ := hw
            refine ga_xcallq (vx_runV (As := []) (rest := [va_rf v_32]) ⟨hx, hb, hml, hown, hts⟩ (gm_X12_command l hst g p0 h_26 kc_33 ks_34 _ _ hw) (cwV 0 hts (lw_V q2869 q2871 qs20 q159 q2872) rfl rfl rfl ⟨rfl, hdG_X12_command⟩ ⟨Nat.le_of_ble_eq_true rfl, Nat.le_of_ble_eq_true rfl⟩) (ga_preV hI hq rfl rfl) rfl rfl hl.1 rfl (ga_room (Nat.le_of_ble_eq_true rfl)) dX12_all_37 ⟨Nat.le_trans (Nat.add_le_add_left hk1 _) hbc, Nat.le_trans (Nat.add_le_add_left hk2 _) hbs⟩) hI hbc hbs hk1 hk2 (fun E_38 q_39 h_40 ce H locs cells slots hw hI hce hbc hbs => ?_) (fun r_37 h_36 H locs cells slots hw hI hbc hbs => ?_)
            · exact ga_out hown hlk hI hw (by rw [htab]; intro z hz; cases hz) hce (Nat.le_trans (Nat.le_add_right _ _) hbc) (Nat.le_trans (Nat.le_add_right _ _) hbs)
            · skip
              obtain ⟨a_41, ea_41, hw⟩ := hw
              rewrite [ea_41]
              obtain ⟨kc_42, ks_43, hk1, hk2, hw⟩ := hw
              obtain ⟨fs_44, hq, hw⟩ := hw
              refine ga_calli (va_runV (As := [va_rf r_37]) (rest := []) ⟨hx, hb, hml, hown, hts⟩ (gm_J2_add l g a_41 r_37 h_36 kc_42 ks_43 _ hw) (cwV 1 hts (lw_V q3569 q1321 q1322 q104 q1323) rfl rfl rfl ⟨rfl, hdG_J2_add⟩ ⟨Nat.le_of_ble_eq_true rfl, Nat.le_of_ble_eq_true rfl⟩) (ga_preV hI hq rfl rfl) rfl rfl hl.1 rfl (ga_room (Nat.le_of_ble_eq_true rfl)) dX12_all_40 ⟨Nat.le_trans (Nat.add_le_add_left hk1 _) hbc, Nat.le_trans (Nat.add_le_add_left hk2 _) hbs⟩) hI hbc hbs hk1 hk2 (fun r_46 h_45 H locs cells slots hw hI hbc hbs => ?_)
              refine lv_pop hx hb dX12_all_43 rfl ?_
              refine lv_goto (tgt := 12) hx hb dX12_all_44 (by decide) ?_
              exact ih_17 _ _ _ H locs cells slots ls (Nat.lt_of_lt_of_le hw.2 (Nat.le_of_lt_succ hn_17)) hw.1 hI hbc hbs (lv_sub hl [1] rfl)
    exact hL_17 _ _ _ _ H locs cells slots ls (Nat.lt_succ_self _) h0_17 hI hbc hbs (lv_sub hl [0] rfl)
theorem hdG_X12_all : yX12_all.cls ≠ "java/lang/invoke/MethodHandle" ∧ yX12_all.cls ≠ "java/lang/invoke/VarHandle" ∧ (parseMethodDescriptor yX12_all.desc).map (fun d => d.parameters.length) = some 0 := by decide +kernel
def gw_X14_in_201 (K : ga_K) (post : Int32 → ga_H → Prop) (xp : String → Nat → ga_H → Prop) (p0 : Nat) (t0 : Int32) (v1 : Option Nat) (v2 : Int32) (h : ga_H) (bc bs : Nat) : Prop :=
  ∃ kc_26 ks_27 : Nat, kc_26 ≤ bc ∧ ks_27 ≤ bs ∧ gw_X1_checkState K t0 h kc_26 ks_27 (fun (h_28 : ga_H) => ∃ (fs_32 : List Value) (v_33 : Option Nat), h_28 p0 = some (ga_O 12 fs_32) ∧ fs_32[1]? = some (va_rf v_33) ∧ (∃ a_34 : Nat, v_33 = some a_34 ∧ ∃ (n_35 : Nat) (f_36 : Nat → Int32), h_28 a_34 = some (ga_Ai n_35 f_36) ∧ vp_in (1 : Int32) n_35 ∧ (∃ a_37 : Nat, v1 = some a_37 ∧ ∃ kc_38 ks_39 : Nat, kc_38 ≤ (bc - kc_26) ∧ ks_39 ≤ (bs - ks_27) ∧ ∃ fs_40 : List Value, ga_at K h_28 a_37 (ga_O 1 fs_40) ∧ gw_X2_push K a_37 v2 (f_36 (1 : Int32).toNatClampNeg) h_28 kc_38 ks_39 (fun (r_42 : Int32) (h_41 : ga_H) => post r_42 h_41) (fun (E_43 : String) (q_44 : Nat) (h_45 : ga_H) => xp E_43 q_44 h_45)))) (fun (E_29 : String) (q_30 : Nat) (h_31 : ga_H) => xp E_29 q_30 h_31)
set_option maxHeartbeats 4000000 in
theorem gj_X14_in_201 {p : Program} {l : Launch} {e : Env} {s : State} {m : MethodId} {args : Array Value} {below : List Frame} {meth : Method} {c : Code} {mc ms : Nat} {H : Heap} {locs : List Loc} {cells slots : Nat} {ls : Array Slot} (hst : l.stackTraces = false) (htab : c.exceptionTable.toList = []) (g : ga_G) (post : Int32 → ga_H → Prop) (xp : String → Nat → ga_H → Prop) (p0 : Nat) (t0 : Int32) (v1 : Option Nat) (v2 : Int32) (h : ga_H) (bc bs : Nat) (hC : ga_Cx p s m args meth c cX14_in 5 (some .int) "PaperStore$Command" "in") (hw : gw_X14_in_201 g.2.2 post xp p0 t0 v1 v2 h bc bs) (hI : ga_I g h s H locs) (hbc : cells + bc ≤ mc) (hbs : slots + bs ≤ ms) (hl : lv_has ls 5 [(0, .ref p0), (1, va_rf v1), (2, .int v2)]) : W p l e ({ frames := 23, cells := mc, slots := ms, locals := 472 } : Room) s m args below meth c H locs cells slots (vx_MQ below (va_Qi post (ga_E g) (ga_A g)) (ga_X g xp) args s mc ms (ga_A g)) (F0 m 201 ls [.int t0]) := by
  obtain ⟨hx, hb, hml, hown, hts, hr, hlk, hnm⟩ := hC
  unfold gw_X14_in_201 at hw
  obtain ⟨kc_26, ks_27, hk1, hk2, hw⟩ := hw
  refine ga_xcallv (vx_runSN (As := [.int t0]) (rest := []) ⟨hx, hb, hml, hown, hts⟩ (gm_X1_checkState l hst g t0 h kc_26 ks_27 _ _ hw) ⟨va_cnB 1 hts (lw_meth q2819) rfl rfl rfl (hI.2.1.1.2.1 _ (ga_nin q3584 rfl)) (hts _ q100) hdG_X1_checkState ⟨Nat.le_of_ble_eq_true rfl, Nat.le_of_ble_eq_true rfl⟩, hts _ q2818, trivial⟩ (ga_preS hI rfl) rfl rfl hl.1 rfl (ga_room (Nat.le_of_ble_eq_true rfl)) dX14_in_201 ⟨Nat.le_trans (Nat.add_le_add_left hk1 _) hbc, Nat.le_trans (Nat.add_le_add_left hk2 _) hbs⟩) hI hbc hbs hk1 hk2 (fun E_29 q_30 h_31 ce H locs cells slots hw hI hce hbc hbs => ?_) (fun h_28 H locs cells slots hw hI hbc hbs => ?_)
  · exact ga_out hown hlk hI hw (by rw [htab]; intro z hz; cases hz) hce (Nat.le_trans (Nat.le_add_right _ _) hbc) (Nat.le_trans (Nat.le_add_right _ _) hbs)
  · skip
    refine ga_aload_n hx hb dX14_in_204 rfl (lv_at hl 1 rfl) ?_
    refine lv_iload_n hx hb dX14_in_205 rfl (lv_at hl 2 rfl) ?_
    refine lv_aload_n hx hb dX14_in_206 rfl (lv_at hl 0 rfl) ?_
    obtain ⟨fs_32, v_33, hq, hv, hw⟩ := hw
    refine ga_get (ci := 12) (T := TX14) (v := va_rf v_33) hx hb hts hown hI in_X14 rfl 1 (by decide) q3562 (fun _ z => z) (ga_at.h hq) hv dX14_in_207 ?_
    refine lv_iconst (v := 1) hx hb dX14_in_210 (by decide) ?_
    obtain ⟨a_34, ea_34, hw⟩ := hw
    rewrite [ea_34]
    obtain ⟨n_35, f_36, hq, hi, hw⟩ := hw
    refine ga_ldi hx hb hI (ga_at.h hq) hi dX14_in_211 ?_
    obtain ⟨a_37, ea_37, hw⟩ := hw
    rewrite [ea_37]
    obtain ⟨kc_38, ks_39, hk1, hk2, hw⟩ := hw
    obtain ⟨fs_40, hq, hw⟩ := hw
    refine ga_xcalli (vx_runV (As := [.int v2, .int (f_36 (1 : Int32).toNatClampNeg)]) (rest := []) ⟨hx, hb, hml, hown, hts⟩ (gm_X2_push l hst g a_37 v2 (f_36 (1 : Int32).toNatClampNeg) h_28 kc_38 ks_39 _ _ hw) (cwV 2 hts (lw_V q3585 q2148 q2149 q101 q2150) rfl rfl rfl ⟨rfl, hdG_X2_push⟩ ⟨Nat.le_of_ble_eq_true rfl, Nat.le_of_ble_eq_true rfl⟩) (ga_preV hI hq rfl rfl) rfl rfl hl.1 rfl (ga_room (Nat.le_of_ble_eq_true rfl)) dX14_in_212 ⟨Nat.le_trans (Nat.add_le_add_left hk1 _) hbc, Nat.le_trans (Nat.add_le_add_left hk2 _) hbs⟩) hI hbc hbs hk1 hk2 (fun E_43 q_44 h_45 ce H locs cells slots hw hI hce hbc hbs => ?_) (fun r_42 h_41 H locs cells slots hw hI hbc hbs => ?_)
    · exact ga_out hown hlk hI hw (by rw [htab]; intro z hz; cases hz) hce (Nat.le_trans (Nat.le_add_right _ _) hbc) (Nat.le_trans (Nat.le_add_right _ _) hbs)
    · skip
      exact ga_iretx hx hb hr rfl hlk hI hw (Nat.le_trans (Nat.le_add_right _ _) hbc) (Nat.le_trans (Nat.le_add_right _ _) hbs) dX14_in_215
def gw_X14_in_200 (K : ga_K) (post : Int32 → ga_H → Prop) (xp : String → Nat → ga_H → Prop) (p0 : Nat) (v1 : Option Nat) (v2 : Int32) (h : ga_H) (bc bs : Nat) : Prop :=
  gw_X14_in_201 K post xp p0 (0 : Int32) v1 v2 h bc bs
set_option maxHeartbeats 4000000 in
theorem gj_X14_in_200 {p : Program} {l : Launch} {e : Env} {s : State} {m : MethodId} {args : Array Value} {below : List Frame} {meth : Method} {c : Code} {mc ms : Nat} {H : Heap} {locs : List Loc} {cells slots : Nat} {ls : Array Slot} (hst : l.stackTraces = false) (htab : c.exceptionTable.toList = []) (g : ga_G) (post : Int32 → ga_H → Prop) (xp : String → Nat → ga_H → Prop) (p0 : Nat) (v1 : Option Nat) (v2 : Int32) (h : ga_H) (bc bs : Nat) (hC : ga_Cx p s m args meth c cX14_in 5 (some .int) "PaperStore$Command" "in") (hw : gw_X14_in_200 g.2.2 post xp p0 v1 v2 h bc bs) (hI : ga_I g h s H locs) (hbc : cells + bc ≤ mc) (hbs : slots + bs ≤ ms) (hl : lv_has ls 5 [(0, .ref p0), (1, va_rf v1), (2, .int v2)]) : W p l e ({ frames := 23, cells := mc, slots := ms, locals := 472 } : Room) s m args below meth c H locs cells slots (vx_MQ below (va_Qi post (ga_E g) (ga_A g)) (ga_X g xp) args s mc ms (ga_A g)) (F0 m 200 ls []) := by
  obtain ⟨hx, hb, hml, hown, hts, hr, hlk, hnm⟩ := hC
  unfold gw_X14_in_200 at hw
  refine lv_iconst (v := 0) hx hb dX14_in_200 (by decide) ?_
  exact gj_X14_in_201 hst htab g post xp p0 (0 : Int32) v1 v2 h bc bs ⟨hx, hb, hml, hown, hts, hr, hlk, hnm⟩ hw hI hbc hbs (lv_sub hl [0, 1, 2] rfl)
def gw_X14_in_255 (K : ga_K) (post : Int32 → ga_H → Prop) (xp : String → Nat → ga_H → Prop) (p0 : Nat) (t0 : Int32) (v1 : Option Nat) (v2 : Int32) (h : ga_H) (bc bs : Nat) : Prop :=
  ∃ kc_59 ks_60 : Nat, kc_59 ≤ bc ∧ ks_60 ≤ bs ∧ gw_X1_checkState K t0 h kc_59 ks_60 (fun (h_61 : ga_H) => ∃ (fs_65 : List Value) (v_66 : Option Nat), h_61 p0 = some (ga_O 12 fs_65) ∧ fs_65[1]? = some (va_rf v_66) ∧ (∃ a_67 : Nat, v_66 = some a_67 ∧ ∃ (n_68 : Nat) (f_69 : Nat → Int32), h_61 a_67 = some (ga_Ai n_68 f_69) ∧ vp_in (1 : Int32) n_68 ∧ (∃ (fs_70 : List Value) (v_71 : Option Nat), h_61 p0 = some (ga_O 12 fs_70) ∧ fs_70[1]? = some (va_rf v_71) ∧ (∃ a_72 : Nat, v_71 = some a_72 ∧ ∃ (n_73 : Nat) (f_74 : Nat → Int32), h_61 a_72 = some (ga_Ai n_73 f_74) ∧ vp_in (2 : Int32) n_73 ∧ (∃ a_75 : Nat, v1 = some a_75 ∧ ∃ kc_76 ks_77 : Nat, kc_76 ≤ (bc - kc_59) ∧ ks_77 ≤ (bs - ks_60) ∧ ∃ fs_78 : List Value, ga_at K h_61 a_75 (ga_O 1 fs_78) ∧ gw_X2_gather K a_75 v2 (f_69 (1 : Int32).toNatClampNeg) (f_74 (2 : Int32).toNatClampNeg) h_61 kc_76 ks_77 (fun (r_80 : Int32) (h_79 : ga_H) => post r_80 h_79) (fun (E_81 : String) (q_82 : Nat) (h_83 : ga_H) => xp E_81 q_82 h_83)))))) (fun (E_62 : String) (q_63 : Nat) (h_64 : ga_H) => xp E_62 q_63 h_64)
set_option maxHeartbeats 4000000 in
theorem gj_X14_in_255 {p : Program} {l : Launch} {e : Env} {s : State} {m : MethodId} {args : Array Value} {below : List Frame} {meth : Method} {c : Code} {mc ms : Nat} {H : Heap} {locs : List Loc} {cells slots : Nat} {ls : Array Slot} (hst : l.stackTraces = false) (htab : c.exceptionTable.toList = []) (g : ga_G) (post : Int32 → ga_H → Prop) (xp : String → Nat → ga_H → Prop) (p0 : Nat) (t0 : Int32) (v1 : Option Nat) (v2 : Int32) (h : ga_H) (bc bs : Nat) (hC : ga_Cx p s m args meth c cX14_in 5 (some .int) "PaperStore$Command" "in") (hw : gw_X14_in_255 g.2.2 post xp p0 t0 v1 v2 h bc bs) (hI : ga_I g h s H locs) (hbc : cells + bc ≤ mc) (hbs : slots + bs ≤ ms) (hl : lv_has ls 5 [(0, .ref p0), (1, va_rf v1), (2, .int v2)]) : W p l e ({ frames := 23, cells := mc, slots := ms, locals := 472 } : Room) s m args below meth c H locs cells slots (vx_MQ below (va_Qi post (ga_E g) (ga_A g)) (ga_X g xp) args s mc ms (ga_A g)) (F0 m 255 ls [.int t0]) := by
  obtain ⟨hx, hb, hml, hown, hts, hr, hlk, hnm⟩ := hC
  unfold gw_X14_in_255 at hw
  obtain ⟨kc_59, ks_60, hk1, hk2, hw⟩ := hw
  refine ga_xcallv (vx_runSN (As := [.int t0]) (rest := []) ⟨hx, hb, hml, hown, hts⟩ (gm_X1_checkState l hst g t0 h kc_59 ks_60 _ _ hw) ⟨va_cnB 1 hts (lw_meth q2819) rfl rfl rfl (hI.2.1.1.2.1 _ (ga_nin q3584 rfl)) (hts _ q100) hdG_X1_checkState ⟨Nat.le_of_ble_eq_true rfl, Nat.le_of_ble_eq_true rfl⟩, hts _ q2818, trivial⟩ (ga_preS hI rfl) rfl rfl hl.1 rfl (ga_room (Nat.le_of_ble_eq_true rfl)) dX14_in_255 ⟨Nat.le_trans (Nat.add_le_add_left hk1 _) hbc, Nat.le_trans (Nat.add_le_add_left hk2 _) hbs⟩) hI hbc hbs hk1 hk2 (fun E_62 q_63 h_64 ce H locs cells slots hw hI hce hbc hbs => ?_) (fun h_61 H locs cells slots hw hI hbc hbs => ?_)
  · exact ga_out hown hlk hI hw (by rw [htab]; intro z hz; cases hz) hce (Nat.le_trans (Nat.le_add_right _ _) hbc) (Nat.le_trans (Nat.le_add_right _ _) hbs)
  · skip
    refine ga_aload_n hx hb dX14_in_258 rfl (lv_at hl 1 rfl) ?_
    refine lv_iload_n hx hb dX14_in_259 rfl (lv_at hl 2 rfl) ?_
    refine lv_aload_n hx hb dX14_in_260 rfl (lv_at hl 0 rfl) ?_
    obtain ⟨fs_65, v_66, hq, hv, hw⟩ := hw
    refine ga_get (ci := 12) (T := TX14) (v := va_rf v_66) hx hb hts hown hI in_X14 rfl 1 (by decide) q3562 (fun _ z => z) (ga_at.h hq) hv dX14_in_261 ?_
    refine lv_iconst (v := 1) hx hb dX14_in_264 (by decide) ?_
    obtain ⟨a_67, ea_67, hw⟩ := hw
    rewrite [ea_67]
    obtain ⟨n_68, f_69, hq, hi, hw⟩ := hw
    refine ga_ldi hx hb hI (ga_at.h hq) hi dX14_in_265 ?_
    refine lv_aload_n hx hb dX14_in_266 rfl (lv_at hl 0 rfl) ?_
    obtain ⟨fs_70, v_71, hq, hv, hw⟩ := hw
    refine ga_get (ci := 12) (T := TX14) (v := va_rf v_71) hx hb hts hown hI in_X14 rfl 1 (by decide) q3562 (fun _ z => z) (ga_at.h hq) hv dX14_in_267 ?_
    refine lv_iconst (v := 2) hx hb dX14_in_270 (by decide) ?_
    obtain ⟨a_72, ea_72, hw⟩ := hw
    rewrite [ea_72]
    obtain ⟨n_73, f_74, hq, hi, hw⟩ := hw
    refine ga_ldi hx hb hI (ga_at.h hq) hi dX14_in_271 ?_
    obtain ⟨a_75, ea_75, hw⟩ := hw
    rewrite [ea_75]
    obtain ⟨kc_76, ks_77, hk1, hk2, hw⟩ := hw
    obtain ⟨fs_78, hq, hw⟩ := hw
    refine ga_xcalli (vx_runV (As := [.int v2, .int (f_69 (1 : Int32).toNatClampNeg), .int (f_74 (2 : Int32).toNatClampNeg)]) (rest := []) ⟨hx, hb, hml, hown, hts⟩ (gm_X2_gather l hst g a_75 v2 (f_69 (1 : Int32).toNatClampNeg) (f_74 (2 : Int32).toNatClampNeg) h_61 kc_76 ks_77 _ _ hw) (cwV 3 hts (lw_V q3588 q2473 q2474 q101 q2475) rfl rfl rfl ⟨rfl, hdG_X2_gather⟩ ⟨Nat.le_of_ble_eq_true rfl, Nat.le_of_ble_eq_true rfl⟩) (ga_preV hI hq rfl rfl) rfl rfl hl.1 rfl (ga_room (Nat.le_of_ble_eq_true rfl)) dX14_in_272 ⟨Nat.le_trans (Nat.add_le_add_left hk1 _) hbc, Nat.le_trans (Nat.add_le_add_left hk2 _) hbs⟩) hI hbc hbs hk1 hk2 (fun E_81 q_82 h_83 ce H locs cells slots hw hI hce hbc hbs => ?_) (fun r_80 h_79 H locs cells slots hw hI hbc hbs => ?_)
    · exact ga_out hown hlk hI hw (by rw [htab]; intro z hz; cases hz) hce (Nat.le_trans (Nat.le_add_right _ _) hbc) (Nat.le_trans (Nat.le_add_right _ _) hbs)
    · skip
      exact ga_iretx hx hb hr rfl hlk hI hw (Nat.le_trans (Nat.le_add_right _ _) hbc) (Nat.le_trans (Nat.le_add_right _ _) hbs) dX14_in_275
def gw_X14_in_254 (K : ga_K) (post : Int32 → ga_H → Prop) (xp : String → Nat → ga_H → Prop) (p0 : Nat) (v1 : Option Nat) (v2 : Int32) (h : ga_H) (bc bs : Nat) : Prop :=
  gw_X14_in_255 K post xp p0 (0 : Int32) v1 v2 h bc bs
set_option maxHeartbeats 4000000 in
theorem gj_X14_in_254 {p : Program} {l : Launch} {e : Env} {s : State} {m : MethodId} {args : Array Value} {below : List Frame} {meth : Method} {c : Code} {mc ms : Nat} {H : Heap} {locs : List Loc} {cells slots : Nat} {ls : Array Slot} (hst : l.stackTraces = false) (htab : c.exceptionTable.toList = []) (g : ga_G) (post : Int32 → ga_H → Prop) (xp : String → Nat → ga_H → Prop) (p0 : Nat) (v1 : Option Nat) (v2 : Int32) (h : ga_H) (bc bs : Nat) (hC : ga_Cx p s m args meth c cX14_in 5 (some .int) "PaperStore$Command" "in") (hw : gw_X14_in_254 g.2.2 post xp p0 v1 v2 h bc bs) (hI : ga_I g h s H locs) (hbc : cells + bc ≤ mc) (hbs : slots + bs ≤ ms) (hl : lv_has ls 5 [(0, .ref p0), (1, va_rf v1), (2, .int v2)]) : W p l e ({ frames := 23, cells := mc, slots := ms, locals := 472 } : Room) s m args below meth c H locs cells slots (vx_MQ below (va_Qi post (ga_E g) (ga_A g)) (ga_X g xp) args s mc ms (ga_A g)) (F0 m 254 ls []) := by
  obtain ⟨hx, hb, hml, hown, hts, hr, hlk, hnm⟩ := hC
  unfold gw_X14_in_254 at hw
  refine lv_iconst (v := 0) hx hb dX14_in_254 (by decide) ?_
  exact gj_X14_in_255 hst htab g post xp p0 (0 : Int32) v1 v2 h bc bs ⟨hx, hb, hml, hown, hts, hr, hlk, hnm⟩ hw hI hbc hbs (lv_sub hl [0, 1, 2] rfl)
def gw_X14_in_312 (K : ga_K) (post : Int32 → ga_H → Prop) (xp : String → Nat → ga_H → Prop) (p0 : Nat) (t0 : Int32) (v1 : Option Nat) (v2 : Int32) (h : ga_H) (bc bs : Nat) : Prop :=
  ∃ kc_127 ks_128 : Nat, kc_127 ≤ bc ∧ ks_128 ≤ bs ∧ gw_X1_checkState K t0 h kc_127 ks_128 (fun (h_129 : ga_H) => ∃ (fs_133 : List Value) (v_134 : Option Nat), h_129 p0 = some (ga_O 12 fs_133) ∧ fs_133[1]? = some (va_rf v_134) ∧ (∃ a_135 : Nat, v_134 = some a_135 ∧ ∃ (n_136 : Nat) (f_137 : Nat → Int32), h_129 a_135 = some (ga_Ai n_136 f_137) ∧ vp_in (1 : Int32) n_136 ∧ (∃ a_138 : Nat, v1 = some a_138 ∧ ∃ fs_139 : List Value, ga_at K h_129 a_138 (ga_O 1 fs_139) ∧ gw_X2_trap K a_138 v2 (f_137 (1 : Int32).toNatClampNeg) h_129 (fun (r_141 : Int32) (h_140 : ga_H) => post r_141 h_140)))) (fun (E_130 : String) (q_131 : Nat) (h_132 : ga_H) => xp E_130 q_131 h_132)
set_option maxHeartbeats 4000000 in
theorem gj_X14_in_312 {p : Program} {l : Launch} {e : Env} {s : State} {m : MethodId} {args : Array Value} {below : List Frame} {meth : Method} {c : Code} {mc ms : Nat} {H : Heap} {locs : List Loc} {cells slots : Nat} {ls : Array Slot} (hst : l.stackTraces = false) (htab : c.exceptionTable.toList = []) (g : ga_G) (post : Int32 → ga_H → Prop) (xp : String → Nat → ga_H → Prop) (p0 : Nat) (t0 : Int32) (v1 : Option Nat) (v2 : Int32) (h : ga_H) (bc bs : Nat) (hC : ga_Cx p s m args meth c cX14_in 5 (some .int) "PaperStore$Command" "in") (hw : gw_X14_in_312 g.2.2 post xp p0 t0 v1 v2 h bc bs) (hI : ga_I g h s H locs) (hbc : cells + bc ≤ mc) (hbs : slots + bs ≤ ms) (hl : lv_has ls 5 [(0, .ref p0), (1, va_rf v1), (2, .int v2)]) : W p l e ({ frames := 23, cells := mc, slots := ms, locals := 472 } : Room) s m args below meth c H locs cells slots (vx_MQ below (va_Qi post (ga_E g) (ga_A g)) (ga_X g xp) args s mc ms (ga_A g)) (F0 m 312 ls [.int t0]) := by
  obtain ⟨hx, hb, hml, hown, hts, hr, hlk, hnm⟩ := hC
  unfold gw_X14_in_312 at hw
  obtain ⟨kc_127, ks_128, hk1, hk2, hw⟩ := hw
  refine ga_xcallv (vx_runSN (As := [.int t0]) (rest := []) ⟨hx, hb, hml, hown, hts⟩ (gm_X1_checkState l hst g t0 h kc_127 ks_128 _ _ hw) ⟨va_cnB 1 hts (lw_meth q2819) rfl rfl rfl (hI.2.1.1.2.1 _ (ga_nin q3584 rfl)) (hts _ q100) hdG_X1_checkState ⟨Nat.le_of_ble_eq_true rfl, Nat.le_of_ble_eq_true rfl⟩, hts _ q2818, trivial⟩ (ga_preS hI rfl) rfl rfl hl.1 rfl (ga_room (Nat.le_of_ble_eq_true rfl)) dX14_in_312 ⟨Nat.le_trans (Nat.add_le_add_left hk1 _) hbc, Nat.le_trans (Nat.add_le_add_left hk2 _) hbs⟩) hI hbc hbs hk1 hk2 (fun E_130 q_131 h_132 ce H locs cells slots hw hI hce hbc hbs => ?_) (fun h_129 H locs cells slots hw hI hbc hbs => ?_)
  · exact ga_out hown hlk hI hw (by rw [htab]; intro z hz; cases hz) hce (Nat.le_trans (Nat.le_add_right _ _) hbc) (Nat.le_trans (Nat.le_add_right _ _) hbs)
  · skip
    refine ga_aload_n hx hb dX14_in_315 rfl (lv_at hl 1 rfl) ?_
    refine lv_iload_n hx hb dX14_in_316 rfl (lv_at hl 2 rfl) ?_
    refine lv_aload_n hx hb dX14_in_317 rfl (lv_at hl 0 rfl) ?_
    obtain ⟨fs_133, v_134, hq, hv, hw⟩ := hw
    refine ga_get (ci := 12) (T := TX14) (v := va_rf v_134) hx hb hts hown hI in_X14 rfl 1 (by decide) q3562 (fun _ z => z) (ga_at.h hq) hv dX14_in_318 ?_
    refine lv_iconst (v := 1) hx hb dX14_in_321 (by decide) ?_
    obtain ⟨a_135, ea_135, hw⟩ := hw
    rewrite [ea_135]
    obtain ⟨n_136, f_137, hq, hi, hw⟩ := hw
    refine ga_ldi hx hb hI (ga_at.h hq) hi dX14_in_322 ?_
    obtain ⟨a_138, ea_138, hw⟩ := hw
    rewrite [ea_138]
    obtain ⟨fs_139, hq, hw⟩ := hw
    refine ga_calli (va_runV (As := [.int v2, .int (f_137 (1 : Int32).toNatClampNeg)]) (rest := []) ⟨hx, hb, hml, hown, hts⟩ (gm_X2_trap l g a_138 v2 (f_137 (1 : Int32).toNatClampNeg) h_129 _ hw) (cwV 2 hts (lw_V q3590 q2323 q2324 q101 q2325) rfl rfl rfl ⟨rfl, hdG_X2_trap⟩ ⟨Nat.le_of_ble_eq_true rfl, Nat.le_of_ble_eq_true rfl⟩) (ga_preV hI hq rfl rfl) rfl rfl hl.1 rfl (ga_room (Nat.le_of_ble_eq_true rfl)) dX14_in_323 ⟨Nat.le_trans (Nat.add_le_add_left (Nat.zero_le _) _) hbc, Nat.le_trans (Nat.add_le_add_left (Nat.zero_le _) _) hbs⟩) hI hbc hbs (Nat.zero_le _) (Nat.zero_le _) (fun r_141 h_140 H locs cells slots hw hI hbc hbs => ?_)
    exact ga_iretx hx hb hr rfl hlk hI hw (Nat.le_trans (Nat.le_add_right _ _) hbc) (Nat.le_trans (Nat.le_add_right _ _) hbs) dX14_in_326
def gw_X14_in_311 (K : ga_K) (post : Int32 → ga_H → Prop) (xp : String → Nat → ga_H → Prop) (p0 : Nat) (v1 : Option Nat) (v2 : Int32) (h : ga_H) (bc bs : Nat) : Prop :=
  gw_X14_in_312 K post xp p0 (0 : Int32) v1 v2 h bc bs
set_option maxHeartbeats 4000000 in
theorem gj_X14_in_311 {p : Program} {l : Launch} {e : Env} {s : State} {m : MethodId} {args : Array Value} {below : List Frame} {meth : Method} {c : Code} {mc ms : Nat} {H : Heap} {locs : List Loc} {cells slots : Nat} {ls : Array Slot} (hst : l.stackTraces = false) (htab : c.exceptionTable.toList = []) (g : ga_G) (post : Int32 → ga_H → Prop) (xp : String → Nat → ga_H → Prop) (p0 : Nat) (v1 : Option Nat) (v2 : Int32) (h : ga_H) (bc bs : Nat) (hC : ga_Cx p s m args meth c cX14_in 5 (some .int) "PaperStore$Command" "in") (hw : gw_X14_in_311 g.2.2 post xp p0 v1 v2 h bc bs) (hI : ga_I g h s H locs) (hbc : cells + bc ≤ mc) (hbs : slots + bs ≤ ms) (hl : lv_has ls 5 [(0, .ref p0), (1, va_rf v1), (2, .int v2)]) : W p l e ({ frames := 23, cells := mc, slots := ms, locals := 472 } : Room) s m args below meth c H locs cells slots (vx_MQ below (va_Qi post (ga_E g) (ga_A g)) (ga_X g xp) args s mc ms (ga_A g)) (F0 m 311 ls []) := by
  obtain ⟨hx, hb, hml, hown, hts, hr, hlk, hnm⟩ := hC
  unfold gw_X14_in_311 at hw
  refine lv_iconst (v := 0) hx hb dX14_in_311 (by decide) ?_
  exact gj_X14_in_312 hst htab g post xp p0 (0 : Int32) v1 v2 h bc bs ⟨hx, hb, hml, hown, hts, hr, hlk, hnm⟩ hw hI hbc hbs (lv_sub hl [0, 1, 2] rfl)
def gw_X14_in_350 (K : ga_K) (post : Int32 → ga_H → Prop) (xp : String → Nat → ga_H → Prop) (p0 : Nat) (t0 : Int32) (v1 : Option Nat) (v2 : Int32) (h : ga_H) (bc bs : Nat) : Prop :=
  ∃ kc_151 ks_152 : Nat, kc_151 ≤ bc ∧ ks_152 ≤ bs ∧ gw_X1_checkState K t0 h kc_151 ks_152 (fun (h_153 : ga_H) => ∃ (fs_157 : List Value) (v_158 : Option Nat), h_153 p0 = some (ga_O 12 fs_157) ∧ fs_157[1]? = some (va_rf v_158) ∧ (∃ a_159 : Nat, v_158 = some a_159 ∧ ∃ (n_160 : Nat) (f_161 : Nat → Int32), h_153 a_159 = some (ga_Ai n_160 f_161) ∧ vp_in (1 : Int32) n_160 ∧ (∃ a_162 : Nat, v1 = some a_162 ∧ ∃ fs_163 : List Value, ga_at K h_153 a_162 (ga_O 1 fs_163) ∧ gw_X2_air K a_162 v2 (f_161 (1 : Int32).toNatClampNeg) h_153 (fun (r_165 : Int32) (h_164 : ga_H) => post r_165 h_164)))) (fun (E_154 : String) (q_155 : Nat) (h_156 : ga_H) => xp E_154 q_155 h_156)
set_option maxHeartbeats 4000000 in
theorem gj_X14_in_350 {p : Program} {l : Launch} {e : Env} {s : State} {m : MethodId} {args : Array Value} {below : List Frame} {meth : Method} {c : Code} {mc ms : Nat} {H : Heap} {locs : List Loc} {cells slots : Nat} {ls : Array Slot} (hst : l.stackTraces = false) (htab : c.exceptionTable.toList = []) (g : ga_G) (post : Int32 → ga_H → Prop) (xp : String → Nat → ga_H → Prop) (p0 : Nat) (t0 : Int32) (v1 : Option Nat) (v2 : Int32) (h : ga_H) (bc bs : Nat) (hC : ga_Cx p s m args meth c cX14_in 5 (some .int) "PaperStore$Command" "in") (hw : gw_X14_in_350 g.2.2 post xp p0 t0 v1 v2 h bc bs) (hI : ga_I g h s H locs) (hbc : cells + bc ≤ mc) (hbs : slots + bs ≤ ms) (hl : lv_has ls 5 [(0, .ref p0), (1, va_rf v1), (2, .int v2)]) : W p l e ({ frames := 23, cells := mc, slots := ms, locals := 472 } : Room) s m args below meth c H locs cells slots (vx_MQ below (va_Qi post (ga_E g) (ga_A g)) (ga_X g xp) args s mc ms (ga_A g)) (F0 m 350 ls [.int t0]) := by
  obtain ⟨hx, hb, hml, hown, hts, hr, hlk, hnm⟩ := hC
  unfold gw_X14_in_350 at hw
  obtain ⟨kc_151, ks_152, hk1, hk2, hw⟩ := hw
  refine ga_xcallv (vx_runSN (As := [.int t0]) (rest := []) ⟨hx, hb, hml, hown, hts⟩ (gm_X1_checkState l hst g t0 h kc_151 ks_152 _ _ hw) ⟨va_cnB 1 hts (lw_meth q2819) rfl rfl rfl (hI.2.1.1.2.1 _ (ga_nin q3584 rfl)) (hts _ q100) hdG_X1_checkState ⟨Nat.le_of_ble_eq_true rfl, Nat.le_of_ble_eq_true rfl⟩, hts _ q2818, trivial⟩ (ga_preS hI rfl) rfl rfl hl.1 rfl (ga_room (Nat.le_of_ble_eq_true rfl)) dX14_in_350 ⟨Nat.le_trans (Nat.add_le_add_left hk1 _) hbc, Nat.le_trans (Nat.add_le_add_left hk2 _) hbs⟩) hI hbc hbs hk1 hk2 (fun E_154 q_155 h_156 ce H locs cells slots hw hI hce hbc hbs => ?_) (fun h_153 H locs cells slots hw hI hbc hbs => ?_)
  · exact ga_out hown hlk hI hw (by rw [htab]; intro z hz; cases hz) hce (Nat.le_trans (Nat.le_add_right _ _) hbc) (Nat.le_trans (Nat.le_add_right _ _) hbs)
  · skip
    refine ga_aload_n hx hb dX14_in_353 rfl (lv_at hl 1 rfl) ?_
    refine lv_iload_n hx hb dX14_in_354 rfl (lv_at hl 2 rfl) ?_
    refine lv_aload_n hx hb dX14_in_355 rfl (lv_at hl 0 rfl) ?_
    obtain ⟨fs_157, v_158, hq, hv, hw⟩ := hw
    refine ga_get (ci := 12) (T := TX14) (v := va_rf v_158) hx hb hts hown hI in_X14 rfl 1 (by decide) q3562 (fun _ z => z) (ga_at.h hq) hv dX14_in_356 ?_
    refine lv_iconst (v := 1) hx hb dX14_in_359 (by decide) ?_
    obtain ⟨a_159, ea_159, hw⟩ := hw
    rewrite [ea_159]
    obtain ⟨n_160, f_161, hq, hi, hw⟩ := hw
    refine ga_ldi hx hb hI (ga_at.h hq) hi dX14_in_360 ?_
    obtain ⟨a_162, ea_162, hw⟩ := hw
    rewrite [ea_162]
    obtain ⟨fs_163, hq, hw⟩ := hw
    refine ga_calli (va_runV (As := [.int v2, .int (f_161 (1 : Int32).toNatClampNeg)]) (rest := []) ⟨hx, hb, hml, hown, hts⟩ (gm_X2_air l g a_162 v2 (f_161 (1 : Int32).toNatClampNeg) h_153 _ hw) (cwV 2 hts (lw_V q3591 q2300 q2301 q101 q2302) rfl rfl rfl ⟨rfl, hdG_X2_air⟩ ⟨Nat.le_of_ble_eq_true rfl, Nat.le_of_ble_eq_true rfl⟩) (ga_preV hI hq rfl rfl) rfl rfl hl.1 rfl (ga_room (Nat.le_of_ble_eq_true rfl)) dX14_in_361 ⟨Nat.le_trans (Nat.add_le_add_left (Nat.zero_le _) _) hbc, Nat.le_trans (Nat.add_le_add_left (Nat.zero_le _) _) hbs⟩) hI hbc hbs (Nat.zero_le _) (Nat.zero_le _) (fun r_165 h_164 H locs cells slots hw hI hbc hbs => ?_)
    exact ga_iretx hx hb hr rfl hlk hI hw (Nat.le_trans (Nat.le_add_right _ _) hbc) (Nat.le_trans (Nat.le_add_right _ _) hbs) dX14_in_364
def gw_X14_in_349 (K : ga_K) (post : Int32 → ga_H → Prop) (xp : String → Nat → ga_H → Prop) (p0 : Nat) (v1 : Option Nat) (v2 : Int32) (h : ga_H) (bc bs : Nat) : Prop :=
  gw_X14_in_350 K post xp p0 (0 : Int32) v1 v2 h bc bs
set_option maxHeartbeats 4000000 in
theorem gj_X14_in_349 {p : Program} {l : Launch} {e : Env} {s : State} {m : MethodId} {args : Array Value} {below : List Frame} {meth : Method} {c : Code} {mc ms : Nat} {H : Heap} {locs : List Loc} {cells slots : Nat} {ls : Array Slot} (hst : l.stackTraces = false) (htab : c.exceptionTable.toList = []) (g : ga_G) (post : Int32 → ga_H → Prop) (xp : String → Nat → ga_H → Prop) (p0 : Nat) (v1 : Option Nat) (v2 : Int32) (h : ga_H) (bc bs : Nat) (hC : ga_Cx p s m args meth c cX14_in 5 (some .int) "PaperStore$Command" "in") (hw : gw_X14_in_349 g.2.2 post xp p0 v1 v2 h bc bs) (hI : ga_I g h s H locs) (hbc : cells + bc ≤ mc) (hbs : slots + bs ≤ ms) (hl : lv_has ls 5 [(0, .ref p0), (1, va_rf v1), (2, .int v2)]) : W p l e ({ frames := 23, cells := mc, slots := ms, locals := 472 } : Room) s m args below meth c H locs cells slots (vx_MQ below (va_Qi post (ga_E g) (ga_A g)) (ga_X g xp) args s mc ms (ga_A g)) (F0 m 349 ls []) := by
  obtain ⟨hx, hb, hml, hown, hts, hr, hlk, hnm⟩ := hC
  unfold gw_X14_in_349 at hw
  refine lv_iconst (v := 0) hx hb dX14_in_349 (by decide) ?_
  exact gj_X14_in_350 hst htab g post xp p0 (0 : Int32) v1 v2 h bc bs ⟨hx, hb, hml, hown, hts, hr, hlk, hnm⟩ hw hI hbc hbs (lv_sub hl [0, 1, 2] rfl)
def gw_X14_in_140 (K : ga_K) (post : Int32 → ga_H → Prop) (xp : String → Nat → ga_H → Prop) (p0 : Nat) (v1 : Option Nat) (v2 : Int32) (v4 : Int32) (h : ga_H) (bc bs : Nat) : Prop :=
  (v4 = (0 : Int32) → (∃ a_21 : Nat, v1 = some a_21 ∧ ∃ fs_22 : List Value, ga_at K h a_21 (ga_O 1 fs_22) ∧ gw_X2_isLadder K a_21 v2 h (fun (r_24 : Int32) (h_23 : ga_H) => (r_24 = (0 : Int32) → (gw_X14_in_200 K post xp p0 v1 v2 h_23 bc bs)) ∧ (¬ r_24 = (0 : Int32) → (∃ (fs_46 : List Value) (v_47 : Option Nat), h_23 p0 = some (ga_O 12 fs_46) ∧ fs_46[1]? = some (va_rf v_47) ∧ (∃ a_48 : Nat, v_47 = some a_48 ∧ ∃ (n_49 : Nat) (f_50 : Nat → Int32), h_23 a_48 = some (ga_Ai n_49 f_50) ∧ vp_in (1 : Int32) n_49 ∧ (gw_X1_isAisle (f_50 (1 : Int32).toNatClampNeg) (fun (r_51 : Int32) => (r_51 = (0 : Int32) → (gw_X14_in_200 K post xp p0 v1 v2 h_23 bc bs)) ∧ (¬ r_51 = (0 : Int32) → (gw_X14_in_201 K post xp p0 (1 : Int32) v1 v2 h_23 bc bs)))))))))) ∧ (¬ v4 = (0 : Int32) → ((v4 = (1 : Int32) → (∃ a_54 : Nat, v1 = some a_54 ∧ ∃ fs_55 : List Value, ga_at K h a_54 (ga_O 1 fs_55) ∧ gw_X2_isOrder K a_54 v2 h (fun (r_57 : Int32) (h_56 : ga_H) => (r_57 = (0 : Int32) → (gw_X14_in_254 K post xp p0 v1 v2 h_56 bc bs)) ∧ (¬ r_57 = (0 : Int32) → (∃ (fs_84 : List Value) (v_85 : Option Nat), h_56 p0 = some (ga_O 12 fs_84) ∧ fs_84[1]? = some (va_rf v_85) ∧ (∃ a_86 : Nat, v_85 = some a_86 ∧ ∃ (n_87 : Nat) (f_88 : Nat → Int32), h_56 a_86 = some (ga_Ai n_87 f_88) ∧ vp_in (1 : Int32) n_87 ∧ (∃ a_89 : Nat, v1 = some a_89 ∧ ∃ fs_90 : List Value, ga_at K h_56 a_89 (ga_O 1 fs_90) ∧ gw_X2_isCart K a_89 (f_88 (1 : Int32).toNatClampNeg) h_56 (fun (r_92 : Int32) (h_91 : ga_H) => (r_92 = (0 : Int32) → (gw_X14_in_254 K post xp p0 v1 v2 h_91 bc bs)) ∧ (¬ r_92 = (0 : Int32) → (∃ (fs_94 : List Value) (v_95 : Option Nat), h_91 p0 = some (ga_O 12 fs_94) ∧ fs_94[1]? = some (va_rf v_95) ∧ (∃ a_96 : Nat, v_95 = some a_96 ∧ ∃ (n_97 : Nat) (f_98 : Nat → Int32), h_91 a_96 = some (ga_Ai n_97 f_98) ∧ vp_in (2 : Int32) n_97 ∧ (∃ a_99 : Nat, v1 = some a_99 ∧ ∃ fs_100 : List Value, ga_at K h_91 a_99 (ga_O 1 fs_100) ∧ gw_X2_isLadder K a_99 (f_98 (2 : Int32).toNatClampNeg) h_91 (fun (r_102 : Int32) (h_101 : ga_H) => (r_102 = (0 : Int32) → (gw_X14_in_254 K post xp p0 v1 v2 h_101 bc bs)) ∧ (¬ r_102 = (0 : Int32) → (gw_X14_in_255 K post xp p0 (1 : Int32) v1 v2 h_101 bc bs))))))))))))))) ∧ (¬ v4 = (1 : Int32) → ((v4 = (2 : Int32) → (∃ a_105 : Nat, v1 = some a_105 ∧ ∃ fs_106 : List Value, ga_at K h a_105 (ga_O 1 fs_106) ∧ gw_X2_isCart K a_105 v2 h (fun (r_108 : Int32) (h_107 : ga_H) => ∃ kc_109 ks_110 : Nat, kc_109 ≤ bc ∧ ks_110 ≤ bs ∧ gw_X1_checkState K r_108 h_107 kc_109 ks_110 (fun (h_111 : ga_H) => ∃ a_115 : Nat, v1 = some a_115 ∧ ∃ kc_116 ks_117 : Nat, kc_116 ≤ (bc - kc_109) ∧ ks_117 ≤ (bs - ks_110) ∧ ∃ fs_118 : List Value, ga_at K h_111 a_115 (ga_O 1 fs_118) ∧ gw_X2_send K a_115 v2 h_111 kc_116 ks_117 (fun (r_120 : Int32) (h_119 : ga_H) => post r_120 h_119) (fun (E_121 : String) (q_122 : Nat) (h_123 : ga_H) => xp E_121 q_122 h_123)) (fun (E_112 : String) (q_113 : Nat) (h_114 : ga_H) => xp E_112 q_113 h_114)))) ∧ (¬ v4 = (2 : Int32) → ((v4 = (3 : Int32) → (gw_X1_isAisle v2 (fun (r_125 : Int32) => (r_125 = (0 : Int32) → (gw_X14_in_311 K post xp p0 v1 v2 h bc bs)) ∧ (¬ r_125 = (0 : Int32) → (∃ (fs_142 : List Value) (v_143 : Option Nat), h p0 = some (ga_O 12 fs_142) ∧ fs_142[1]? = some (va_rf v_143) ∧ (∃ a_144 : Nat, v_143 = some a_144 ∧ ∃ (n_145 : Nat) (f_146 : Nat → Int32), h a_144 = some (ga_Ai n_145 f_146) ∧ vp_in (1 : Int32) n_145 ∧ (((5 : Int32) < f_146 (1 : Int32).toNatClampNeg → (gw_X14_in_311 K post xp p0 v1 v2 h bc bs)) ∧ (¬ (5 : Int32) < f_146 (1 : Int32).toNatClampNeg → (gw_X14_in_312 K post xp p0 (1 : Int32) v1 v2 h bc bs))))))))) ∧ (¬ v4 = (3 : Int32) → ((v4 = (4 : Int32) → (gw_X1_isAisle v2 (fun (r_149 : Int32) => (r_149 = (0 : Int32) → (gw_X14_in_349 K post xp p0 v1 v2 h bc bs)) ∧ (¬ r_149 = (0 : Int32) → (∃ (fs_166 : List Value) (v_167 : Option Nat), h p0 = some (ga_O 12 fs_166) ∧ fs_166[1]? = some (va_rf v_167) ∧ (∃ a_168 : Nat, v_167 = some a_168 ∧ ∃ (n_169 : Nat) (f_170 : Nat → Int32), h a_168 = some (ga_Ai n_169 f_170) ∧ vp_in (1 : Int32) n_169 ∧ (((9 : Int32) < f_170 (1 : Int32).toNatClampNeg → (gw_X14_in_349 K post xp p0 v1 v2 h bc bs)) ∧ (¬ (9 : Int32) < f_170 (1 : Int32).toNatClampNeg → (gw_X14_in_350 K post xp p0 (1 : Int32) v1 v2 h bc bs))))))))) ∧ (¬ v4 = (4 : Int32) → (gw_X1_isIn v2 (1 : Int32) (30 : Int32) (fun (r_172 : Int32) => ∃ kc_173 ks_174 : Nat, kc_173 ≤ bc ∧ ks_174 ≤ bs ∧ gw_X1_checkState K r_172 h kc_173 ks_174 (fun (h_175 : ga_H) => ∃ a_179 : Nat, v1 = some a_179 ∧ ∃ kc_180 ks_181 : Nat, kc_180 ≤ (bc - kc_173) ∧ ks_181 ≤ (bs - ks_174) ∧ ∃ fs_182 : List Value, ga_at K h_175 a_179 (ga_O 1 fs_182) ∧ gw_X2_days K a_179 v2 h_175 kc_180 ks_181 (fun (r_184 : Int32) (h_183 : ga_H) => post r_184 h_183)) (fun (E_176 : String) (q_177 : Nat) (h_178 : ga_H) => xp E_176 q_177 h_178))))))))))))
set_option maxHeartbeats 4000000 in
theorem gj_X14_in_140 {p : Program} {l : Launch} {e : Env} {s : State} {m : MethodId} {args : Array Value} {below : List Frame} {meth : Method} {c : Code} {mc ms : Nat} {H : Heap} {locs : List Loc} {cells slots : Nat} {ls : Array Slot} (hst : l.stackTraces = false) (htab : c.exceptionTable.toList = []) (g : ga_G) (post : Int32 → ga_H → Prop) (xp : String → Nat → ga_H → Prop) (p0 : Nat) (v1 : Option Nat) (v2 : Int32) (v4 : Int32) (h : ga_H) (bc bs : Nat) (hC : ga_Cx p s m args meth c cX14_in 5 (some .int) "PaperStore$Command" "in") (hw : gw_X14_in_140 g.2.2 post xp p0 v1 v2 v4 h bc bs) (hI : ga_I g h s H locs) (hbc : cells + bc ≤ mc) (hbs : slots + bs ≤ ms) (hl : lv_has ls 5 [(0, .ref p0), (1, va_rf v1), (2, .int v2), (4, .int v4)]) : W p l e ({ frames := 23, cells := mc, slots := ms, locals := 472 } : Room) s m args below meth c H locs cells slots (vx_MQ below (va_Qi post (ga_E g) (ga_A g)) (ga_X g xp) args s mc ms (ga_A g)) (F0 m 140 ls []) := by
  obtain ⟨hx, hb, hml, hown, hts, hr, hlk, hnm⟩ := hC
  unfold gw_X14_in_140 at hw
  refine lv_iload hx hb dX14_in_140 (lv_at hl 3 rfl) ?_
  by_cases hc_20 : v4 = (0 : Int32)
  · have hw := hw.1 hc_20
    refine lv_tableIn (tgt := 176) hx hb dX14_in_142 (by rw [hc_20]; decide) (by rw [hc_20]; decide) (off := 34) (by rw [hc_20]; rfl) (by decide) ?_
    refine ga_aload_n hx hb dX14_in_176 rfl (lv_at hl 1 rfl) ?_
    refine lv_iload_n hx hb dX14_in_177 rfl (lv_at hl 2 rfl) ?_
    obtain ⟨a_21, ea_21, hw⟩ := hw
    rewrite [ea_21]
    obtain ⟨fs_22, hq, hw⟩ := hw
    refine ga_calli (va_runV (As := [.int v2]) (rest := []) ⟨hx, hb, hml, hown, hts⟩ (gm_X2_isLadder l g a_21 v2 h _ hw) (cwV 1 hts (lw_V q3582 q2130 q2131 q101 q2132) rfl rfl rfl ⟨rfl, hdG_X2_isLadder⟩ ⟨Nat.le_of_ble_eq_true rfl, Nat.le_of_ble_eq_true rfl⟩) (ga_preV hI hq rfl rfl) rfl rfl hl.1 rfl (ga_room (Nat.le_of_ble_eq_true rfl)) dX14_in_178 ⟨Nat.le_trans (Nat.add_le_add_left (Nat.zero_le _) _) hbc, Nat.le_trans (Nat.add_le_add_left (Nat.zero_le _) _) hbs⟩) hI hbc hbs (Nat.zero_le _) (Nat.zero_le _) (fun r_24 h_23 H locs cells slots hw hI hbc hbs => ?_)
    refine lv_if_eq (tgt := 200) hx hb dX14_in_181 (by decide) (fun hc_25 => ?_) (fun hc_25 => ?_)
    · have hw := hw.1 hc_25
      exact gj_X14_in_200 hst htab g post xp p0 v1 v2 h_23 bc bs ⟨hx, hb, hml, hown, hts, hr, hlk, hnm⟩ hw hI hbc hbs (lv_sub hl [0, 1, 2] rfl)
    · have hw := hw.2 hc_25
      refine lv_aload_n hx hb dX14_in_184 rfl (lv_at hl 0 rfl) ?_
      obtain ⟨fs_46, v_47, hq, hv, hw⟩ := hw
      refine ga_get (ci := 12) (T := TX14) (v := va_rf v_47) hx hb hts hown hI in_X14 rfl 1 (by decide) q3562 (fun _ z => z) (ga_at.h hq) hv dX14_in_185 ?_
      refine lv_iconst (v := 1) hx hb dX14_in_188 (by decide) ?_
      obtain ⟨a_48, ea_48, hw⟩ := hw
      rewrite [ea_48]
      obtain ⟨n_49, f_50, hq, hi, hw⟩ := hw
      refine ga_ldi hx hb hI (ga_at.h hq) hi dX14_in_189 ?_
      refine ga_callSN (As := [.int (f_50 (1 : Int32).toNatClampNeg)]) (rest := []) ⟨hx, hb, hml, hown, hts⟩ (gm_X1_isAisle l (f_50 (1 : Int32).toNatClampNeg) _ hw) (⟨va_cnB 1 hts (lw_meth q2146) rfl rfl rfl (hI.2.1.1.2.1 _ (ga_nin q3583 rfl)) (hts _ q100) hdG_X1_isAisle ⟨Nat.le_of_ble_eq_true rfl, Nat.le_of_ble_eq_true rfl⟩, hts _ q2145, trivial⟩) rfl hl.1 rfl (ga_room (Nat.le_of_ble_eq_true rfl)) dX14_in_190 hbc hbs (fun r_51 hw => ?_)
      refine lv_if_eq (tgt := 200) hx hb dX14_in_193 (by decide) (fun hc_52 => ?_) (fun hc_52 => ?_)
      · have hw := hw.1 hc_52
        exact gj_X14_in_200 hst htab g post xp p0 v1 v2 h_23 bc bs ⟨hx, hb, hml, hown, hts, hr, hlk, hnm⟩ hw hI hbc hbs (lv_sub hl [0, 1, 2] rfl)
      · have hw := hw.2 hc_52
        refine lv_iconst (v := 1) hx hb dX14_in_196 (by decide) ?_
        refine lv_goto (tgt := 201) hx hb dX14_in_197 (by decide) ?_
        exact gj_X14_in_201 hst htab g post xp p0 (1 : Int32) v1 v2 h_23 bc bs ⟨hx, hb, hml, hown, hts, hr, hlk, hnm⟩ hw hI hbc hbs (lv_sub hl [0, 1, 2] rfl)
  have hw := hw.2 hc_20
  by_cases hc_53 : v4 = (1 : Int32)
  · have hw := hw.1 hc_53
    refine lv_tableIn (tgt := 216) hx hb dX14_in_142 (by rw [hc_53]; decide) (by rw [hc_53]; decide) (off := 74) (by rw [hc_53]; rfl) (by decide) ?_
    refine ga_aload_n hx hb dX14_in_216 rfl (lv_at hl 1 rfl) ?_
    refine lv_iload_n hx hb dX14_in_217 rfl (lv_at hl 2 rfl) ?_
    obtain ⟨a_54, ea_54, hw⟩ := hw
    rewrite [ea_54]
    obtain ⟨fs_55, hq, hw⟩ := hw
    refine ga_calli (va_runV (As := [.int v2]) (rest := []) ⟨hx, hb, hml, hown, hts⟩ (gm_X2_isOrder l g a_54 v2 h _ hw) (cwV 1 hts (lw_V q3586 q2425 q2426 q101 q2427) rfl rfl rfl ⟨rfl, hdG_X2_isOrder⟩ ⟨Nat.le_of_ble_eq_true rfl, Nat.le_of_ble_eq_true rfl⟩) (ga_preV hI hq rfl rfl) rfl rfl hl.1 rfl (ga_room (Nat.le_of_ble_eq_true rfl)) dX14_in_218 ⟨Nat.le_trans (Nat.add_le_add_left (Nat.zero_le _) _) hbc, Nat.le_trans (Nat.add_le_add_left (Nat.zero_le _) _) hbs⟩) hI hbc hbs (Nat.zero_le _) (Nat.zero_le _) (fun r_57 h_56 H locs cells slots hw hI hbc hbs => ?_)
    refine lv_if_eq (tgt := 254) hx hb dX14_in_221 (by decide) (fun hc_58 => ?_) (fun hc_58 => ?_)
    · have hw := hw.1 hc_58
      exact gj_X14_in_254 hst htab g post xp p0 v1 v2 h_56 bc bs ⟨hx, hb, hml, hown, hts, hr, hlk, hnm⟩ hw hI hbc hbs (lv_sub hl [0, 1, 2] rfl)
    · have hw := hw.2 hc_58
      refine ga_aload_n hx hb dX14_in_224 rfl (lv_at hl 1 rfl) ?_
      refine lv_aload_n hx hb dX14_in_225 rfl (lv_at hl 0 rfl) ?_
      obtain ⟨fs_84, v_85, hq, hv, hw⟩ := hw
      refine ga_get (ci := 12) (T := TX14) (v := va_rf v_85) hx hb hts hown hI in_X14 rfl 1 (by decide) q3562 (fun _ z => z) (ga_at.h hq) hv dX14_in_226 ?_
      refine lv_iconst (v := 1) hx hb dX14_in_229 (by decide) ?_
      obtain ⟨a_86, ea_86, hw⟩ := hw
      rewrite [ea_86]
      obtain ⟨n_87, f_88, hq, hi, hw⟩ := hw
      refine ga_ldi hx hb hI (ga_at.h hq) hi dX14_in_230 ?_
      obtain ⟨a_89, ea_89, hw⟩ := hw
      rewrite [ea_89]
      obtain ⟨fs_90, hq, hw⟩ := hw
      refine ga_calli (va_runV (As := [.int (f_88 (1 : Int32).toNatClampNeg)]) (rest := []) ⟨hx, hb, hml, hown, hts⟩ (gm_X2_isCart l g a_89 (f_88 (1 : Int32).toNatClampNeg) h_56 _ hw) (cwV 1 hts (lw_V q3587 q2469 q2470 q101 q2471) rfl rfl rfl ⟨rfl, hdG_X2_isCart⟩ ⟨Nat.le_of_ble_eq_true rfl, Nat.le_of_ble_eq_true rfl⟩) (ga_preV hI hq rfl rfl) rfl rfl hl.1 rfl (ga_room (Nat.le_of_ble_eq_true rfl)) dX14_in_231 ⟨Nat.le_trans (Nat.add_le_add_left (Nat.zero_le _) _) hbc, Nat.le_trans (Nat.add_le_add_left (Nat.zero_le _) _) hbs⟩) hI hbc hbs (Nat.zero_le _) (Nat.zero_le _) (fun r_92 h_91 H locs cells slots hw hI hbc hbs => ?_)
      refine lv_if_eq (tgt := 254) hx hb dX14_in_234 (by decide) (fun hc_93 => ?_) (fun hc_93 => ?_)
      · have hw := hw.1 hc_93
        exact gj_X14_in_254 hst htab g post xp p0 v1 v2 h_91 bc bs ⟨hx, hb, hml, hown, hts, hr, hlk, hnm⟩ hw hI hbc hbs (lv_sub hl [0, 1, 2] rfl)
      · have hw := hw.2 hc_93
        refine ga_aload_n hx hb dX14_in_237 rfl (lv_at hl 1 rfl) ?_
        refine lv_aload_n hx hb dX14_in_238 rfl (lv_at hl 0 rfl) ?_
        obtain ⟨fs_94, v_95, hq, hv, hw⟩ := hw
        refine ga_get (ci := 12) (T := TX14) (v := va_rf v_95) hx hb hts hown hI in_X14 rfl 1 (by decide) q3562 (fun _ z => z) (ga_at.h hq) hv dX14_in_239 ?_
        refine lv_iconst (v := 2) hx hb dX14_in_242 (by decide) ?_
        obtain ⟨a_96, ea_96, hw⟩ := hw
        rewrite [ea_96]
        obtain ⟨n_97, f_98, hq, hi, hw⟩ := hw
        refine ga_ldi hx hb hI (ga_at.h hq) hi dX14_in_243 ?_
        obtain ⟨a_99, ea_99, hw⟩ := hw
        rewrite [ea_99]
        obtain ⟨fs_100, hq, hw⟩ := hw
        refine ga_calli (va_runV (As := [.int (f_98 (2 : Int32).toNatClampNeg)]) (rest := []) ⟨hx, hb, hml, hown, hts⟩ (gm_X2_isLadder l g a_99 (f_98 (2 : Int32).toNatClampNeg) h_91 _ hw) (cwV 1 hts (lw_V q3582 q2130 q2131 q101 q2132) rfl rfl rfl ⟨rfl, hdG_X2_isLadder⟩ ⟨Nat.le_of_ble_eq_true rfl, Nat.le_of_ble_eq_true rfl⟩) (ga_preV hI hq rfl rfl) rfl rfl hl.1 rfl (ga_room (Nat.le_of_ble_eq_true rfl)) dX14_in_244 ⟨Nat.le_trans (Nat.add_le_add_left (Nat.zero_le _) _) hbc, Nat.le_trans (Nat.add_le_add_left (Nat.zero_le _) _) hbs⟩) hI hbc hbs (Nat.zero_le _) (Nat.zero_le _) (fun r_102 h_101 H locs cells slots hw hI hbc hbs => ?_)
        refine lv_if_eq (tgt := 254) hx hb dX14_in_247 (by decide) (fun hc_103 => ?_) (fun hc_103 => ?_)
        · have hw := hw.1 hc_103
          exact gj_X14_in_254 hst htab g post xp p0 v1 v2 h_101 bc bs ⟨hx, hb, hml, hown, hts, hr, hlk, hnm⟩ hw hI hbc hbs (lv_sub hl [0, 1, 2] rfl)
        · have hw := hw.2 hc_103
          refine lv_iconst (v := 1) hx hb dX14_in_250 (by decide) ?_
          refine lv_goto (tgt := 255) hx hb dX14_in_251 (by decide) ?_
          exact gj_X14_in_255 hst htab g post xp p0 (1 : Int32) v1 v2 h_101 bc bs ⟨hx, hb, hml, hown, hts, hr, hlk, hnm⟩ hw hI hbc hbs (lv_sub hl [0, 1, 2] rfl)
  have hw := hw.2 hc_53
  by_cases hc_104 : v4 = (2 : Int32)
  · have hw := hw.1 hc_104
    refine lv_tableIn (tgt := 276) hx hb dX14_in_142 (by rw [hc_104]; decide) (by rw [hc_104]; decide) (off := 134) (by rw [hc_104]; rfl) (by decide) ?_
    refine ga_aload_n hx hb dX14_in_276 rfl (lv_at hl 1 rfl) ?_
    refine lv_iload_n hx hb dX14_in_277 rfl (lv_at hl 2 rfl) ?_
    obtain ⟨a_105, ea_105, hw⟩ := hw
    rewrite [ea_105]
    obtain ⟨fs_106, hq, hw⟩ := hw
    refine ga_calli (va_runV (As := [.int v2]) (rest := []) ⟨hx, hb, hml, hown, hts⟩ (gm_X2_isCart l g a_105 v2 h _ hw) (cwV 1 hts (lw_V q3587 q2469 q2470 q101 q2471) rfl rfl rfl ⟨rfl, hdG_X2_isCart⟩ ⟨Nat.le_of_ble_eq_true rfl, Nat.le_of_ble_eq_true rfl⟩) (ga_preV hI hq rfl rfl) rfl rfl hl.1 rfl (ga_room (Nat.le_of_ble_eq_true rfl)) dX14_in_278 ⟨Nat.le_trans (Nat.add_le_add_left (Nat.zero_le _) _) hbc, Nat.le_trans (Nat.add_le_add_left (Nat.zero_le _) _) hbs⟩) hI hbc hbs (Nat.zero_le _) (Nat.zero_le _) (fun r_108 h_107 H locs cells slots hw hI hbc hbs => ?_)
    obtain ⟨kc_109, ks_110, hk1, hk2, hw⟩ := hw
    refine ga_xcallv (vx_runSN (As := [.int r_108]) (rest := []) ⟨hx, hb, hml, hown, hts⟩ (gm_X1_checkState l hst g r_108 h_107 kc_109 ks_110 _ _ hw) ⟨va_cnB 1 hts (lw_meth q2819) rfl rfl rfl (hI.2.1.1.2.1 _ (ga_nin q3584 rfl)) (hts _ q100) hdG_X1_checkState ⟨Nat.le_of_ble_eq_true rfl, Nat.le_of_ble_eq_true rfl⟩, hts _ q2818, trivial⟩ (ga_preS hI rfl) rfl rfl hl.1 rfl (ga_room (Nat.le_of_ble_eq_true rfl)) dX14_in_281 ⟨Nat.le_trans (Nat.add_le_add_left hk1 _) hbc, Nat.le_trans (Nat.add_le_add_left hk2 _) hbs⟩) hI hbc hbs hk1 hk2 (fun E_112 q_113 h_114 ce H locs cells slots hw hI hce hbc hbs => ?_) (fun h_111 H locs cells slots hw hI hbc hbs => ?_)
    · exact ga_out hown hlk hI hw (by rw [htab]; intro z hz; cases hz) hce (Nat.le_trans (Nat.le_add_right _ _) hbc) (Nat.le_trans (Nat.le_add_right _ _) hbs)
    · skip
      refine ga_aload_n hx hb dX14_in_284 rfl (lv_at hl 1 rfl) ?_
      refine lv_iload_n hx hb dX14_in_285 rfl (lv_at hl 2 rfl) ?_
      obtain ⟨a_115, ea_115, hw⟩ := hw
      rewrite [ea_115]
      obtain ⟨kc_116, ks_117, hk1, hk2, hw⟩ := hw
      obtain ⟨fs_118, hq, hw⟩ := hw
      refine ga_xcalli (vx_runV (As := [.int v2]) (rest := []) ⟨hx, hb, hml, hown, hts⟩ (gm_X2_send l hst g a_115 v2 h_111 kc_116 ks_117 _ _ hw) (cwV 1 hts (lw_V q3589 q2509 q2510 q101 q2511) rfl rfl rfl ⟨rfl, hdG_X2_send⟩ ⟨Nat.le_of_ble_eq_true rfl, Nat.le_of_ble_eq_true rfl⟩) (ga_preV hI hq rfl rfl) rfl rfl hl.1 rfl (ga_room (Nat.le_of_ble_eq_true rfl)) dX14_in_286 ⟨Nat.le_trans (Nat.add_le_add_left hk1 _) hbc, Nat.le_trans (Nat.add_le_add_left hk2 _) hbs⟩) hI hbc hbs hk1 hk2 (fun E_121 q_122 h_123 ce H locs cells slots hw hI hce hbc hbs => ?_) (fun r_120 h_119 H locs cells slots hw hI hbc hbs => ?_)
      · exact ga_out hown hlk hI hw (by rw [htab]; intro z hz; cases hz) hce (Nat.le_trans (Nat.le_add_right _ _) hbc) (Nat.le_trans (Nat.le_add_right _ _) hbs)
      · skip
        exact ga_iretx hx hb hr rfl hlk hI hw (Nat.le_trans (Nat.le_add_right _ _) hbc) (Nat.le_trans (Nat.le_add_right _ _) hbs) dX14_in_289
  have hw := hw.2 hc_104
  by_cases hc_124 : v4 = (3 : Int32)
  · have hw := hw.1 hc_124
    refine lv_tableIn (tgt := 290) hx hb dX14_in_142 (by rw [hc_124]; decide) (by rw [hc_124]; decide) (off := 148) (by rw [hc_124]; rfl) (by decide) ?_
    refine lv_iload_n hx hb dX14_in_290 rfl (lv_at hl 2 rfl) ?_
    refine ga_callSN (As := [.int v2]) (rest := []) ⟨hx, hb, hml, hown, hts⟩ (gm_X1_isAisle l v2 _ hw) (⟨va_cnB 1 hts (lw_meth q2146) rfl rfl rfl (hI.2.1.1.2.1 _ (ga_nin q3583 rfl)) (hts _ q100) hdG_X1_isAisle ⟨Nat.le_of_ble_eq_true rfl, Nat.le_of_ble_eq_true rfl⟩, hts _ q2145, trivial⟩) rfl hl.1 rfl (ga_room (Nat.le_of_ble_eq_true rfl)) dX14_in_291 hbc hbs (fun r_125 hw => ?_)
    refine lv_if_eq (tgt := 311) hx hb dX14_in_294 (by decide) (fun hc_126 => ?_) (fun hc_126 => ?_)
    · have hw := hw.1 hc_126
      exact gj_X14_in_311 hst htab g post xp p0 v1 v2 h bc bs ⟨hx, hb, hml, hown, hts, hr, hlk, hnm⟩ hw hI hbc hbs (lv_sub hl [0, 1, 2] rfl)
    · have hw := hw.2 hc_126
      refine lv_aload_n hx hb dX14_in_297 rfl (lv_at hl 0 rfl) ?_
      obtain ⟨fs_142, v_143, hq, hv, hw⟩ := hw
      refine ga_get (ci := 12) (T := TX14) (v := va_rf v_143) hx hb hts hown hI in_X14 rfl 1 (by decide) q3562 (fun _ z => z) (ga_at.h hq) hv dX14_in_298 ?_
      refine lv_iconst (v := 1) hx hb dX14_in_301 (by decide) ?_
      obtain ⟨a_144, ea_144, hw⟩ := hw
      rewrite [ea_144]
      obtain ⟨n_145, f_146, hq, hi, hw⟩ := hw
      refine ga_ldi hx hb hI (ga_at.h hq) hi dX14_in_302 ?_
      refine lv_iconst (v := 5) hx hb dX14_in_303 (by decide) ?_
      refine lv_icmp_gt (tgt := 311) hx hb dX14_in_304 (by decide) (fun hc_147 => ?_) (fun hc_147 => ?_)
      · have hw := hw.1 hc_147
        exact gj_X14_in_311 hst htab g post xp p0 v1 v2 h bc bs ⟨hx, hb, hml, hown, hts, hr, hlk, hnm⟩ hw hI hbc hbs (lv_sub hl [0, 1, 2] rfl)
      · have hw := hw.2 hc_147
        refine lv_iconst (v := 1) hx hb dX14_in_307 (by decide) ?_
        refine lv_goto (tgt := 312) hx hb dX14_in_308 (by decide) ?_
        exact gj_X14_in_312 hst htab g post xp p0 (1 : Int32) v1 v2 h bc bs ⟨hx, hb, hml, hown, hts, hr, hlk, hnm⟩ hw hI hbc hbs (lv_sub hl [0, 1, 2] rfl)
  have hw := hw.2 hc_124
  by_cases hc_148 : v4 = (4 : Int32)
  · have hw := hw.1 hc_148
    refine lv_tableIn (tgt := 327) hx hb dX14_in_142 (by rw [hc_148]; decide) (by rw [hc_148]; decide) (off := 185) (by rw [hc_148]; rfl) (by decide) ?_
    refine lv_iload_n hx hb dX14_in_327 rfl (lv_at hl 2 rfl) ?_
    refine ga_callSN (As := [.int v2]) (rest := []) ⟨hx, hb, hml, hown, hts⟩ (gm_X1_isAisle l v2 _ hw) (⟨va_cnB 1 hts (lw_meth q2146) rfl rfl rfl (hI.2.1.1.2.1 _ (ga_nin q3583 rfl)) (hts _ q100) hdG_X1_isAisle ⟨Nat.le_of_ble_eq_true rfl, Nat.le_of_ble_eq_true rfl⟩, hts _ q2145, trivial⟩) rfl hl.1 rfl (ga_room (Nat.le_of_ble_eq_true rfl)) dX14_in_328 hbc hbs (fun r_149 hw => ?_)
    refine lv_if_eq (tgt := 349) hx hb dX14_in_331 (by decide) (fun hc_150 => ?_) (fun hc_150 => ?_)
    · have hw := hw.1 hc_150
      exact gj_X14_in_349 hst htab g post xp p0 v1 v2 h bc bs ⟨hx, hb, hml, hown, hts, hr, hlk, hnm⟩ hw hI hbc hbs (lv_sub hl [0, 1, 2] rfl)
    · have hw := hw.2 hc_150
      refine lv_aload_n hx hb dX14_in_334 rfl (lv_at hl 0 rfl) ?_
      obtain ⟨fs_166, v_167, hq, hv, hw⟩ := hw
      refine ga_get (ci := 12) (T := TX14) (v := va_rf v_167) hx hb hts hown hI in_X14 rfl 1 (by decide) q3562 (fun _ z => z) (ga_at.h hq) hv dX14_in_335 ?_
      refine lv_iconst (v := 1) hx hb dX14_in_338 (by decide) ?_
      obtain ⟨a_168, ea_168, hw⟩ := hw
      rewrite [ea_168]
      obtain ⟨n_169, f_170, hq, hi, hw⟩ := hw
      refine ga_ldi hx hb hI (ga_at.h hq) hi dX14_in_339 ?_
      refine lv_bipush (v := 9) hx hb dX14_in_340 (by decide) ?_
      refine lv_icmp_gt (tgt := 349) hx hb dX14_in_342 (by decide) (fun hc_171 => ?_) (fun hc_171 => ?_)
      · have hw := hw.1 hc_171
        exact gj_X14_in_349 hst htab g post xp p0 v1 v2 h bc bs ⟨hx, hb, hml, hown, hts, hr, hlk, hnm⟩ hw hI hbc hbs (lv_sub hl [0, 1, 2] rfl)
      · have hw := hw.2 hc_171
        refine lv_iconst (v := 1) hx hb dX14_in_345 (by decide) ?_
        refine lv_goto (tgt := 350) hx hb dX14_in_346 (by decide) ?_
        exact gj_X14_in_350 hst htab g post xp p0 (1 : Int32) v1 v2 h bc bs ⟨hx, hb, hml, hown, hts, hr, hlk, hnm⟩ hw hI hbc hbs (lv_sub hl [0, 1, 2] rfl)
  have hw := hw.2 hc_148
  refine lv_tableOut (tgt := 365) hx hb dX14_in_142 (zs_out 0 4 5 [0, 1, 2, 3, 4] (by decide) (by decide) (List.forall_mem_cons.mpr ⟨hc_20, List.forall_mem_cons.mpr ⟨hc_53, List.forall_mem_cons.mpr ⟨hc_104, List.forall_mem_cons.mpr ⟨hc_124, List.forall_mem_cons.mpr ⟨hc_148, fun _ h => absurd h List.not_mem_nil⟩⟩⟩⟩⟩)) (by decide) ?_
  refine lv_iload_n hx hb dX14_in_365 rfl (lv_at hl 2 rfl) ?_
  refine lv_iconst (v := 1) hx hb dX14_in_366 (by decide) ?_
  refine lv_bipush (v := 30) hx hb dX14_in_367 (by decide) ?_
  refine ga_callSN (As := [.int v2, .int (1 : Int32), .int (30 : Int32)]) (rest := []) ⟨hx, hb, hml, hown, hts⟩ (gm_X1_isIn l v2 (1 : Int32) (30 : Int32) _ hw) (⟨va_cnB 3 hts (lw_meth q2026) rfl rfl rfl (hI.2.1.1.2.1 _ (ga_nin q3592 rfl)) (hts _ q100) hdG_X1_isIn ⟨Nat.le_of_ble_eq_true rfl, Nat.le_of_ble_eq_true rfl⟩, hts _ q2025, trivial⟩) rfl hl.1 rfl (ga_room (Nat.le_of_ble_eq_true rfl)) dX14_in_369 hbc hbs (fun r_172 hw => ?_)
  obtain ⟨kc_173, ks_174, hk1, hk2, hw⟩ := hw
  refine ga_xcallv (vx_runSN (As := [.int r_172]) (rest := []) ⟨hx, hb, hml, hown, hts⟩ (gm_X1_checkState l hst g r_172 h kc_173 ks_174 _ _ hw) ⟨va_cnB 1 hts (lw_meth q2819) rfl rfl rfl (hI.2.1.1.2.1 _ (ga_nin q3584 rfl)) (hts _ q100) hdG_X1_checkState ⟨Nat.le_of_ble_eq_true rfl, Nat.le_of_ble_eq_true rfl⟩, hts _ q2818, trivial⟩ (ga_preS hI rfl) rfl rfl hl.1 rfl (ga_room (Nat.le_of_ble_eq_true rfl)) dX14_in_372 ⟨Nat.le_trans (Nat.add_le_add_left hk1 _) hbc, Nat.le_trans (Nat.add_le_add_left hk2 _) hbs⟩) hI hbc hbs hk1 hk2 (fun E_176 q_177 h_178 ce H locs cells slots hw hI hce hbc hbs => ?_) (fun h_175 H locs cells slots hw hI hbc hbs => ?_)
  · exact ga_out hown hlk hI hw (by rw [htab]; intro z hz; cases hz) hce (Nat.le_trans (Nat.le_add_right _ _) hbc) (Nat.le_trans (Nat.le_add_right _ _) hbs)
  · skip
    refine ga_aload_n hx hb dX14_in_375 rfl (lv_at hl 1 rfl) ?_
    refine lv_iload_n hx hb dX14_in_376 rfl (lv_at hl 2 rfl) ?_
    obtain ⟨a_179, ea_179, hw⟩ := hw
    rewrite [ea_179]
    obtain ⟨kc_180, ks_181, hk1, hk2, hw⟩ := hw
    obtain ⟨fs_182, hq, hw⟩ := hw
    refine ga_calli (va_runV (As := [.int v2]) (rest := []) ⟨hx, hb, hml, hown, hts⟩ (gm_X2_days l g a_179 v2 h_175 kc_180 ks_181 _ hw) (cwV 1 hts (lw_V q3593 q2644 q2645 q101 q2646) rfl rfl rfl ⟨rfl, hdG_X2_days⟩ ⟨Nat.le_of_ble_eq_true rfl, Nat.le_of_ble_eq_true rfl⟩) (ga_preV hI hq rfl rfl) rfl rfl hl.1 rfl (ga_room (Nat.le_of_ble_eq_true rfl)) dX14_in_377 ⟨Nat.le_trans (Nat.add_le_add_left hk1 _) hbc, Nat.le_trans (Nat.add_le_add_left hk2 _) hbs⟩) hI hbc hbs hk1 hk2 (fun r_184 h_183 H locs cells slots hw hI hbc hbs => ?_)
    exact ga_iretx hx hb hr rfl hlk hI hw (Nat.le_trans (Nat.le_add_right _ _) hbc) (Nat.le_trans (Nat.le_add_right _ _) hbs) dX14_in_380
def gw_X14_in (K : ga_K) (p0 : Nat) (p1 : Option Nat) (h : ga_H) (mc ms : Nat) (post : Int32 → ga_H → Prop) (xp : String → Nat → ga_H → Prop) : Prop :=
  ∃ (fs_1 : List Value) (v_2 : Option Nat), h p0 = some (ga_O 12 fs_1) ∧ fs_1[1]? = some (va_rf v_2) ∧ (∃ a_3 : Nat, v_2 = some a_3 ∧ ∃ (n_4 : Nat) (f_5 : Nat → Int32), h a_3 = some (ga_Ai n_4 f_5) ∧ vp_in (0 : Int32) n_4 ∧ (∃ (fs_6 : List Value) (v_7 : Option Nat), h p0 = some (ga_O 12 fs_6) ∧ fs_6[0]? = some (va_rf v_7) ∧ (∃ a_8 : Nat, v_7 = some a_8 ∧ ∃ kc_9 ks_10 : Nat, kc_9 ≤ mc ∧ ks_10 ≤ ms ∧ ∃ fs_11 : List Value, ga_at K h a_8 (ga_O 23 fs_11) ∧ gw_J7_hashCode K a_8 h kc_9 ks_10 (fun (r_13 : Int32) (h_12 : ga_H) => (r_13 = (-1253024261 : Int32) → (∃ a_15 : Nat, v_7 = some a_15 ∧ ∃ fs_16 : List Value, ga_at K h_12 a_15 (ga_O 23 fs_16) ∧ gw_J7_equals K a_15 (some (K.2 32)) h_12 (fun (r_18 : Int32) (h_17 : ga_H) => (r_18 = (0 : Int32) → (gw_X14_in_140 K post xp p0 p1 (f_5 (0 : Int32).toNatClampNeg) (-1 : Int32) h_17 (mc - kc_9) (ms - ks_10))) ∧ (¬ r_18 = (0 : Int32) → (gw_X14_in_140 K post xp p0 p1 (f_5 (0 : Int32).toNatClampNeg) (1 : Int32) h_17 (mc - kc_9) (ms - ks_10)))))) ∧ (¬ r_13 = (-1253024261 : Int32) → ((r_13 = (96586 : Int32) → (∃ a_186 : Nat, v_7 = some a_186 ∧ ∃ fs_187 : List Value, ga_at K h_12 a_186 (ga_O 23 fs_187) ∧ gw_J7_equals K a_186 (some (K.2 35)) h_12 (fun (r_189 : Int32) (h_188 : ga_H) => (r_189 = (0 : Int32) → (gw_X14_in_140 K post xp p0 p1 (f_5 (0 : Int32).toNatClampNeg) (-1 : Int32) h_188 (mc - kc_9) (ms - ks_10))) ∧ (¬ r_189 = (0 : Int32) → (gw_X14_in_140 K post xp p0 p1 (f_5 (0 : Int32).toNatClampNeg) (4 : Int32) h_188 (mc - kc_9) (ms - ks_10)))))) ∧ (¬ r_13 = (96586 : Int32) → ((r_13 = (3452698 : Int32) → (∃ a_192 : Nat, v_7 = some a_192 ∧ ∃ fs_193 : List Value, ga_at K h_12 a_192 (ga_O 23 fs_193) ∧ gw_J7_equals K a_192 (some (K.2 31)) h_12 (fun (r_195 : Int32) (h_194 : ga_H) => (r_195 = (0 : Int32) → (gw_X14_in_140 K post xp p0 p1 (f_5 (0 : Int32).toNatClampNeg) (-1 : Int32) h_194 (mc - kc_9) (ms - ks_10))) ∧ (¬ r_195 = (0 : Int32) → (gw_X14_in_140 K post xp p0 p1 (f_5 (0 : Int32).toNatClampNeg) (0 : Int32) h_194 (mc - kc_9) (ms - ks_10)))))) ∧ (¬ r_13 = (3452698 : Int32) → ((r_13 = (3526536 : Int32) → (∃ a_198 : Nat, v_7 = some a_198 ∧ ∃ fs_199 : List Value, ga_at K h_12 a_198 (ga_O 23 fs_199) ∧ gw_J7_equals K a_198 (some (K.2 33)) h_12 (fun (r_201 : Int32) (h_200 : ga_H) => (r_201 = (0 : Int32) → (gw_X14_in_140 K post xp p0 p1 (f_5 (0 : Int32).toNatClampNeg) (-1 : Int32) h_200 (mc - kc_9) (ms - ks_10))) ∧ (¬ r_201 = (0 : Int32) → (gw_X14_in_140 K post xp p0 p1 (f_5 (0 : Int32).toNatClampNeg) (2 : Int32) h_200 (mc - kc_9) (ms - ks_10)))))) ∧ (¬ r_13 = (3526536 : Int32) → ((r_13 = (3568429 : Int32) → (∃ a_204 : Nat, v_7 = some a_204 ∧ ∃ fs_205 : List Value, ga_at K h_12 a_204 (ga_O 23 fs_205) ∧ gw_J7_equals K a_204 (some (K.2 34)) h_12 (fun (r_207 : Int32) (h_206 : ga_H) => (r_207 = (0 : Int32) → (gw_X14_in_140 K post xp p0 p1 (f_5 (0 : Int32).toNatClampNeg) (-1 : Int32) h_206 (mc - kc_9) (ms - ks_10))) ∧ (¬ r_207 = (0 : Int32) → (gw_X14_in_140 K post xp p0 p1 (f_5 (0 : Int32).toNatClampNeg) (3 : Int32) h_206 (mc - kc_9) (ms - ks_10)))))) ∧ (¬ r_13 = (3568429 : Int32) → (gw_X14_in_140 K post xp p0 p1 (f_5 (0 : Int32).toNatClampNeg) (-1 : Int32) h_12 (mc - kc_9) (ms - ks_10)))))))))))))))
set_option maxHeartbeats 4000000 in
theorem gm_X14_in (l : Launch) (hst : l.stackTraces = false) (g : ga_G) (p0 : Nat) (p1 : Option Nat) (h : ga_H) (mc ms : Nat) (post : Int32 → ga_H → Prop) (xp : String → Nat → ga_H → Prop) (hw : gw_X14_in g.2.2 p0 p1 h mc ms post xp) : vx_Met l yX14_in (ws_ yX14_in cX14_in 5 (some .int)) ({ frames := 23, cells := mc, slots := ms, locals := 472 } : Room) (va_Pc [.ref p0, va_rf p1] (ga_B g h)) (va_Qi post (ga_E g) (ga_A g)) (ga_X g xp) mc ms (ga_A g) := by
  refine ga_metx (own := "PaperStore$Command") (nm := "in") (by decide) rfl rfl (by cases p1 <;> exact Nat.le_of_ble_eq_true rfl) (fun p e s m below meth c ls hC htab hI hl => ?_)
  have hl : lv_has ls 5 [(0, .ref p0), (1, va_rf p1)] := (by cases p1 <;> exact hl)
  generalize ([.ref p0, va_rf p1] : List Value).toArray = args at hC ⊢
  obtain ⟨hx, hb, hml, hown, hts, hr, hlk, hnm⟩ := hC
  unfold gw_X14_in at hw
  obtain ⟨H, eH⟩ : ∃ z, z = s.heap := ⟨_, rfl⟩
  obtain ⟨locs, elo⟩ : ∃ z : List Loc, z = [] := ⟨_, rfl⟩
  rw [← eH, ← elo] at hI ⊢
  obtain ⟨cells, slots, hbc, hbs, e0, e1⟩ : ∃ a b : Nat, a + mc ≤ mc ∧ b + ms ≤ ms ∧ a = 0 ∧ b = 0 := ⟨0, 0, by omega, by omega, rfl, rfl⟩
  show W p l e ({ frames := 23, cells := mc, slots := ms, locals := 472 } : Room) s m args below meth c H locs 0 0 (vx_MQ below (va_Qi post (ga_E g) (ga_A g)) (ga_X g xp) args s mc ms (ga_A g)) (F0 m 0 ls [])
  suffices hgoal : W p l e ({ frames := 23, cells := mc, slots := ms, locals := 472 } : Room) s m args below meth c H locs cells slots (vx_MQ below (va_Qi post (ga_E g) (ga_A g)) (ga_X g xp) args s mc ms (ga_A g)) (F0 m 0 ls []) by rw [e0, e1] at hgoal; exact hgoal
  refine lv_aload_n hx hb dX14_in_0 rfl (lv_at hl 0 rfl) ?_
  obtain ⟨fs_1, v_2, hq, hv, hw⟩ := hw
  refine ga_get (ci := 12) (T := TX14) (v := va_rf v_2) hx hb hts hown hI in_X14 rfl 1 (by decide) q3562 (fun _ z => z) (ga_at.h hq) hv dX14_in_1 ?_
  refine lv_iconst (v := 0) hx hb dX14_in_4 (by decide) ?_
  obtain ⟨a_3, ea_3, hw⟩ := hw
  rewrite [ea_3]
  obtain ⟨n_4, f_5, hq, hi, hw⟩ := hw
  refine ga_ldi hx hb hI (ga_at.h hq) hi dX14_in_5 ?_
  refine lv_istore_n (i := 2) (lv' := [(2, .int (f_5 (0 : Int32).toNatClampNeg)), (0, .ref p0), (1, va_rf p1)]) hx hb dX14_in_6 rfl hl (by decide) (by simp [ga_rcat, ga_cat_r, ga_cat_i, ga_cat_f, ga_cat_l, ga_cat_d]) (fun ls hl => ?_)
  refine lv_aload_n hx hb dX14_in_7 rfl (lv_at hl 1 rfl) ?_
  obtain ⟨fs_6, v_7, hq, hv, hw⟩ := hw
  refine ga_get (ci := 12) (T := TX14) (v := va_rf v_7) hx hb hts hown hI in_X14 rfl 0 (by decide) q3561 (fun _ z => z) (ga_at.h hq) hv dX14_in_8 ?_
  refine ga_astore_n (i := 3) (x := v_7) (lv' := [(3, va_rf v_7), (2, .int (f_5 (0 : Int32).toNatClampNeg)), (0, .ref p0), (1, va_rf p1)]) hx hb dX14_in_11 rfl hl (by decide) rfl (fun ls hl => ?_)
  refine lv_iconst (v := -1) hx hb dX14_in_12 (by decide) ?_
  refine lv_istore (lv' := [(4, .int (-1 : Int32)), (3, va_rf v_7), (2, .int (f_5 (0 : Int32).toNatClampNeg)), (0, .ref p0), (1, va_rf p1)]) hx hb dX14_in_13 hl (by decide) (by simp [ga_rcat, ga_cat_r, ga_cat_i, ga_cat_f, ga_cat_l, ga_cat_d]) (fun ls hl => ?_)
  refine ga_aload_n hx hb dX14_in_15 rfl (lv_at hl 1 rfl) ?_
  obtain ⟨a_8, ea_8, hw⟩ := hw
  rewrite [ea_8]
  obtain ⟨kc_9, ks_10, hk1, hk2, hw⟩ := hw
  obtain ⟨fs_11, hq, hw⟩ := hw
  refine ga_calli (va_runV (As := []) (rest := []) ⟨hx, hb, hml, hown, hts⟩ (gm_J7_hashCode l g a_8 h kc_9 ks_10 _ hw) (cwV 0 hts (lw_V q3575 q1826 q4135 q111 q1827) rfl rfl rfl ⟨rfl, hdG_J7_hashCode⟩ ⟨Nat.le_of_ble_eq_true rfl, Nat.le_of_ble_eq_true rfl⟩) (ga_preV hI hq rfl rfl) rfl rfl hl.1 rfl (ga_room (Nat.le_of_ble_eq_true rfl)) dX14_in_16 ⟨Nat.le_trans (Nat.add_le_add_left hk1 _) hbc, Nat.le_trans (Nat.add_le_add_left hk2 _) hbs⟩) hI hbc hbs hk1 hk2 (fun r_13 h_12 H locs cells slots hw hI hbc hbs => ?_)
  by_cases hc_14 : r_13 = (-1253024261 : Int32)
  · have hw := hw.1 hc_14
    refine lv_lookup (tgt := 83) (off := 64) hx hb dX14_in_19 (by decide) (by rw [hc_14]; decide) (by decide) ?_
    refine ga_aload_n hx hb dX14_in_83 rfl (lv_at hl 1 rfl) ?_
    refine ga_ldcs hx hb hI 12 hown rfl dX14_in_84 ?_
    obtain ⟨a_15, ea_15, hw⟩ := hw
    rewrite [ea_15]
    obtain ⟨fs_16, hq, hw⟩ := hw
    refine ga_calli (va_runV (As := [va_rf (some (g.2.2.2 32))]) (rest := []) ⟨hx, hb, hml, hown, hts⟩ (gm_J7_equals l g a_15 (some (g.2.2.2 32)) h_12 _ hw) (cwV 1 hts (lw_V q3577 q1935 q4136 q111 q1936) rfl rfl rfl ⟨rfl, hdG_J7_equals⟩ ⟨Nat.le_of_ble_eq_true rfl, Nat.le_of_ble_eq_true rfl⟩) (ga_preV hI hq rfl rfl) rfl rfl hl.1 rfl (ga_room (Nat.le_of_ble_eq_true rfl)) dX14_in_86 ⟨Nat.le_trans (Nat.add_le_add_left (Nat.zero_le _) _) hbc, Nat.le_trans (Nat.add_le_add_left (Nat.zero_le _) _) hbs⟩) hI hbc hbs (Nat.zero_le _) (Nat.zero_le _) (fun r_18 h_17 H locs cells slots hw hI hbc hbs => ?_)
    refine lv_if_eq (tgt := 140) hx hb dX14_in_89 (by decide) (fun hc_19 => ?_) (fun hc_19 => ?_)
    · have hw := hw.1 hc_19
      exact gj_X14_in_140 hst htab g post xp p0 p1 (f_5 (0 : Int32).toNatClampNeg) (-1 : Int32) h_17 (mc - kc_9) (ms - ks_10) ⟨hx, hb, hml, hown, hts, hr, hlk, hnm⟩ hw hI hbc hbs (lv_sub hl [3, 4, 2, 0] rfl)
    · have hw := hw.2 hc_19
      refine lv_iconst (v := 1) hx hb dX14_in_92 (by decide) ?_
      refine lv_istore (lv' := [(4, .int (1 : Int32)), (3, va_rf v_7), (2, .int (f_5 (0 : Int32).toNatClampNeg)), (0, .ref p0), (1, va_rf p1)]) hx hb dX14_in_93 hl (by decide) (by simp [ga_rcat, ga_cat_r, ga_cat_i, ga_cat_f, ga_cat_l, ga_cat_d]) (fun ls hl => ?_)
      refine lv_goto (tgt := 140) hx hb dX14_in_95 (by decide) ?_
      exact gj_X14_in_140 hst htab g post xp p0 p1 (f_5 (0 : Int32).toNatClampNeg) (1 : Int32) h_17 (mc - kc_9) (ms - ks_10) ⟨hx, hb, hml, hown, hts, hr, hlk, hnm⟩ hw hI hbc hbs (lv_sub hl [3, 4, 2, 0] rfl)
  have hw := hw.2 hc_14
  by_cases hc_185 : r_13 = (96586 : Int32)
  · have hw := hw.1 hc_185
    refine lv_lookup (tgt := 128) (off := 109) hx hb dX14_in_19 (by decide) (by rw [hc_185]; decide) (by decide) ?_
    refine ga_aload_n hx hb dX14_in_128 rfl (lv_at hl 1 rfl) ?_
    refine ga_ldcs hx hb hI 15 hown rfl dX14_in_129 ?_
    obtain ⟨a_186, ea_186, hw⟩ := hw
    rewrite [ea_186]
    obtain ⟨fs_187, hq, hw⟩ := hw
    refine ga_calli (va_runV (As := [va_rf (some (g.2.2.2 35))]) (rest := []) ⟨hx, hb, hml, hown, hts⟩ (gm_J7_equals l g a_186 (some (g.2.2.2 35)) h_12 _ hw) (cwV 1 hts (lw_V q3577 q1935 q4136 q111 q1936) rfl rfl rfl ⟨rfl, hdG_J7_equals⟩ ⟨Nat.le_of_ble_eq_true rfl, Nat.le_of_ble_eq_true rfl⟩) (ga_preV hI hq rfl rfl) rfl rfl hl.1 rfl (ga_room (Nat.le_of_ble_eq_true rfl)) dX14_in_131 ⟨Nat.le_trans (Nat.add_le_add_left (Nat.zero_le _) _) hbc, Nat.le_trans (Nat.add_le_add_left (Nat.zero_le _) _) hbs⟩) hI hbc hbs (Nat.zero_le _) (Nat.zero_le _) (fun r_189 h_188 H locs cells slots hw hI hbc hbs => ?_)
    refine lv_if_eq (tgt := 140) hx hb dX14_in_134 (by decide) (fun hc_190 => ?_) (fun hc_190 => ?_)
    · have hw := hw.1 hc_190
      exact gj_X14_in_140 hst htab g post xp p0 p1 (f_5 (0 : Int32).toNatClampNeg) (-1 : Int32) h_188 (mc - kc_9) (ms - ks_10) ⟨hx, hb, hml, hown, hts, hr, hlk, hnm⟩ hw hI hbc hbs (lv_sub hl [3, 4, 2, 0] rfl)
    · have hw := hw.2 hc_190
      refine lv_iconst (v := 4) hx hb dX14_in_137 (by decide) ?_
      refine lv_istore (lv' := [(4, .int (4 : Int32)), (3, va_rf v_7), (2, .int (f_5 (0 : Int32).toNatClampNeg)), (0, .ref p0), (1, va_rf p1)]) hx hb dX14_in_138 hl (by decide) (by simp [ga_rcat, ga_cat_r, ga_cat_i, ga_cat_f, ga_cat_l, ga_cat_d]) (fun ls hl => ?_)
      exact gj_X14_in_140 hst htab g post xp p0 p1 (f_5 (0 : Int32).toNatClampNeg) (4 : Int32) h_188 (mc - kc_9) (ms - ks_10) ⟨hx, hb, hml, hown, hts, hr, hlk, hnm⟩ hw hI hbc hbs (lv_sub hl [3, 4, 2, 0] rfl)
  have hw := hw.2 hc_185
  by_cases hc_191 : r_13 = (3452698 : Int32)
  · have hw := hw.1 hc_191
    refine lv_lookup (tgt := 68) (off := 49) hx hb dX14_in_19 (by decide) (by rw [hc_191]; decide) (by decide) ?_
    refine ga_aload_n hx hb dX14_in_68 rfl (lv_at hl 1 rfl) ?_
    refine ga_ldcs hx hb hI 11 hown rfl dX14_in_69 ?_
    obtain ⟨a_192, ea_192, hw⟩ := hw
    rewrite [ea_192]
    obtain ⟨fs_193, hq, hw⟩ := hw
    refine ga_calli (va_runV (As := [va_rf (some (g.2.2.2 31))]) (rest := []) ⟨hx, hb, hml, hown, hts⟩ (gm_J7_equals l g a_192 (some (g.2.2.2 31)) h_12 _ hw) (cwV 1 hts (lw_V q3577 q1935 q4136 q111 q1936) rfl rfl rfl ⟨rfl, hdG_J7_equals⟩ ⟨Nat.le_of_ble_eq_true rfl, Nat.le_of_ble_eq_true rfl⟩) (ga_preV hI hq rfl rfl) rfl rfl hl.1 rfl (ga_room (Nat.le_of_ble_eq_true rfl)) dX14_in_71 ⟨Nat.le_trans (Nat.add_le_add_left (Nat.zero_le _) _) hbc, Nat.le_trans (Nat.add_le_add_left (Nat.zero_le _) _) hbs⟩) hI hbc hbs (Nat.zero_le _) (Nat.zero_le _) (fun r_195 h_194 H locs cells slots hw hI hbc hbs => ?_)
    refine lv_if_eq (tgt := 140) hx hb dX14_in_74 (by decide) (fun hc_196 => ?_) (fun hc_196 => ?_)
    · have hw := hw.1 hc_196
      exact gj_X14_in_140 hst htab g post xp p0 p1 (f_5 (0 : Int32).toNatClampNeg) (-1 : Int32) h_194 (mc - kc_9) (ms - ks_10) ⟨hx, hb, hml, hown, hts, hr, hlk, hnm⟩ hw hI hbc hbs (lv_sub hl [3, 4, 2, 0] rfl)
    · have hw := hw.2 hc_196
      refine lv_iconst (v := 0) hx hb dX14_in_77 (by decide) ?_
      refine lv_istore (lv' := [(4, .int (0 : Int32)), (3, va_rf v_7), (2, .int (f_5 (0 : Int32).toNatClampNeg)), (0, .ref p0), (1, va_rf p1)]) hx hb dX14_in_78 hl (by decide) (by simp [ga_rcat, ga_cat_r, ga_cat_i, ga_cat_f, ga_cat_l, ga_cat_d]) (fun ls hl => ?_)
      refine lv_goto (tgt := 140) hx hb dX14_in_80 (by decide) ?_
      exact gj_X14_in_140 hst htab g post xp p0 p1 (f_5 (0 : Int32).toNatClampNeg) (0 : Int32) h_194 (mc - kc_9) (ms - ks_10) ⟨hx, hb, hml, hown, hts, hr, hlk, hnm⟩ hw hI hbc hbs (lv_sub hl [3, 4, 2, 0] rfl)
  have hw := hw.2 hc_191
  by_cases hc_197 : r_13 = (3526536 : Int32)
  · have hw := hw.1 hc_197
    refine lv_lookup (tgt := 98) (off := 79) hx hb dX14_in_19 (by decide) (by rw [hc_197]; decide) (by decide) ?_
    refine ga_aload_n hx hb dX14_in_98 rfl (lv_at hl 1 rfl) ?_
    refine ga_ldcs hx hb hI 13 hown rfl dX14_in_99 ?_
    obtain ⟨a_198, ea_198, hw⟩ := hw
    rewrite [ea_198]
    obtain ⟨fs_199, hq, hw⟩ := hw
    refine ga_calli (va_runV (As := [va_rf (some (g.2.2.2 33))]) (rest := []) ⟨hx, hb, hml, hown, hts⟩ (gm_J7_equals l g a_198 (some (g.2.2.2 33)) h_12 _ hw) (cwV 1 hts (lw_V q3577 q1935 q4136 q111 q1936) rfl rfl rfl ⟨rfl, hdG_J7_equals⟩ ⟨Nat.le_of_ble_eq_true rfl, Nat.le_of_ble_eq_true rfl⟩) (ga_preV hI hq rfl rfl) rfl rfl hl.1 rfl (ga_room (Nat.le_of_ble_eq_true rfl)) dX14_in_101 ⟨Nat.le_trans (Nat.add_le_add_left (Nat.zero_le _) _) hbc, Nat.le_trans (Nat.add_le_add_left (Nat.zero_le _) _) hbs⟩) hI hbc hbs (Nat.zero_le _) (Nat.zero_le _) (fun r_201 h_200 H locs cells slots hw hI hbc hbs => ?_)
    refine lv_if_eq (tgt := 140) hx hb dX14_in_104 (by decide) (fun hc_202 => ?_) (fun hc_202 => ?_)
    · have hw := hw.1 hc_202
      exact gj_X14_in_140 hst htab g post xp p0 p1 (f_5 (0 : Int32).toNatClampNeg) (-1 : Int32) h_200 (mc - kc_9) (ms - ks_10) ⟨hx, hb, hml, hown, hts, hr, hlk, hnm⟩ hw hI hbc hbs (lv_sub hl [3, 4, 2, 0] rfl)
    · have hw := hw.2 hc_202
      refine lv_iconst (v := 2) hx hb dX14_in_107 (by decide) ?_
      refine lv_istore (lv' := [(4, .int (2 : Int32)), (3, va_rf v_7), (2, .int (f_5 (0 : Int32).toNatClampNeg)), (0, .ref p0), (1, va_rf p1)]) hx hb dX14_in_108 hl (by decide) (by simp [ga_rcat, ga_cat_r, ga_cat_i, ga_cat_f, ga_cat_l, ga_cat_d]) (fun ls hl => ?_)
      refine lv_goto (tgt := 140) hx hb dX14_in_110 (by decide) ?_
      exact gj_X14_in_140 hst htab g post xp p0 p1 (f_5 (0 : Int32).toNatClampNeg) (2 : Int32) h_200 (mc - kc_9) (ms - ks_10) ⟨hx, hb, hml, hown, hts, hr, hlk, hnm⟩ hw hI hbc hbs (lv_sub hl [3, 4, 2, 0] rfl)
  have hw := hw.2 hc_197
  by_cases hc_203 : r_13 = (3568429 : Int32)
  · have hw := hw.1 hc_203
    refine lv_lookup (tgt := 113) (off := 94) hx hb dX14_in_19 (by decide) (by rw [hc_203]; decide) (by decide) ?_
    refine ga_aload_n hx hb dX14_in_113 rfl (lv_at hl 1 rfl) ?_
    refine ga_ldcs hx hb hI 14 hown rfl dX14_in_114 ?_
    obtain ⟨a_204, ea_204, hw⟩ := hw
    rewrite [ea_204]
    obtain ⟨fs_205, hq, hw⟩ := hw
    refine ga_calli (va_runV (As := [va_rf (some (g.2.2.2 34))]) (rest := []) ⟨hx, hb, hml, hown, hts⟩ (gm_J7_equals l g a_204 (some (g.2.2.2 34)) h_12 _ hw) (cwV 1 hts (lw_V q3577 q1935 q4136 q111 q1936) rfl rfl rfl ⟨rfl, hdG_J7_equals⟩ ⟨Nat.le_of_ble_eq_true rfl, Nat.le_of_ble_eq_true rfl⟩) (ga_preV hI hq rfl rfl) rfl rfl hl.1 rfl (ga_room (Nat.le_of_ble_eq_true rfl)) dX14_in_116 ⟨Nat.le_trans (Nat.add_le_add_left (Nat.zero_le _) _) hbc, Nat.le_trans (Nat.add_le_add_left (Nat.zero_le _) _) hbs⟩) hI hbc hbs (Nat.zero_le _) (Nat.zero_le _) (fun r_207 h_206 H locs cells slots hw hI hbc hbs => ?_)
    refine lv_if_eq (tgt := 140) hx hb dX14_in_119 (by decide) (fun hc_208 => ?_) (fun hc_208 => ?_)
    · have hw := hw.1 hc_208
      exact gj_X14_in_140 hst htab g post xp p0 p1 (f_5 (0 : Int32).toNatClampNeg) (-1 : Int32) h_206 (mc - kc_9) (ms - ks_10) ⟨hx, hb, hml, hown, hts, hr, hlk, hnm⟩ hw hI hbc hbs (lv_sub hl [3, 4, 2, 0] rfl)
    · have hw := hw.2 hc_208
      refine lv_iconst (v := 3) hx hb dX14_in_122 (by decide) ?_
      refine lv_istore (lv' := [(4, .int (3 : Int32)), (3, va_rf v_7), (2, .int (f_5 (0 : Int32).toNatClampNeg)), (0, .ref p0), (1, va_rf p1)]) hx hb dX14_in_123 hl (by decide) (by simp [ga_rcat, ga_cat_r, ga_cat_i, ga_cat_f, ga_cat_l, ga_cat_d]) (fun ls hl => ?_)
      refine lv_goto (tgt := 140) hx hb dX14_in_125 (by decide) ?_
      exact gj_X14_in_140 hst htab g post xp p0 p1 (f_5 (0 : Int32).toNatClampNeg) (3 : Int32) h_206 (mc - kc_9) (ms - ks_10) ⟨hx, hb, hml, hown, hts, hr, hlk, hnm⟩ hw hI hbc hbs (lv_sub hl [3, 4, 2, 0] rfl)
  have hw := hw.2 hc_203
  refine lv_lookup (tgt := 140) (off := 121) hx hb dX14_in_19 (by decide) ((lv_osw hc_14 (by decide)).trans ((lv_osw hc_185 (by decide)).trans ((lv_osw hc_191 (by decide)).trans ((lv_osw hc_197 (by decide)).trans ((lv_osw hc_203 (by decide)).trans (rfl)))))) (by decide) ?_
  exact gj_X14_in_140 hst htab g post xp p0 p1 (f_5 (0 : Int32).toNatClampNeg) (-1 : Int32) h_12 (mc - kc_9) (ms - ks_10) ⟨hx, hb, hml, hown, hts, hr, hlk, hnm⟩ hw hI hbc hbs (lv_sub hl [3, 4, 2, 0] rfl)
theorem hdG_X14_in : yX14_in.cls ≠ "java/lang/invoke/MethodHandle" ∧ yX14_in.cls ≠ "java/lang/invoke/VarHandle" ∧ (parseMethodDescriptor yX14_in.desc).map (fun d => d.parameters.length) = some 1 := by decide +kernel
def gw_X1_read (K : ga_K) (p0 : Nat) (h : ga_H) (mc ms : Nat) (post : Int32 → ga_H → Prop) (xp : String → Nat → ga_H → Prop) : Prop :=
  1 ≤ mc ∧ 4 ≤ ms ∧ ∀ q_1 : Nat, h q_1 = none → ∀ h_2 : ga_H, h_2 = ga_set h q_1 (ga_O 10 [va_rf none, .int 0, va_rf none, .int 0]) → (∃ (fs_3 : List Value) (v_4 : Option Nat), h_2 p0 = some (ga_O 0 fs_3) ∧ fs_3[3]? = some (va_rf v_4) ∧ (∃ (fs_5 : List Value) (v_6 : Int32), h_2 p0 = some (ga_O 0 fs_5) ∧ fs_5[5]? = some (.int v_6) ∧ (∃ kc_7 ks_8 : Nat, kc_7 ≤ (mc - 1) ∧ ks_8 ≤ (ms - 4) ∧ gw_X12_init K q_1 v_4 v_6 h_2 kc_7 ks_8 (fun (h_9 : ga_H) => ∃ fs_10 : List Value, h_9 p0 = some (ga_O 0 fs_10) ∧ 5 < fs_10.length ∧ ∀ h_11 : ga_H, h_11 = ga_set h_9 p0 (ga_O 0 (fs_10.set 5 (.int (0 : Int32)))) → (∃ kc_12 ks_13 : Nat, kc_12 ≤ ((mc - 1) - kc_7) ∧ ks_13 ≤ ((ms - 4) - ks_8) ∧ ∃ fs_14 : List Value, ga_at K h_11 q_1 (ga_O 10 fs_14) ∧ gw_X12_all K q_1 h_11 kc_12 ks_13 (fun (h_15 : ga_H) => ∃ (fs_22 : List Value) (v_23 : Option Nat), h_15 p0 = some (ga_O 0 fs_22) ∧ fs_22[0]? = some (va_rf v_23) ∧ (∃ a_24 : Nat, v_23 = some a_24 ∧ ∃ kc_25 ks_26 : Nat, kc_25 ≤ (((mc - 1) - kc_7) - kc_12) ∧ ks_26 ≤ (((ms - 4) - ks_8) - ks_13) ∧ ∃ fs_27 : List Value, ga_at K h_15 a_24 (ga_O 1 fs_27) ∧ gw_X2_copy K a_24 h_15 kc_25 ks_26 (fun (r_29 : Option Nat) (h_28 : ga_H) => ∃ (fs_30 : List Value) (v_31 : Option Nat), h_28 q_1 = some (ga_O 10 fs_30) ∧ fs_30[2]? = some (va_rf v_31) ∧ (∃ a_32 : Nat, v_31 = some a_32 ∧ ∃ kc_33 ks_34 : Nat, kc_33 ≤ ((((mc - 1) - kc_7) - kc_12) - kc_25) ∧ ks_34 ≤ ((((ms - 4) - ks_8) - ks_13) - ks_26) ∧ ∃ fs_35 : List Value, ga_at K h_28 a_32 (ga_O 13 fs_35) ∧ gw_J2_iterator K a_32 h_28 kc_33 ks_34 (fun (r_37 : Option Nat) (h_36 : ga_H) => ∃ (In_38 : ga_H → Nat → Nat → Prop) (mu_38 : ga_H → Nat → Nat → Nat), In_38 h_36 (((((mc - 1) - kc_7) - kc_12) - kc_25) - kc_33) (((((ms - 4) - ks_8) - ks_13) - ks_26) - ks_34) ∧ ∀ (h_38 : ga_H) (bc_38 : Nat) (bs_38 : Nat), In_38 h_38 bc_38 bs_38 → (∃ a_39 : Nat, r_37 = some a_39 ∧ ∃ fs_40 : List Value, ga_at K h_38 a_39 (ga_O 14 fs_40) ∧ gw_J16_hasNext K a_39 h_38 (fun (r_42 : Int32) (h_41 : ga_H) => (r_42 = (0 : Int32) → (∃ (fs_44 : List Value) (v_45 : Option Nat), h_41 q_1 = some (ga_O 10 fs_44) ∧ fs_44[2]? = some (va_rf v_45) ∧ (∃ a_46 : Nat, v_45 = some a_46 ∧ ∃ fs_47 : List Value, ga_at K h_41 a_46 (ga_O 13 fs_47) ∧ gw_J2_size K a_46 h_41 (fun (r_49 : Int32) (h_48 : ga_H) => ∃ kc_50 ks_51 : Nat, kc_50 ≤ bc_38 ∧ ks_51 ≤ bs_38 ∧ ∃ fs_52 : List Value, ga_at K h_48 p0 (ga_O 0 fs_52) ∧ gw_X1_become K p0 r_29 r_49 h_48 kc_50 ks_51 (fun (r_54 : Int32) (h_53 : ga_H) => post r_54 h_53))))) ∧ (¬ r_42 = (0 : Int32) → (∃ a_55 : Nat, r_37 = some a_55 ∧ ∃ kc_56 ks_57 : Nat, kc_56 ≤ bc_38 ∧ ks_57 ≤ bs_38 ∧ ∃ fs_58 : List Value, ga_at K h_41 a_55 (ga_O 14 fs_58) ∧ gw_J16_next K a_55 h_41 kc_56 ks_57 (fun (r_60 : Option Nat) (h_59 : ga_H) => ga_ok K h_59 "PaperStore$Command" r_60 ∧ (∃ a_61 : Nat, r_60 = some a_61 ∧ ∃ kc_62 ks_63 : Nat, kc_62 ≤ (bc_38 - kc_56) ∧ ks_63 ≤ (bs_38 - ks_57) ∧ ∃ fs_64 : List Value, ga_at K h_59 a_61 (ga_O 12 fs_64) ∧ gw_X14_in K a_61 r_29 h_59 kc_62 ks_63 (fun (r_66 : Int32) (h_65 : ga_H) => In_38 h_65 ((bc_38 - kc_56) - kc_62) ((bs_38 - ks_57) - ks_63) ∧ mu_38 h_65 ((bc_38 - kc_56) - kc_62) ((bs_38 - ks_57) - ks_63) < mu_38 h_38 bc_38 bs_38) (fun (E_67 : String) (q_68 : Nat) (h_69 : ga_H) => (E_67 = "PaperStore$Refusal" ∧ (∃ kc_70 ks_71 : Nat, kc_70 ≤ ((bc_38 - kc_56) - kc_62) ∧ ks_71 ≤ ((bs_38 - ks_57) - ks_63) ∧ ∃ fs_72 : List Value, ga_at K h_69 p0 (ga_O 0 fs_72) ∧ gw_X1_kept K p0 (some q_68) h_69 kc_70 ks_71 (fun (r_74 : Option Nat) (h_73 : ga_H) => ∃ a_78 : Nat, r_74 = some a_78 ∧ ∃ fs_79 : List Value, h_73 a_78 = some (ga_O 28 fs_79) ∧ (xp "java/lang/UnsupportedOperationException" a_78 h_73)) (fun (E_75 : String) (q_76 : Nat) (h_77 : ga_H) => False))) ∨ (E_67 = "java/lang/IllegalStateException" ∧ (xp "java/lang/IllegalStateException" q_68 h_69)))))))))))))) (fun (E_16 : String) (q_17 : Nat) (h_18 : ga_H) => (E_16 = "PaperStore$BadText" ∧ (∃ fs_19 : List Value, h_18 p0 = some (ga_O 0 fs_19) ∧ 6 < fs_19.length ∧ ∀ h_20 : ga_H, h_20 = ga_set h_18 p0 (ga_O 0 (fs_19.set 6 (va_rf (some q_17)))) → (1 ≤ (((mc - 1) - kc_7) - kc_12) ∧ 6 ≤ (((ms - 4) - ks_8) - ks_13) ∧ ∀ q_21 : Nat, xp "java/lang/IllegalArgumentException" q_21 h_20)))))))))
set_option maxHeartbeats 4000000 in
theorem gm_X1_read (l : Launch) (hst : l.stackTraces = false) (g : ga_G) (p0 : Nat) (h : ga_H) (mc ms : Nat) (post : Int32 → ga_H → Prop) (xp : String → Nat → ga_H → Prop) (hw : gw_X1_read g.2.2 p0 h mc ms post xp) : vx_Met l yX1_read (wsW_ yX1_read cX1_read 6 (some .int) [(21, 84, 85, 459), (21, 84, 99, 25)]) ({ frames := 31, cells := mc, slots := ms, locals := 1443 } : Room) (va_Pc [.ref p0] (ga_B g h)) (va_Qi post (ga_E g) (ga_A g)) (ga_X g xp) mc ms (ga_A g) := by
  refine ga_metxW (own := "PaperStore") (nm := "read") (by decide) rfl rfl (by exact Nat.le_of_ble_eq_true rfl) (fun p e s m below meth c ls hC htab hI hl => ?_)
  have hl : lv_has ls 6 [(0, .ref p0)] := hl
  generalize ([.ref p0] : List Value).toArray = args at hC ⊢
  obtain ⟨hx, hb, hml, hown, hts, hr, hlk, hnm⟩ := hC
  unfold gw_X1_read at hw
  obtain ⟨H, eH⟩ : ∃ z, z = s.heap := ⟨_, rfl⟩
  obtain ⟨locs, elo⟩ : ∃ z : List Loc, z = [] := ⟨_, rfl⟩
  rw [← eH, ← elo] at hI ⊢
  obtain ⟨cells, slots, hbc, hbs, e0, e1⟩ : ∃ a b : Nat, a + mc ≤ mc ∧ b + ms ≤ ms ∧ a = 0 ∧ b = 0 := ⟨0, 0, by omega, by omega, rfl, rfl⟩
  show W p l e ({ frames := 31, cells := mc, slots := ms, locals := 1443 } : Room) s m args below meth c H locs 0 0 (vx_MQ below (va_Qi post (ga_E g) (ga_A g)) (ga_X g xp) args s mc ms (ga_A g)) (F0 m 0 ls [])
  suffices hgoal : W p l e ({ frames := 31, cells := mc, slots := ms, locals := 1443 } : Room) s m args below meth c H locs cells slots (vx_MQ below (va_Qi post (ga_E g) (ga_A g)) (ga_X g xp) args s mc ms (ga_A g)) (F0 m 0 ls []) by rw [e0, e1] at hgoal; exact hgoal
  refine ga_new (ci := 10) (T := TX12) hx hb hts hown hI in_X12 rfl tyX12 tyX12_ok q2843 q2844 q159 [va_rf none, .int 0, va_rf none, .int 0] ga_df_X12 hbc hbs hw.1 hw.2.1 dX1_read_0 (fun q_1 H cells slots hn_q_1 hI hbc hbs => ?_)
  obtain ⟨h_2, eh_2⟩ : ∃ z, z = ga_set h q_1 (ga_O 10 [va_rf none, .int 0, va_rf none, .int 0]) := ⟨_, rfl⟩
  rw [← eh_2] at hI
  have hw := hw.2.2 q_1 hn_q_1 h_2 eh_2
  refine lv_dup hx hb dX1_read_3 rfl ?_
  refine lv_aload_n hx hb dX1_read_4 rfl (lv_at hl 0 rfl) ?_
  obtain ⟨fs_3, v_4, hq, hv, hw⟩ := hw
  refine ga_get (ci := 0) (T := TX1) (v := va_rf v_4) hx hb hts hown hI in_X1 rfl 3 (by decide) q390 (fun _ z => z) (ga_at.h hq) hv dX1_read_5 ?_
  refine lv_aload_n hx hb dX1_read_8 rfl (lv_at hl 0 rfl) ?_
  obtain ⟨fs_5, v_6, hq, hv, hw⟩ := hw
  refine ga_get (ci := 0) (T := TX1) (v := .int v_6) hx hb hts hown hI in_X1 rfl 5 (by decide) q392 (fun _ z => z) (ga_at.h hq) hv dX1_read_9 ?_
  obtain ⟨kc_7, ks_8, hk1, hk2, hw⟩ := hw
  refine ga_callv (va_runI (As := [va_rf v_4, .int v_6]) (rest := [.ref q_1]) ⟨hx, hb, hml, hown, hts⟩ (gm_X12_init l g q_1 v_4 v_6 h_2 kc_7 ks_8 _ hw) (cwI 2 hts (lw_meth q2847) rfl rfl rfl (hts _ q159) (hts _ q2845) (hts _ q2846) rfl hdG_X12_init ⟨Nat.le_of_ble_eq_true rfl, Nat.le_of_ble_eq_true rfl⟩) (ga_preS hI rfl) rfl rfl hl.1 rfl (ga_room (Nat.le_of_ble_eq_true rfl)) dX1_read_12 ⟨Nat.le_trans (Nat.add_le_add_left hk1 _) hbc, Nat.le_trans (Nat.add_le_add_left hk2 _) hbs⟩) hI hbc hbs hk1 hk2 (fun h_9 H locs cells slots hw hI hbc hbs => ?_)
  refine lv_astore_n (i := 1) (lv' := [(1, .ref q_1), (0, .ref p0)]) hx hb dX1_read_15 rfl hl (by decide) rfl (fun ls hl => ?_)
  refine lv_aload_n hx hb dX1_read_16 rfl (lv_at hl 1 rfl) ?_
  refine lv_iconst (v := 0) hx hb dX1_read_17 (by decide) ?_
  obtain ⟨fs_10, hq, hk, hw⟩ := hw
  refine ga_put (ci := 0) (T := TX1) (v := .int (0 : Int32)) (ty := tyX1 5) hx hb hts hown hI in_X1 rfl tyX1 tyX1_ok nmX1 5 (by decide) q392 (fun _ z => z) rfl (tyX1_ok 5 (by decide)) rfl rfl hq hk dX1_read_18 (fun H locs hI => ?_)
  obtain ⟨h_11, eh_11⟩ : ∃ z, z = ga_set h_9 p0 (ga_O 0 (fs_10.set 5 (.int (0 : Int32)))) := ⟨_, rfl⟩
  rw [← eh_11] at hI
  have hw := hw h_11 eh_11
  refine lv_aload_n hx hb dX1_read_21 rfl (lv_at hl 0 rfl) ?_
  obtain ⟨kc_12, ks_13, hk1, hk2, hw⟩ := hw
  obtain ⟨fs_14, hq, hw⟩ := hw
  refine ga_xcallv (vx_runV (As := []) (rest := []) ⟨hx, hb, hml, hown, hts⟩ (gm_X12_all l hst g q_1 h_11 kc_12 ks_13 _ _ hw) (cwV 0 hts (lw_V q2865 q2866 q2867 q159 q2868) rfl rfl rfl ⟨rfl, hdG_X12_all⟩ ⟨Nat.le_of_ble_eq_true rfl, Nat.le_of_ble_eq_true rfl⟩) (ga_preV hI hq rfl rfl) rfl rfl hl.1 rfl (ga_room (Nat.le_of_ble_eq_true rfl)) dX1_read_22 ⟨Nat.le_trans (Nat.add_le_add_left hk1 _) hbc, Nat.le_trans (Nat.add_le_add_left hk2 _) hbs⟩) hI hbc hbs hk1 hk2 (fun E_16 q_17 h_18 ce H locs cells slots hw hI hce hbc hbs => ?_) (fun h_15 H locs cells slots hw hI hbc hbs => ?_)
  · obtain ⟨rfl, hw⟩ := hw
    refine ga_catch hown hts hI ([]) (⟨21, 84, 85, 459⟩) ([⟨21, 84, 99, 25⟩]) (by rw [htab]; rfl) (fun _ h => absurd h List.not_mem_nil) rfl (by decide) q2842 q3524 hce ?_
    refine W.eq (g2 := F0 m 85 ls [.ref q_17]) rfl ?_
    refine lv_astore_n (i := 2) (lv' := [(2, .ref q_17), (1, .ref q_1), (0, .ref p0)]) hx hb dX1_read_85 rfl hl (by decide) rfl (fun ls hl => ?_)
    refine lv_aload_n hx hb dX1_read_86 rfl (lv_at hl 2 rfl) ?_
    refine lv_aload_n hx hb dX1_read_87 rfl (lv_at hl 0 rfl) ?_
    obtain ⟨fs_19, hq, hk, hw⟩ := hw
    refine ga_put (ci := 0) (T := TX1) (v := va_rf (some q_17)) (ty := tyX1 6) hx hb hts hown hI in_X1 rfl tyX1 tyX1_ok nmX1 6 (by decide) q393 (fun _ z => z) rfl (tyX1_ok 6 (by decide)) (ga_nq _ _) (ga_fq _ _) hq hk dX1_read_88 (fun H locs hI => ?_)
    obtain ⟨h_20, eh_20⟩ : ∃ z, z = ga_set h_18 p0 (ga_O 0 (fs_19.set 6 (va_rf (some q_17)))) := ⟨_, rfl⟩
    rw [← eh_20] at hI
    have hw := hw h_20 eh_20
    exact ga_thr_iae (ik := 7) (ic := 9) hx hb hst hts hown q2030 q2031 hI (hl.1.trans hml.symm) dX1_read_91 dX1_read_94 dX1_read_95 dX1_read_98 (by rw [htab]; decide) (Nat.le_of_ble_eq_true rfl) (Nat.le_trans (Nat.add_le_add_right (ga_sum [] (Nat.le_of_ble_eq_true rfl)) 81) (Nat.le_of_ble_eq_true rfl)) hlk hbc hbs hw.1 hw.2.1 hw.2.2
  · skip
    refine lv_aload_n hx hb dX1_read_25 rfl (lv_at hl 1 rfl) ?_
    obtain ⟨fs_22, v_23, hq, hv, hw⟩ := hw
    refine ga_get (ci := 0) (T := TX1) (v := va_rf v_23) hx hb hts hown hI in_X1 rfl 0 (by decide) q387 (fun _ z => z) (ga_at.h hq) hv dX1_read_26 ?_
    obtain ⟨a_24, ea_24, hw⟩ := hw
    rewrite [ea_24]
    obtain ⟨kc_25, ks_26, hk1, hk2, hw⟩ := hw
    obtain ⟨fs_27, hq, hw⟩ := hw
    refine ga_callq (va_runV (As := []) (rest := []) ⟨hx, hb, hml, hown, hts⟩ (gm_X2_copy l g a_24 h_15 kc_25 ks_26 _ hw) (cwV 0 hts (lw_V q1259 q1260 q1261 q101 q1262) rfl rfl rfl ⟨rfl, hdG_X2_copy⟩ ⟨Nat.le_of_ble_eq_true rfl, Nat.le_of_ble_eq_true rfl⟩) (ga_preV hI hq rfl rfl) rfl rfl hl.1 rfl (ga_room (Nat.le_of_ble_eq_true rfl)) dX1_read_29 ⟨Nat.le_trans (Nat.add_le_add_left hk1 _) hbc, Nat.le_trans (Nat.add_le_add_left hk2 _) hbs⟩) hI hbc hbs hk1 hk2 (fun r_29 h_28 H locs cells slots hw hI hbc hbs => ?_)
    refine ga_astore_n (i := 2) (x := r_29) (lv' := [(2, va_rf r_29), (1, .ref q_1), (0, .ref p0)]) hx hb dX1_read_32 rfl hl (by decide) rfl (fun ls hl => ?_)
    refine lv_aload_n hx hb dX1_read_33 rfl (lv_at hl 1 rfl) ?_
    obtain ⟨fs_30, v_31, hq, hv, hw⟩ := hw
    refine ga_getN (ci := 10) (T := TX12) (v := va_rf v_31) hx hb hts hown hI in_X12 rfl 2 (by decide) q2854 (fun _ z => z) (ga_at.h hq) hv dX1_read_34 ?_
    obtain ⟨a_32, ea_32, hw⟩ := hw
    rewrite [ea_32]
    obtain ⟨kc_33, ks_34, hk1, hk2, hw⟩ := hw
    obtain ⟨fs_35, hq, hw⟩ := hw
    refine ga_callq (va_runV (As := []) (rest := []) ⟨hx, hb, hml, hown, hts⟩ (gm_J2_iterator l g a_32 h_28 kc_33 ks_34 _ hw) (cwV 0 hts (lw_V q2727 q564 q4118 q104 q565) rfl rfl rfl ⟨rfl, hdG_J2_iterator⟩ ⟨Nat.le_of_ble_eq_true rfl, Nat.le_of_ble_eq_true rfl⟩) (ga_preV hI hq rfl rfl) rfl rfl hl.1 rfl (ga_room (Nat.le_of_ble_eq_true rfl)) dX1_read_37 ⟨Nat.le_trans (Nat.add_le_add_left hk1 _) hbc, Nat.le_trans (Nat.add_le_add_left hk2 _) hbs⟩) hI hbc hbs hk1 hk2 (fun r_37 h_36 H locs cells slots hw hI hbc hbs => ?_)
    refine ga_astore_n (i := 3) (x := r_37) (lv' := [(3, va_rf r_37), (2, va_rf r_29), (1, .ref q_1), (0, .ref p0)]) hx hb dX1_read_40 rfl hl (by decide) (by simp [ga_rcat, ga_cat_r, ga_cat_i, ga_cat_f, ga_cat_l, ga_cat_d]) (fun ls hl => ?_)
    obtain ⟨In_38, mu_38, h0_38, hw⟩ := hw
    have hL_38 : ∀ (n : Nat) (h_38 : ga_H) (bc_38 : Nat) (bs_38 : Nat) (H : Heap) (locs : List Loc) (cells slots : Nat) (ls : Array Slot), mu_38 h_38 bc_38 bs_38 < n → In_38 h_38 bc_38 bs_38 → ga_I g h_38 s H locs → cells + bc_38 ≤ mc → slots + bs_38 ≤ ms → lv_has ls 6 [(0, .ref p0), (1, va_rf (some q_1)), (2, va_rf r_29), (3, va_rf r_37)] → W p l e ({ frames := 31, cells := mc, slots := ms, locals := 1443 } : Room) s m args below meth c H locs cells slots (vx_MQ below (va_Qi post (ga_E g) (ga_A g)) (ga_X g xp) args s mc ms (ga_A g)) (F0 m 41 ls []) := by
      intro n
      induction n with
      | zero => intro h_38 bc_38 bs_38 H locs cells slots ls hn _ _ _ _ _; exact absurd hn (Nat.not_lt_zero _)
      | succ n ih_38 =>
        intro h_38 bc_38 bs_38 H locs cells slots ls hn_38 hi_38 hI hbc hbs hl
        have hw := hw h_38 bc_38 bs_38 hi_38
        refine ga_aload_n hx hb dX1_read_41 rfl (lv_at hl 3 rfl) ?_
        obtain ⟨a_39, ea_39, hw⟩ := hw
        rewrite [ea_39]
        obtain ⟨fs_40, hq, hw⟩ := hw
        refine ga_callFi (va_runF (As := []) (rest := []) (hI.2.1.1.1.1 14 _ rfl).2 ⟨hx, hb, hml, hown, hts⟩ (gm_J16_hasNext l g a_39 h_38 _ hw) (va_cwF 0 hts (lw_app (List.forall_mem_cons.mpr ⟨q1180, List.forall_mem_cons.mpr ⟨q696, List.forall_mem_cons.mpr ⟨q698, List.forall_mem_cons.mpr ⟨q122, fun _ h => absurd h List.not_mem_nil⟩⟩⟩⟩) (lw_meth q700)) rfl rfl rfl (hI.2.1.1.2.2 _ _ _ ⟨by decide +kernel, q694, q693, q699, q697, q695⟩) (by decide +kernel) ⟨Nat.le_of_ble_eq_true rfl, Nat.le_of_ble_eq_true rfl⟩) (ga_preV (C := "java/util/ArrayList$Itr") hI hq rfl rfl) rfl rfl hl.1 rfl (ga_room (Nat.le_of_ble_eq_true rfl)) dX1_read_42 ⟨Nat.le_trans (Nat.add_le_add_left (Nat.zero_le _) _) hbc, Nat.le_trans (Nat.add_le_add_left (Nat.zero_le _) _) hbs⟩) hI hbc hbs (Nat.zero_le _) (Nat.zero_le _) (fun r_42 h_41 H locs cells slots hw hI hbc hbs => ?_)
        refine lv_if_eq (tgt := 72) hx hb dX1_read_47 (by decide) (fun hc_43 => ?_) (fun hc_43 => ?_)
        · have hw := hw.1 hc_43
          refine lv_aload_n hx hb dX1_read_72 rfl (lv_at hl 0 rfl) ?_
          refine ga_aload_n hx hb dX1_read_73 rfl (lv_at hl 2 rfl) ?_
          refine ga_aload_n hx hb dX1_read_74 rfl (lv_at hl 1 rfl) ?_
          obtain ⟨fs_44, v_45, hq, hv, hw⟩ := hw
          refine ga_getN (ci := 10) (T := TX12) (v := va_rf v_45) hx hb hts hown hI in_X12 rfl 2 (by decide) q2854 (fun _ z => z) (ga_at.h hq) hv dX1_read_75 ?_
          obtain ⟨a_46, ea_46, hw⟩ := hw
          rewrite [ea_46]
          obtain ⟨fs_47, hq, hw⟩ := hw
          refine ga_calli (va_runV (As := []) (rest := [va_rf r_29, .ref p0]) ⟨hx, hb, hml, hown, hts⟩ (gm_J2_size l g a_46 h_41 _ hw) (cwV 0 hts (lw_V q1240 q536 q4117 q104 q537) rfl rfl rfl ⟨rfl, hdG_J2_size⟩ ⟨Nat.le_of_ble_eq_true rfl, Nat.le_of_ble_eq_true rfl⟩) (ga_preV hI hq rfl rfl) rfl rfl hl.1 rfl (ga_room (Nat.le_of_ble_eq_true rfl)) dX1_read_78 ⟨Nat.le_trans (Nat.add_le_add_left (Nat.zero_le _) _) hbc, Nat.le_trans (Nat.add_le_add_left (Nat.zero_le _) _) hbs⟩) hI hbc hbs (Nat.zero_le _) (Nat.zero_le _) (fun r_49 h_48 H locs cells slots hw hI hbc hbs => ?_)
          obtain ⟨kc_50, ks_51, hk1, hk2, hw⟩ := hw
          obtain ⟨fs_52, hq, hw⟩ := hw
          refine ga_calli (va_runV (As := [va_rf r_29, .int r_49]) (rest := []) ⟨hx, hb, hml, hown, hts⟩ (gm_X1_become l g p0 r_29 r_49 h_48 kc_50 ks_51 _ hw) (cwV 2 hts (lw_V q2070 q2072 qs8 q100 q2073) rfl rfl rfl ⟨rfl, hdG_X1_become⟩ ⟨Nat.le_of_ble_eq_true rfl, Nat.le_of_ble_eq_true rfl⟩) (ga_preV hI hq rfl rfl) rfl rfl hl.1 rfl (ga_room (Nat.le_of_ble_eq_true rfl)) dX1_read_81 ⟨Nat.le_trans (Nat.add_le_add_left hk1 _) hbc, Nat.le_trans (Nat.add_le_add_left hk2 _) hbs⟩) hI hbc hbs hk1 hk2 (fun r_54 h_53 H locs cells slots hw hI hbc hbs => ?_)
          exact ga_iretx hx hb hr rfl hlk hI hw (Nat.le_trans (Nat.le_add_right _ _) hbc) (Nat.le_trans (Nat.le_add_right _ _) hbs) dX1_read_84
        · have hw := hw.2 hc_43
          refine ga_aload_n hx hb dX1_read_50 rfl (lv_at hl 3 rfl) ?_
          obtain ⟨a_55, ea_55, hw⟩ := hw
          rewrite [ea_55]
          obtain ⟨kc_56, ks_57, hk1, hk2, hw⟩ := hw
          obtain ⟨fs_58, hq, hw⟩ := hw
          refine ga_callFq (va_runF (As := []) (rest := []) (hI.2.1.1.1.1 14 _ rfl).2 ⟨hx, hb, hml, hown, hts⟩ (gm_J16_next l g a_55 h_41 kc_56 ks_57 _ hw) (va_cwF 0 hts (lw_app (List.forall_mem_cons.mpr ⟨q1182, List.forall_mem_cons.mpr ⟨q721, List.forall_mem_cons.mpr ⟨q723, List.forall_mem_cons.mpr ⟨q122, fun _ h => absurd h List.not_mem_nil⟩⟩⟩⟩) (lw_meth q725)) rfl rfl rfl (hI.2.1.1.2.2 _ _ _ ⟨by decide +kernel, q720, q719, q724, q722, q695⟩) (by decide +kernel) ⟨Nat.le_of_ble_eq_true rfl, Nat.le_of_ble_eq_true rfl⟩) (ga_preV (C := "java/util/ArrayList$Itr") hI hq rfl rfl) rfl rfl hl.1 rfl (ga_room (Nat.le_of_ble_eq_true rfl)) dX1_read_51 ⟨Nat.le_trans (Nat.add_le_add_left hk1 _) hbc, Nat.le_trans (Nat.add_le_add_left hk2 _) hbs⟩) hI hbc hbs hk1 hk2 (fun r_60 h_59 H locs cells slots hw hI hbc hbs => ?_)
          refine ga_cast (x := r_60) hx hb hts hown hI q3570 hw.1 dX1_read_56 ?_
          have hw := hw.2
          refine ga_astore (x := r_60) (lv' := [(4, va_rf r_60), (0, .ref p0), (1, va_rf (some q_1)), (2, va_rf r_29), (3, va_rf r_37)]) hx hb dX1_read_59 hl (by decide) (by simp [ga_rcat, ga_cat_r, ga_cat_i, ga_cat_f, ga_cat_l, ga_cat_d]) (fun ls hl => ?_)
          refine ga_aload hx hb dX1_read_61 (lv_at hl 0 rfl) ?_
          refine ga_aload_n hx hb dX1_read_63 rfl (lv_at hl 3 rfl) ?_
          obtain ⟨a_61, ea_61, hw⟩ := hw
          rewrite [ea_61]
          obtain ⟨kc_62, ks_63, hk1, hk2, hw⟩ := hw
          obtain ⟨fs_64, hq, hw⟩ := hw
          refine ga_xcalli (vx_runV (As := [va_rf r_29]) (rest := []) ⟨hx, hb, hml, hown, hts⟩ (gm_X14_in l hst g a_61 r_29 h_59 kc_62 ks_63 _ _ hw) (cwV 1 hts (lw_V q3571 q3572 q3573 q172 q3574) rfl rfl rfl ⟨rfl, hdG_X14_in⟩ ⟨Nat.le_of_ble_eq_true rfl, Nat.le_of_ble_eq_true rfl⟩) (ga_preV hI hq rfl rfl) rfl rfl hl.1 rfl (ga_room (Nat.le_of_ble_eq_true rfl)) dX1_read_64 ⟨Nat.le_trans (Nat.add_le_add_left hk1 _) hbc, Nat.le_trans (Nat.add_le_add_left hk2 _) hbs⟩) hI hbc hbs hk1 hk2 (fun E_67 q_68 h_69 ce H locs cells slots hw hI hce hbc hbs => ?_) (fun r_66 h_65 H locs cells slots hw hI hbc hbs => ?_)
          · rcases hw with ⟨rfl, hw⟩ | ⟨rfl, hw⟩
            · skip
              refine ga_catch hown hts hI ([⟨21, 84, 85, 459⟩]) (⟨21, 84, 99, 25⟩) ([]) (by rw [htab]; rfl) (List.forall_mem_cons.mpr ⟨Or.inr ⟨by decide, ga_ncs hts hI q2842 (List.mem_of_getElem? (i := 8) rfl)⟩, fun _ h => absurd h List.not_mem_nil⟩) rfl (by decide) q2023 q2044 hce ?_
              refine W.eq (g2 := F0 m 99 ls [.ref q_68]) rfl ?_
              refine lv_astore_n (i := 2) (lv' := [(2, .ref q_68), (4, va_rf r_60), (0, .ref p0), (1, va_rf (some q_1)), (3, va_rf r_37)]) hx hb dX1_read_99 rfl hl (by decide) rfl (fun ls hl => ?_)
              refine lv_aload_n hx hb dX1_read_100 rfl (lv_at hl 2 rfl) ?_
              refine lv_aload_n hx hb dX1_read_101 rfl (lv_at hl 0 rfl) ?_
              obtain ⟨kc_70, ks_71, hk1, hk2, hw⟩ := hw
              obtain ⟨fs_72, hq, hw⟩ := hw
              refine ga_xcallq (vx_runV (As := [va_rf (some q_68)]) (rest := []) ⟨hx, hb, hml, hown, hts⟩ (gm_X1_kept l hst g p0 (some q_68) h_69 kc_70 ks_71 _ _ hw) (cwV 1 hts (lw_V q2083 q2085 qs10 q100 q2086) rfl rfl rfl ⟨rfl, hdG_X1_kept⟩ ⟨Nat.le_of_ble_eq_true rfl, Nat.le_of_ble_eq_true rfl⟩) (ga_preV hI hq rfl rfl) rfl rfl hl.1 rfl (ga_room (Nat.le_of_ble_eq_true rfl)) dX1_read_102 ⟨Nat.le_trans (Nat.add_le_add_left hk1 _) hbc, Nat.le_trans (Nat.add_le_add_left hk2 _) hbs⟩) hI hbc hbs hk1 hk2 (fun E_75 q_76 h_77 ce H locs cells slots hw hI hce hbc hbs => ?_) (fun r_74 h_73 H locs cells slots hw hI hbc hbs => ?_)
              · exact hw.elim
              · skip
                obtain ⟨a_78, ea_78, hw⟩ := hw
                rewrite [ea_78]
                obtain ⟨fs_79, hq, hw⟩ := hw
                refine ga_athrow (ci := 28) hx hb hI (ga_at.h hq) rfl dX1_read_105 (fun ce hce => ?_)
                exact ga_out hown hlk hI hw (by rw [htab]; exact (List.forall_mem_cons.mpr ⟨Or.inl rfl, List.forall_mem_cons.mpr ⟨Or.inl rfl, fun _ h => absurd h List.not_mem_nil⟩⟩)) hce (Nat.le_trans (Nat.le_add_right _ _) hbc) (Nat.le_trans (Nat.le_add_right _ _) hbs)
            · skip
              exact ga_out hown hlk hI hw (by rw [htab]; exact (List.forall_mem_cons.mpr ⟨Or.inr ⟨by decide, ga_ncs hts hI q2842 (List.mem_of_getElem? (i := 9) rfl)⟩, List.forall_mem_cons.mpr ⟨Or.inr ⟨by decide, ga_ncs hts hI q2023 (List.mem_of_getElem? (i := 10) rfl)⟩, fun _ h => absurd h List.not_mem_nil⟩⟩)) hce (Nat.le_trans (Nat.le_add_right _ _) hbc) (Nat.le_trans (Nat.le_add_right _ _) hbs)
          · skip
            refine lv_istore (lv' := [(5, .int r_66), (4, va_rf r_60), (0, .ref p0), (1, va_rf (some q_1)), (2, va_rf r_29), (3, va_rf r_37)]) hx hb dX1_read_67 hl (by decide) (by simp [ga_rcat, ga_cat_r, ga_cat_i, ga_cat_f, ga_cat_l, ga_cat_d]) (fun ls hl => ?_)
            refine lv_goto (tgt := 41) hx hb dX1_read_69 (by decide) ?_
            exact ih_38 _ _ _ H locs cells slots ls (Nat.lt_of_lt_of_le hw.2 (Nat.le_of_lt_succ hn_38)) hw.1 hI hbc hbs (lv_sub hl [2, 3, 4, 5] rfl)
    exact hL_38 _ _ _ _ H locs cells slots ls (Nat.lt_succ_self _) h0_38 hI hbc hbs (lv_sub hl [3, 2, 1, 0] rfl)
theorem hdG_X1_read : yX1_read.cls ≠ "java/lang/invoke/MethodHandle" ∧ yX1_read.cls ≠ "java/lang/invoke/VarHandle" ∧ (parseMethodDescriptor yX1_read.desc).map (fun d => d.parameters.length) = some 0 := by decide +kernel
def gw_X0_read (K : ga_K) (p0 : Option Nat) (p1 : Option Nat) (h : ga_H) (mc ms : Nat) (post : Int32 → ga_H → Prop) (xp : String → Nat → ga_H → Prop) : Prop :=
  ∃ a_1 : Nat, p0 = some a_1 ∧ ∃ kc_2 ks_3 : Nat, kc_2 ≤ mc ∧ ks_3 ≤ ms ∧ ∃ fs_4 : List Value, ga_at K h a_1 (ga_O 0 fs_4) ∧ gw_X1_read K a_1 h kc_2 ks_3 (fun (r_6 : Int32) (h_5 : ga_H) => ∃ a_10 : Nat, p1 = some a_10 ∧ ∃ (n_11 : Nat) (f_12 : Nat → Int64), h_5 a_10 = some (ga_Al n_11 f_12) ∧ vp_in (0 : Int32) n_11 ∧ ∀ h_13 : ga_H, h_13 = ga_set h_5 a_10 (ga_Al n_11 (vp_updL f_12 (0 : Int32).toNatClampNeg r_6.toInt64)) → (post (0 : Int32) h_13)) (fun (E_7 : String) (q_8 : Nat) (h_9 : ga_H) => (E_7 = "java/lang/IllegalArgumentException" ∧ (post (1 : Int32) h_9)) ∨ (E_7 = "java/lang/IllegalStateException" ∧ (post (2 : Int32) h_9)) ∨ (E_7 = "java/lang/UnsupportedOperationException" ∧ (post (3 : Int32) h_9)))
set_option maxHeartbeats 4000000 in
theorem gm_X0_read (l : Launch) (hst : l.stackTraces = false) (g : ga_G) (p0 : Option Nat) (p1 : Option Nat) (h : ga_H) (mc ms : Nat) (post : Int32 → ga_H → Prop) (xp : String → Nat → ga_H → Prop) (hw : gw_X0_read g.2.2 p0 p1 h mc ms post xp) : vx_Met l yX0_read (wsW_ yX0_read cX0_read 3 (some .int) [(0, 8, 11, 13), (0, 8, 14, 126), (0, 8, 17, 15)]) ({ frames := 32, cells := mc, slots := ms, locals := 1468 } : Room) (va_Pc [va_rf p0, va_rf p1] (ga_B g h)) (va_Qi post (ga_E g) (ga_A g)) (ga_X g xp) mc ms (ga_A g) := by
  refine ga_metxW (own := "PaperStoreLaw") (nm := "read") (by decide) rfl rfl (by cases p0 <;> cases p1 <;> exact Nat.le_of_ble_eq_true rfl) (fun p e s m below meth c ls hC htab hI hl => ?_)
  have hl : lv_has ls 3 [(0, va_rf p0), (1, va_rf p1)] := (by cases p0 <;> cases p1 <;> exact hl)
  generalize ([va_rf p0, va_rf p1] : List Value).toArray = args at hC ⊢
  obtain ⟨hx, hb, hml, hown, hts, hr, hlk, hnm⟩ := hC
  unfold gw_X0_read at hw
  obtain ⟨H, eH⟩ : ∃ z, z = s.heap := ⟨_, rfl⟩
  obtain ⟨locs, elo⟩ : ∃ z : List Loc, z = [] := ⟨_, rfl⟩
  rw [← eH, ← elo] at hI ⊢
  obtain ⟨cells, slots, hbc, hbs, e0, e1⟩ : ∃ a b : Nat, a + mc ≤ mc ∧ b + ms ≤ ms ∧ a = 0 ∧ b = 0 := ⟨0, 0, by omega, by omega, rfl, rfl⟩
  show W p l e ({ frames := 32, cells := mc, slots := ms, locals := 1468 } : Room) s m args below meth c H locs 0 0 (vx_MQ below (va_Qi post (ga_E g) (ga_A g)) (ga_X g xp) args s mc ms (ga_A g)) (F0 m 0 ls [])
  suffices hgoal : W p l e ({ frames := 32, cells := mc, slots := ms, locals := 1468 } : Room) s m args below meth c H locs cells slots (vx_MQ below (va_Qi post (ga_E g) (ga_A g)) (ga_X g xp) args s mc ms (ga_A g)) (F0 m 0 ls []) by rw [e0, e1] at hgoal; exact hgoal
  refine ga_aload_n hx hb dX0_read_0 rfl (lv_at hl 1 rfl) ?_
  refine lv_iconst (v := 0) hx hb dX0_read_1 (by decide) ?_
  refine ga_aload_n hx hb dX0_read_2 rfl (lv_at hl 0 rfl) ?_
  obtain ⟨a_1, ea_1, hw⟩ := hw
  rewrite [ea_1]
  obtain ⟨kc_2, ks_3, hk1, hk2, hw⟩ := hw
  obtain ⟨fs_4, hq, hw⟩ := hw
  refine ga_xcalli (vx_runVX (As := []) (rest := [.int (0 : Int32), va_rf p1]) ⟨hx, hb, hml, hown, hts⟩ (gm_X1_read l hst g a_1 h kc_2 ks_3 _ _ hw) (vx_cwVW 0 hts (lw_VW q2838 q2839 q2840 q100 q2841) rfl rfl rfl ⟨rfl, hdG_X1_read⟩ ⟨Nat.le_of_ble_eq_true rfl, Nat.le_of_ble_eq_true rfl⟩) (ga_preV hI hq rfl rfl) rfl rfl hl.1 rfl (ga_room (Nat.le_of_ble_eq_true rfl)) dX0_read_3 ⟨Nat.le_trans (Nat.add_le_add_left hk1 _) hbc, Nat.le_trans (Nat.add_le_add_left hk2 _) hbs⟩) hI hbc hbs hk1 hk2 (fun E_7 q_8 h_9 ce H locs cells slots hw hI hce hbc hbs => ?_) (fun r_6 h_5 H locs cells slots hw hI hbc hbs => ?_)
  · rcases hw with ⟨rfl, hw⟩ | ⟨rfl, hw⟩ | ⟨rfl, hw⟩
    · skip
      refine ga_catch hown hts hI ([]) (⟨0, 8, 11, 13⟩) ([⟨0, 8, 14, 126⟩, ⟨0, 8, 17, 15⟩]) (by rw [htab]; rfl) (fun _ h => absurd h List.not_mem_nil) rfl (by decide) q2017 q1054 hce ?_
      refine W.eq (g2 := F0 m 11 ls [.ref q_8]) rfl ?_
      refine lv_astore_n (i := 2) (lv' := [(2, .ref q_8), (0, va_rf p0), (1, va_rf p1)]) hx hb dX0_read_11 rfl hl (by decide) (by simp [ga_rcat, ga_cat_r, ga_cat_i, ga_cat_f, ga_cat_l, ga_cat_d]) (fun ls hl => ?_)
      refine lv_iconst (v := 1) hx hb dX0_read_12 (by decide) ?_
      exact ga_iretx hx hb hr rfl hlk hI hw (Nat.le_trans (Nat.le_add_right _ _) hbc) (Nat.le_trans (Nat.le_add_right _ _) hbs) dX0_read_13
    · skip
      refine ga_catch hown hts hI ([⟨0, 8, 11, 13⟩]) (⟨0, 8, 14, 126⟩) ([⟨0, 8, 17, 15⟩]) (by rw [htab]; rfl) (List.forall_mem_cons.mpr ⟨Or.inr ⟨by decide, ga_ncs hts hI q2017 (List.mem_of_getElem? (i := 6) rfl)⟩, fun _ h => absurd h List.not_mem_nil⟩) rfl (by decide) q2812 q2822 hce ?_
      refine W.eq (g2 := F0 m 14 ls [.ref q_8]) rfl ?_
      refine lv_astore_n (i := 2) (lv' := [(2, .ref q_8), (0, va_rf p0), (1, va_rf p1)]) hx hb dX0_read_14 rfl hl (by decide) (by simp [ga_rcat, ga_cat_r, ga_cat_i, ga_cat_f, ga_cat_l, ga_cat_d]) (fun ls hl => ?_)
      refine lv_iconst (v := 2) hx hb dX0_read_15 (by decide) ?_
      exact ga_iretx hx hb hr rfl hlk hI hw (Nat.le_trans (Nat.le_add_right _ _) hbc) (Nat.le_trans (Nat.le_add_right _ _) hbs) dX0_read_16
    · skip
      refine ga_catch hown hts hI ([⟨0, 8, 11, 13⟩, ⟨0, 8, 14, 126⟩]) (⟨0, 8, 17, 15⟩) ([]) (by rw [htab]; rfl) (List.forall_mem_cons.mpr ⟨Or.inr ⟨by decide, ga_ncs hts hI q2017 (List.mem_of_getElem? (i := 3) rfl)⟩, List.forall_mem_cons.mpr ⟨Or.inr ⟨by decide, ga_ncs hts hI q2812 (List.mem_of_getElem? (i := 7) rfl)⟩, fun _ h => absurd h List.not_mem_nil⟩⟩) rfl (by decide) q2018 q2089 hce ?_
      refine W.eq (g2 := F0 m 17 ls [.ref q_8]) rfl ?_
      refine lv_astore_n (i := 2) (lv' := [(2, .ref q_8), (0, va_rf p0), (1, va_rf p1)]) hx hb dX0_read_17 rfl hl (by decide) (by simp [ga_rcat, ga_cat_r, ga_cat_i, ga_cat_f, ga_cat_l, ga_cat_d]) (fun ls hl => ?_)
      refine lv_iconst (v := 3) hx hb dX0_read_18 (by decide) ?_
      exact ga_iretx hx hb hr rfl hlk hI hw (Nat.le_trans (Nat.le_add_right _ _) hbc) (Nat.le_trans (Nat.le_add_right _ _) hbs) dX0_read_19
  · skip
    refine lv_i2l (v := r_6.toInt64) hx hb dX0_read_6 rfl ?_
    obtain ⟨a_10, ea_10, hw⟩ := hw
    rewrite [ea_10]
    obtain ⟨n_11, f_12, hq, hi, hw⟩ := hw
    refine ga_stl hx hb hI hq hi dX0_read_7 (fun H locs hI => ?_)
    obtain ⟨h_13, eh_13⟩ : ∃ z, z = ga_set h_5 a_10 (ga_Al n_11 (vp_updL f_12 (0 : Int32).toNatClampNeg r_6.toInt64)) := ⟨_, rfl⟩
    rw [← eh_13] at hI
    have hw := hw h_13 eh_13
    refine lv_goto (tgt := 20) hx hb dX0_read_8 (by decide) ?_
    refine lv_iconst (v := 0) hx hb dX0_read_20 (by decide) ?_
    exact ga_iretx hx hb hr rfl hlk hI hw (Nat.le_trans (Nat.le_add_right _ _) hbc) (Nat.le_trans (Nat.le_add_right _ _) hbs) dX0_read_21
theorem hdG_X0_read : yX0_read.cls ≠ "java/lang/invoke/MethodHandle" ∧ yX0_read.cls ≠ "java/lang/invoke/VarHandle" ∧ (parseMethodDescriptor yX0_read.desc).map (fun d => d.parameters.length) = some 2 := by decide +kernel
def gw_X1_errorPosition_12 (K : ga_K) (post : Int32 → ga_H → Prop) (xp : String → Nat → ga_H → Prop) (p0 : Nat) (t0 : Int32) (h : ga_H) (bc bs : Nat) : Prop :=
  ∃ kc_4 ks_5 : Nat, kc_4 ≤ bc ∧ ks_5 ≤ bs ∧ gw_X1_checkElement K t0 h kc_4 ks_5 (fun (h_6 : ga_H) => ∃ (fs_10 : List Value) (v_11 : Option Nat), h_6 p0 = some (ga_O 0 fs_10) ∧ fs_10[6]? = some (va_rf v_11) ∧ (∃ a_12 : Nat, v_11 = some a_12 ∧ ∃ (fs_13 : List Value) (v_14 : Int32), h_6 a_12 = some (ga_O 11 fs_13) ∧ fs_13[6]? = some (.int v_14) ∧ (post v_14 h_6))) (fun (E_7 : String) (q_8 : Nat) (h_9 : ga_H) => xp E_7 q_8 h_9)
set_option maxHeartbeats 4000000 in
theorem gj_X1_errorPosition_12 {p : Program} {l : Launch} {e : Env} {s : State} {m : MethodId} {args : Array Value} {below : List Frame} {meth : Method} {c : Code} {mc ms : Nat} {H : Heap} {locs : List Loc} {cells slots : Nat} {ls : Array Slot} (hst : l.stackTraces = false) (htab : c.exceptionTable.toList = []) (g : ga_G) (post : Int32 → ga_H → Prop) (xp : String → Nat → ga_H → Prop) (p0 : Nat) (t0 : Int32) (h : ga_H) (bc bs : Nat) (hC : ga_Cx p s m args meth c cX1_errorPosition 1 (some .int) "PaperStore" "errorPosition") (hw : gw_X1_errorPosition_12 g.2.2 post xp p0 t0 h bc bs) (hI : ga_I g h s H locs) (hbc : cells + bc ≤ mc) (hbs : slots + bs ≤ ms) (hl : lv_has ls 1 [(0, .ref p0)]) : W p l e ({ frames := 9, cells := mc, slots := ms, locals := 160 } : Room) s m args below meth c H locs cells slots (vx_MQ below (va_Qi post (ga_E g) (ga_A g)) (ga_X g xp) args s mc ms (ga_A g)) (F0 m 12 ls [.int t0]) := by
  obtain ⟨hx, hb, hml, hown, hts, hr, hlk, hnm⟩ := hC
  unfold gw_X1_errorPosition_12 at hw
  obtain ⟨kc_4, ks_5, hk1, hk2, hw⟩ := hw
  refine ga_xcallv (vx_runS (As := [.int t0]) (rest := []) ⟨hx, hb, hml, hown, hts⟩ (gm_X1_checkElement l hst g t0 h kc_4 ks_5 _ _ hw) (va_cwS 1 hts (lw_S q2271 q2272 q100 q2273) rfl rfl rfl hdG_X1_checkElement ⟨Nat.le_of_ble_eq_true rfl, Nat.le_of_ble_eq_true rfl⟩) (ga_preS hI rfl) rfl rfl hl.1 rfl (ga_room (Nat.le_of_ble_eq_true rfl)) dX1_errorPosition_12 ⟨Nat.le_trans (Nat.add_le_add_left hk1 _) hbc, Nat.le_trans (Nat.add_le_add_left hk2 _) hbs⟩) hI hbc hbs hk1 hk2 (fun E_7 q_8 h_9 ce H locs cells slots hw hI hce hbc hbs => ?_) (fun h_6 H locs cells slots hw hI hbc hbs => ?_)
  · exact ga_out hown hlk hI hw (by rw [htab]; intro z hz; cases hz) hce (Nat.le_trans (Nat.le_add_right _ _) hbc) (Nat.le_trans (Nat.le_add_right _ _) hbs)
  · skip
    refine lv_aload_n hx hb dX1_errorPosition_15 rfl (lv_at hl 0 rfl) ?_
    obtain ⟨fs_10, v_11, hq, hv, hw⟩ := hw
    refine ga_get (ci := 0) (T := TX1) (v := va_rf v_11) hx hb hts hown hI in_X1 rfl 6 (by decide) q393 (fun _ z => z) (ga_at.h hq) hv dX1_errorPosition_16 ?_
    obtain ⟨a_12, ea_12, hw⟩ := hw
    rewrite [ea_12]
    obtain ⟨fs_13, v_14, hq, hv, hw⟩ := hw
    refine ga_getN (ci := 11) (T := TX13) (v := .int v_14) hx hb hts hown hI in_X13 rfl 6 (by decide) q3536 (fun _ z => z) (ga_at.h hq) hv dX1_errorPosition_19 ?_
    exact ga_iretx hx hb hr rfl hlk hI hw (Nat.le_trans (Nat.le_add_right _ _) hbc) (Nat.le_trans (Nat.le_add_right _ _) hbs) dX1_errorPosition_22
def gw_X1_errorPosition (K : ga_K) (p0 : Nat) (h : ga_H) (mc ms : Nat) (post : Int32 → ga_H → Prop) (xp : String → Nat → ga_H → Prop) : Prop :=
  ∃ (fs_1 : List Value) (v_2 : Option Nat), h p0 = some (ga_O 0 fs_1) ∧ fs_1[6]? = some (va_rf v_2) ∧ ((v_2 = none → (gw_X1_errorPosition_12 K post xp p0 (0 : Int32) h mc ms)) ∧ (∀ a_3 : Nat, v_2 = some a_3 → (gw_X1_errorPosition_12 K post xp p0 (1 : Int32) h mc ms)))
set_option maxHeartbeats 4000000 in
theorem gm_X1_errorPosition (l : Launch) (hst : l.stackTraces = false) (g : ga_G) (p0 : Nat) (h : ga_H) (mc ms : Nat) (post : Int32 → ga_H → Prop) (xp : String → Nat → ga_H → Prop) (hw : gw_X1_errorPosition g.2.2 p0 h mc ms post xp) : vx_Met l yX1_errorPosition (ws_ yX1_errorPosition cX1_errorPosition 1 (some .int)) ({ frames := 9, cells := mc, slots := ms, locals := 160 } : Room) (va_Pc [.ref p0] (ga_B g h)) (va_Qi post (ga_E g) (ga_A g)) (ga_X g xp) mc ms (ga_A g) := by
  refine ga_metx (own := "PaperStore") (nm := "errorPosition") (by decide) rfl rfl (by exact Nat.le_of_ble_eq_true rfl) (fun p e s m below meth c ls hC htab hI hl => ?_)
  have hl : lv_has ls 1 [(0, .ref p0)] := hl
  generalize ([.ref p0] : List Value).toArray = args at hC ⊢
  obtain ⟨hx, hb, hml, hown, hts, hr, hlk, hnm⟩ := hC
  unfold gw_X1_errorPosition at hw
  obtain ⟨H, eH⟩ : ∃ z, z = s.heap := ⟨_, rfl⟩
  obtain ⟨locs, elo⟩ : ∃ z : List Loc, z = [] := ⟨_, rfl⟩
  rw [← eH, ← elo] at hI ⊢
  obtain ⟨cells, slots, hbc, hbs, e0, e1⟩ : ∃ a b : Nat, a + mc ≤ mc ∧ b + ms ≤ ms ∧ a = 0 ∧ b = 0 := ⟨0, 0, by omega, by omega, rfl, rfl⟩
  show W p l e ({ frames := 9, cells := mc, slots := ms, locals := 160 } : Room) s m args below meth c H locs 0 0 (vx_MQ below (va_Qi post (ga_E g) (ga_A g)) (ga_X g xp) args s mc ms (ga_A g)) (F0 m 0 ls [])
  suffices hgoal : W p l e ({ frames := 9, cells := mc, slots := ms, locals := 160 } : Room) s m args below meth c H locs cells slots (vx_MQ below (va_Qi post (ga_E g) (ga_A g)) (ga_X g xp) args s mc ms (ga_A g)) (F0 m 0 ls []) by rw [e0, e1] at hgoal; exact hgoal
  refine lv_aload_n hx hb dX1_errorPosition_0 rfl (lv_at hl 0 rfl) ?_
  obtain ⟨fs_1, v_2, hq, hv, hw⟩ := hw
  refine ga_get (ci := 0) (T := TX1) (v := va_rf v_2) hx hb hts hown hI in_X1 rfl 6 (by decide) q393 (fun _ z => z) (ga_at.h hq) hv dX1_errorPosition_1 ?_
  refine ga_ifnull (tgt := 11) hx hb dX1_errorPosition_4 (by decide) (fun hc_a_3 => ?_) (fun a_3 hc_a_3 => ?_)
  · have hw := hw.1 hc_a_3
    refine lv_iconst (v := 0) hx hb dX1_errorPosition_11 (by decide) ?_
    exact gj_X1_errorPosition_12 hst htab g post xp p0 (0 : Int32) h mc ms ⟨hx, hb, hml, hown, hts, hr, hlk, hnm⟩ hw hI hbc hbs (lv_sub hl [0] rfl)
  · have hw := hw.2 a_3 hc_a_3
    skip
    refine lv_iconst (v := 1) hx hb dX1_errorPosition_7 (by decide) ?_
    refine lv_goto (tgt := 12) hx hb dX1_errorPosition_8 (by decide) ?_
    exact gj_X1_errorPosition_12 hst htab g post xp p0 (1 : Int32) h mc ms ⟨hx, hb, hml, hown, hts, hr, hlk, hnm⟩ hw hI hbc hbs (lv_sub hl [0] rfl)
theorem hdG_X1_errorPosition : yX1_errorPosition.cls ≠ "java/lang/invoke/MethodHandle" ∧ yX1_errorPosition.cls ≠ "java/lang/invoke/VarHandle" ∧ (parseMethodDescriptor yX1_errorPosition.desc).map (fun d => d.parameters.length) = some 0 := by decide +kernel
def gw_X0_errorPosition (K : ga_K) (p0 : Option Nat) (p1 : Option Nat) (h : ga_H) (mc ms : Nat) (post : Int32 → ga_H → Prop) (xp : String → Nat → ga_H → Prop) : Prop :=
  ∃ a_1 : Nat, p0 = some a_1 ∧ ∃ kc_2 ks_3 : Nat, kc_2 ≤ mc ∧ ks_3 ≤ ms ∧ ∃ fs_4 : List Value, ga_at K h a_1 (ga_O 0 fs_4) ∧ gw_X1_errorPosition K a_1 h kc_2 ks_3 (fun (r_6 : Int32) (h_5 : ga_H) => ∃ a_10 : Nat, p1 = some a_10 ∧ ∃ (n_11 : Nat) (f_12 : Nat → Int64), h_5 a_10 = some (ga_Al n_11 f_12) ∧ vp_in (0 : Int32) n_11 ∧ ∀ h_13 : ga_H, h_13 = ga_set h_5 a_10 (ga_Al n_11 (vp_updL f_12 (0 : Int32).toNatClampNeg r_6.toInt64)) → (post (0 : Int32) h_13)) (fun (E_7 : String) (q_8 : Nat) (h_9 : ga_H) => (E_7 = "java/util/NoSuchElementException" ∧ (post (1 : Int32) h_9)))
set_option maxHeartbeats 4000000 in
theorem gm_X0_errorPosition (l : Launch) (hst : l.stackTraces = false) (g : ga_G) (p0 : Option Nat) (p1 : Option Nat) (h : ga_H) (mc ms : Nat) (post : Int32 → ga_H → Prop) (xp : String → Nat → ga_H → Prop) (hw : gw_X0_errorPosition g.2.2 p0 p1 h mc ms post xp) : vx_Met l yX0_errorPosition (wsW_ yX0_errorPosition cX0_errorPosition 3 (some .int) [(0, 8, 11, 37)]) ({ frames := 10, cells := mc, slots := ms, locals := 180 } : Room) (va_Pc [va_rf p0, va_rf p1] (ga_B g h)) (va_Qi post (ga_E g) (ga_A g)) (ga_X g xp) mc ms (ga_A g) := by
  refine ga_metxW (own := "PaperStoreLaw") (nm := "errorPosition") (by decide) rfl rfl (by cases p0 <;> cases p1 <;> exact Nat.le_of_ble_eq_true rfl) (fun p e s m below meth c ls hC htab hI hl => ?_)
  have hl : lv_has ls 3 [(0, va_rf p0), (1, va_rf p1)] := (by cases p0 <;> cases p1 <;> exact hl)
  generalize ([va_rf p0, va_rf p1] : List Value).toArray = args at hC ⊢
  obtain ⟨hx, hb, hml, hown, hts, hr, hlk, hnm⟩ := hC
  unfold gw_X0_errorPosition at hw
  obtain ⟨H, eH⟩ : ∃ z, z = s.heap := ⟨_, rfl⟩
  obtain ⟨locs, elo⟩ : ∃ z : List Loc, z = [] := ⟨_, rfl⟩
  rw [← eH, ← elo] at hI ⊢
  obtain ⟨cells, slots, hbc, hbs, e0, e1⟩ : ∃ a b : Nat, a + mc ≤ mc ∧ b + ms ≤ ms ∧ a = 0 ∧ b = 0 := ⟨0, 0, by omega, by omega, rfl, rfl⟩
  show W p l e ({ frames := 10, cells := mc, slots := ms, locals := 180 } : Room) s m args below meth c H locs 0 0 (vx_MQ below (va_Qi post (ga_E g) (ga_A g)) (ga_X g xp) args s mc ms (ga_A g)) (F0 m 0 ls [])
  suffices hgoal : W p l e ({ frames := 10, cells := mc, slots := ms, locals := 180 } : Room) s m args below meth c H locs cells slots (vx_MQ below (va_Qi post (ga_E g) (ga_A g)) (ga_X g xp) args s mc ms (ga_A g)) (F0 m 0 ls []) by rw [e0, e1] at hgoal; exact hgoal
  refine ga_aload_n hx hb dX0_errorPosition_0 rfl (lv_at hl 1 rfl) ?_
  refine lv_iconst (v := 0) hx hb dX0_errorPosition_1 (by decide) ?_
  refine ga_aload_n hx hb dX0_errorPosition_2 rfl (lv_at hl 0 rfl) ?_
  obtain ⟨a_1, ea_1, hw⟩ := hw
  rewrite [ea_1]
  obtain ⟨kc_2, ks_3, hk1, hk2, hw⟩ := hw
  obtain ⟨fs_4, hq, hw⟩ := hw
  refine ga_xcalli (vx_runV (As := []) (rest := [.int (0 : Int32), va_rf p1]) ⟨hx, hb, hml, hown, hts⟩ (gm_X1_errorPosition l hst g a_1 h kc_2 ks_3 _ _ hw) (cwV 0 hts (lw_V q3597 q3598 q3599 q100 q3600) rfl rfl rfl ⟨rfl, hdG_X1_errorPosition⟩ ⟨Nat.le_of_ble_eq_true rfl, Nat.le_of_ble_eq_true rfl⟩) (ga_preV hI hq rfl rfl) rfl rfl hl.1 rfl (ga_room (Nat.le_of_ble_eq_true rfl)) dX0_errorPosition_3 ⟨Nat.le_trans (Nat.add_le_add_left hk1 _) hbc, Nat.le_trans (Nat.add_le_add_left hk2 _) hbs⟩) hI hbc hbs hk1 hk2 (fun E_7 q_8 h_9 ce H locs cells slots hw hI hce hbc hbs => ?_) (fun r_6 h_5 H locs cells slots hw hI hbc hbs => ?_)
  · obtain ⟨rfl, hw⟩ := hw
    refine ga_catch hown hts hI ([]) (⟨0, 8, 11, 37⟩) ([]) (by rw [htab]; rfl) (fun _ h => absurd h List.not_mem_nil) rfl (by decide) q2256 q732 hce ?_
    refine W.eq (g2 := F0 m 11 ls [.ref q_8]) rfl ?_
    refine lv_astore_n (i := 2) (lv' := [(2, .ref q_8), (0, va_rf p0), (1, va_rf p1)]) hx hb dX0_errorPosition_11 rfl hl (by decide) (by simp [ga_rcat, ga_cat_r, ga_cat_i, ga_cat_f, ga_cat_l, ga_cat_d]) (fun ls hl => ?_)
    refine lv_iconst (v := 1) hx hb dX0_errorPosition_12 (by decide) ?_
    exact ga_iretx hx hb hr rfl hlk hI hw (Nat.le_trans (Nat.le_add_right _ _) hbc) (Nat.le_trans (Nat.le_add_right _ _) hbs) dX0_errorPosition_13
  · skip
    refine lv_i2l (v := r_6.toInt64) hx hb dX0_errorPosition_6 rfl ?_
    obtain ⟨a_10, ea_10, hw⟩ := hw
    rewrite [ea_10]
    obtain ⟨n_11, f_12, hq, hi, hw⟩ := hw
    refine ga_stl hx hb hI hq hi dX0_errorPosition_7 (fun H locs hI => ?_)
    obtain ⟨h_13, eh_13⟩ : ∃ z, z = ga_set h_5 a_10 (ga_Al n_11 (vp_updL f_12 (0 : Int32).toNatClampNeg r_6.toInt64)) := ⟨_, rfl⟩
    rw [← eh_13] at hI
    have hw := hw h_13 eh_13
    refine lv_goto (tgt := 14) hx hb dX0_errorPosition_8 (by decide) ?_
    refine lv_iconst (v := 0) hx hb dX0_errorPosition_14 (by decide) ?_
    exact ga_iretx hx hb hr rfl hlk hI hw (Nat.le_trans (Nat.le_add_right _ _) hbc) (Nat.le_trans (Nat.le_add_right _ _) hbs) dX0_errorPosition_15
theorem hdG_X0_errorPosition : yX0_errorPosition.cls ≠ "java/lang/invoke/MethodHandle" ∧ yX0_errorPosition.cls ≠ "java/lang/invoke/VarHandle" ∧ (parseMethodDescriptor yX0_errorPosition.desc).map (fun d => d.parameters.length) = some 2 := by decide +kernel
def gw_X1_reason_12 (K : ga_K) (post : Int32 → ga_H → Prop) (xp : String → Nat → ga_H → Prop) (p0 : Nat) (t0 : Int32) (v1 : Int32) (h : ga_H) (bc bs : Nat) : Prop :=
  ∃ kc_4 ks_5 : Nat, kc_4 ≤ bc ∧ ks_5 ≤ bs ∧ gw_X1_checkElement K t0 h kc_4 ks_5 (fun (h_6 : ga_H) => (v1 = (0 : Int32) → (∃ (fs_11 : List Value) (v_12 : Option Nat), h_6 p0 = some (ga_O 0 fs_11) ∧ fs_11[7]? = some (va_rf v_12) ∧ (∃ a_13 : Nat, v_12 = some a_13 ∧ ∃ (fs_14 : List Value) (v_15 : Int32), h_6 a_13 = some (ga_O 8 fs_14) ∧ fs_14[6]? = some (.int v_15) ∧ (post v_15 h_6)))) ∧ (¬ v1 = (0 : Int32) → (∃ (fs_16 : List Value) (v_17 : Option Nat), h_6 p0 = some (ga_O 0 fs_16) ∧ fs_16[7]? = some (va_rf v_17) ∧ (∃ a_18 : Nat, v_17 = some a_18 ∧ ∃ (fs_19 : List Value) (v_20 : Int32), h_6 a_18 = some (ga_O 8 fs_19) ∧ fs_19[7]? = some (.int v_20) ∧ (post v_20 h_6))))) (fun (E_7 : String) (q_8 : Nat) (h_9 : ga_H) => xp E_7 q_8 h_9)
set_option maxHeartbeats 4000000 in
theorem gj_X1_reason_12 {p : Program} {l : Launch} {e : Env} {s : State} {m : MethodId} {args : Array Value} {below : List Frame} {meth : Method} {c : Code} {mc ms : Nat} {H : Heap} {locs : List Loc} {cells slots : Nat} {ls : Array Slot} (hst : l.stackTraces = false) (htab : c.exceptionTable.toList = []) (g : ga_G) (post : Int32 → ga_H → Prop) (xp : String → Nat → ga_H → Prop) (p0 : Nat) (t0 : Int32) (v1 : Int32) (h : ga_H) (bc bs : Nat) (hC : ga_Cx p s m args meth c cX1_reason 2 (some .int) "PaperStore" "reason") (hw : gw_X1_reason_12 g.2.2 post xp p0 t0 v1 h bc bs) (hI : ga_I g h s H locs) (hbc : cells + bc ≤ mc) (hbs : slots + bs ≤ ms) (hl : lv_has ls 2 [(0, .ref p0), (1, .int v1)]) : W p l e ({ frames := 9, cells := mc, slots := ms, locals := 160 } : Room) s m args below meth c H locs cells slots (vx_MQ below (va_Qi post (ga_E g) (ga_A g)) (ga_X g xp) args s mc ms (ga_A g)) (F0 m 12 ls [.int t0]) := by
  obtain ⟨hx, hb, hml, hown, hts, hr, hlk, hnm⟩ := hC
  unfold gw_X1_reason_12 at hw
  obtain ⟨kc_4, ks_5, hk1, hk2, hw⟩ := hw
  refine ga_xcallv (vx_runS (As := [.int t0]) (rest := []) ⟨hx, hb, hml, hown, hts⟩ (gm_X1_checkElement l hst g t0 h kc_4 ks_5 _ _ hw) (va_cwS 1 hts (lw_S q2271 q2272 q100 q2273) rfl rfl rfl hdG_X1_checkElement ⟨Nat.le_of_ble_eq_true rfl, Nat.le_of_ble_eq_true rfl⟩) (ga_preS hI rfl) rfl rfl hl.1 rfl (ga_room (Nat.le_of_ble_eq_true rfl)) dX1_reason_12 ⟨Nat.le_trans (Nat.add_le_add_left hk1 _) hbc, Nat.le_trans (Nat.add_le_add_left hk2 _) hbs⟩) hI hbc hbs hk1 hk2 (fun E_7 q_8 h_9 ce H locs cells slots hw hI hce hbc hbs => ?_) (fun h_6 H locs cells slots hw hI hbc hbs => ?_)
  · exact ga_out hown hlk hI hw (by rw [htab]; intro z hz; cases hz) hce (Nat.le_trans (Nat.le_add_right _ _) hbc) (Nat.le_trans (Nat.le_add_right _ _) hbs)
  · skip
    refine lv_iload_n hx hb dX1_reason_15 rfl (lv_at hl 1 rfl) ?_
    refine lv_if_eq (tgt := 29) hx hb dX1_reason_16 (by decide) (fun hc_10 => ?_) (fun hc_10 => ?_)
    · have hw := hw.1 hc_10
      refine lv_aload_n hx hb dX1_reason_29 rfl (lv_at hl 0 rfl) ?_
      obtain ⟨fs_11, v_12, hq, hv, hw⟩ := hw
      refine ga_get (ci := 0) (T := TX1) (v := va_rf v_12) hx hb hts hown hI in_X1 rfl 7 (by decide) q394 (fun _ z => z) (ga_at.h hq) hv dX1_reason_30 ?_
      obtain ⟨a_13, ea_13, hw⟩ := hw
      rewrite [ea_13]
      obtain ⟨fs_14, v_15, hq, hv, hw⟩ := hw
      refine ga_getN (ci := 8) (T := TX10) (v := .int v_15) hx hb hts hown hI in_X10 rfl 6 (by decide) q2056 (fun _ z => z) (ga_at.h hq) hv dX1_reason_33 ?_
      exact ga_iretx hx hb hr rfl hlk hI hw (Nat.le_trans (Nat.le_add_right _ _) hbc) (Nat.le_trans (Nat.le_add_right _ _) hbs) dX1_reason_36
    · have hw := hw.2 hc_10
      refine lv_aload_n hx hb dX1_reason_19 rfl (lv_at hl 0 rfl) ?_
      obtain ⟨fs_16, v_17, hq, hv, hw⟩ := hw
      refine ga_get (ci := 0) (T := TX1) (v := va_rf v_17) hx hb hts hown hI in_X1 rfl 7 (by decide) q394 (fun _ z => z) (ga_at.h hq) hv dX1_reason_20 ?_
      obtain ⟨a_18, ea_18, hw⟩ := hw
      rewrite [ea_18]
      obtain ⟨fs_19, v_20, hq, hv, hw⟩ := hw
      refine ga_getN (ci := 8) (T := TX10) (v := .int v_20) hx hb hts hown hI in_X10 rfl 7 (by decide) q2058 (fun _ z => z) (ga_at.h hq) hv dX1_reason_23 ?_
      refine lv_goto (tgt := 36) hx hb dX1_reason_26 (by decide) ?_
      exact ga_iretx hx hb hr rfl hlk hI hw (Nat.le_trans (Nat.le_add_right _ _) hbc) (Nat.le_trans (Nat.le_add_right _ _) hbs) dX1_reason_36
def gw_X1_reason (K : ga_K) (p0 : Nat) (p1 : Int32) (h : ga_H) (mc ms : Nat) (post : Int32 → ga_H → Prop) (xp : String → Nat → ga_H → Prop) : Prop :=
  ∃ (fs_1 : List Value) (v_2 : Option Nat), h p0 = some (ga_O 0 fs_1) ∧ fs_1[7]? = some (va_rf v_2) ∧ ((v_2 = none → (gw_X1_reason_12 K post xp p0 (0 : Int32) p1 h mc ms)) ∧ (∀ a_3 : Nat, v_2 = some a_3 → (gw_X1_reason_12 K post xp p0 (1 : Int32) p1 h mc ms)))
set_option maxHeartbeats 4000000 in
theorem gm_X1_reason (l : Launch) (hst : l.stackTraces = false) (g : ga_G) (p0 : Nat) (p1 : Int32) (h : ga_H) (mc ms : Nat) (post : Int32 → ga_H → Prop) (xp : String → Nat → ga_H → Prop) (hw : gw_X1_reason g.2.2 p0 p1 h mc ms post xp) : vx_Met l yX1_reason (ws_ yX1_reason cX1_reason 2 (some .int)) ({ frames := 9, cells := mc, slots := ms, locals := 160 } : Room) (va_Pc [.ref p0, .int p1] (ga_B g h)) (va_Qi post (ga_E g) (ga_A g)) (ga_X g xp) mc ms (ga_A g) := by
  refine ga_metx (own := "PaperStore") (nm := "reason") (by decide) rfl rfl (by exact Nat.le_of_ble_eq_true rfl) (fun p e s m below meth c ls hC htab hI hl => ?_)
  have hl : lv_has ls 2 [(0, .ref p0), (1, .int p1)] := hl
  generalize ([.ref p0, .int p1] : List Value).toArray = args at hC ⊢
  obtain ⟨hx, hb, hml, hown, hts, hr, hlk, hnm⟩ := hC
  unfold gw_X1_reason at hw
  obtain ⟨H, eH⟩ : ∃ z, z = s.heap := ⟨_, rfl⟩
  obtain ⟨locs, elo⟩ : ∃ z : List Loc, z = [] := ⟨_, rfl⟩
  rw [← eH, ← elo] at hI ⊢
  obtain ⟨cells, slots, hbc, hbs, e0, e1⟩ : ∃ a b : Nat, a + mc ≤ mc ∧ b + ms ≤ ms ∧ a = 0 ∧ b = 0 := ⟨0, 0, by omega, by omega, rfl, rfl⟩
  show W p l e ({ frames := 9, cells := mc, slots := ms, locals := 160 } : Room) s m args below meth c H locs 0 0 (vx_MQ below (va_Qi post (ga_E g) (ga_A g)) (ga_X g xp) args s mc ms (ga_A g)) (F0 m 0 ls [])
  suffices hgoal : W p l e ({ frames := 9, cells := mc, slots := ms, locals := 160 } : Room) s m args below meth c H locs cells slots (vx_MQ below (va_Qi post (ga_E g) (ga_A g)) (ga_X g xp) args s mc ms (ga_A g)) (F0 m 0 ls []) by rw [e0, e1] at hgoal; exact hgoal
  refine lv_aload_n hx hb dX1_reason_0 rfl (lv_at hl 0 rfl) ?_
  obtain ⟨fs_1, v_2, hq, hv, hw⟩ := hw
  refine ga_get (ci := 0) (T := TX1) (v := va_rf v_2) hx hb hts hown hI in_X1 rfl 7 (by decide) q394 (fun _ z => z) (ga_at.h hq) hv dX1_reason_1 ?_
  refine ga_ifnull (tgt := 11) hx hb dX1_reason_4 (by decide) (fun hc_a_3 => ?_) (fun a_3 hc_a_3 => ?_)
  · have hw := hw.1 hc_a_3
    refine lv_iconst (v := 0) hx hb dX1_reason_11 (by decide) ?_
    exact gj_X1_reason_12 hst htab g post xp p0 (0 : Int32) p1 h mc ms ⟨hx, hb, hml, hown, hts, hr, hlk, hnm⟩ hw hI hbc hbs (lv_sub hl [0, 1] rfl)
  · have hw := hw.2 a_3 hc_a_3
    skip
    refine lv_iconst (v := 1) hx hb dX1_reason_7 (by decide) ?_
    refine lv_goto (tgt := 12) hx hb dX1_reason_8 (by decide) ?_
    exact gj_X1_reason_12 hst htab g post xp p0 (1 : Int32) p1 h mc ms ⟨hx, hb, hml, hown, hts, hr, hlk, hnm⟩ hw hI hbc hbs (lv_sub hl [0, 1] rfl)
theorem hdG_X1_reason : yX1_reason.cls ≠ "java/lang/invoke/MethodHandle" ∧ yX1_reason.cls ≠ "java/lang/invoke/VarHandle" ∧ (parseMethodDescriptor yX1_reason.desc).map (fun d => d.parameters.length) = some 1 := by decide +kernel
def gw_X0_reason (K : ga_K) (p0 : Option Nat) (p1 : Int32) (p2 : Option Nat) (h : ga_H) (mc ms : Nat) (post : Int32 → ga_H → Prop) (xp : String → Nat → ga_H → Prop) : Prop :=
  ∃ a_1 : Nat, p0 = some a_1 ∧ ∃ kc_2 ks_3 : Nat, kc_2 ≤ mc ∧ ks_3 ≤ ms ∧ ∃ fs_4 : List Value, ga_at K h a_1 (ga_O 0 fs_4) ∧ gw_X1_reason K a_1 p1 h kc_2 ks_3 (fun (r_6 : Int32) (h_5 : ga_H) => ∃ a_10 : Nat, p2 = some a_10 ∧ ∃ (n_11 : Nat) (f_12 : Nat → Int64), h_5 a_10 = some (ga_Al n_11 f_12) ∧ vp_in (0 : Int32) n_11 ∧ ∀ h_13 : ga_H, h_13 = ga_set h_5 a_10 (ga_Al n_11 (vp_updL f_12 (0 : Int32).toNatClampNeg r_6.toInt64)) → (post (0 : Int32) h_13)) (fun (E_7 : String) (q_8 : Nat) (h_9 : ga_H) => (E_7 = "java/util/NoSuchElementException" ∧ (post (1 : Int32) h_9)))
set_option maxHeartbeats 4000000 in
theorem gm_X0_reason (l : Launch) (hst : l.stackTraces = false) (g : ga_G) (p0 : Option Nat) (p1 : Int32) (p2 : Option Nat) (h : ga_H) (mc ms : Nat) (post : Int32 → ga_H → Prop) (xp : String → Nat → ga_H → Prop) (hw : gw_X0_reason g.2.2 p0 p1 p2 h mc ms post xp) : vx_Met l yX0_reason (wsW_ yX0_reason cX0_reason 4 (some .int) [(0, 9, 12, 37)]) ({ frames := 10, cells := mc, slots := ms, locals := 181 } : Room) (va_Pc [va_rf p0, .int p1, va_rf p2] (ga_B g h)) (va_Qi post (ga_E g) (ga_A g)) (ga_X g xp) mc ms (ga_A g) := by
  refine ga_metxW (own := "PaperStoreLaw") (nm := "reason") (by decide) rfl rfl (by cases p0 <;> cases p2 <;> exact Nat.le_of_ble_eq_true rfl) (fun p e s m below meth c ls hC htab hI hl => ?_)
  have hl : lv_has ls 4 [(0, va_rf p0), (1, .int p1), (2, va_rf p2)] := (by cases p0 <;> cases p2 <;> exact hl)
  generalize ([va_rf p0, .int p1, va_rf p2] : List Value).toArray = args at hC ⊢
  obtain ⟨hx, hb, hml, hown, hts, hr, hlk, hnm⟩ := hC
  unfold gw_X0_reason at hw
  obtain ⟨H, eH⟩ : ∃ z, z = s.heap := ⟨_, rfl⟩
  obtain ⟨locs, elo⟩ : ∃ z : List Loc, z = [] := ⟨_, rfl⟩
  rw [← eH, ← elo] at hI ⊢
  obtain ⟨cells, slots, hbc, hbs, e0, e1⟩ : ∃ a b : Nat, a + mc ≤ mc ∧ b + ms ≤ ms ∧ a = 0 ∧ b = 0 := ⟨0, 0, by omega, by omega, rfl, rfl⟩
  show W p l e ({ frames := 10, cells := mc, slots := ms, locals := 181 } : Room) s m args below meth c H locs 0 0 (vx_MQ below (va_Qi post (ga_E g) (ga_A g)) (ga_X g xp) args s mc ms (ga_A g)) (F0 m 0 ls [])
  suffices hgoal : W p l e ({ frames := 10, cells := mc, slots := ms, locals := 181 } : Room) s m args below meth c H locs cells slots (vx_MQ below (va_Qi post (ga_E g) (ga_A g)) (ga_X g xp) args s mc ms (ga_A g)) (F0 m 0 ls []) by rw [e0, e1] at hgoal; exact hgoal
  refine ga_aload_n hx hb dX0_reason_0 rfl (lv_at hl 2 rfl) ?_
  refine lv_iconst (v := 0) hx hb dX0_reason_1 (by decide) ?_
  refine ga_aload_n hx hb dX0_reason_2 rfl (lv_at hl 0 rfl) ?_
  refine lv_iload_n hx hb dX0_reason_3 rfl (lv_at hl 1 rfl) ?_
  obtain ⟨a_1, ea_1, hw⟩ := hw
  rewrite [ea_1]
  obtain ⟨kc_2, ks_3, hk1, hk2, hw⟩ := hw
  obtain ⟨fs_4, hq, hw⟩ := hw
  refine ga_xcalli (vx_runV (As := [.int p1]) (rest := [.int (0 : Int32), va_rf p2]) ⟨hx, hb, hml, hown, hts⟩ (gm_X1_reason l hst g a_1 p1 h kc_2 ks_3 _ _ hw) (cwV 1 hts (lw_V q3604 q3605 q3606 q100 q3607) rfl rfl rfl ⟨rfl, hdG_X1_reason⟩ ⟨Nat.le_of_ble_eq_true rfl, Nat.le_of_ble_eq_true rfl⟩) (ga_preV hI hq rfl rfl) rfl rfl hl.1 rfl (ga_room (Nat.le_of_ble_eq_true rfl)) dX0_reason_4 ⟨Nat.le_trans (Nat.add_le_add_left hk1 _) hbc, Nat.le_trans (Nat.add_le_add_left hk2 _) hbs⟩) hI hbc hbs hk1 hk2 (fun E_7 q_8 h_9 ce H locs cells slots hw hI hce hbc hbs => ?_) (fun r_6 h_5 H locs cells slots hw hI hbc hbs => ?_)
  · obtain ⟨rfl, hw⟩ := hw
    refine ga_catch hown hts hI ([]) (⟨0, 9, 12, 37⟩) ([]) (by rw [htab]; rfl) (fun _ h => absurd h List.not_mem_nil) rfl (by decide) q2256 q732 hce ?_
    refine W.eq (g2 := F0 m 12 ls [.ref q_8]) rfl ?_
    refine lv_astore_n (i := 3) (lv' := [(3, .ref q_8), (0, va_rf p0), (1, .int p1), (2, va_rf p2)]) hx hb dX0_reason_12 rfl hl (by decide) (by simp [ga_rcat, ga_cat_r, ga_cat_i, ga_cat_f, ga_cat_l, ga_cat_d]) (fun ls hl => ?_)
    refine lv_iconst (v := 1) hx hb dX0_reason_13 (by decide) ?_
    exact ga_iretx hx hb hr rfl hlk hI hw (Nat.le_trans (Nat.le_add_right _ _) hbc) (Nat.le_trans (Nat.le_add_right _ _) hbs) dX0_reason_14
  · skip
    refine lv_i2l (v := r_6.toInt64) hx hb dX0_reason_7 rfl ?_
    obtain ⟨a_10, ea_10, hw⟩ := hw
    rewrite [ea_10]
    obtain ⟨n_11, f_12, hq, hi, hw⟩ := hw
    refine ga_stl hx hb hI hq hi dX0_reason_8 (fun H locs hI => ?_)
    obtain ⟨h_13, eh_13⟩ : ∃ z, z = ga_set h_5 a_10 (ga_Al n_11 (vp_updL f_12 (0 : Int32).toNatClampNeg r_6.toInt64)) := ⟨_, rfl⟩
    rw [← eh_13] at hI
    have hw := hw h_13 eh_13
    refine lv_goto (tgt := 15) hx hb dX0_reason_9 (by decide) ?_
    refine lv_iconst (v := 0) hx hb dX0_reason_15 (by decide) ?_
    exact ga_iretx hx hb hr rfl hlk hI hw (Nat.le_trans (Nat.le_add_right _ _) hbc) (Nat.le_trans (Nat.le_add_right _ _) hbs) dX0_reason_16
theorem hdG_X0_reason : yX0_reason.cls ≠ "java/lang/invoke/MethodHandle" ∧ yX0_reason.cls ≠ "java/lang/invoke/VarHandle" ∧ (parseMethodDescriptor yX0_reason.desc).map (fun d => d.parameters.length) = some 3 := by decide +kernel
def gw_X1_undo_15 (K : ga_K) (post : Int32 → ga_H → Prop) (xp : String → Nat → ga_H → Prop) (p0 : Nat) (t0 : Int32) (h : ga_H) (bc bs : Nat) : Prop :=
  ∃ kc_8 ks_9 : Nat, kc_8 ≤ bc ∧ ks_9 ≤ bs ∧ gw_X1_checkElement K t0 h kc_8 ks_9 (fun (h_10 : ga_H) => ∃ (fs_14 : List Value) (v_15 : Option Nat), h_10 p0 = some (ga_O 0 fs_14) ∧ fs_14[2]? = some (va_rf v_15) ∧ (∃ (fs_16 : List Value) (v_17 : Option Nat), h_10 p0 = some (ga_O 0 fs_16) ∧ fs_16[2]? = some (va_rf v_17) ∧ (∃ a_18 : Nat, v_17 = some a_18 ∧ ∃ fs_19 : List Value, ga_at K h_10 a_18 (ga_O 13 fs_19) ∧ gw_J2_size K a_18 h_10 (fun (r_21 : Int32) (h_20 : ga_H) => ∃ a_22 : Nat, v_15 = some a_22 ∧ ∃ fs_23 : List Value, ga_at K h_20 a_22 (ga_O 13 fs_23) ∧ gw_J2_remove K a_22 (r_21 - (1 : Int32)) h_20 (fun (r_25 : Option Nat) (h_24 : ga_H) => ga_ok K h_24 "PaperStore$Store" r_25 ∧ (∃ fs_26 : List Value, h_24 p0 = some (ga_O 0 fs_26) ∧ 0 < fs_26.length ∧ ∀ h_27 : ga_H, h_27 = ga_set h_24 p0 (ga_O 0 (fs_26.set 0 (va_rf r_25))) → (∃ (fs_28 : List Value) (v_29 : Option Nat), h_27 p0 = some (ga_O 0 fs_28) ∧ fs_28[2]? = some (va_rf v_29) ∧ (∃ a_30 : Nat, v_29 = some a_30 ∧ ∃ fs_31 : List Value, ga_at K h_27 a_30 (ga_O 13 fs_31) ∧ gw_J2_size K a_30 h_27 (fun (r_33 : Int32) (h_32 : ga_H) => post r_33 h_32))))))))) (fun (E_11 : String) (q_12 : Nat) (h_13 : ga_H) => xp E_11 q_12 h_13)
set_option maxHeartbeats 4000000 in
theorem gj_X1_undo_15 {p : Program} {l : Launch} {e : Env} {s : State} {m : MethodId} {args : Array Value} {below : List Frame} {meth : Method} {c : Code} {mc ms : Nat} {H : Heap} {locs : List Loc} {cells slots : Nat} {ls : Array Slot} (hst : l.stackTraces = false) (htab : c.exceptionTable.toList = []) (g : ga_G) (post : Int32 → ga_H → Prop) (xp : String → Nat → ga_H → Prop) (p0 : Nat) (t0 : Int32) (h : ga_H) (bc bs : Nat) (hC : ga_Cx p s m args meth c cX1_undo 1 (some .int) "PaperStore" "undo") (hw : gw_X1_undo_15 g.2.2 post xp p0 t0 h bc bs) (hI : ga_I g h s H locs) (hbc : cells + bc ≤ mc) (hbs : slots + bs ≤ ms) (hl : lv_has ls 1 [(0, .ref p0)]) : W p l e ({ frames := 11, cells := mc, slots := ms, locals := 206 } : Room) s m args below meth c H locs cells slots (vx_MQ below (va_Qi post (ga_E g) (ga_A g)) (ga_X g xp) args s mc ms (ga_A g)) (F0 m 15 ls [.int t0]) := by
  obtain ⟨hx, hb, hml, hown, hts, hr, hlk, hnm⟩ := hC
  unfold gw_X1_undo_15 at hw
  obtain ⟨kc_8, ks_9, hk1, hk2, hw⟩ := hw
  refine ga_xcallv (vx_runS (As := [.int t0]) (rest := []) ⟨hx, hb, hml, hown, hts⟩ (gm_X1_checkElement l hst g t0 h kc_8 ks_9 _ _ hw) (va_cwS 1 hts (lw_S q2271 q2272 q100 q2273) rfl rfl rfl hdG_X1_checkElement ⟨Nat.le_of_ble_eq_true rfl, Nat.le_of_ble_eq_true rfl⟩) (ga_preS hI rfl) rfl rfl hl.1 rfl (ga_room (Nat.le_of_ble_eq_true rfl)) dX1_undo_15 ⟨Nat.le_trans (Nat.add_le_add_left hk1 _) hbc, Nat.le_trans (Nat.add_le_add_left hk2 _) hbs⟩) hI hbc hbs hk1 hk2 (fun E_11 q_12 h_13 ce H locs cells slots hw hI hce hbc hbs => ?_) (fun h_10 H locs cells slots hw hI hbc hbs => ?_)
  · exact ga_out hown hlk hI hw (by rw [htab]; intro z hz; cases hz) hce (Nat.le_trans (Nat.le_add_right _ _) hbc) (Nat.le_trans (Nat.le_add_right _ _) hbs)
  · skip
    refine lv_aload_n hx hb dX1_undo_18 rfl (lv_at hl 0 rfl) ?_
    refine lv_aload_n hx hb dX1_undo_19 rfl (lv_at hl 0 rfl) ?_
    obtain ⟨fs_14, v_15, hq, hv, hw⟩ := hw
    refine ga_get (ci := 0) (T := TX1) (v := va_rf v_15) hx hb hts hown hI in_X1 rfl 2 (by decide) q389 (fun _ z => z) (ga_at.h hq) hv dX1_undo_20 ?_
    refine lv_aload_n hx hb dX1_undo_23 rfl (lv_at hl 0 rfl) ?_
    obtain ⟨fs_16, v_17, hq, hv, hw⟩ := hw
    refine ga_get (ci := 0) (T := TX1) (v := va_rf v_17) hx hb hts hown hI in_X1 rfl 2 (by decide) q389 (fun _ z => z) (ga_at.h hq) hv dX1_undo_24 ?_
    obtain ⟨a_18, ea_18, hw⟩ := hw
    rewrite [ea_18]
    obtain ⟨fs_19, hq, hw⟩ := hw
    refine ga_calli (va_runV (As := []) (rest := [va_rf v_15, .ref p0]) ⟨hx, hb, hml, hown, hts⟩ (gm_J2_size l g a_18 h_10 _ hw) (cwV 0 hts (lw_V q1240 q536 q4117 q104 q537) rfl rfl rfl ⟨rfl, hdG_J2_size⟩ ⟨Nat.le_of_ble_eq_true rfl, Nat.le_of_ble_eq_true rfl⟩) (ga_preV hI hq rfl rfl) rfl rfl hl.1 rfl (ga_room (Nat.le_of_ble_eq_true rfl)) dX1_undo_27 ⟨Nat.le_trans (Nat.add_le_add_left (Nat.zero_le _) _) hbc, Nat.le_trans (Nat.add_le_add_left (Nat.zero_le _) _) hbs⟩) hI hbc hbs (Nat.zero_le _) (Nat.zero_le _) (fun r_21 h_20 H locs cells slots hw hI hbc hbs => ?_)
    refine lv_iconst (v := 1) hx hb dX1_undo_30 (by decide) ?_
    refine lv_isub hx hb dX1_undo_31 ?_
    obtain ⟨a_22, ea_22, hw⟩ := hw
    rewrite [ea_22]
    obtain ⟨fs_23, hq, hw⟩ := hw
    refine ga_callq (va_runV (As := [.int (r_21 - (1 : Int32))]) (rest := [.ref p0]) ⟨hx, hb, hml, hown, hts⟩ (gm_J2_remove l g a_22 (r_21 - (1 : Int32)) h_20 _ hw) (cwV 1 hts (lw_V q2074 q2075 q2076 q104 q2077) rfl rfl rfl ⟨rfl, hdG_J2_remove⟩ ⟨Nat.le_of_ble_eq_true rfl, Nat.le_of_ble_eq_true rfl⟩) (ga_preV hI hq rfl rfl) rfl rfl hl.1 rfl (ga_room (Nat.le_of_ble_eq_true rfl)) dX1_undo_32 ⟨Nat.le_trans (Nat.add_le_add_left (Nat.zero_le _) _) hbc, Nat.le_trans (Nat.add_le_add_left (Nat.zero_le _) _) hbs⟩) hI hbc hbs (Nat.zero_le _) (Nat.zero_le _) (fun r_25 h_24 H locs cells slots hw hI hbc hbs => ?_)
    refine ga_cast (x := r_25) hx hb hts hown hI q181 hw.1 dX1_undo_35 ?_
    have hw := hw.2
    obtain ⟨fs_26, hq, hk, hw⟩ := hw
    refine ga_put (ci := 0) (T := TX1) (v := va_rf r_25) (ty := tyX1 0) hx hb hts hown hI in_X1 rfl tyX1 tyX1_ok nmX1 0 (by decide) q387 (fun _ z => z) rfl (tyX1_ok 0 (by decide)) (ga_nq _ _) (ga_fq _ _) hq hk dX1_undo_38 (fun H locs hI => ?_)
    obtain ⟨h_27, eh_27⟩ : ∃ z, z = ga_set h_24 p0 (ga_O 0 (fs_26.set 0 (va_rf r_25))) := ⟨_, rfl⟩
    rw [← eh_27] at hI
    have hw := hw h_27 eh_27
    refine lv_aload_n hx hb dX1_undo_41 rfl (lv_at hl 0 rfl) ?_
    obtain ⟨fs_28, v_29, hq, hv, hw⟩ := hw
    refine ga_get (ci := 0) (T := TX1) (v := va_rf v_29) hx hb hts hown hI in_X1 rfl 2 (by decide) q389 (fun _ z => z) (ga_at.h hq) hv dX1_undo_42 ?_
    obtain ⟨a_30, ea_30, hw⟩ := hw
    rewrite [ea_30]
    obtain ⟨fs_31, hq, hw⟩ := hw
    refine ga_calli (va_runV (As := []) (rest := []) ⟨hx, hb, hml, hown, hts⟩ (gm_J2_size l g a_30 h_27 _ hw) (cwV 0 hts (lw_V q1240 q536 q4117 q104 q537) rfl rfl rfl ⟨rfl, hdG_J2_size⟩ ⟨Nat.le_of_ble_eq_true rfl, Nat.le_of_ble_eq_true rfl⟩) (ga_preV hI hq rfl rfl) rfl rfl hl.1 rfl (ga_room (Nat.le_of_ble_eq_true rfl)) dX1_undo_45 ⟨Nat.le_trans (Nat.add_le_add_left (Nat.zero_le _) _) hbc, Nat.le_trans (Nat.add_le_add_left (Nat.zero_le _) _) hbs⟩) hI hbc hbs (Nat.zero_le _) (Nat.zero_le _) (fun r_33 h_32 H locs cells slots hw hI hbc hbs => ?_)
    exact ga_iretx hx hb hr rfl hlk hI hw (Nat.le_trans (Nat.le_add_right _ _) hbc) (Nat.le_trans (Nat.le_add_right _ _) hbs) dX1_undo_48
def gw_X1_undo (K : ga_K) (p0 : Nat) (h : ga_H) (mc ms : Nat) (post : Int32 → ga_H → Prop) (xp : String → Nat → ga_H → Prop) : Prop :=
  ∃ (fs_1 : List Value) (v_2 : Option Nat), h p0 = some (ga_O 0 fs_1) ∧ fs_1[2]? = some (va_rf v_2) ∧ (∃ a_3 : Nat, v_2 = some a_3 ∧ ∃ fs_4 : List Value, ga_at K h a_3 (ga_O 13 fs_4) ∧ gw_J2_size K a_3 h (fun (r_6 : Int32) (h_5 : ga_H) => (r_6 ≤ (0 : Int32) → (gw_X1_undo_15 K post xp p0 (0 : Int32) h_5 mc ms)) ∧ (¬ r_6 ≤ (0 : Int32) → (gw_X1_undo_15 K post xp p0 (1 : Int32) h_5 mc ms))))
set_option maxHeartbeats 4000000 in
theorem gm_X1_undo (l : Launch) (hst : l.stackTraces = false) (g : ga_G) (p0 : Nat) (h : ga_H) (mc ms : Nat) (post : Int32 → ga_H → Prop) (xp : String → Nat → ga_H → Prop) (hw : gw_X1_undo g.2.2 p0 h mc ms post xp) : vx_Met l yX1_undo (ws_ yX1_undo cX1_undo 1 (some .int)) ({ frames := 11, cells := mc, slots := ms, locals := 206 } : Room) (va_Pc [.ref p0] (ga_B g h)) (va_Qi post (ga_E g) (ga_A g)) (ga_X g xp) mc ms (ga_A g) := by
  refine ga_metx (own := "PaperStore") (nm := "undo") (by decide) rfl rfl (by exact Nat.le_of_ble_eq_true rfl) (fun p e s m below meth c ls hC htab hI hl => ?_)
  have hl : lv_has ls 1 [(0, .ref p0)] := hl
  generalize ([.ref p0] : List Value).toArray = args at hC ⊢
  obtain ⟨hx, hb, hml, hown, hts, hr, hlk, hnm⟩ := hC
  unfold gw_X1_undo at hw
  obtain ⟨H, eH⟩ : ∃ z, z = s.heap := ⟨_, rfl⟩
  obtain ⟨locs, elo⟩ : ∃ z : List Loc, z = [] := ⟨_, rfl⟩
  rw [← eH, ← elo] at hI ⊢
  obtain ⟨cells, slots, hbc, hbs, e0, e1⟩ : ∃ a b : Nat, a + mc ≤ mc ∧ b + ms ≤ ms ∧ a = 0 ∧ b = 0 := ⟨0, 0, by omega, by omega, rfl, rfl⟩
  show W p l e ({ frames := 11, cells := mc, slots := ms, locals := 206 } : Room) s m args below meth c H locs 0 0 (vx_MQ below (va_Qi post (ga_E g) (ga_A g)) (ga_X g xp) args s mc ms (ga_A g)) (F0 m 0 ls [])
  suffices hgoal : W p l e ({ frames := 11, cells := mc, slots := ms, locals := 206 } : Room) s m args below meth c H locs cells slots (vx_MQ below (va_Qi post (ga_E g) (ga_A g)) (ga_X g xp) args s mc ms (ga_A g)) (F0 m 0 ls []) by rw [e0, e1] at hgoal; exact hgoal
  refine lv_aload_n hx hb dX1_undo_0 rfl (lv_at hl 0 rfl) ?_
  obtain ⟨fs_1, v_2, hq, hv, hw⟩ := hw
  refine ga_get (ci := 0) (T := TX1) (v := va_rf v_2) hx hb hts hown hI in_X1 rfl 2 (by decide) q389 (fun _ z => z) (ga_at.h hq) hv dX1_undo_1 ?_
  obtain ⟨a_3, ea_3, hw⟩ := hw
  rewrite [ea_3]
  obtain ⟨fs_4, hq, hw⟩ := hw
  refine ga_calli (va_runV (As := []) (rest := []) ⟨hx, hb, hml, hown, hts⟩ (gm_J2_size l g a_3 h _ hw) (cwV 0 hts (lw_V q1240 q536 q4117 q104 q537) rfl rfl rfl ⟨rfl, hdG_J2_size⟩ ⟨Nat.le_of_ble_eq_true rfl, Nat.le_of_ble_eq_true rfl⟩) (ga_preV hI hq rfl rfl) rfl rfl hl.1 rfl (ga_room (Nat.le_of_ble_eq_true rfl)) dX1_undo_4 ⟨Nat.le_trans (Nat.add_le_add_left (Nat.zero_le _) _) hbc, Nat.le_trans (Nat.add_le_add_left (Nat.zero_le _) _) hbs⟩) hI hbc hbs (Nat.zero_le _) (Nat.zero_le _) (fun r_6 h_5 H locs cells slots hw hI hbc hbs => ?_)
  refine lv_if_le (tgt := 14) hx hb dX1_undo_7 (by decide) (fun hc_7 => ?_) (fun hc_7 => ?_)
  · have hw := hw.1 hc_7
    refine lv_iconst (v := 0) hx hb dX1_undo_14 (by decide) ?_
    exact gj_X1_undo_15 hst htab g post xp p0 (0 : Int32) h_5 mc ms ⟨hx, hb, hml, hown, hts, hr, hlk, hnm⟩ hw hI hbc hbs (lv_sub hl [0] rfl)
  · have hw := hw.2 hc_7
    refine lv_iconst (v := 1) hx hb dX1_undo_10 (by decide) ?_
    refine lv_goto (tgt := 15) hx hb dX1_undo_11 (by decide) ?_
    exact gj_X1_undo_15 hst htab g post xp p0 (1 : Int32) h_5 mc ms ⟨hx, hb, hml, hown, hts, hr, hlk, hnm⟩ hw hI hbc hbs (lv_sub hl [0] rfl)
theorem hdG_X1_undo : yX1_undo.cls ≠ "java/lang/invoke/MethodHandle" ∧ yX1_undo.cls ≠ "java/lang/invoke/VarHandle" ∧ (parseMethodDescriptor yX1_undo.desc).map (fun d => d.parameters.length) = some 0 := by decide +kernel
def gw_X0_undo (K : ga_K) (p0 : Option Nat) (p1 : Option Nat) (h : ga_H) (mc ms : Nat) (post : Int32 → ga_H → Prop) (xp : String → Nat → ga_H → Prop) : Prop :=
  ∃ a_1 : Nat, p0 = some a_1 ∧ ∃ kc_2 ks_3 : Nat, kc_2 ≤ mc ∧ ks_3 ≤ ms ∧ ∃ fs_4 : List Value, ga_at K h a_1 (ga_O 0 fs_4) ∧ gw_X1_undo K a_1 h kc_2 ks_3 (fun (r_6 : Int32) (h_5 : ga_H) => ∃ a_10 : Nat, p1 = some a_10 ∧ ∃ (n_11 : Nat) (f_12 : Nat → Int64), h_5 a_10 = some (ga_Al n_11 f_12) ∧ vp_in (0 : Int32) n_11 ∧ ∀ h_13 : ga_H, h_13 = ga_set h_5 a_10 (ga_Al n_11 (vp_updL f_12 (0 : Int32).toNatClampNeg r_6.toInt64)) → (post (0 : Int32) h_13)) (fun (E_7 : String) (q_8 : Nat) (h_9 : ga_H) => (E_7 = "java/util/NoSuchElementException" ∧ (post (1 : Int32) h_9)))
set_option maxHeartbeats 4000000 in
theorem gm_X0_undo (l : Launch) (hst : l.stackTraces = false) (g : ga_G) (p0 : Option Nat) (p1 : Option Nat) (h : ga_H) (mc ms : Nat) (post : Int32 → ga_H → Prop) (xp : String → Nat → ga_H → Prop) (hw : gw_X0_undo g.2.2 p0 p1 h mc ms post xp) : vx_Met l yX0_undo (wsW_ yX0_undo cX0_undo 3 (some .int) [(0, 8, 11, 37)]) ({ frames := 12, cells := mc, slots := ms, locals := 226 } : Room) (va_Pc [va_rf p0, va_rf p1] (ga_B g h)) (va_Qi post (ga_E g) (ga_A g)) (ga_X g xp) mc ms (ga_A g) := by
  refine ga_metxW (own := "PaperStoreLaw") (nm := "undo") (by decide) rfl rfl (by cases p0 <;> cases p1 <;> exact Nat.le_of_ble_eq_true rfl) (fun p e s m below meth c ls hC htab hI hl => ?_)
  have hl : lv_has ls 3 [(0, va_rf p0), (1, va_rf p1)] := (by cases p0 <;> cases p1 <;> exact hl)
  generalize ([va_rf p0, va_rf p1] : List Value).toArray = args at hC ⊢
  obtain ⟨hx, hb, hml, hown, hts, hr, hlk, hnm⟩ := hC
  unfold gw_X0_undo at hw
  obtain ⟨H, eH⟩ : ∃ z, z = s.heap := ⟨_, rfl⟩
  obtain ⟨locs, elo⟩ : ∃ z : List Loc, z = [] := ⟨_, rfl⟩
  rw [← eH, ← elo] at hI ⊢
  obtain ⟨cells, slots, hbc, hbs, e0, e1⟩ : ∃ a b : Nat, a + mc ≤ mc ∧ b + ms ≤ ms ∧ a = 0 ∧ b = 0 := ⟨0, 0, by omega, by omega, rfl, rfl⟩
  show W p l e ({ frames := 12, cells := mc, slots := ms, locals := 226 } : Room) s m args below meth c H locs 0 0 (vx_MQ below (va_Qi post (ga_E g) (ga_A g)) (ga_X g xp) args s mc ms (ga_A g)) (F0 m 0 ls [])
  suffices hgoal : W p l e ({ frames := 12, cells := mc, slots := ms, locals := 226 } : Room) s m args below meth c H locs cells slots (vx_MQ below (va_Qi post (ga_E g) (ga_A g)) (ga_X g xp) args s mc ms (ga_A g)) (F0 m 0 ls []) by rw [e0, e1] at hgoal; exact hgoal
  refine ga_aload_n hx hb dX0_undo_0 rfl (lv_at hl 1 rfl) ?_
  refine lv_iconst (v := 0) hx hb dX0_undo_1 (by decide) ?_
  refine ga_aload_n hx hb dX0_undo_2 rfl (lv_at hl 0 rfl) ?_
  obtain ⟨a_1, ea_1, hw⟩ := hw
  rewrite [ea_1]
  obtain ⟨kc_2, ks_3, hk1, hk2, hw⟩ := hw
  obtain ⟨fs_4, hq, hw⟩ := hw
  refine ga_xcalli (vx_runV (As := []) (rest := [.int (0 : Int32), va_rf p1]) ⟨hx, hb, hml, hown, hts⟩ (gm_X1_undo l hst g a_1 h kc_2 ks_3 _ _ hw) (cwV 0 hts (lw_V q3611 q3612 q3613 q100 q3614) rfl rfl rfl ⟨rfl, hdG_X1_undo⟩ ⟨Nat.le_of_ble_eq_true rfl, Nat.le_of_ble_eq_true rfl⟩) (ga_preV hI hq rfl rfl) rfl rfl hl.1 rfl (ga_room (Nat.le_of_ble_eq_true rfl)) dX0_undo_3 ⟨Nat.le_trans (Nat.add_le_add_left hk1 _) hbc, Nat.le_trans (Nat.add_le_add_left hk2 _) hbs⟩) hI hbc hbs hk1 hk2 (fun E_7 q_8 h_9 ce H locs cells slots hw hI hce hbc hbs => ?_) (fun r_6 h_5 H locs cells slots hw hI hbc hbs => ?_)
  · obtain ⟨rfl, hw⟩ := hw
    refine ga_catch hown hts hI ([]) (⟨0, 8, 11, 37⟩) ([]) (by rw [htab]; rfl) (fun _ h => absurd h List.not_mem_nil) rfl (by decide) q2256 q732 hce ?_
    refine W.eq (g2 := F0 m 11 ls [.ref q_8]) rfl ?_
    refine lv_astore_n (i := 2) (lv' := [(2, .ref q_8), (0, va_rf p0), (1, va_rf p1)]) hx hb dX0_undo_11 rfl hl (by decide) (by simp [ga_rcat, ga_cat_r, ga_cat_i, ga_cat_f, ga_cat_l, ga_cat_d]) (fun ls hl => ?_)
    refine lv_iconst (v := 1) hx hb dX0_undo_12 (by decide) ?_
    exact ga_iretx hx hb hr rfl hlk hI hw (Nat.le_trans (Nat.le_add_right _ _) hbc) (Nat.le_trans (Nat.le_add_right _ _) hbs) dX0_undo_13
  · skip
    refine lv_i2l (v := r_6.toInt64) hx hb dX0_undo_6 rfl ?_
    obtain ⟨a_10, ea_10, hw⟩ := hw
    rewrite [ea_10]
    obtain ⟨n_11, f_12, hq, hi, hw⟩ := hw
    refine ga_stl hx hb hI hq hi dX0_undo_7 (fun H locs hI => ?_)
    obtain ⟨h_13, eh_13⟩ : ∃ z, z = ga_set h_5 a_10 (ga_Al n_11 (vp_updL f_12 (0 : Int32).toNatClampNeg r_6.toInt64)) := ⟨_, rfl⟩
    rw [← eh_13] at hI
    have hw := hw h_13 eh_13
    refine lv_goto (tgt := 14) hx hb dX0_undo_8 (by decide) ?_
    refine lv_iconst (v := 0) hx hb dX0_undo_14 (by decide) ?_
    exact ga_iretx hx hb hr rfl hlk hI hw (Nat.le_trans (Nat.le_add_right _ _) hbc) (Nat.le_trans (Nat.le_add_right _ _) hbs) dX0_undo_15
theorem hdG_X0_undo : yX0_undo.cls ≠ "java/lang/invoke/MethodHandle" ∧ yX0_undo.cls ≠ "java/lang/invoke/VarHandle" ∧ (parseMethodDescriptor yX0_undo.desc).map (fun d => d.parameters.length) = some 2 := by decide +kernel
def gw_J2_clear (K : ga_K) (p0 : Nat) (h : ga_H) (post : ga_H → Prop) : Prop :=
  ∃ (fs_1 : List Value) (v_2 : Int32), h p0 = some (ga_O 13 fs_1) ∧ fs_1[0]? = some (.int v_2) ∧ (∃ fs_3 : List Value, h p0 = some (ga_O 13 fs_3) ∧ 0 < fs_3.length ∧ ∀ h_4 : ga_H, h_4 = ga_set h p0 (ga_O 13 (fs_3.set 0 (.int (v_2 + (1 : Int32))))) → (∃ (fs_5 : List Value) (v_6 : Option Nat), h_4 p0 = some (ga_O 13 fs_5) ∧ fs_5[1]? = some (va_rf v_6) ∧ (∃ (fs_7 : List Value) (v_8 : Int32), h_4 p0 = some (ga_O 13 fs_7) ∧ fs_7[2]? = some (.int v_8) ∧ (∃ fs_9 : List Value, h_4 p0 = some (ga_O 13 fs_9) ∧ 2 < fs_9.length ∧ ∀ h_10 : ga_H, h_10 = ga_set h_4 p0 (ga_O 13 (fs_9.set 2 (.int (0 : Int32)))) → (∃ (In_11 : Int32 → ga_H → Prop) (mu_11 : Int32 → ga_H → Nat), In_11 (0 : Int32) h_10 ∧ ∀ (x3_11 : Int32) (h_11 : ga_H), In_11 x3_11 h_11 → ((v_8 ≤ x3_11 → (post h_11)) ∧ (¬ v_8 ≤ x3_11 → (∃ a_13 : Nat, v_6 = some a_13 ∧ ∃ (n_14 : Nat) (f_15 : Nat → Option Nat), h_11 a_13 = some (ga_Aq 5 n_14 f_15) ∧ vp_in x3_11 n_14 ∧ ga_ok K h_11 "java/lang/Object" none ∧ ∀ h_16 : ga_H, h_16 = ga_set h_11 a_13 (ga_Aq 5 n_14 (va_up f_15 x3_11.toNatClampNeg none)) → (In_11 (x3_11 + (1 : Int32)) h_16 ∧ mu_11 (x3_11 + (1 : Int32)) h_16 < mu_11 x3_11 h_11)))))))))
set_option maxHeartbeats 4000000 in
theorem gm_J2_clear (l : Launch) (g : ga_G) (p0 : Nat) (h : ga_H) (post : ga_H → Prop) (hw : gw_J2_clear g.2.2 p0 h post) : Met l yJ2_clear (ws_ yJ2_clear cJ2_clear 4 none) ({ frames := 8, cells := 0, slots := 0, locals := 140 } : Room) (va_Pc [.ref p0] (ga_B g h)) (va_Qv post (ga_E g) (ga_A g)) 0 0 (ga_A g) := by
  refine ga_met (own := "java/util/ArrayList") (nm := "clear") (by decide) rfl rfl (by exact Nat.le_of_ble_eq_true rfl) (fun p e s m below meth c ls hC hI hl => ?_)
  have hl : lv_has ls 4 [(0, .ref p0)] := hl
  generalize ([.ref p0] : List Value).toArray = args at hC ⊢
  obtain ⟨hx, hb, hml, hown, hts, hr, hlk, hnm⟩ := hC
  unfold gw_J2_clear at hw
  obtain ⟨H, eH⟩ : ∃ z, z = s.heap := ⟨_, rfl⟩
  obtain ⟨locs, elo⟩ : ∃ z : List Loc, z = [] := ⟨_, rfl⟩
  rw [← eH, ← elo] at hI ⊢
  obtain ⟨cells, slots, hbc, hbs, e0, e1⟩ : ∃ a b : Nat, a ≤ 0 ∧ b ≤ 0 ∧ a = 0 ∧ b = 0 := ⟨0, 0, by omega, by omega, rfl, rfl⟩
  show W p l e ({ frames := 8, cells := 0, slots := 0, locals := 140 } : Room) s m args below meth c H locs 0 0 (MQ below (va_Qv post (ga_E g) (ga_A g)) args s 0 0 (ga_A g)) (F0 m 0 ls [])
  suffices hgoal : W p l e ({ frames := 8, cells := 0, slots := 0, locals := 140 } : Room) s m args below meth c H locs cells slots (MQ below (va_Qv post (ga_E g) (ga_A g)) args s 0 0 (ga_A g)) (F0 m 0 ls []) by rw [e0, e1] at hgoal; exact hgoal
  refine lv_aload_n hx hb dJ2_clear_0 rfl (lv_at hl 0 rfl) ?_
  refine lv_dup hx hb dJ2_clear_1 rfl ?_
  obtain ⟨fs_1, v_2, hq, hv, hw⟩ := hw
  refine ga_get (ci := 13) (T := TJ2) (v := .int v_2) hx hb hts hown hI in_J2 rfl 0 (by decide) q210 (u_same (hts _ q209)) (ga_at.h hq) hv dJ2_clear_2 ?_
  refine lv_iconst (v := 1) hx hb dJ2_clear_5 (by decide) ?_
  refine lv_iadd hx hb dJ2_clear_6 ?_
  obtain ⟨fs_3, hq, hk, hw⟩ := hw
  refine ga_put (ci := 13) (T := TJ2) (v := .int (v_2 + (1 : Int32))) (ty := tyJ2 0) hx hb hts hown hI in_J2 rfl tyJ2 tyJ2_ok nmJ2 0 (by decide) q210 (u_same (hts _ q209)) rfl (tyJ2_ok 0 (by decide)) rfl rfl hq hk dJ2_clear_7 (fun H locs hI => ?_)
  obtain ⟨h_4, eh_4⟩ : ∃ z, z = ga_set h p0 (ga_O 13 (fs_3.set 0 (.int (v_2 + (1 : Int32))))) := ⟨_, rfl⟩
  rw [← eh_4] at hI
  have hw := hw h_4 eh_4
  refine lv_aload_n hx hb dJ2_clear_10 rfl (lv_at hl 0 rfl) ?_
  obtain ⟨fs_5, v_6, hq, hv, hw⟩ := hw
  refine ga_get (ci := 13) (T := TJ2) (v := va_rf v_6) hx hb hts hown hI in_J2 rfl 1 (by decide) q203 (fun _ z => z) (ga_at.h hq) hv dJ2_clear_11 ?_
  refine ga_astore_n (i := 1) (x := v_6) (lv' := [(1, va_rf v_6), (0, .ref p0)]) hx hb dJ2_clear_14 rfl hl (by decide) rfl (fun ls hl => ?_)
  refine lv_aload_n hx hb dJ2_clear_15 rfl (lv_at hl 1 rfl) ?_
  obtain ⟨fs_7, v_8, hq, hv, hw⟩ := hw
  refine ga_get (ci := 13) (T := TJ2) (v := .int v_8) hx hb hts hown hI in_J2 rfl 2 (by decide) q206 (fun _ z => z) (ga_at.h hq) hv dJ2_clear_16 ?_
  refine lv_istore_n (i := 2) (lv' := [(2, .int v_8), (1, va_rf v_6), (0, .ref p0)]) hx hb dJ2_clear_19 rfl hl (by decide) (by simp [ga_rcat, ga_cat_r, ga_cat_i, ga_cat_f, ga_cat_l, ga_cat_d]) (fun ls hl => ?_)
  refine lv_aload_n hx hb dJ2_clear_20 rfl (lv_at hl 2 rfl) ?_
  refine lv_iconst (v := 0) hx hb dJ2_clear_21 (by decide) ?_
  refine lv_dup_x1 hx hb dJ2_clear_22 rfl rfl ?_
  obtain ⟨fs_9, hq, hk, hw⟩ := hw
  refine ga_put (ci := 13) (T := TJ2) (v := .int (0 : Int32)) (ty := tyJ2 2) hx hb hts hown hI in_J2 rfl tyJ2 tyJ2_ok nmJ2 2 (by decide) q206 (fun _ z => z) rfl (tyJ2_ok 2 (by decide)) rfl rfl hq hk dJ2_clear_23 (fun H locs hI => ?_)
  obtain ⟨h_10, eh_10⟩ : ∃ z, z = ga_set h_4 p0 (ga_O 13 (fs_9.set 2 (.int (0 : Int32)))) := ⟨_, rfl⟩
  rw [← eh_10] at hI
  have hw := hw h_10 eh_10
  refine lv_istore_n (i := 3) (lv' := [(3, .int (0 : Int32)), (2, .int v_8), (1, va_rf v_6), (0, .ref p0)]) hx hb dJ2_clear_26 rfl hl (by decide) rfl (fun ls hl => ?_)
  obtain ⟨In_11, mu_11, h0_11, hw⟩ := hw
  have hL_11 : ∀ (n : Nat) (x3_11 : Int32) (h_11 : ga_H) (H : Heap) (locs : List Loc) (cells slots : Nat) (ls : Array Slot), mu_11 x3_11 h_11 < n → In_11 x3_11 h_11 → ga_I g h_11 s H locs → cells ≤ 0 → slots ≤ 0 → lv_has ls 4 [(1, va_rf v_6), (2, .int v_8), (3, .int x3_11)] → W p l e ({ frames := 8, cells := 0, slots := 0, locals := 140 } : Room) s m args below meth c H locs cells slots (MQ below (va_Qv post (ga_E g) (ga_A g)) args s 0 0 (ga_A g)) (F0 m 27 ls []) := by
    intro n
    induction n with
    | zero => intro x3_11 h_11 H locs cells slots ls hn _ _ _ _ _; exact absurd hn (Nat.not_lt_zero _)
    | succ n ih_11 =>
      intro x3_11 h_11 H locs cells slots ls hn_11 hi_11 hI hbc hbs hl
      have hw := hw x3_11 h_11 hi_11
      refine lv_iload_n hx hb dJ2_clear_27 rfl (lv_at hl 2 rfl) ?_
      refine lv_iload_n hx hb dJ2_clear_28 rfl (lv_at hl 1 rfl) ?_
      refine lv_icmp_ge (tgt := 42) hx hb dJ2_clear_29 (by decide) (fun hc_12 => ?_) (fun hc_12 => ?_)
      · have hw := hw.1 hc_12
        exact ga_vret hx hb hr hlk hI hw hbc hbs dJ2_clear_42
      · have hw := hw.2 hc_12
        refine ga_aload_n hx hb dJ2_clear_32 rfl (lv_at hl 0 rfl) ?_
        refine lv_iload_n hx hb dJ2_clear_33 rfl (lv_at hl 2 rfl) ?_
        refine lv_null hx hb dJ2_clear_34 ?_
        obtain ⟨a_13, ea_13, hw⟩ := hw
        rewrite [ea_13]
        obtain ⟨n_14, f_15, hq, hi, hok, hw⟩ := hw
        refine ga_sto (x := none) hx hb hI hq rfl hok hi dJ2_clear_35 (fun H locs hI => ?_)
        obtain ⟨h_16, eh_16⟩ : ∃ z, z = ga_set h_11 a_13 (ga_Aq 5 n_14 (va_up f_15 x3_11.toNatClampNeg none)) := ⟨_, rfl⟩
        rw [← eh_16] at hI
        have hw := hw h_16 eh_16
        refine lv_iinc (v := x3_11 + (1 : Int32)) (lv' := [(3, .int (x3_11 + (1 : Int32))), (1, va_rf v_6), (2, .int v_8)]) hx hb dJ2_clear_36 hl (k := 2) rfl rfl (by decide) rfl (fun ls hl => ?_)
        refine lv_goto (tgt := 27) hx hb dJ2_clear_39 (by decide) ?_
        exact ih_11 _ _ H locs cells slots ls (Nat.lt_of_lt_of_le hw.2 (Nat.le_of_lt_succ hn_11)) hw.1 hI hbc hbs (lv_sub hl [1, 2, 0] rfl)
  exact hL_11 _ _ _ H locs cells slots ls (Nat.lt_succ_self _) h0_11 hI hbc hbs (lv_sub hl [2, 1, 0] rfl)
theorem hdG_J2_clear : yJ2_clear.cls ≠ "java/lang/invoke/MethodHandle" ∧ yJ2_clear.cls ≠ "java/lang/invoke/VarHandle" ∧ (parseMethodDescriptor yJ2_clear.desc).map (fun d => d.parameters.length) = some 0 := by decide +kernel
def gw_X1_restore_12 (K : ga_K) (post : Int32 → ga_H → Prop) (xp : String → Nat → ga_H → Prop) (p0 : Nat) (t0 : Int32) (h : ga_H) (bc bs : Nat) : Prop :=
  ∃ kc_4 ks_5 : Nat, kc_4 ≤ bc ∧ ks_5 ≤ bs ∧ gw_X1_checkState K t0 h kc_4 ks_5 (fun (h_6 : ga_H) => ∃ (fs_10 : List Value) (v_11 : Option Nat), h_6 p0 = some (ga_O 0 fs_10) ∧ fs_10[1]? = some (va_rf v_11) ∧ (∃ a_12 : Nat, v_11 = some a_12 ∧ ∃ kc_13 ks_14 : Nat, kc_13 ≤ (bc - kc_4) ∧ ks_14 ≤ (bs - ks_5) ∧ ∃ fs_15 : List Value, ga_at K h_6 a_12 (ga_O 1 fs_15) ∧ gw_X2_copy K a_12 h_6 kc_13 ks_14 (fun (r_17 : Option Nat) (h_16 : ga_H) => ∃ fs_18 : List Value, h_16 p0 = some (ga_O 0 fs_18) ∧ 0 < fs_18.length ∧ ∀ h_19 : ga_H, h_19 = ga_set h_16 p0 (ga_O 0 (fs_18.set 0 (va_rf r_17))) → (∃ (fs_20 : List Value) (v_21 : Option Nat), h_19 p0 = some (ga_O 0 fs_20) ∧ fs_20[2]? = some (va_rf v_21) ∧ (∃ a_22 : Nat, v_21 = some a_22 ∧ ∃ fs_23 : List Value, ga_at K h_19 a_22 (ga_O 13 fs_23) ∧ gw_J2_clear K a_22 h_19 (fun (h_24 : ga_H) => ∃ (fs_25 : List Value) (v_26 : Option Nat), h_24 p0 = some (ga_O 0 fs_25) ∧ fs_25[0]? = some (va_rf v_26) ∧ (∃ a_27 : Nat, v_26 = some a_27 ∧ ∃ (fs_28 : List Value) (v_29 : Option Nat), h_24 a_27 = some (ga_O 1 fs_28) ∧ fs_28[4]? = some (va_rf v_29) ∧ (∃ a_30 : Nat, v_29 = some a_30 ∧ ∃ fs_31 : List Value, ga_at K h_24 a_30 (ga_O 13 fs_31) ∧ gw_J2_size K a_30 h_24 (fun (r_33 : Int32) (h_32 : ga_H) => post r_33 h_32))))))))) (fun (E_7 : String) (q_8 : Nat) (h_9 : ga_H) => xp E_7 q_8 h_9)
set_option maxHeartbeats 4000000 in
theorem gj_X1_restore_12 {p : Program} {l : Launch} {e : Env} {s : State} {m : MethodId} {args : Array Value} {below : List Frame} {meth : Method} {c : Code} {mc ms : Nat} {H : Heap} {locs : List Loc} {cells slots : Nat} {ls : Array Slot} (hst : l.stackTraces = false) (htab : c.exceptionTable.toList = []) (g : ga_G) (post : Int32 → ga_H → Prop) (xp : String → Nat → ga_H → Prop) (p0 : Nat) (t0 : Int32) (h : ga_H) (bc bs : Nat) (hC : ga_Cx p s m args meth c cX1_restore 1 (some .int) "PaperStore" "restore") (hw : gw_X1_restore_12 g.2.2 post xp p0 t0 h bc bs) (hI : ga_I g h s H locs) (hbc : cells + bc ≤ mc) (hbs : slots + bs ≤ ms) (hl : lv_has ls 1 [(0, .ref p0)]) : W p l e ({ frames := 17, cells := mc, slots := ms, locals := 1389 } : Room) s m args below meth c H locs cells slots (vx_MQ below (va_Qi post (ga_E g) (ga_A g)) (ga_X g xp) args s mc ms (ga_A g)) (F0 m 12 ls [.int t0]) := by
  obtain ⟨hx, hb, hml, hown, hts, hr, hlk, hnm⟩ := hC
  unfold gw_X1_restore_12 at hw
  obtain ⟨kc_4, ks_5, hk1, hk2, hw⟩ := hw
  refine ga_xcallv (vx_runS (As := [.int t0]) (rest := []) ⟨hx, hb, hml, hown, hts⟩ (gm_X1_checkState l hst g t0 h kc_4 ks_5 _ _ hw) (va_cwS 1 hts (lw_S q2817 q2818 q100 q2819) rfl rfl rfl hdG_X1_checkState ⟨Nat.le_of_ble_eq_true rfl, Nat.le_of_ble_eq_true rfl⟩) (ga_preS hI rfl) rfl rfl hl.1 rfl (ga_room (Nat.le_of_ble_eq_true rfl)) dX1_restore_12 ⟨Nat.le_trans (Nat.add_le_add_left hk1 _) hbc, Nat.le_trans (Nat.add_le_add_left hk2 _) hbs⟩) hI hbc hbs hk1 hk2 (fun E_7 q_8 h_9 ce H locs cells slots hw hI hce hbc hbs => ?_) (fun h_6 H locs cells slots hw hI hbc hbs => ?_)
  · exact ga_out hown hlk hI hw (by rw [htab]; intro z hz; cases hz) hce (Nat.le_trans (Nat.le_add_right _ _) hbc) (Nat.le_trans (Nat.le_add_right _ _) hbs)
  · skip
    refine lv_aload_n hx hb dX1_restore_15 rfl (lv_at hl 0 rfl) ?_
    refine lv_aload_n hx hb dX1_restore_16 rfl (lv_at hl 0 rfl) ?_
    obtain ⟨fs_10, v_11, hq, hv, hw⟩ := hw
    refine ga_get (ci := 0) (T := TX1) (v := va_rf v_11) hx hb hts hown hI in_X1 rfl 1 (by decide) q388 (fun _ z => z) (ga_at.h hq) hv dX1_restore_17 ?_
    obtain ⟨a_12, ea_12, hw⟩ := hw
    rewrite [ea_12]
    obtain ⟨kc_13, ks_14, hk1, hk2, hw⟩ := hw
    obtain ⟨fs_15, hq, hw⟩ := hw
    refine ga_callq (va_runV (As := []) (rest := [.ref p0]) ⟨hx, hb, hml, hown, hts⟩ (gm_X2_copy l g a_12 h_6 kc_13 ks_14 _ hw) (cwV 0 hts (lw_V q1259 q1260 q1261 q101 q1262) rfl rfl rfl ⟨rfl, hdG_X2_copy⟩ ⟨Nat.le_of_ble_eq_true rfl, Nat.le_of_ble_eq_true rfl⟩) (ga_preV hI hq rfl rfl) rfl rfl hl.1 rfl (ga_room (Nat.le_of_ble_eq_true rfl)) dX1_restore_20 ⟨Nat.le_trans (Nat.add_le_add_left hk1 _) hbc, Nat.le_trans (Nat.add_le_add_left hk2 _) hbs⟩) hI hbc hbs hk1 hk2 (fun r_17 h_16 H locs cells slots hw hI hbc hbs => ?_)
    obtain ⟨fs_18, hq, hk, hw⟩ := hw
    refine ga_put (ci := 0) (T := TX1) (v := va_rf r_17) (ty := tyX1 0) hx hb hts hown hI in_X1 rfl tyX1 tyX1_ok nmX1 0 (by decide) q387 (fun _ z => z) rfl (tyX1_ok 0 (by decide)) (ga_nq _ _) (ga_fq _ _) hq hk dX1_restore_23 (fun H locs hI => ?_)
    obtain ⟨h_19, eh_19⟩ : ∃ z, z = ga_set h_16 p0 (ga_O 0 (fs_18.set 0 (va_rf r_17))) := ⟨_, rfl⟩
    rw [← eh_19] at hI
    have hw := hw h_19 eh_19
    refine lv_aload_n hx hb dX1_restore_26 rfl (lv_at hl 0 rfl) ?_
    obtain ⟨fs_20, v_21, hq, hv, hw⟩ := hw
    refine ga_get (ci := 0) (T := TX1) (v := va_rf v_21) hx hb hts hown hI in_X1 rfl 2 (by decide) q389 (fun _ z => z) (ga_at.h hq) hv dX1_restore_27 ?_
    obtain ⟨a_22, ea_22, hw⟩ := hw
    rewrite [ea_22]
    obtain ⟨fs_23, hq, hw⟩ := hw
    refine ga_callv (va_runV (As := []) (rest := []) ⟨hx, hb, hml, hown, hts⟩ (gm_J2_clear l g a_22 h_19 _ hw) (cwV 0 hts (lw_V q3622 q3623 q3624 q104 q3625) rfl rfl rfl ⟨rfl, hdG_J2_clear⟩ ⟨Nat.le_of_ble_eq_true rfl, Nat.le_of_ble_eq_true rfl⟩) (ga_preV hI hq rfl rfl) rfl rfl hl.1 rfl (ga_room (Nat.le_of_ble_eq_true rfl)) dX1_restore_30 ⟨Nat.le_trans (Nat.add_le_add_left (Nat.zero_le _) _) hbc, Nat.le_trans (Nat.add_le_add_left (Nat.zero_le _) _) hbs⟩) hI hbc hbs (Nat.zero_le _) (Nat.zero_le _) (fun h_24 H locs cells slots hw hI hbc hbs => ?_)
    refine lv_aload_n hx hb dX1_restore_33 rfl (lv_at hl 0 rfl) ?_
    obtain ⟨fs_25, v_26, hq, hv, hw⟩ := hw
    refine ga_get (ci := 0) (T := TX1) (v := va_rf v_26) hx hb hts hown hI in_X1 rfl 0 (by decide) q387 (fun _ z => z) (ga_at.h hq) hv dX1_restore_34 ?_
    obtain ⟨a_27, ea_27, hw⟩ := hw
    rewrite [ea_27]
    obtain ⟨fs_28, v_29, hq, hv, hw⟩ := hw
    refine ga_getN (ci := 1) (T := TX2) (v := va_rf v_29) hx hb hts hown hI in_X2 rfl 4 (by decide) q319 (fun _ z => z) (ga_at.h hq) hv dX1_restore_37 ?_
    obtain ⟨a_30, ea_30, hw⟩ := hw
    rewrite [ea_30]
    obtain ⟨fs_31, hq, hw⟩ := hw
    refine ga_calli (va_runV (As := []) (rest := []) ⟨hx, hb, hml, hown, hts⟩ (gm_J2_size l g a_30 h_24 _ hw) (cwV 0 hts (lw_V q1240 q536 q4117 q104 q537) rfl rfl rfl ⟨rfl, hdG_J2_size⟩ ⟨Nat.le_of_ble_eq_true rfl, Nat.le_of_ble_eq_true rfl⟩) (ga_preV hI hq rfl rfl) rfl rfl hl.1 rfl (ga_room (Nat.le_of_ble_eq_true rfl)) dX1_restore_40 ⟨Nat.le_trans (Nat.add_le_add_left (Nat.zero_le _) _) hbc, Nat.le_trans (Nat.add_le_add_left (Nat.zero_le _) _) hbs⟩) hI hbc hbs (Nat.zero_le _) (Nat.zero_le _) (fun r_33 h_32 H locs cells slots hw hI hbc hbs => ?_)
    exact ga_iretx hx hb hr rfl hlk hI hw (Nat.le_trans (Nat.le_add_right _ _) hbc) (Nat.le_trans (Nat.le_add_right _ _) hbs) dX1_restore_43
def gw_X1_restore (K : ga_K) (p0 : Nat) (h : ga_H) (mc ms : Nat) (post : Int32 → ga_H → Prop) (xp : String → Nat → ga_H → Prop) : Prop :=
  ∃ (fs_1 : List Value) (v_2 : Option Nat), h p0 = some (ga_O 0 fs_1) ∧ fs_1[1]? = some (va_rf v_2) ∧ ((v_2 = none → (gw_X1_restore_12 K post xp p0 (0 : Int32) h mc ms)) ∧ (∀ a_3 : Nat, v_2 = some a_3 → (gw_X1_restore_12 K post xp p0 (1 : Int32) h mc ms)))
set_option maxHeartbeats 4000000 in
theorem gm_X1_restore (l : Launch) (hst : l.stackTraces = false) (g : ga_G) (p0 : Nat) (h : ga_H) (mc ms : Nat) (post : Int32 → ga_H → Prop) (xp : String → Nat → ga_H → Prop) (hw : gw_X1_restore g.2.2 p0 h mc ms post xp) : vx_Met l yX1_restore (ws_ yX1_restore cX1_restore 1 (some .int)) ({ frames := 17, cells := mc, slots := ms, locals := 1389 } : Room) (va_Pc [.ref p0] (ga_B g h)) (va_Qi post (ga_E g) (ga_A g)) (ga_X g xp) mc ms (ga_A g) := by
  refine ga_metx (own := "PaperStore") (nm := "restore") (by decide) rfl rfl (by exact Nat.le_of_ble_eq_true rfl) (fun p e s m below meth c ls hC htab hI hl => ?_)
  have hl : lv_has ls 1 [(0, .ref p0)] := hl
  generalize ([.ref p0] : List Value).toArray = args at hC ⊢
  obtain ⟨hx, hb, hml, hown, hts, hr, hlk, hnm⟩ := hC
  unfold gw_X1_restore at hw
  obtain ⟨H, eH⟩ : ∃ z, z = s.heap := ⟨_, rfl⟩
  obtain ⟨locs, elo⟩ : ∃ z : List Loc, z = [] := ⟨_, rfl⟩
  rw [← eH, ← elo] at hI ⊢
  obtain ⟨cells, slots, hbc, hbs, e0, e1⟩ : ∃ a b : Nat, a + mc ≤ mc ∧ b + ms ≤ ms ∧ a = 0 ∧ b = 0 := ⟨0, 0, by omega, by omega, rfl, rfl⟩
  show W p l e ({ frames := 17, cells := mc, slots := ms, locals := 1389 } : Room) s m args below meth c H locs 0 0 (vx_MQ below (va_Qi post (ga_E g) (ga_A g)) (ga_X g xp) args s mc ms (ga_A g)) (F0 m 0 ls [])
  suffices hgoal : W p l e ({ frames := 17, cells := mc, slots := ms, locals := 1389 } : Room) s m args below meth c H locs cells slots (vx_MQ below (va_Qi post (ga_E g) (ga_A g)) (ga_X g xp) args s mc ms (ga_A g)) (F0 m 0 ls []) by rw [e0, e1] at hgoal; exact hgoal
  refine lv_aload_n hx hb dX1_restore_0 rfl (lv_at hl 0 rfl) ?_
  obtain ⟨fs_1, v_2, hq, hv, hw⟩ := hw
  refine ga_get (ci := 0) (T := TX1) (v := va_rf v_2) hx hb hts hown hI in_X1 rfl 1 (by decide) q388 (fun _ z => z) (ga_at.h hq) hv dX1_restore_1 ?_
  refine ga_ifnull (tgt := 11) hx hb dX1_restore_4 (by decide) (fun hc_a_3 => ?_) (fun a_3 hc_a_3 => ?_)
  · have hw := hw.1 hc_a_3
    refine lv_iconst (v := 0) hx hb dX1_restore_11 (by decide) ?_
    exact gj_X1_restore_12 hst htab g post xp p0 (0 : Int32) h mc ms ⟨hx, hb, hml, hown, hts, hr, hlk, hnm⟩ hw hI hbc hbs (lv_sub hl [0] rfl)
  · have hw := hw.2 a_3 hc_a_3
    skip
    refine lv_iconst (v := 1) hx hb dX1_restore_7 (by decide) ?_
    refine lv_goto (tgt := 12) hx hb dX1_restore_8 (by decide) ?_
    exact gj_X1_restore_12 hst htab g post xp p0 (1 : Int32) h mc ms ⟨hx, hb, hml, hown, hts, hr, hlk, hnm⟩ hw hI hbc hbs (lv_sub hl [0] rfl)
theorem hdG_X1_restore : yX1_restore.cls ≠ "java/lang/invoke/MethodHandle" ∧ yX1_restore.cls ≠ "java/lang/invoke/VarHandle" ∧ (parseMethodDescriptor yX1_restore.desc).map (fun d => d.parameters.length) = some 0 := by decide +kernel
def gw_X0_restore (K : ga_K) (p0 : Option Nat) (p1 : Option Nat) (h : ga_H) (mc ms : Nat) (post : Int32 → ga_H → Prop) (xp : String → Nat → ga_H → Prop) : Prop :=
  ∃ a_1 : Nat, p0 = some a_1 ∧ ∃ kc_2 ks_3 : Nat, kc_2 ≤ mc ∧ ks_3 ≤ ms ∧ ∃ fs_4 : List Value, ga_at K h a_1 (ga_O 0 fs_4) ∧ gw_X1_restore K a_1 h kc_2 ks_3 (fun (r_6 : Int32) (h_5 : ga_H) => ∃ a_10 : Nat, p1 = some a_10 ∧ ∃ (n_11 : Nat) (f_12 : Nat → Int64), h_5 a_10 = some (ga_Al n_11 f_12) ∧ vp_in (0 : Int32) n_11 ∧ ∀ h_13 : ga_H, h_13 = ga_set h_5 a_10 (ga_Al n_11 (vp_updL f_12 (0 : Int32).toNatClampNeg r_6.toInt64)) → (post (0 : Int32) h_13)) (fun (E_7 : String) (q_8 : Nat) (h_9 : ga_H) => (E_7 = "java/lang/IllegalStateException" ∧ (post (1 : Int32) h_9)))
set_option maxHeartbeats 4000000 in
theorem gm_X0_restore (l : Launch) (hst : l.stackTraces = false) (g : ga_G) (p0 : Option Nat) (p1 : Option Nat) (h : ga_H) (mc ms : Nat) (post : Int32 → ga_H → Prop) (xp : String → Nat → ga_H → Prop) (hw : gw_X0_restore g.2.2 p0 p1 h mc ms post xp) : vx_Met l yX0_restore (wsW_ yX0_restore cX0_restore 3 (some .int) [(0, 8, 11, 126)]) ({ frames := 18, cells := mc, slots := ms, locals := 1409 } : Room) (va_Pc [va_rf p0, va_rf p1] (ga_B g h)) (va_Qi post (ga_E g) (ga_A g)) (ga_X g xp) mc ms (ga_A g) := by
  refine ga_metxW (own := "PaperStoreLaw") (nm := "restore") (by decide) rfl rfl (by cases p0 <;> cases p1 <;> exact Nat.le_of_ble_eq_true rfl) (fun p e s m below meth c ls hC htab hI hl => ?_)
  have hl : lv_has ls 3 [(0, va_rf p0), (1, va_rf p1)] := (by cases p0 <;> cases p1 <;> exact hl)
  generalize ([va_rf p0, va_rf p1] : List Value).toArray = args at hC ⊢
  obtain ⟨hx, hb, hml, hown, hts, hr, hlk, hnm⟩ := hC
  unfold gw_X0_restore at hw
  obtain ⟨H, eH⟩ : ∃ z, z = s.heap := ⟨_, rfl⟩
  obtain ⟨locs, elo⟩ : ∃ z : List Loc, z = [] := ⟨_, rfl⟩
  rw [← eH, ← elo] at hI ⊢
  obtain ⟨cells, slots, hbc, hbs, e0, e1⟩ : ∃ a b : Nat, a + mc ≤ mc ∧ b + ms ≤ ms ∧ a = 0 ∧ b = 0 := ⟨0, 0, by omega, by omega, rfl, rfl⟩
  show W p l e ({ frames := 18, cells := mc, slots := ms, locals := 1409 } : Room) s m args below meth c H locs 0 0 (vx_MQ below (va_Qi post (ga_E g) (ga_A g)) (ga_X g xp) args s mc ms (ga_A g)) (F0 m 0 ls [])
  suffices hgoal : W p l e ({ frames := 18, cells := mc, slots := ms, locals := 1409 } : Room) s m args below meth c H locs cells slots (vx_MQ below (va_Qi post (ga_E g) (ga_A g)) (ga_X g xp) args s mc ms (ga_A g)) (F0 m 0 ls []) by rw [e0, e1] at hgoal; exact hgoal
  refine ga_aload_n hx hb dX0_restore_0 rfl (lv_at hl 1 rfl) ?_
  refine lv_iconst (v := 0) hx hb dX0_restore_1 (by decide) ?_
  refine ga_aload_n hx hb dX0_restore_2 rfl (lv_at hl 0 rfl) ?_
  obtain ⟨a_1, ea_1, hw⟩ := hw
  rewrite [ea_1]
  obtain ⟨kc_2, ks_3, hk1, hk2, hw⟩ := hw
  obtain ⟨fs_4, hq, hw⟩ := hw
  refine ga_xcalli (vx_runV (As := []) (rest := [.int (0 : Int32), va_rf p1]) ⟨hx, hb, hml, hown, hts⟩ (gm_X1_restore l hst g a_1 h kc_2 ks_3 _ _ hw) (cwV 0 hts (lw_V q3618 q3619 q3620 q100 q3621) rfl rfl rfl ⟨rfl, hdG_X1_restore⟩ ⟨Nat.le_of_ble_eq_true rfl, Nat.le_of_ble_eq_true rfl⟩) (ga_preV hI hq rfl rfl) rfl rfl hl.1 rfl (ga_room (Nat.le_of_ble_eq_true rfl)) dX0_restore_3 ⟨Nat.le_trans (Nat.add_le_add_left hk1 _) hbc, Nat.le_trans (Nat.add_le_add_left hk2 _) hbs⟩) hI hbc hbs hk1 hk2 (fun E_7 q_8 h_9 ce H locs cells slots hw hI hce hbc hbs => ?_) (fun r_6 h_5 H locs cells slots hw hI hbc hbs => ?_)
  · obtain ⟨rfl, hw⟩ := hw
    refine ga_catch hown hts hI ([]) (⟨0, 8, 11, 126⟩) ([]) (by rw [htab]; rfl) (fun _ h => absurd h List.not_mem_nil) rfl (by decide) q2812 q2822 hce ?_
    refine W.eq (g2 := F0 m 11 ls [.ref q_8]) rfl ?_
    refine lv_astore_n (i := 2) (lv' := [(2, .ref q_8), (0, va_rf p0), (1, va_rf p1)]) hx hb dX0_restore_11 rfl hl (by decide) (by simp [ga_rcat, ga_cat_r, ga_cat_i, ga_cat_f, ga_cat_l, ga_cat_d]) (fun ls hl => ?_)
    refine lv_iconst (v := 1) hx hb dX0_restore_12 (by decide) ?_
    exact ga_iretx hx hb hr rfl hlk hI hw (Nat.le_trans (Nat.le_add_right _ _) hbc) (Nat.le_trans (Nat.le_add_right _ _) hbs) dX0_restore_13
  · skip
    refine lv_i2l (v := r_6.toInt64) hx hb dX0_restore_6 rfl ?_
    obtain ⟨a_10, ea_10, hw⟩ := hw
    rewrite [ea_10]
    obtain ⟨n_11, f_12, hq, hi, hw⟩ := hw
    refine ga_stl hx hb hI hq hi dX0_restore_7 (fun H locs hI => ?_)
    obtain ⟨h_13, eh_13⟩ : ∃ z, z = ga_set h_5 a_10 (ga_Al n_11 (vp_updL f_12 (0 : Int32).toNatClampNeg r_6.toInt64)) := ⟨_, rfl⟩
    rw [← eh_13] at hI
    have hw := hw h_13 eh_13
    refine lv_goto (tgt := 14) hx hb dX0_restore_8 (by decide) ?_
    refine lv_iconst (v := 0) hx hb dX0_restore_14 (by decide) ?_
    exact ga_iretx hx hb hr rfl hlk hI hw (Nat.le_trans (Nat.le_add_right _ _) hbc) (Nat.le_trans (Nat.le_add_right _ _) hbs) dX0_restore_15
theorem hdG_X0_restore : yX0_restore.cls ≠ "java/lang/invoke/MethodHandle" ∧ yX0_restore.cls ≠ "java/lang/invoke/VarHandle" ∧ (parseMethodDescriptor yX0_restore.desc).map (fun d => d.parameters.length) = some 2 := by decide +kernel
def gw_X1_init (K : ga_K) (p0 : Nat) (h : ga_H) (mc ms : Nat) (post : ga_H → Prop) : Prop :=
  1 ≤ mc ∧ 10 ≤ ms ∧ ∀ q_1 : Nat, h q_1 = none → ∀ h_2 : ga_H, h_2 = ga_set h q_1 (ga_O 1 [va_rf none, va_rf none, va_rf none, va_rf none, va_rf none, va_rf none, .int 0, .int 0, .int 0, .int 0]) → (∃ kc_3 ks_4 : Nat, kc_3 ≤ (mc - 1) ∧ ks_4 ≤ (ms - 10) ∧ gw_X2_init K q_1 h_2 kc_3 ks_4 (fun (h_5 : ga_H) => ∃ fs_6 : List Value, h_5 p0 = some (ga_O 0 fs_6) ∧ 0 < fs_6.length ∧ ∀ h_7 : ga_H, h_7 = ga_set h_5 p0 (ga_O 0 (fs_6.set 0 (va_rf (some q_1)))) → (1 ≤ ((mc - 1) - kc_3) ∧ 3 ≤ ((ms - 10) - ks_4) ∧ ∀ q_8 : Nat, h_7 q_8 = none → ∀ h_9 : ga_H, h_9 = ga_set h_7 q_8 (ga_O 13 [.int 0, va_rf none, .int 0]) → (gw_J2_init K q_8 h_9 (fun (h_10 : ga_H) => ∃ fs_11 : List Value, h_10 p0 = some (ga_O 0 fs_11) ∧ 2 < fs_11.length ∧ ∀ h_12 : ga_H, h_12 = ga_set h_10 p0 (ga_O 0 (fs_11.set 2 (va_rf (some q_8)))) → (1 ≤ (((mc - 1) - kc_3) - 1) ∧ 60 ≤ (((ms - 10) - ks_4) - 3) ∧ ∀ q_13 : Nat, h_12 q_13 = none → ∀ h_14 : ga_H, h_14 = ga_set h_12 q_13 (ga_Ac 60 (fun _ => 0)) → (∃ fs_15 : List Value, h_14 p0 = some (ga_O 0 fs_15) ∧ 3 < fs_15.length ∧ ∀ h_16 : ga_H, h_16 = ga_set h_14 p0 (ga_O 0 (fs_15.set 3 (va_rf (some q_13)))) → (1 ≤ ((((mc - 1) - kc_3) - 1) - 1) ∧ 4 ≤ ((((ms - 10) - ks_4) - 3) - 60) ∧ ∀ q_17 : Nat, h_16 q_17 = none → ∀ h_18 : ga_H, h_18 = ga_set h_16 q_17 (ga_O 22 [va_rf none, .int 0, .int 0, .int 0]) → (∃ kc_19 ks_20 : Nat, kc_19 ≤ (((((mc - 1) - kc_3) - 1) - 1) - 1) ∧ ks_20 ≤ (((((ms - 10) - ks_4) - 3) - 60) - 4) ∧ gw_J6_init K q_17 h_18 kc_19 ks_20 (fun (h_21 : ga_H) => ∃ fs_22 : List Value, h_21 p0 = some (ga_O 0 fs_22) ∧ 4 < fs_22.length ∧ ∀ h_23 : ga_H, h_23 = ga_set h_21 p0 (ga_O 0 (fs_22.set 4 (va_rf (some q_17)))) → (post h_23)))))))))))
set_option maxHeartbeats 4000000 in
theorem gm_X1_init (l : Launch) (g : ga_G) (p0 : Nat) (h : ga_H) (mc ms : Nat) (post : ga_H → Prop) (hw : gw_X1_init g.2.2 p0 h mc ms post) : Met l yX1_init (ws_ yX1_init cX1_init 1 none) ({ frames := 14, cells := mc, slots := ms, locals := 262 } : Room) (va_Pc [.ref p0] (ga_B g h)) (va_Qv post (ga_E g) (ga_A g)) mc ms (ga_A g) := by
  refine ga_met (own := "PaperStore") (nm := "<init>") (by decide) rfl rfl (by exact Nat.le_of_ble_eq_true rfl) (fun p e s m below meth c ls hC hI hl => ?_)
  have hl : lv_has ls 1 [(0, .ref p0)] := hl
  generalize ([.ref p0] : List Value).toArray = args at hC ⊢
  obtain ⟨hx, hb, hml, hown, hts, hr, hlk, hnm⟩ := hC
  unfold gw_X1_init at hw
  obtain ⟨H, eH⟩ : ∃ z, z = s.heap := ⟨_, rfl⟩
  obtain ⟨locs, elo⟩ : ∃ z : List Loc, z = [] := ⟨_, rfl⟩
  rw [← eH, ← elo] at hI ⊢
  obtain ⟨cells, slots, hbc, hbs, e0, e1⟩ : ∃ a b : Nat, a + mc ≤ mc ∧ b + ms ≤ ms ∧ a = 0 ∧ b = 0 := ⟨0, 0, by omega, by omega, rfl, rfl⟩
  show W p l e ({ frames := 14, cells := mc, slots := ms, locals := 262 } : Room) s m args below meth c H locs 0 0 (MQ below (va_Qv post (ga_E g) (ga_A g)) args s mc ms (ga_A g)) (F0 m 0 ls [])
  suffices hgoal : W p l e ({ frames := 14, cells := mc, slots := ms, locals := 262 } : Room) s m args below meth c H locs cells slots (MQ below (va_Qv post (ga_E g) (ga_A g)) args s mc ms (ga_A g)) (F0 m 0 ls []) by rw [e0, e1] at hgoal; exact hgoal
  refine lv_aload_n hx hb dX1_init_0 rfl (lv_at hl 0 rfl) ?_
  refine W.objInit hx hb hown (hts _ q178) (hts _ q179) (hts _ q180) rfl (by rw [hml]; exact hl.1) rfl dX1_init_1 (Nat.le_of_ble_eq_true rfl) (by have := ga_sum [] (Nat.le_of_ble_eq_true rfl); exact Nat.le_trans (Nat.add_le_add_right (Nat.add_le_add_left this 0) 12) (Nat.le_of_ble_eq_true rfl)) ?_
  refine W.eq (g2 := F0 m 4 ls []) rfl ?_
  refine lv_aload_n hx hb dX1_init_4 rfl (lv_at hl 0 rfl) ?_
  refine ga_new (ci := 1) (T := TX2) hx hb hts hown hI in_X2 rfl tyX2 tyX2_ok q181 q182 q101 [va_rf none, va_rf none, va_rf none, va_rf none, va_rf none, va_rf none, .int 0, .int 0, .int 0, .int 0] ga_df_X2 hbc hbs hw.1 hw.2.1 dX1_init_5 (fun q_1 H cells slots hn_q_1 hI hbc hbs => ?_)
  obtain ⟨h_2, eh_2⟩ : ∃ z, z = ga_set h q_1 (ga_O 1 [va_rf none, va_rf none, va_rf none, va_rf none, va_rf none, va_rf none, .int 0, .int 0, .int 0, .int 0]) := ⟨_, rfl⟩
  rw [← eh_2] at hI
  have hw := hw.2.2 q_1 hn_q_1 h_2 eh_2
  refine lv_dup hx hb dX1_init_8 rfl ?_
  obtain ⟨kc_3, ks_4, hk1, hk2, hw⟩ := hw
  refine ga_callv (va_runI (As := []) (rest := [.ref q_1, .ref p0]) ⟨hx, hb, hml, hown, hts⟩ (gm_X2_init l g q_1 h_2 kc_3 ks_4 _ hw) (cwI 0 hts (lw_meth q185) rfl rfl rfl (hts _ q101) (hts _ q183) (hts _ q184) rfl hdG_X2_init ⟨Nat.le_of_ble_eq_true rfl, Nat.le_of_ble_eq_true rfl⟩) (ga_preS hI rfl) rfl rfl hl.1 rfl (ga_room (Nat.le_of_ble_eq_true rfl)) dX1_init_9 ⟨Nat.le_trans (Nat.add_le_add_left hk1 _) hbc, Nat.le_trans (Nat.add_le_add_left hk2 _) hbs⟩) hI hbc hbs hk1 hk2 (fun h_5 H locs cells slots hw hI hbc hbs => ?_)
  obtain ⟨fs_6, hq, hk, hw⟩ := hw
  refine ga_put (ci := 0) (T := TX1) (v := va_rf (some q_1)) (ty := tyX1 0) hx hb hts hown hI in_X1 rfl tyX1 tyX1_ok nmX1 0 (by decide) q387 (fun _ z => z) rfl (tyX1_ok 0 (by decide)) (ga_nq _ _) (ga_fq _ _) hq hk dX1_init_12 (fun H locs hI => ?_)
  obtain ⟨h_7, eh_7⟩ : ∃ z, z = ga_set h_5 p0 (ga_O 0 (fs_6.set 0 (va_rf (some q_1)))) := ⟨_, rfl⟩
  rw [← eh_7] at hI
  have hw := hw h_7 eh_7
  refine lv_aload_n hx hb dX1_init_15 rfl (lv_at hl 0 rfl) ?_
  refine ga_new (ci := 13) (T := TJ2) hx hb hts hown hI in_J2 rfl tyJ2 tyJ2_ok q351 q190 q104 [.int 0, va_rf none, .int 0] ga_df_J2 hbc hbs hw.1 hw.2.1 dX1_init_16 (fun q_8 H cells slots hn_q_8 hI hbc hbs => ?_)
  obtain ⟨h_9, eh_9⟩ : ∃ z, z = ga_set h_7 q_8 (ga_O 13 [.int 0, va_rf none, .int 0]) := ⟨_, rfl⟩
  rw [← eh_9] at hI
  have hw := hw.2.2 q_8 hn_q_8 h_9 eh_9
  refine lv_dup hx hb dX1_init_19 rfl ?_
  refine ga_callv (va_runI (As := []) (rest := [.ref q_8, .ref p0]) ⟨hx, hb, hml, hown, hts⟩ (gm_J2_init l g q_8 h_9 _ hw) (cwI 0 hts (lw_meth q193) rfl rfl rfl (hts _ q104) (hts _ q352) (hts _ q192) rfl hdG_J2_init ⟨Nat.le_of_ble_eq_true rfl, Nat.le_of_ble_eq_true rfl⟩) (ga_preS hI rfl) rfl rfl hl.1 rfl (ga_room (Nat.le_of_ble_eq_true rfl)) dX1_init_20 ⟨Nat.le_trans (Nat.add_le_add_left (Nat.zero_le _) _) hbc, Nat.le_trans (Nat.add_le_add_left (Nat.zero_le _) _) hbs⟩) hI hbc hbs (Nat.zero_le _) (Nat.zero_le _) (fun h_10 H locs cells slots hw hI hbc hbs => ?_)
  obtain ⟨fs_11, hq, hk, hw⟩ := hw
  refine ga_putF (ci := 0) (T := TX1) (v := va_rf (some q_8)) (ty := tyX1 2) hx hb hts hown hI in_X1 rfl tyX1 tyX1_ok nmX1 2 (by decide) q389 (fun _ z => z) rfl hnm rfl (tyX1_ok 2 (by decide)) (ga_nq _ _) (ga_fq _ _) hq hk dX1_init_23 (fun H locs hI => ?_)
  obtain ⟨h_12, eh_12⟩ : ∃ z, z = ga_set h_10 p0 (ga_O 0 (fs_11.set 2 (va_rf (some q_8)))) := ⟨_, rfl⟩
  rw [← eh_12] at hI
  have hw := hw h_12 eh_12
  refine lv_aload_n hx hb dX1_init_26 rfl (lv_at hl 0 rfl) ?_
  refine lv_bipush (v := 60) hx hb dX1_init_27 (by decide) ?_
  refine ga_nac hx hb hts hI q385 hbc hbs (by decide) (N := 60) rfl (Nat.le_of_ble_eq_true rfl) hw.1 hw.2.1 dX1_init_29 (fun q_13 H cells slots hn_q_13 hI hbc hbs => ?_)
  obtain ⟨h_14, eh_14⟩ : ∃ z, z = ga_set h_12 q_13 (ga_Ac 60 (fun _ => 0)) := ⟨_, rfl⟩
  rw [← eh_14] at hI
  have hw := hw.2.2 q_13 hn_q_13 h_14 eh_14
  obtain ⟨fs_15, hq, hk, hw⟩ := hw
  refine ga_putF (ci := 0) (T := TX1) (v := va_rf (some q_13)) (ty := tyX1 3) hx hb hts hown hI in_X1 rfl tyX1 tyX1_ok nmX1 3 (by decide) q390 (fun _ z => z) rfl hnm rfl (tyX1_ok 3 (by decide)) (ga_nq' _ _) (ga_fq' _ _) hq hk dX1_init_31 (fun H locs hI => ?_)
  obtain ⟨h_16, eh_16⟩ : ∃ z, z = ga_set h_14 p0 (ga_O 0 (fs_15.set 3 (va_rf (some q_13)))) := ⟨_, rfl⟩
  rw [← eh_16] at hI
  have hw := hw h_16 eh_16
  refine lv_aload_n hx hb dX1_init_34 rfl (lv_at hl 0 rfl) ?_
  refine ga_new (ci := 22) (T := TJ6) hx hb hts hown hI in_J6 rfl tyJ6 tyJ6_ok q353 q354 q110 [va_rf none, .int 0, .int 0, .int 0] ga_df_J6 hbc hbs hw.1 hw.2.1 dX1_init_35 (fun q_17 H cells slots hn_q_17 hI hbc hbs => ?_)
  obtain ⟨h_18, eh_18⟩ : ∃ z, z = ga_set h_16 q_17 (ga_O 22 [va_rf none, .int 0, .int 0, .int 0]) := ⟨_, rfl⟩
  rw [← eh_18] at hI
  have hw := hw.2.2 q_17 hn_q_17 h_18 eh_18
  refine lv_dup hx hb dX1_init_38 rfl ?_
  obtain ⟨kc_19, ks_20, hk1, hk2, hw⟩ := hw
  refine ga_callv (va_runI (As := []) (rest := [.ref q_17, .ref p0]) ⟨hx, hb, hml, hown, hts⟩ (gm_J6_init l g q_17 h_18 kc_19 ks_20 _ hw) (cwI 0 hts (lw_meth q357) rfl rfl rfl (hts _ q110) (hts _ q355) (hts _ q356) rfl hdG_J6_init ⟨Nat.le_of_ble_eq_true rfl, Nat.le_of_ble_eq_true rfl⟩) (ga_preS hI rfl) rfl rfl hl.1 rfl (ga_room (Nat.le_of_ble_eq_true rfl)) dX1_init_39 ⟨Nat.le_trans (Nat.add_le_add_left hk1 _) hbc, Nat.le_trans (Nat.add_le_add_left hk2 _) hbs⟩) hI hbc hbs hk1 hk2 (fun h_21 H locs cells slots hw hI hbc hbs => ?_)
  obtain ⟨fs_22, hq, hk, hw⟩ := hw
  refine ga_putF (ci := 0) (T := TX1) (v := va_rf (some q_17)) (ty := tyX1 4) hx hb hts hown hI in_X1 rfl tyX1 tyX1_ok nmX1 4 (by decide) q391 (fun _ z => z) rfl hnm rfl (tyX1_ok 4 (by decide)) (ga_nq _ _) (ga_fq _ _) hq hk dX1_init_42 (fun H locs hI => ?_)
  obtain ⟨h_23, eh_23⟩ : ∃ z, z = ga_set h_21 p0 (ga_O 0 (fs_22.set 4 (va_rf (some q_17)))) := ⟨_, rfl⟩
  rw [← eh_23] at hI
  have hw := hw h_23 eh_23
  exact ga_vret hx hb hr hlk hI hw (Nat.le_trans (Nat.le_add_right _ _) hbc) (Nat.le_trans (Nat.le_add_right _ _) hbs) dX1_init_45
theorem hdG_X1_init : yX1_init.cls ≠ "java/lang/invoke/MethodHandle" ∧ yX1_init.cls ≠ "java/lang/invoke/VarHandle" ∧ (parseMethodDescriptor yX1_init.desc).map (fun d => d.parameters.length) = some 0 := by decide +kernel
def gw_J40_wordIndex (p0 : Int32) (post : Int32 → Prop) : Prop :=
  post (p0 >>> ((6 : Int32) &&& 31))
set_option maxHeartbeats 4000000 in
theorem gm_J40_wordIndex (l : Launch) (p0 : Int32) (post : Int32 → Prop) (hw : gw_J40_wordIndex p0 post) : Met l yJ40_wordIndex (ws_ yJ40_wordIndex cJ40_wordIndex 1 (some .int)) ({ frames := 8, cells := 0, slots := 0, locals := 140 } : Room) (va_Pc [.int p0] (fun _ => True)) (vp_Si post) 0 0 (fun _ => False) := by
  refine ga_metS (own := "java/util/BitSet") (nm := "wordIndex") (by decide) rfl rfl (by exact Nat.le_of_ble_eq_true rfl) (fun p e s m below meth c ls hC hl => ?_)
  have hl : lv_has ls 1 [(0, .int p0)] := hl
  generalize ([.int p0] : List Value).toArray = args at hC ⊢
  obtain ⟨hx, hb, hml, hown, hts, hr, hlk, hnm⟩ := hC
  unfold gw_J40_wordIndex at hw
  refine lv_iload_n hx hb dJ40_wordIndex_0 rfl (lv_at hl 0 rfl) ?_
  refine lv_bipush (v := 6) hx hb dJ40_wordIndex_1 (by decide) ?_
  refine lv_ishr hx hb dJ40_wordIndex_3 ?_
  exact ga_sret hx hb hr hlk rfl hw dJ40_wordIndex_4
theorem hdG_J40_wordIndex : yJ40_wordIndex.cls ≠ "java/lang/invoke/MethodHandle" ∧ yJ40_wordIndex.cls ≠ "java/lang/invoke/VarHandle" ∧ (parseMethodDescriptor yJ40_wordIndex.desc).map (fun d => d.parameters.length) = some 1 := by decide +kernel
def gw_J40_initWords (K : ga_K) (p0 : Nat) (p1 : Int32) (h : ga_H) (mc ms : Nat) (post : ga_H → Prop) : Prop :=
  gw_J40_wordIndex (p1 - (1 : Int32)) (fun (r_1 : Int32) => ¬ (r_1 + (1 : Int32)) < 0 ∧ (r_1 + (1 : Int32)).toNatClampNeg ≤ 1000000 ∧ 1 ≤ mc ∧ (r_1 + (1 : Int32)).toNatClampNeg ≤ ms ∧ ∀ q_2 : Nat, h q_2 = none → ∀ h_3 : ga_H, h_3 = ga_set h q_2 (ga_Al ((r_1 + (1 : Int32)).toNatClampNeg) (fun _ => 0)) → (∃ fs_4 : List Value, h_3 p0 = some (ga_O 25 fs_4) ∧ 0 < fs_4.length ∧ ∀ h_5 : ga_H, h_5 = ga_set h_3 p0 (ga_O 25 (fs_4.set 0 (va_rf (some q_2)))) → (post h_5)))
set_option maxHeartbeats 4000000 in
theorem gm_J40_initWords (l : Launch) (g : ga_G) (p0 : Nat) (p1 : Int32) (h : ga_H) (mc ms : Nat) (post : ga_H → Prop) (hw : gw_J40_initWords g.2.2 p0 p1 h mc ms post) : Met l yJ40_initWords (ws_ yJ40_initWords cJ40_initWords 2 none) ({ frames := 9, cells := mc, slots := ms, locals := 160 } : Room) (va_Pc [.ref p0, .int p1] (ga_B g h)) (va_Qv post (ga_E g) (ga_A g)) mc ms (ga_A g) := by
  refine ga_met (own := "java/util/BitSet") (nm := "initWords") (by decide) rfl rfl (by exact Nat.le_of_ble_eq_true rfl) (fun p e s m below meth c ls hC hI hl => ?_)
  have hl : lv_has ls 2 [(0, .ref p0), (1, .int p1)] := hl
  generalize ([.ref p0, .int p1] : List Value).toArray = args at hC ⊢
  obtain ⟨hx, hb, hml, hown, hts, hr, hlk, hnm⟩ := hC
  unfold gw_J40_initWords at hw
  obtain ⟨H, eH⟩ : ∃ z, z = s.heap := ⟨_, rfl⟩
  obtain ⟨locs, elo⟩ : ∃ z : List Loc, z = [] := ⟨_, rfl⟩
  rw [← eH, ← elo] at hI ⊢
  obtain ⟨cells, slots, hbc, hbs, e0, e1⟩ : ∃ a b : Nat, a + mc ≤ mc ∧ b + ms ≤ ms ∧ a = 0 ∧ b = 0 := ⟨0, 0, by omega, by omega, rfl, rfl⟩
  show W p l e ({ frames := 9, cells := mc, slots := ms, locals := 160 } : Room) s m args below meth c H locs 0 0 (MQ below (va_Qv post (ga_E g) (ga_A g)) args s mc ms (ga_A g)) (F0 m 0 ls [])
  suffices hgoal : W p l e ({ frames := 9, cells := mc, slots := ms, locals := 160 } : Room) s m args below meth c H locs cells slots (MQ below (va_Qv post (ga_E g) (ga_A g)) args s mc ms (ga_A g)) (F0 m 0 ls []) by rw [e0, e1] at hgoal; exact hgoal
  refine lv_aload_n hx hb dJ40_initWords_0 rfl (lv_at hl 0 rfl) ?_
  refine lv_iload_n hx hb dJ40_initWords_1 rfl (lv_at hl 1 rfl) ?_
  refine lv_iconst (v := 1) hx hb dJ40_initWords_2 (by decide) ?_
  refine lv_isub hx hb dJ40_initWords_3 ?_
  refine ga_callS (As := [.int (p1 - (1 : Int32))]) (rest := [.ref p0]) ⟨hx, hb, hml, hown, hts⟩ (gm_J40_wordIndex l (p1 - (1 : Int32)) _ hw) (va_cwS 1 hts (lw_S q426 q427 q155 q428) rfl rfl rfl hdG_J40_wordIndex ⟨Nat.le_of_ble_eq_true rfl, Nat.le_of_ble_eq_true rfl⟩) rfl hl.1 rfl (ga_room (Nat.le_of_ble_eq_true rfl)) dJ40_initWords_4 hbc hbs (fun r_1 hw => ?_)
  refine lv_iconst (v := 1) hx hb dJ40_initWords_7 (by decide) ?_
  refine lv_iadd hx hb dJ40_initWords_8 ?_
  refine ga_nal hx hb hts hI q439 hbc hbs hw.1 (N := (r_1 + (1 : Int32)).toNatClampNeg) rfl hw.2.1 hw.2.2.1 hw.2.2.2.1 dJ40_initWords_9 (fun q_2 H cells slots hn_q_2 hI hbc hbs => ?_)
  obtain ⟨h_3, eh_3⟩ : ∃ z, z = ga_set h q_2 (ga_Al ((r_1 + (1 : Int32)).toNatClampNeg) (fun _ => 0)) := ⟨_, rfl⟩
  rw [← eh_3] at hI
  have hw := hw.2.2.2.2 q_2 hn_q_2 h_3 eh_3
  obtain ⟨fs_4, hq, hk, hw⟩ := hw
  refine ga_put (ci := 25) (T := TJ40) (v := va_rf (some q_2)) (ty := tyJ40 0) hx hb hts hown hI in_J40 rfl tyJ40 tyJ40_ok nmJ40 0 (by decide) q429 (fun _ z => z) rfl (tyJ40_ok 0 (by decide)) (ga_nq' _ _) (ga_fq' _ _) hq hk dJ40_initWords_11 (fun H locs hI => ?_)
  obtain ⟨h_5, eh_5⟩ : ∃ z, z = ga_set h_3 p0 (ga_O 25 (fs_4.set 0 (va_rf (some q_2)))) := ⟨_, rfl⟩
  rw [← eh_5] at hI
  have hw := hw h_5 eh_5
  exact ga_vret hx hb hr hlk hI hw (Nat.le_trans (Nat.le_add_right _ _) hbc) (Nat.le_trans (Nat.le_add_right _ _) hbs) dJ40_initWords_14
theorem hdG_J40_initWords : yJ40_initWords.cls ≠ "java/lang/invoke/MethodHandle" ∧ yJ40_initWords.cls ≠ "java/lang/invoke/VarHandle" ∧ (parseMethodDescriptor yJ40_initWords.desc).map (fun d => d.parameters.length) = some 1 := by decide +kernel
def gw_J40_init (K : ga_K) (p0 : Nat) (p1 : Int32) (h : ga_H) (mc ms : Nat) (post : ga_H → Prop) : Prop :=
  ∃ fs_1 : List Value, h p0 = some (ga_O 25 fs_1) ∧ 1 < fs_1.length ∧ ∀ h_2 : ga_H, h_2 = ga_set h p0 (ga_O 25 (fs_1.set 1 (.int (0 : Int32)))) → (∃ fs_3 : List Value, h_2 p0 = some (ga_O 25 fs_3) ∧ 2 < fs_3.length ∧ ∀ h_4 : ga_H, h_4 = ga_set h_2 p0 (ga_O 25 (fs_3.set 2 (.int (0 : Int32)))) → (((0 : Int32) ≤ p1 → (∃ kc_6 ks_7 : Nat, kc_6 ≤ mc ∧ ks_7 ≤ ms ∧ ∃ fs_8 : List Value, ga_at K h_4 p0 (ga_O 25 fs_8) ∧ gw_J40_initWords K p0 p1 h_4 kc_6 ks_7 (fun (h_9 : ga_H) => ∃ fs_10 : List Value, h_9 p0 = some (ga_O 25 fs_10) ∧ 2 < fs_10.length ∧ ∀ h_11 : ga_H, h_11 = ga_set h_9 p0 (ga_O 25 (fs_10.set 2 (.int (1 : Int32)))) → (post h_11)))) ∧ (¬ (0 : Int32) ≤ p1 → False)))
set_option maxHeartbeats 4000000 in
theorem gm_J40_init (l : Launch) (g : ga_G) (p0 : Nat) (p1 : Int32) (h : ga_H) (mc ms : Nat) (post : ga_H → Prop) (hw : gw_J40_init g.2.2 p0 p1 h mc ms post) : Met l yJ40_init (ws_ yJ40_init cJ40_init 2 none) ({ frames := 20, cells := mc, slots := ms, locals := 407 } : Room) (va_Pc [.ref p0, .int p1] (ga_B g h)) (va_Qv post (ga_E g) (ga_A g)) mc ms (ga_A g) := by
  refine ga_met (own := "java/util/BitSet") (nm := "<init>") (by decide) rfl rfl (by exact Nat.le_of_ble_eq_true rfl) (fun p e s m below meth c ls hC hI hl => ?_)
  have hl : lv_has ls 2 [(0, .ref p0), (1, .int p1)] := hl
  generalize ([.ref p0, .int p1] : List Value).toArray = args at hC ⊢
  obtain ⟨hx, hb, hml, hown, hts, hr, hlk, hnm⟩ := hC
  unfold gw_J40_init at hw
  obtain ⟨H, eH⟩ : ∃ z, z = s.heap := ⟨_, rfl⟩
  obtain ⟨locs, elo⟩ : ∃ z : List Loc, z = [] := ⟨_, rfl⟩
  rw [← eH, ← elo] at hI ⊢
  obtain ⟨cells, slots, hbc, hbs, e0, e1⟩ : ∃ a b : Nat, a + mc ≤ mc ∧ b + ms ≤ ms ∧ a = 0 ∧ b = 0 := ⟨0, 0, by omega, by omega, rfl, rfl⟩
  show W p l e ({ frames := 20, cells := mc, slots := ms, locals := 407 } : Room) s m args below meth c H locs 0 0 (MQ below (va_Qv post (ga_E g) (ga_A g)) args s mc ms (ga_A g)) (F0 m 0 ls [])
  suffices hgoal : W p l e ({ frames := 20, cells := mc, slots := ms, locals := 407 } : Room) s m args below meth c H locs cells slots (MQ below (va_Qv post (ga_E g) (ga_A g)) args s mc ms (ga_A g)) (F0 m 0 ls []) by rw [e0, e1] at hgoal; exact hgoal
  refine lv_aload_n hx hb dJ40_init_0 rfl (lv_at hl 0 rfl) ?_
  refine W.objInit hx hb hown (hts _ q421) (hts _ q179) (hts _ q180) rfl (by rw [hml]; exact hl.1) rfl dJ40_init_1 (Nat.le_of_ble_eq_true rfl) (by have := ga_sum [] (Nat.le_of_ble_eq_true rfl); exact Nat.le_trans (Nat.add_le_add_right (Nat.add_le_add_left this 0) 12) (Nat.le_of_ble_eq_true rfl)) ?_
  refine W.eq (g2 := F0 m 4 ls []) rfl ?_
  refine lv_aload_n hx hb dJ40_init_4 rfl (lv_at hl 0 rfl) ?_
  refine lv_iconst (v := 0) hx hb dJ40_init_5 (by decide) ?_
  obtain ⟨fs_1, hq, hk, hw⟩ := hw
  refine ga_put (ci := 25) (T := TJ40) (v := .int (0 : Int32)) (ty := tyJ40 1) hx hb hts hown hI in_J40 rfl tyJ40 tyJ40_ok nmJ40 1 (by decide) q430 (fun _ z => z) rfl (tyJ40_ok 1 (by decide)) rfl rfl hq hk dJ40_init_6 (fun H locs hI => ?_)
  obtain ⟨h_2, eh_2⟩ : ∃ z, z = ga_set h p0 (ga_O 25 (fs_1.set 1 (.int (0 : Int32)))) := ⟨_, rfl⟩
  rw [← eh_2] at hI
  have hw := hw h_2 eh_2
  refine lv_aload_n hx hb dJ40_init_9 rfl (lv_at hl 0 rfl) ?_
  refine lv_iconst (v := 0) hx hb dJ40_init_10 (by decide) ?_
  obtain ⟨fs_3, hq, hk, hw⟩ := hw
  refine ga_put (ci := 25) (T := TJ40) (v := .int (0 : Int32)) (ty := tyJ40 2) hx hb hts hown hI in_J40 rfl tyJ40 tyJ40_ok nmJ40 2 (by decide) q431 (fun _ z => z) rfl (tyJ40_ok 2 (by decide)) rfl rfl hq hk dJ40_init_11 (fun H locs hI => ?_)
  obtain ⟨h_4, eh_4⟩ : ∃ z, z = ga_set h_2 p0 (ga_O 25 (fs_3.set 2 (.int (0 : Int32)))) := ⟨_, rfl⟩
  rw [← eh_4] at hI
  have hw := hw h_4 eh_4
  refine lv_iload_n hx hb dJ40_init_14 rfl (lv_at hl 1 rfl) ?_
  refine lv_if_ge (tgt := 45) hx hb dJ40_init_15 (by decide) (fun hc_5 => ?_) (fun hc_5 => ?_)
  · have hw := hw.1 hc_5
    refine lv_aload_n hx hb dJ40_init_45 rfl (lv_at hl 0 rfl) ?_
    refine lv_iload_n hx hb dJ40_init_46 rfl (lv_at hl 1 rfl) ?_
    obtain ⟨kc_6, ks_7, hk1, hk2, hw⟩ := hw
    obtain ⟨fs_8, hq, hw⟩ := hw
    refine ga_callv (va_runV (As := [.int p1]) (rest := []) ⟨hx, hb, hml, hown, hts⟩ (gm_J40_initWords l g p0 p1 h_4 kc_6 ks_7 _ hw) (cwV 1 hts (lw_V q422 q424 qs0 q155 q425) rfl rfl rfl ⟨rfl, hdG_J40_initWords⟩ ⟨Nat.le_of_ble_eq_true rfl, Nat.le_of_ble_eq_true rfl⟩) (ga_preV hI hq rfl rfl) rfl rfl hl.1 rfl (ga_room (Nat.le_of_ble_eq_true rfl)) dJ40_init_47 ⟨Nat.le_trans (Nat.add_le_add_left hk1 _) hbc, Nat.le_trans (Nat.add_le_add_left hk2 _) hbs⟩) hI hbc hbs hk1 hk2 (fun h_9 H locs cells slots hw hI hbc hbs => ?_)
    refine lv_aload_n hx hb dJ40_init_50 rfl (lv_at hl 0 rfl) ?_
    refine lv_iconst (v := 1) hx hb dJ40_init_51 (by decide) ?_
    obtain ⟨fs_10, hq, hk, hw⟩ := hw
    refine ga_put (ci := 25) (T := TJ40) (v := .int (1 : Int32)) (ty := tyJ40 2) hx hb hts hown hI in_J40 rfl tyJ40 tyJ40_ok nmJ40 2 (by decide) q431 (fun _ z => z) rfl (tyJ40_ok 2 (by decide)) rfl rfl hq hk dJ40_init_52 (fun H locs hI => ?_)
    obtain ⟨h_11, eh_11⟩ : ∃ z, z = ga_set h_9 p0 (ga_O 25 (fs_10.set 2 (.int (1 : Int32)))) := ⟨_, rfl⟩
    rw [← eh_11] at hI
    have hw := hw h_11 eh_11
    exact ga_vret hx hb hr hlk hI hw (Nat.le_trans (Nat.le_add_right _ _) hbc) (Nat.le_trans (Nat.le_add_right _ _) hbs) dJ40_init_55
  · have hw := hw.2 hc_5
    exact hw.elim
theorem hdG_J40_init : yJ40_init.cls ≠ "java/lang/invoke/MethodHandle" ∧ yJ40_init.cls ≠ "java/lang/invoke/VarHandle" ∧ (parseMethodDescriptor yJ40_init.desc).map (fun d => d.parameters.length) = some 1 := by decide +kernel
def gw_J13_copyOf_4 (K : ga_K) (p0 : Option Nat) (p1 : Int32) (h : ga_H) (mc ms : Nat) (post : Option Nat → ga_H → Prop) : Prop :=
  ∃ a_1 : Nat, p0 = some a_1 ∧ ∃ (n_2 : Nat) (f_3 : Nat → Int64), h a_1 = some (ga_Al n_2 f_3) ∧ ((¬ p1 = nI n_2 → False) ∧ (p1 = nI n_2 → False))
set_option maxHeartbeats 4000000 in
theorem gm_J13_copyOf_4 (l : Launch) (g : ga_G) (p0 : Option Nat) (p1 : Int32) (h : ga_H) (mc ms : Nat) (post : Option Nat → ga_H → Prop) (hw : gw_J13_copyOf_4 g.2.2 p0 p1 h mc ms post) : Met l yJ13_copyOf_4 (ws_ yJ13_copyOf_4 cJ13_copyOf_4 3 (some (.array .long))) ({ frames := 8, cells := mc, slots := ms, locals := 140 } : Room) (va_Pc [va_rf p0, .int p1] (ga_B g h)) (va_Qq post (ga_E g) (ga_A g)) mc ms (ga_A g) := by
  refine ga_met (own := "java/util/Arrays") (nm := "copyOf") (by decide) rfl rfl (by cases p0 <;> exact Nat.le_of_ble_eq_true rfl) (fun p e s m below meth c ls hC hI hl => ?_)
  have hl : lv_has ls 3 [(0, va_rf p0), (1, .int p1)] := (by cases p0 <;> exact hl)
  generalize ([va_rf p0, .int p1] : List Value).toArray = args at hC ⊢
  obtain ⟨hx, hb, hml, hown, hts, hr, hlk, hnm⟩ := hC
  unfold gw_J13_copyOf_4 at hw
  obtain ⟨H, eH⟩ : ∃ z, z = s.heap := ⟨_, rfl⟩
  obtain ⟨locs, elo⟩ : ∃ z : List Loc, z = [] := ⟨_, rfl⟩
  rw [← eH, ← elo] at hI ⊢
  obtain ⟨cells, slots, hbc, hbs, e0, e1⟩ : ∃ a b : Nat, a + mc ≤ mc ∧ b + ms ≤ ms ∧ a = 0 ∧ b = 0 := ⟨0, 0, by omega, by omega, rfl, rfl⟩
  show W p l e ({ frames := 8, cells := mc, slots := ms, locals := 140 } : Room) s m args below meth c H locs 0 0 (MQ below (va_Qq post (ga_E g) (ga_A g)) args s mc ms (ga_A g)) (F0 m 0 ls [])
  suffices hgoal : W p l e ({ frames := 8, cells := mc, slots := ms, locals := 140 } : Room) s m args below meth c H locs cells slots (MQ below (va_Qq post (ga_E g) (ga_A g)) args s mc ms (ga_A g)) (F0 m 0 ls []) by rw [e0, e1] at hgoal; exact hgoal
  refine lv_iload_n hx hb dJ13_copyOf_4_0 rfl (lv_at hl 1 rfl) ?_
  refine ga_aload_n hx hb dJ13_copyOf_4_1 rfl (lv_at hl 0 rfl) ?_
  obtain ⟨a_1, ea_1, hw⟩ := hw
  rewrite [ea_1]
  obtain ⟨n_2, f_3, hq, hw⟩ := hw
  refine ga_len hx hb hI (ga_at.h hq) rfl dJ13_copyOf_4_2 ?_
  refine lv_icmp_ne (tgt := 14) hx hb dJ13_copyOf_4_3 (by decide) (fun hc_4 => ?_) (fun hc_4 => ?_)
  · have hw := hw.1 hc_4
    exact hw.elim
  · have hw := hw.2 hc_4
    exact hw.elim
theorem hdG_J13_copyOf_4 : yJ13_copyOf_4.cls ≠ "java/lang/invoke/MethodHandle" ∧ yJ13_copyOf_4.cls ≠ "java/lang/invoke/VarHandle" ∧ (parseMethodDescriptor yJ13_copyOf_4.desc).map (fun d => d.parameters.length) = some 2 := by decide +kernel
