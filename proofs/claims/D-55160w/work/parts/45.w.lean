set_option maxRecDepth 100000
def gw_X2_bestLadder_95 (K : ga_K) (post : Int32 → ga_H → Prop) (hd20 : Int32 → Int32 → Int32 → ga_H → Prop) (p0 : Nat) (t0 : Int32) (v2 : Option Nat) (v4 : Int32) (v5 : Int32) (v7 : Int32) (h : ga_H) : Prop :=
  ∀ r_50 : Int32, r_50 = (if v4 < v7 then v7 else v4) → (hd20 t0 r_50 (v5 + (1 : Int32)) h)
set_option maxHeartbeats 4000000 in
theorem gj_X2_bestLadder_95 {p : Program} {l : Launch} {e : Env} {s : State} {m : MethodId} {args : Array Value} {below : List Frame} {meth : Method} {c : Code} {H : Heap} {locs : List Loc} {cells slots : Nat} {ls : Array Slot} (g : ga_G) (post : Int32 → ga_H → Prop) (hd20 : Int32 → Int32 → Int32 → ga_H → Prop) (p0 : Nat) (t0 : Int32) (v2 : Option Nat) (v4 : Int32) (v5 : Int32) (v7 : Int32) (h : ga_H) (hC : ga_Cx p s m args meth c cX2_bestLadder 8 (some .int) "PaperStore$Store" "bestLadder") (hw : gw_X2_bestLadder_95 g.2.2 post hd20 p0 t0 v2 v4 v5 v7 h) (hhd20 : ∀ (y0 : Int32) (y1 : Int32) (y2 : Int32) (T : ga_H) (H : Heap) (locs : List Loc) (cells slots : Nat) (ls : Array Slot), hd20 y0 y1 y2 T → ga_I g T s H locs → cells ≤ 0 → slots ≤ 0 → lv_has ls 8 [(0, .ref p0), (2, va_rf v2), (3, .int y0), (4, .int y1), (5, .int y2)] → W p l e ({ frames := 14, cells := 0, slots := 0, locals := 273 } : Room) s m args below meth c H locs cells slots (MQ below (va_Qi post (ga_E g) (ga_A g)) args s 0 0 (ga_A g)) (F0 m 20 ls [])) (hI : ga_I g h s H locs) (hbc : cells ≤ 0) (hbs : slots ≤ 0) (hl : lv_has ls 8 [(0, .ref p0), (2, va_rf v2), (4, .int v4), (5, .int v5), (7, .int v7)]) : W p l e ({ frames := 14, cells := 0, slots := 0, locals := 273 } : Room) s m args below meth c H locs cells slots (MQ below (va_Qi post (ga_E g) (ga_A g)) args s 0 0 (ga_A g)) (F0 m 95 ls [.int t0]) := by
  obtain ⟨hx, hb, hml, hown, hts, hr, hlk, hnm⟩ := hC
  unfold gw_X2_bestLadder_95 at hw
  refine lv_istore_n (i := 3) (lv' := [(3, .int t0), (0, .ref p0), (2, va_rf v2), (4, .int v4), (5, .int v5), (7, .int v7)]) hx hb dX2_bestLadder_95 rfl hl (by decide) (by simp [ga_rcat, ga_cat_r, ga_cat_i, ga_cat_f, ga_cat_l, ga_cat_d]) (fun ls hl => ?_)
  refine lv_iload hx hb dX2_bestLadder_96 (lv_at hl 3 rfl) ?_
  refine lv_iload hx hb dX2_bestLadder_98 (lv_at hl 5 rfl) ?_
  refine va_mmax hx hb (hml.trans hl.1.symm) hown (hts _ q2578) (hts _ q899) (hts _ q119) (hts _ q900) (Nat.le_of_ble_eq_true rfl) (Nat.le_trans (Nat.add_le_add_right (ga_sum [] (Nat.le_of_ble_eq_true rfl)) _) (Nat.le_of_ble_eq_true rfl)) hbc hbs dX2_bestLadder_100 ?_
  refine lv_topi (fun r_50 er_50 => ?_)
  have hw := hw r_50 er_50
  refine lv_istore (lv' := [(4, .int r_50), (3, .int t0), (0, .ref p0), (2, va_rf v2), (5, .int v5), (7, .int v7)]) hx hb dX2_bestLadder_103 hl (by decide) rfl (fun ls hl => ?_)
  refine lv_iinc (v := v5 + (1 : Int32)) (lv' := [(5, .int (v5 + (1 : Int32))), (4, .int r_50), (3, .int t0), (0, .ref p0), (2, va_rf v2), (7, .int v7)]) hx hb dX2_bestLadder_105 hl (k := 4) rfl rfl (by decide) rfl (fun ls hl => ?_)
  refine lv_goto (tgt := 20) hx hb dX2_bestLadder_108 (by decide) ?_
  exact hhd20 _ _ _ _ H locs cells slots ls hw hI hbc hbs (lv_sub hl [3, 4, 2, 1, 0] rfl)
def gw_X2_bestLadder (K : ga_K) (p0 : Nat) (p1 : Int32) (h : ga_H) (post : Int32 → ga_H → Prop) : Prop :=
  ∃ (fs_1 : List Value) (v_2 : Option Nat), h p0 = some (ga_O 1 fs_1) ∧ fs_1[2]? = some (va_rf v_2) ∧ (∃ a_3 : Nat, v_2 = some a_3 ∧ ∃ fs_4 : List Value, ga_at K h a_3 (ga_O 13 fs_4) ∧ gw_J2_get K a_3 p1 h (fun (r_6 : Option Nat) (h_5 : ga_H) => ga_ok K h_5 "PaperStore$Order" r_6 ∧ (∃ (In_7 : Int32 → Int32 → Int32 → ga_H → Prop) (mu_7 : Int32 → Int32 → Int32 → ga_H → Nat), In_7 (-1 : Int32) (0 : Int32) (0 : Int32) h_5 ∧ ∀ (x3_7 : Int32) (x4_7 : Int32) (x5_7 : Int32) (h_7 : ga_H), In_7 x3_7 x4_7 x5_7 h_7 → (∃ (fs_8 : List Value) (v_9 : Option Nat), h_7 p0 = some (ga_O 1 fs_8) ∧ fs_8[1]? = some (va_rf v_9) ∧ (∃ a_10 : Nat, v_9 = some a_10 ∧ ∃ fs_11 : List Value, ga_at K h_7 a_10 (ga_O 13 fs_11) ∧ gw_J2_size K a_10 h_7 (fun (r_13 : Int32) (h_12 : ga_H) => (r_13 ≤ x5_7 → (post x3_7 h_12)) ∧ (¬ r_13 ≤ x5_7 → (∃ a_15 : Nat, r_6 = some a_15 ∧ ∃ fs_16 : List Value, ga_at K h_12 a_15 (ga_O 6 fs_16) ∧ gw_X8_waits K a_15 h_12 (fun (r_18 : Int32) (h_17 : ga_H) => (r_18 = (0 : Int32) → (post x3_7 h_17)) ∧ (¬ r_18 = (0 : Int32) → (∃ (fs_20 : List Value) (v_21 : Option Nat), h_17 p0 = some (ga_O 1 fs_20) ∧ fs_20[1]? = some (va_rf v_21) ∧ (∃ a_22 : Nat, v_21 = some a_22 ∧ ∃ fs_23 : List Value, ga_at K h_17 a_22 (ga_O 13 fs_23) ∧ gw_J2_get K a_22 x5_7 h_17 (fun (r_25 : Option Nat) (h_24 : ga_H) => ga_ok K h_24 "PaperStore$Ladder" r_25 ∧ (∃ (fs_26 : List Value) (v_27 : Option Nat), h_24 p0 = some (ga_O 1 fs_26) ∧ fs_26[0]? = some (va_rf v_27) ∧ (∃ a_28 : Nat, r_25 = some a_28 ∧ ∃ (fs_29 : List Value) (v_30 : Int32), h_24 a_28 = some (ga_O 5 fs_29) ∧ fs_29[1]? = some (.int v_30) ∧ (∃ a_31 : Nat, v_27 = some a_31 ∧ ∃ (n_32 : Nat) (f_33 : Nat → Option Nat), h_24 a_31 = some (ga_Aq 6 n_32 f_33) ∧ vp_in v_30 n_32 ∧ ∀ v_34 : Option Nat, v_34 = f_33 v_30.toNatClampNeg → (∃ a_35 : Nat, r_6 = some a_35 ∧ ∃ (fs_36 : List Value) (v_37 : Option Nat), h_24 a_35 = some (ga_O 6 fs_36) ∧ fs_36[0]? = some (va_rf v_37) ∧ (∃ a_38 : Nat, r_25 = some a_38 ∧ ∃ (fs_39 : List Value) (v_40 : Int32), h_24 a_38 = some (ga_O 5 fs_39) ∧ fs_39[0]? = some (.int v_40) ∧ (∃ a_41 : Nat, r_6 = some a_41 ∧ ∃ fs_42 : List Value, ga_at K h_24 a_41 (ga_O 6 fs_42) ∧ gw_X8_lacks K a_41 h_24 (fun (r_44 : Int32) (h_43 : ga_H) => ∃ a_45 : Nat, v_34 = some a_45 ∧ ∃ fs_46 : List Value, ga_at K h_43 a_45 (ga_O 2 fs_46) ∧ gw_X3_gathers K a_45 v_37 v_40 r_44 (0 : Int32) h_43 (fun (r_48 : Int32) (h_47 : ga_H) => (r_48 ≤ x4_7 → (gw_X2_bestLadder_95 K post (fun (y0 : Int32) (y1 : Int32) (y2 : Int32) (T : ga_H) => In_7 y0 y1 y2 T ∧ mu_7 y0 y1 y2 T < mu_7 x3_7 x4_7 x5_7 h_7) p0 x3_7 r_6 x4_7 x5_7 r_48 h_47)) ∧ (¬ r_48 ≤ x4_7 → (gw_X2_bestLadder_95 K post (fun (y0 : Int32) (y1 : Int32) (y2 : Int32) (T : ga_H) => In_7 y0 y1 y2 T ∧ mu_7 y0 y1 y2 T < mu_7 x3_7 x4_7 x5_7 h_7) p0 x5_7 r_6 x4_7 x5_7 r_48 h_47)))))))))))))))))))))))
set_option maxHeartbeats 4000000 in
theorem gm_X2_bestLadder (l : Launch) (g : ga_G) (p0 : Nat) (p1 : Int32) (h : ga_H) (post : Int32 → ga_H → Prop) (hw : gw_X2_bestLadder g.2.2 p0 p1 h post) : Met l yX2_bestLadder (ws_ yX2_bestLadder cX2_bestLadder 8 (some .int)) ({ frames := 14, cells := 0, slots := 0, locals := 273 } : Room) (va_Pc [.ref p0, .int p1] (ga_B g h)) (va_Qi post (ga_E g) (ga_A g)) 0 0 (ga_A g) := by
  refine ga_met (own := "PaperStore$Store") (nm := "bestLadder") (by decide) rfl rfl (by exact Nat.le_of_ble_eq_true rfl) (fun p e s m below meth c ls hC hI hl => ?_)
  have hl : lv_has ls 8 [(0, .ref p0), (1, .int p1)] := hl
  generalize ([.ref p0, .int p1] : List Value).toArray = args at hC ⊢
  obtain ⟨hx, hb, hml, hown, hts, hr, hlk, hnm⟩ := hC
  unfold gw_X2_bestLadder at hw
  obtain ⟨H, eH⟩ : ∃ z, z = s.heap := ⟨_, rfl⟩
  obtain ⟨locs, elo⟩ : ∃ z : List Loc, z = [] := ⟨_, rfl⟩
  rw [← eH, ← elo] at hI ⊢
  obtain ⟨cells, slots, hbc, hbs, e0, e1⟩ : ∃ a b : Nat, a ≤ 0 ∧ b ≤ 0 ∧ a = 0 ∧ b = 0 := ⟨0, 0, by omega, by omega, rfl, rfl⟩
  show W p l e ({ frames := 14, cells := 0, slots := 0, locals := 273 } : Room) s m args below meth c H locs 0 0 (MQ below (va_Qi post (ga_E g) (ga_A g)) args s 0 0 (ga_A g)) (F0 m 0 ls [])
  suffices hgoal : W p l e ({ frames := 14, cells := 0, slots := 0, locals := 273 } : Room) s m args below meth c H locs cells slots (MQ below (va_Qi post (ga_E g) (ga_A g)) args s 0 0 (ga_A g)) (F0 m 0 ls []) by rw [e0, e1] at hgoal; exact hgoal
  refine lv_aload_n hx hb dX2_bestLadder_0 rfl (lv_at hl 0 rfl) ?_
  obtain ⟨fs_1, v_2, hq, hv, hw⟩ := hw
  refine ga_get (ci := 1) (T := TX2) (v := va_rf v_2) hx hb hts hown hI in_X2 rfl 2 (by decide) q314 (fun _ z => z) (ga_at.h hq) hv dX2_bestLadder_1 ?_
  refine lv_iload_n hx hb dX2_bestLadder_4 rfl (lv_at hl 1 rfl) ?_
  obtain ⟨a_3, ea_3, hw⟩ := hw
  rewrite [ea_3]
  obtain ⟨fs_4, hq, hw⟩ := hw
  refine ga_callq (va_runV (As := [.int p1]) (rest := []) ⟨hx, hb, hml, hown, hts⟩ (gm_J2_get l g a_3 p1 h _ hw) (cwV 1 hts (lw_V q2069 q839 q4120 q104 q841) rfl rfl rfl ⟨rfl, hdG_J2_get⟩ ⟨Nat.le_of_ble_eq_true rfl, Nat.le_of_ble_eq_true rfl⟩) (ga_preV hI hq rfl rfl) rfl rfl hl.1 rfl (ga_room (Nat.le_of_ble_eq_true rfl)) dX2_bestLadder_5 ⟨hbc, hbs⟩) hI (bc := 0) (bs := 0) hbc hbs (Nat.zero_le _) (Nat.zero_le _) (fun r_6 h_5 H locs cells slots hw hI hbc hbs => ?_)
  refine ga_cast (x := r_6) hx hb hts hown hI q1357 hw.1 dX2_bestLadder_8 ?_
  have hw := hw.2
  refine ga_astore_n (i := 2) (x := r_6) (lv' := [(2, va_rf r_6), (0, .ref p0), (1, .int p1)]) hx hb dX2_bestLadder_11 rfl hl (by decide) rfl (fun ls hl => ?_)
  refine lv_iconst (v := -1) hx hb dX2_bestLadder_12 (by decide) ?_
  refine lv_istore_n (i := 3) (lv' := [(3, .int (-1 : Int32)), (2, va_rf r_6), (0, .ref p0), (1, .int p1)]) hx hb dX2_bestLadder_13 rfl hl (by decide) (by simp [ga_rcat, ga_cat_r, ga_cat_i, ga_cat_f, ga_cat_l, ga_cat_d]) (fun ls hl => ?_)
  refine lv_iconst (v := 0) hx hb dX2_bestLadder_14 (by decide) ?_
  refine lv_istore (lv' := [(4, .int (0 : Int32)), (3, .int (-1 : Int32)), (2, va_rf r_6), (0, .ref p0), (1, .int p1)]) hx hb dX2_bestLadder_15 hl (by decide) rfl (fun ls hl => ?_)
  refine lv_iconst (v := 0) hx hb dX2_bestLadder_17 (by decide) ?_
  refine lv_istore (lv' := [(5, .int (0 : Int32)), (4, .int (0 : Int32)), (3, .int (-1 : Int32)), (2, va_rf r_6), (0, .ref p0), (1, .int p1)]) hx hb dX2_bestLadder_18 hl (by decide) rfl (fun ls hl => ?_)
  obtain ⟨In_7, mu_7, h0_7, hw⟩ := hw
  have hL_7 : ∀ (n : Nat) (x3_7 : Int32) (x4_7 : Int32) (x5_7 : Int32) (h_7 : ga_H) (H : Heap) (locs : List Loc) (cells slots : Nat) (ls : Array Slot), mu_7 x3_7 x4_7 x5_7 h_7 < n → In_7 x3_7 x4_7 x5_7 h_7 → ga_I g h_7 s H locs → cells ≤ 0 → slots ≤ 0 → lv_has ls 8 [(0, .ref p0), (2, va_rf r_6), (3, .int x3_7), (4, .int x4_7), (5, .int x5_7)] → W p l e ({ frames := 14, cells := 0, slots := 0, locals := 273 } : Room) s m args below meth c H locs cells slots (MQ below (va_Qi post (ga_E g) (ga_A g)) args s 0 0 (ga_A g)) (F0 m 20 ls []) := by
    intro n
    induction n with
    | zero => intro x3_7 x4_7 x5_7 h_7 H locs cells slots ls hn _ _ _ _ _; exact absurd hn (Nat.not_lt_zero _)
    | succ n ih_7 =>
      intro x3_7 x4_7 x5_7 h_7 H locs cells slots ls hn_7 hi_7 hI hbc hbs hl
      have hw := hw x3_7 x4_7 x5_7 h_7 hi_7
      refine lv_iload hx hb dX2_bestLadder_20 (lv_at hl 4 rfl) ?_
      refine lv_aload_n hx hb dX2_bestLadder_22 rfl (lv_at hl 0 rfl) ?_
      obtain ⟨fs_8, v_9, hq, hv, hw⟩ := hw
      refine ga_get (ci := 1) (T := TX2) (v := va_rf v_9) hx hb hts hown hI in_X2 rfl 1 (by decide) q312 (fun _ z => z) (ga_at.h hq) hv dX2_bestLadder_23 ?_
      obtain ⟨a_10, ea_10, hw⟩ := hw
      rewrite [ea_10]
      obtain ⟨fs_11, hq, hw⟩ := hw
      refine ga_calli (va_runV (As := []) (rest := [.int x5_7]) ⟨hx, hb, hml, hown, hts⟩ (gm_J2_size l g a_10 h_7 _ hw) (cwV 0 hts (lw_V q2039 q536 q4117 q104 q537) rfl rfl rfl ⟨rfl, hdG_J2_size⟩ ⟨Nat.le_of_ble_eq_true rfl, Nat.le_of_ble_eq_true rfl⟩) (ga_preV hI hq rfl rfl) rfl rfl hl.1 rfl (ga_room (Nat.le_of_ble_eq_true rfl)) dX2_bestLadder_26 ⟨hbc, hbs⟩) hI (bc := 0) (bs := 0) hbc hbs (Nat.zero_le _) (Nat.zero_le _) (fun r_13 h_12 H locs cells slots hw hI hbc hbs => ?_)
      refine lv_icmp_ge (tgt := 111) hx hb dX2_bestLadder_29 (by decide) (fun hc_14 => ?_) (fun hc_14 => ?_)
      · have hw := hw.1 hc_14
        refine lv_iload_n hx hb dX2_bestLadder_111 rfl (lv_at hl 2 rfl) ?_
        exact ga_iret hx hb hr rfl hlk hI hw hbc hbs dX2_bestLadder_112
      · have hw := hw.2 hc_14
        refine ga_aload_n hx hb dX2_bestLadder_32 rfl (lv_at hl 1 rfl) ?_
        obtain ⟨a_15, ea_15, hw⟩ := hw
        rewrite [ea_15]
        obtain ⟨fs_16, hq, hw⟩ := hw
        refine ga_calli (va_runV (As := []) (rest := []) ⟨hx, hb, hml, hown, hts⟩ (gm_X8_waits l g a_15 h_12 _ hw) (cwV 0 hts (lw_V q2437 q2438 q2439 q139 q2440) rfl rfl rfl ⟨rfl, hdG_X8_waits⟩ ⟨Nat.le_of_ble_eq_true rfl, Nat.le_of_ble_eq_true rfl⟩) (ga_preV hI hq rfl rfl) rfl rfl hl.1 rfl (ga_room (Nat.le_of_ble_eq_true rfl)) dX2_bestLadder_33 ⟨hbc, hbs⟩) hI (bc := 0) (bs := 0) hbc hbs (Nat.zero_le _) (Nat.zero_le _) (fun r_18 h_17 H locs cells slots hw hI hbc hbs => ?_)
        refine lv_if_eq (tgt := 111) hx hb dX2_bestLadder_36 (by decide) (fun hc_19 => ?_) (fun hc_19 => ?_)
        · have hw := hw.1 hc_19
          refine lv_iload_n hx hb dX2_bestLadder_111 rfl (lv_at hl 2 rfl) ?_
          exact ga_iret hx hb hr rfl hlk hI hw hbc hbs dX2_bestLadder_112
        · have hw := hw.2 hc_19
          refine lv_aload_n hx hb dX2_bestLadder_39 rfl (lv_at hl 0 rfl) ?_
          obtain ⟨fs_20, v_21, hq, hv, hw⟩ := hw
          refine ga_get (ci := 1) (T := TX2) (v := va_rf v_21) hx hb hts hown hI in_X2 rfl 1 (by decide) q312 (fun _ z => z) (ga_at.h hq) hv dX2_bestLadder_40 ?_
          refine lv_iload hx hb dX2_bestLadder_43 (lv_at hl 4 rfl) ?_
          obtain ⟨a_22, ea_22, hw⟩ := hw
          rewrite [ea_22]
          obtain ⟨fs_23, hq, hw⟩ := hw
          refine ga_callq (va_runV (As := [.int x5_7]) (rest := []) ⟨hx, hb, hml, hown, hts⟩ (gm_J2_get l g a_22 x5_7 h_17 _ hw) (cwV 1 hts (lw_V q2069 q839 q4120 q104 q841) rfl rfl rfl ⟨rfl, hdG_J2_get⟩ ⟨Nat.le_of_ble_eq_true rfl, Nat.le_of_ble_eq_true rfl⟩) (ga_preV hI hq rfl rfl) rfl rfl hl.1 rfl (ga_room (Nat.le_of_ble_eq_true rfl)) dX2_bestLadder_45 ⟨hbc, hbs⟩) hI (bc := 0) (bs := 0) hbc hbs (Nat.zero_le _) (Nat.zero_le _) (fun r_25 h_24 H locs cells slots hw hI hbc hbs => ?_)
          refine ga_cast (x := r_25) hx hb hts hown hI q1339 hw.1 dX2_bestLadder_48 ?_
          have hw := hw.2
          refine ga_astore (x := r_25) (lv' := [(6, va_rf r_25), (0, .ref p0), (2, va_rf r_6), (3, .int x3_7), (4, .int x4_7), (5, .int x5_7)]) hx hb dX2_bestLadder_51 hl (by decide) rfl (fun ls hl => ?_)
          refine lv_aload_n hx hb dX2_bestLadder_53 rfl (lv_at hl 1 rfl) ?_
          obtain ⟨fs_26, v_27, hq, hv, hw⟩ := hw
          refine ga_get (ci := 1) (T := TX2) (v := va_rf v_27) hx hb hts hown hI in_X2 rfl 0 (by decide) q310 (fun _ z => z) (ga_at.h hq) hv dX2_bestLadder_54 ?_
          refine ga_aload hx hb dX2_bestLadder_57 (lv_at hl 0 rfl) ?_
          obtain ⟨a_28, ea_28, hw⟩ := hw
          rewrite [ea_28]
          obtain ⟨fs_29, v_30, hq, hv, hw⟩ := hw
          refine ga_getN (ci := 5) (T := TX7) (v := .int v_30) hx hb hts hown hI in_X7 rfl 1 (by decide) q1349 (fun _ z => z) (ga_at.h hq) hv dX2_bestLadder_59 ?_
          obtain ⟨a_31, ea_31, hw⟩ := hw
          rewrite [ea_31]
          obtain ⟨n_32, f_33, hq, hi, hw⟩ := hw
          refine ga_ldq hx hb hI (ga_at.h hq) rfl hi dX2_bestLadder_62 ?_
          obtain ⟨v_34, ev_34⟩ : ∃ z, z = f_33 v_30.toNatClampNeg := ⟨_, rfl⟩
          rw [← ev_34]
          have hw := hw v_34 ev_34
          refine ga_aload_n hx hb dX2_bestLadder_63 rfl (lv_at hl 2 rfl) ?_
          obtain ⟨a_35, ea_35, hw⟩ := hw
          rewrite [ea_35]
          obtain ⟨fs_36, v_37, hq, hv, hw⟩ := hw
          refine ga_getN (ci := 6) (T := TX8) (v := va_rf v_37) hx hb hts hown hI in_X8 rfl 0 (by decide) q1369 (fun _ z => z) (ga_at.h hq) hv dX2_bestLadder_64 ?_
          refine ga_aload hx hb dX2_bestLadder_67 (lv_at hl 0 rfl) ?_
          obtain ⟨a_38, ea_38, hw⟩ := hw
          rewrite [ea_38]
          obtain ⟨fs_39, v_40, hq, hv, hw⟩ := hw
          refine ga_getN (ci := 5) (T := TX7) (v := .int v_40) hx hb hts hown hI in_X7 rfl 0 (by decide) q1346 (fun _ z => z) (ga_at.h hq) hv dX2_bestLadder_69 ?_
          refine ga_aload_n hx hb dX2_bestLadder_72 rfl (lv_at hl 2 rfl) ?_
          obtain ⟨a_41, ea_41, hw⟩ := hw
          rewrite [ea_41]
          obtain ⟨fs_42, hq, hw⟩ := hw
          refine ga_calli (va_runV (As := []) (rest := [.int v_40, va_rf v_37, va_rf v_34]) ⟨hx, hb, hml, hown, hts⟩ (gm_X8_lacks l g a_41 h_24 _ hw) (cwV 0 hts (lw_V q2476 q2477 q2478 q139 q2479) rfl rfl rfl ⟨rfl, hdG_X8_lacks⟩ ⟨Nat.le_of_ble_eq_true rfl, Nat.le_of_ble_eq_true rfl⟩) (ga_preV hI hq rfl rfl) rfl rfl hl.1 rfl (ga_room (Nat.le_of_ble_eq_true rfl)) dX2_bestLadder_73 ⟨hbc, hbs⟩) hI (bc := 0) (bs := 0) hbc hbs (Nat.zero_le _) (Nat.zero_le _) (fun r_44 h_43 H locs cells slots hw hI hbc hbs => ?_)
          refine lv_iconst (v := 0) hx hb dX2_bestLadder_76 (by decide) ?_
          obtain ⟨a_45, ea_45, hw⟩ := hw
          rewrite [ea_45]
          obtain ⟨fs_46, hq, hw⟩ := hw
          refine ga_calli (va_runV (As := [va_rf v_37, .int v_40, .int r_44, .int (0 : Int32)]) (rest := []) ⟨hx, hb, hml, hown, hts⟩ (gm_X3_gathers l g a_45 v_37 v_40 r_44 (0 : Int32) h_43 _ hw) (cwV 4 hts (lw_V q2480 q2481 q2482 q107 q2483) rfl rfl rfl ⟨rfl, hdG_X3_gathers⟩ ⟨Nat.le_of_ble_eq_true rfl, Nat.le_of_ble_eq_true rfl⟩) (ga_preV hI hq rfl rfl) rfl rfl hl.1 rfl (ga_room (Nat.le_of_ble_eq_true rfl)) dX2_bestLadder_77 ⟨hbc, hbs⟩) hI (bc := 0) (bs := 0) hbc hbs (Nat.zero_le _) (Nat.zero_le _) (fun r_48 h_47 H locs cells slots hw hI hbc hbs => ?_)
          refine lv_istore (lv' := [(7, .int r_48), (6, va_rf r_25), (0, .ref p0), (2, va_rf r_6), (3, .int x3_7), (4, .int x4_7), (5, .int x5_7)]) hx hb dX2_bestLadder_80 hl (by decide) (by simp [ga_rcat, ga_cat_r, ga_cat_i, ga_cat_f, ga_cat_l, ga_cat_d]) (fun ls hl => ?_)
          refine lv_iload hx hb dX2_bestLadder_82 (lv_at hl 0 rfl) ?_
          refine lv_iload hx hb dX2_bestLadder_84 (lv_at hl 5 rfl) ?_
          refine lv_icmp_le (tgt := 94) hx hb dX2_bestLadder_86 (by decide) (fun hc_49 => ?_) (fun hc_49 => ?_)
          · have hw := hw.1 hc_49
            refine lv_iload_n hx hb dX2_bestLadder_94 rfl (lv_at hl 4 rfl) ?_
            exact gj_X2_bestLadder_95 g post (fun (y0 : Int32) (y1 : Int32) (y2 : Int32) (T : ga_H) => In_7 y0 y1 y2 T ∧ mu_7 y0 y1 y2 T < mu_7 x3_7 x4_7 x5_7 h_7) p0 x3_7 r_6 x4_7 x5_7 r_48 h_47 ⟨hx, hb, hml, hown, hts, hr, hlk, hnm⟩ hw (fun _y0 _y1 _y2 _y3 H locs cells slots ls hw hI hbc hbs hl => ih_7 _ _ _ _ H locs cells slots ls (Nat.lt_of_lt_of_le hw.2 (Nat.le_of_lt_succ hn_7)) hw.1 hI hbc hbs hl) hI hbc hbs (lv_sub hl [2, 3, 5, 6, 0] rfl)
          · have hw := hw.2 hc_49
            refine lv_iload hx hb dX2_bestLadder_89 (lv_at hl 6 rfl) ?_
            refine lv_goto (tgt := 95) hx hb dX2_bestLadder_91 (by decide) ?_
            exact gj_X2_bestLadder_95 g post (fun (y0 : Int32) (y1 : Int32) (y2 : Int32) (T : ga_H) => In_7 y0 y1 y2 T ∧ mu_7 y0 y1 y2 T < mu_7 x3_7 x4_7 x5_7 h_7) p0 x5_7 r_6 x4_7 x5_7 r_48 h_47 ⟨hx, hb, hml, hown, hts, hr, hlk, hnm⟩ hw (fun _y0 _y1 _y2 _y3 H locs cells slots ls hw hI hbc hbs hl => ih_7 _ _ _ _ H locs cells slots ls (Nat.lt_of_lt_of_le hw.2 (Nat.le_of_lt_succ hn_7)) hw.1 hI hbc hbs hl) hI hbc hbs (lv_sub hl [2, 3, 5, 6, 0] rfl)
  exact hL_7 _ _ _ _ _ H locs cells slots ls (Nat.lt_succ_self _) h0_7 hI hbc hbs (lv_sub hl [4, 3, 2, 1, 0] rfl)
theorem hdG_X2_bestLadder : yX2_bestLadder.cls ≠ "java/lang/invoke/MethodHandle" ∧ yX2_bestLadder.cls ≠ "java/lang/invoke/VarHandle" ∧ (parseMethodDescriptor yX2_bestLadder.desc).map (fun d => d.parameters.length) = some 1 := by decide +kernel
def gw_X1_bestLadder_25 (K : ga_K) (post : Int32 → ga_H → Prop) (xp : String → Nat → ga_H → Prop) (p0 : Nat) (t0 : Int32) (v3 : Int32) (h : ga_H) (bc bs : Nat) : Prop :=
  ∃ kc_16 ks_17 : Nat, kc_16 ≤ bc ∧ ks_17 ≤ bs ∧ gw_X1_checkElement K t0 h kc_16 ks_17 (fun (h_18 : ga_H) => post v3 h_18) (fun (E_19 : String) (q_20 : Nat) (h_21 : ga_H) => xp E_19 q_20 h_21)
set_option maxHeartbeats 4000000 in
theorem gj_X1_bestLadder_25 {p : Program} {l : Launch} {e : Env} {s : State} {m : MethodId} {args : Array Value} {below : List Frame} {meth : Method} {c : Code} {mc ms : Nat} {H : Heap} {locs : List Loc} {cells slots : Nat} {ls : Array Slot} (hst : l.stackTraces = false) (htab : c.exceptionTable.toList = []) (g : ga_G) (post : Int32 → ga_H → Prop) (xp : String → Nat → ga_H → Prop) (p0 : Nat) (t0 : Int32) (v3 : Int32) (h : ga_H) (bc bs : Nat) (hC : ga_Cx p s m args meth c cX1_bestLadder 4 (some .int) "PaperStore" "bestLadder") (hw : gw_X1_bestLadder_25 g.2.2 post xp p0 t0 v3 h bc bs) (hI : ga_I g h s H locs) (hbc : cells + bc ≤ mc) (hbs : slots + bs ≤ ms) (hl : lv_has ls 4 [(3, .int v3)]) : W p l e ({ frames := 15, cells := mc, slots := ms, locals := 300 } : Room) s m args below meth c H locs cells slots (vx_MQ below (va_Qi post (ga_E g) (ga_A g)) (ga_X g xp) args s mc ms (ga_A g)) (F0 m 25 ls [.int t0]) := by
  obtain ⟨hx, hb, hml, hown, hts, hr, hlk, hnm⟩ := hC
  unfold gw_X1_bestLadder_25 at hw
  obtain ⟨kc_16, ks_17, hk1, hk2, hw⟩ := hw
  refine ga_xcallv (vx_runS (As := [.int t0]) (rest := []) ⟨hx, hb, hml, hown, hts⟩ (gm_X1_checkElement l hst g t0 h kc_16 ks_17 _ _ hw) (va_cwS 1 hts (lw_S q2271 q2272 q100 q2273) rfl rfl rfl hdG_X1_checkElement ⟨Nat.le_of_ble_eq_true rfl, Nat.le_of_ble_eq_true rfl⟩) (ga_preS hI rfl) rfl rfl hl.1 rfl (ga_room (Nat.le_of_ble_eq_true rfl)) dX1_bestLadder_25 ⟨Nat.le_trans (Nat.add_le_add_left hk1 _) hbc, Nat.le_trans (Nat.add_le_add_left hk2 _) hbs⟩) hI hbc hbs hk1 hk2 (fun E_19 q_20 h_21 ce H locs cells slots hw hI hce hbc hbs => ?_) (fun h_18 H locs cells slots hw hI hbc hbs => ?_)
  · exact ga_out hown hlk hI hw (by rw [htab]; intro z hz; cases hz) hce (Nat.le_trans (Nat.le_add_right _ _) hbc) (Nat.le_trans (Nat.le_add_right _ _) hbs)
  · skip
    refine lv_iload_n hx hb dX1_bestLadder_28 rfl (lv_at hl 0 rfl) ?_
    exact ga_iretx hx hb hr rfl hlk hI hw (Nat.le_trans (Nat.le_add_right _ _) hbc) (Nat.le_trans (Nat.le_add_right _ _) hbs) dX1_bestLadder_29
def gw_X1_bestLadder (K : ga_K) (p0 : Nat) (p1 : Int32) (h : ga_H) (mc ms : Nat) (post : Int32 → ga_H → Prop) (xp : String → Nat → ga_H → Prop) : Prop :=
  ∃ kc_1 ks_2 : Nat, kc_1 ≤ mc ∧ ks_2 ≤ ms ∧ ∃ fs_3 : List Value, ga_at K h p0 (ga_O 0 fs_3) ∧ gw_X1_orderAt K p0 p1 h kc_1 ks_2 (fun (r_5 : Option Nat) (h_4 : ga_H) => ∃ (fs_9 : List Value) (v_10 : Option Nat), h_4 p0 = some (ga_O 0 fs_9) ∧ fs_9[0]? = some (va_rf v_10) ∧ (∃ a_11 : Nat, v_10 = some a_11 ∧ ∃ fs_12 : List Value, ga_at K h_4 a_11 (ga_O 1 fs_12) ∧ gw_X2_bestLadder K a_11 p1 h_4 (fun (r_14 : Int32) (h_13 : ga_H) => (r_14 = (-1 : Int32) → (gw_X1_bestLadder_25 K post xp p0 (0 : Int32) r_14 h_13 (mc - kc_1) (ms - ks_2))) ∧ (¬ r_14 = (-1 : Int32) → (gw_X1_bestLadder_25 K post xp p0 (1 : Int32) r_14 h_13 (mc - kc_1) (ms - ks_2)))))) (fun (E_6 : String) (q_7 : Nat) (h_8 : ga_H) => xp E_6 q_7 h_8)
set_option maxHeartbeats 4000000 in
theorem gm_X1_bestLadder (l : Launch) (hst : l.stackTraces = false) (g : ga_G) (p0 : Nat) (p1 : Int32) (h : ga_H) (mc ms : Nat) (post : Int32 → ga_H → Prop) (xp : String → Nat → ga_H → Prop) (hw : gw_X1_bestLadder g.2.2 p0 p1 h mc ms post xp) : vx_Met l yX1_bestLadder (ws_ yX1_bestLadder cX1_bestLadder 4 (some .int)) ({ frames := 15, cells := mc, slots := ms, locals := 300 } : Room) (va_Pc [.ref p0, .int p1] (ga_B g h)) (va_Qi post (ga_E g) (ga_A g)) (ga_X g xp) mc ms (ga_A g) := by
  refine ga_metx (own := "PaperStore") (nm := "bestLadder") (by decide) rfl rfl (by exact Nat.le_of_ble_eq_true rfl) (fun p e s m below meth c ls hC htab hI hl => ?_)
  have hl : lv_has ls 4 [(0, .ref p0), (1, .int p1)] := hl
  generalize ([.ref p0, .int p1] : List Value).toArray = args at hC ⊢
  obtain ⟨hx, hb, hml, hown, hts, hr, hlk, hnm⟩ := hC
  unfold gw_X1_bestLadder at hw
  obtain ⟨H, eH⟩ : ∃ z, z = s.heap := ⟨_, rfl⟩
  obtain ⟨locs, elo⟩ : ∃ z : List Loc, z = [] := ⟨_, rfl⟩
  rw [← eH, ← elo] at hI ⊢
  obtain ⟨cells, slots, hbc, hbs, e0, e1⟩ : ∃ a b : Nat, a + mc ≤ mc ∧ b + ms ≤ ms ∧ a = 0 ∧ b = 0 := ⟨0, 0, by omega, by omega, rfl, rfl⟩
  show W p l e ({ frames := 15, cells := mc, slots := ms, locals := 300 } : Room) s m args below meth c H locs 0 0 (vx_MQ below (va_Qi post (ga_E g) (ga_A g)) (ga_X g xp) args s mc ms (ga_A g)) (F0 m 0 ls [])
  suffices hgoal : W p l e ({ frames := 15, cells := mc, slots := ms, locals := 300 } : Room) s m args below meth c H locs cells slots (vx_MQ below (va_Qi post (ga_E g) (ga_A g)) (ga_X g xp) args s mc ms (ga_A g)) (F0 m 0 ls []) by rw [e0, e1] at hgoal; exact hgoal
  refine lv_aload_n hx hb dX1_bestLadder_0 rfl (lv_at hl 0 rfl) ?_
  refine lv_iload_n hx hb dX1_bestLadder_1 rfl (lv_at hl 1 rfl) ?_
  obtain ⟨kc_1, ks_2, hk1, hk2, hw⟩ := hw
  obtain ⟨fs_3, hq, hw⟩ := hw
  refine ga_xcallq (vx_runV (As := [.int p1]) (rest := []) ⟨hx, hb, hml, hown, hts⟩ (gm_X1_orderAt l hst g p0 p1 h kc_1 ks_2 _ _ hw) (cwV 1 hts (lw_V q2420 q2422 qs14 q100 q2423) rfl rfl rfl ⟨rfl, hdG_X1_orderAt⟩ ⟨Nat.le_of_ble_eq_true rfl, Nat.le_of_ble_eq_true rfl⟩) (ga_preV hI hq rfl rfl) rfl rfl hl.1 rfl (ga_room (Nat.le_of_ble_eq_true rfl)) dX1_bestLadder_2 ⟨Nat.le_trans (Nat.add_le_add_left hk1 _) hbc, Nat.le_trans (Nat.add_le_add_left hk2 _) hbs⟩) hI hbc hbs hk1 hk2 (fun E_6 q_7 h_8 ce H locs cells slots hw hI hce hbc hbs => ?_) (fun r_5 h_4 H locs cells slots hw hI hbc hbs => ?_)
  · exact ga_out hown hlk hI hw (by rw [htab]; intro z hz; cases hz) hce (Nat.le_trans (Nat.le_add_right _ _) hbc) (Nat.le_trans (Nat.le_add_right _ _) hbs)
  · skip
    refine ga_astore_n (i := 2) (x := r_5) (lv' := [(2, va_rf r_5), (0, .ref p0), (1, .int p1)]) hx hb dX1_bestLadder_5 rfl hl (by decide) rfl (fun ls hl => ?_)
    refine lv_aload_n hx hb dX1_bestLadder_6 rfl (lv_at hl 1 rfl) ?_
    obtain ⟨fs_9, v_10, hq, hv, hw⟩ := hw
    refine ga_get (ci := 0) (T := TX1) (v := va_rf v_10) hx hb hts hown hI in_X1 rfl 0 (by decide) q387 (fun _ z => z) (ga_at.h hq) hv dX1_bestLadder_7 ?_
    refine lv_iload_n hx hb dX1_bestLadder_10 rfl (lv_at hl 2 rfl) ?_
    obtain ⟨a_11, ea_11, hw⟩ := hw
    rewrite [ea_11]
    obtain ⟨fs_12, hq, hw⟩ := hw
    refine ga_calli (va_runV (As := [.int p1]) (rest := []) ⟨hx, hb, hml, hown, hts⟩ (gm_X2_bestLadder l g a_11 p1 h_4 _ hw) (cwV 1 hts (lw_V q2586 q2587 q2588 q101 q2589) rfl rfl rfl ⟨rfl, hdG_X2_bestLadder⟩ ⟨Nat.le_of_ble_eq_true rfl, Nat.le_of_ble_eq_true rfl⟩) (ga_preV hI hq rfl rfl) rfl rfl hl.1 rfl (ga_room (Nat.le_of_ble_eq_true rfl)) dX1_bestLadder_11 ⟨Nat.le_trans (Nat.add_le_add_left (Nat.zero_le _) _) hbc, Nat.le_trans (Nat.add_le_add_left (Nat.zero_le _) _) hbs⟩) hI hbc hbs (Nat.zero_le _) (Nat.zero_le _) (fun r_14 h_13 H locs cells slots hw hI hbc hbs => ?_)
    refine lv_istore_n (i := 3) (lv' := [(3, .int r_14), (2, va_rf r_5), (0, .ref p0), (1, .int p1)]) hx hb dX1_bestLadder_14 rfl hl (by decide) (by simp [ga_rcat, ga_cat_r, ga_cat_i, ga_cat_f, ga_cat_l, ga_cat_d]) (fun ls hl => ?_)
    refine lv_iload_n hx hb dX1_bestLadder_15 rfl (lv_at hl 0 rfl) ?_
    refine lv_iconst (v := -1) hx hb dX1_bestLadder_16 (by decide) ?_
    refine lv_icmp_eq (tgt := 24) hx hb dX1_bestLadder_17 (by decide) (fun hc_15 => ?_) (fun hc_15 => ?_)
    · have hw := hw.1 hc_15
      refine lv_iconst (v := 0) hx hb dX1_bestLadder_24 (by decide) ?_
      exact gj_X1_bestLadder_25 hst htab g post xp p0 (0 : Int32) r_14 h_13 (mc - kc_1) (ms - ks_2) ⟨hx, hb, hml, hown, hts, hr, hlk, hnm⟩ hw hI hbc hbs (lv_sub hl [0] rfl)
    · have hw := hw.2 hc_15
      refine lv_iconst (v := 1) hx hb dX1_bestLadder_20 (by decide) ?_
      refine lv_goto (tgt := 25) hx hb dX1_bestLadder_21 (by decide) ?_
      exact gj_X1_bestLadder_25 hst htab g post xp p0 (1 : Int32) r_14 h_13 (mc - kc_1) (ms - ks_2) ⟨hx, hb, hml, hown, hts, hr, hlk, hnm⟩ hw hI hbc hbs (lv_sub hl [0] rfl)
theorem hdG_X1_bestLadder : yX1_bestLadder.cls ≠ "java/lang/invoke/MethodHandle" ∧ yX1_bestLadder.cls ≠ "java/lang/invoke/VarHandle" ∧ (parseMethodDescriptor yX1_bestLadder.desc).map (fun d => d.parameters.length) = some 1 := by decide +kernel
def gw_X0_bestLadder (K : ga_K) (p0 : Option Nat) (p1 : Int32) (p2 : Option Nat) (h : ga_H) (mc ms : Nat) (post : Int32 → ga_H → Prop) (xp : String → Nat → ga_H → Prop) : Prop :=
  ∃ a_1 : Nat, p0 = some a_1 ∧ ∃ kc_2 ks_3 : Nat, kc_2 ≤ mc ∧ ks_3 ≤ ms ∧ ∃ fs_4 : List Value, ga_at K h a_1 (ga_O 0 fs_4) ∧ gw_X1_bestLadder K a_1 p1 h kc_2 ks_3 (fun (r_6 : Int32) (h_5 : ga_H) => ∃ a_10 : Nat, p2 = some a_10 ∧ ∃ (n_11 : Nat) (f_12 : Nat → Int64), h_5 a_10 = some (ga_Al n_11 f_12) ∧ vp_in (0 : Int32) n_11 ∧ ∀ h_13 : ga_H, h_13 = ga_set h_5 a_10 (ga_Al n_11 (vp_updL f_12 (0 : Int32).toNatClampNeg r_6.toInt64)) → (post (0 : Int32) h_13)) (fun (E_7 : String) (q_8 : Nat) (h_9 : ga_H) => (E_7 = "java/lang/IndexOutOfBoundsException" ∧ (post (1 : Int32) h_9)) ∨ (E_7 = "java/util/NoSuchElementException" ∧ (post (2 : Int32) h_9)))
set_option maxHeartbeats 4000000 in
theorem gm_X0_bestLadder (l : Launch) (hst : l.stackTraces = false) (g : ga_G) (p0 : Option Nat) (p1 : Int32) (p2 : Option Nat) (h : ga_H) (mc ms : Nat) (post : Int32 → ga_H → Prop) (xp : String → Nat → ga_H → Prop) (hw : gw_X0_bestLadder g.2.2 p0 p1 p2 h mc ms post xp) : vx_Met l yX0_bestLadder (wsW_ yX0_bestLadder cX0_bestLadder 4 (some .int) [(0, 9, 12, 21), (0, 9, 15, 37)]) ({ frames := 16, cells := mc, slots := ms, locals := 323 } : Room) (va_Pc [va_rf p0, .int p1, va_rf p2] (ga_B g h)) (va_Qi post (ga_E g) (ga_A g)) (ga_X g xp) mc ms (ga_A g) := by
  refine ga_metxW (own := "PaperStoreLaw") (nm := "bestLadder") (by decide) rfl rfl (by cases p0 <;> cases p2 <;> exact Nat.le_of_ble_eq_true rfl) (fun p e s m below meth c ls hC htab hI hl => ?_)
  have hl : lv_has ls 4 [(0, va_rf p0), (1, .int p1), (2, va_rf p2)] := (by cases p0 <;> cases p2 <;> exact hl)
  generalize ([va_rf p0, .int p1, va_rf p2] : List Value).toArray = args at hC ⊢
  obtain ⟨hx, hb, hml, hown, hts, hr, hlk, hnm⟩ := hC
  unfold gw_X0_bestLadder at hw
  obtain ⟨H, eH⟩ : ∃ z, z = s.heap := ⟨_, rfl⟩
  obtain ⟨locs, elo⟩ : ∃ z : List Loc, z = [] := ⟨_, rfl⟩
  rw [← eH, ← elo] at hI ⊢
  obtain ⟨cells, slots, hbc, hbs, e0, e1⟩ : ∃ a b : Nat, a + mc ≤ mc ∧ b + ms ≤ ms ∧ a = 0 ∧ b = 0 := ⟨0, 0, by omega, by omega, rfl, rfl⟩
  show W p l e ({ frames := 16, cells := mc, slots := ms, locals := 323 } : Room) s m args below meth c H locs 0 0 (vx_MQ below (va_Qi post (ga_E g) (ga_A g)) (ga_X g xp) args s mc ms (ga_A g)) (F0 m 0 ls [])
  suffices hgoal : W p l e ({ frames := 16, cells := mc, slots := ms, locals := 323 } : Room) s m args below meth c H locs cells slots (vx_MQ below (va_Qi post (ga_E g) (ga_A g)) (ga_X g xp) args s mc ms (ga_A g)) (F0 m 0 ls []) by rw [e0, e1] at hgoal; exact hgoal
  refine ga_aload_n hx hb dX0_bestLadder_0 rfl (lv_at hl 2 rfl) ?_
  refine lv_iconst (v := 0) hx hb dX0_bestLadder_1 (by decide) ?_
  refine ga_aload_n hx hb dX0_bestLadder_2 rfl (lv_at hl 0 rfl) ?_
  refine lv_iload_n hx hb dX0_bestLadder_3 rfl (lv_at hl 1 rfl) ?_
  obtain ⟨a_1, ea_1, hw⟩ := hw
  rewrite [ea_1]
  obtain ⟨kc_2, ks_3, hk1, hk2, hw⟩ := hw
  obtain ⟨fs_4, hq, hw⟩ := hw
  refine ga_xcalli (vx_runV (As := [.int p1]) (rest := [.int (0 : Int32), va_rf p2]) ⟨hx, hb, hml, hown, hts⟩ (gm_X1_bestLadder l hst g a_1 p1 h kc_2 ks_3 _ _ hw) (cwV 1 hts (lw_V q2582 q2583 q2584 q100 q2585) rfl rfl rfl ⟨rfl, hdG_X1_bestLadder⟩ ⟨Nat.le_of_ble_eq_true rfl, Nat.le_of_ble_eq_true rfl⟩) (ga_preV hI hq rfl rfl) rfl rfl hl.1 rfl (ga_room (Nat.le_of_ble_eq_true rfl)) dX0_bestLadder_4 ⟨Nat.le_trans (Nat.add_le_add_left hk1 _) hbc, Nat.le_trans (Nat.add_le_add_left hk2 _) hbs⟩) hI hbc hbs hk1 hk2 (fun E_7 q_8 h_9 ce H locs cells slots hw hI hce hbc hbs => ?_) (fun r_6 h_5 H locs cells slots hw hI hbc hbs => ?_)
  · rcases hw with ⟨rfl, hw⟩ | ⟨rfl, hw⟩
    · skip
      refine ga_catch hown hts hI ([]) (⟨0, 9, 12, 21⟩) ([⟨0, 9, 15, 37⟩]) (by rw [htab]; rfl) (fun _ h => absurd h List.not_mem_nil) rfl (by decide) q2105 q866 hce ?_
      refine W.eq (g2 := F0 m 12 ls [.ref q_8]) rfl ?_
      refine lv_astore_n (i := 3) (lv' := [(3, .ref q_8), (0, va_rf p0), (1, .int p1), (2, va_rf p2)]) hx hb dX0_bestLadder_12 rfl hl (by decide) (by simp [ga_rcat, ga_cat_r, ga_cat_i, ga_cat_f, ga_cat_l, ga_cat_d]) (fun ls hl => ?_)
      refine lv_iconst (v := 1) hx hb dX0_bestLadder_13 (by decide) ?_
      exact ga_iretx hx hb hr rfl hlk hI hw (Nat.le_trans (Nat.le_add_right _ _) hbc) (Nat.le_trans (Nat.le_add_right _ _) hbs) dX0_bestLadder_14
    · skip
      refine ga_catch hown hts hI ([⟨0, 9, 12, 21⟩]) (⟨0, 9, 15, 37⟩) ([]) (by rw [htab]; rfl) (List.forall_mem_cons.mpr ⟨Or.inr ⟨by decide, ga_ncs hts hI q2105 (List.mem_of_getElem? (i := 5) rfl)⟩, fun _ h => absurd h List.not_mem_nil⟩) rfl (by decide) q2256 q732 hce ?_
      refine W.eq (g2 := F0 m 15 ls [.ref q_8]) rfl ?_
      refine lv_astore_n (i := 3) (lv' := [(3, .ref q_8), (0, va_rf p0), (1, .int p1), (2, va_rf p2)]) hx hb dX0_bestLadder_15 rfl hl (by decide) (by simp [ga_rcat, ga_cat_r, ga_cat_i, ga_cat_f, ga_cat_l, ga_cat_d]) (fun ls hl => ?_)
      refine lv_iconst (v := 2) hx hb dX0_bestLadder_16 (by decide) ?_
      exact ga_iretx hx hb hr rfl hlk hI hw (Nat.le_trans (Nat.le_add_right _ _) hbc) (Nat.le_trans (Nat.le_add_right _ _) hbs) dX0_bestLadder_17
  · skip
    refine lv_i2l (v := r_6.toInt64) hx hb dX0_bestLadder_7 rfl ?_
    obtain ⟨a_10, ea_10, hw⟩ := hw
    rewrite [ea_10]
    obtain ⟨n_11, f_12, hq, hi, hw⟩ := hw
    refine ga_stl hx hb hI hq hi dX0_bestLadder_8 (fun H locs hI => ?_)
    obtain ⟨h_13, eh_13⟩ : ∃ z, z = ga_set h_5 a_10 (ga_Al n_11 (vp_updL f_12 (0 : Int32).toNatClampNeg r_6.toInt64)) := ⟨_, rfl⟩
    rw [← eh_13] at hI
    have hw := hw h_13 eh_13
    refine lv_goto (tgt := 18) hx hb dX0_bestLadder_9 (by decide) ?_
    refine lv_iconst (v := 0) hx hb dX0_bestLadder_18 (by decide) ?_
    exact ga_iretx hx hb hr rfl hlk hI hw (Nat.le_trans (Nat.le_add_right _ _) hbc) (Nat.le_trans (Nat.le_add_right _ _) hbs) dX0_bestLadder_19
theorem hdG_X0_bestLadder : yX0_bestLadder.cls ≠ "java/lang/invoke/MethodHandle" ∧ yX0_bestLadder.cls ≠ "java/lang/invoke/VarHandle" ∧ (parseMethodDescriptor yX0_bestLadder.desc).map (fun d => d.parameters.length) = some 3 := by decide +kernel
def gw_X1_cartOf (K : ga_K) (p0 : Nat) (p1 : Int32) (p2 : Int32) (h : ga_H) (mc ms : Nat) (post : Int32 → ga_H → Prop) (xp : String → Nat → ga_H → Prop) : Prop :=
  ∃ kc_1 ks_2 : Nat, kc_1 ≤ mc ∧ ks_2 ≤ ms ∧ ∃ fs_3 : List Value, ga_at K h p0 (ga_O 0 fs_3) ∧ gw_X1_cartAt K p0 p1 h kc_1 ks_2 (fun (r_5 : Option Nat) (h_4 : ga_H) => gw_X1_isIn p2 (0 : Int32) (2 : Int32) (fun (r_9 : Int32) => ∃ kc_10 ks_11 : Nat, kc_10 ≤ (mc - kc_1) ∧ ks_11 ≤ (ms - ks_2) ∧ gw_X1_checkArgument K r_9 h_4 kc_10 ks_11 (fun (h_12 : ga_H) => (¬ p2 = (0 : Int32) → ((¬ p2 = (1 : Int32) → (∃ a_18 : Nat, r_5 = some a_18 ∧ ∃ (fs_19 : List Value) (v_20 : Int32), h_12 a_18 = some (ga_O 7 fs_19) ∧ fs_19[2]? = some (.int v_20) ∧ (post v_20 h_12))) ∧ (p2 = (1 : Int32) → (∃ a_21 : Nat, r_5 = some a_21 ∧ ∃ (fs_22 : List Value) (v_23 : Int32), h_12 a_21 = some (ga_O 7 fs_22) ∧ fs_22[1]? = some (.int v_23) ∧ (post v_23 h_12))))) ∧ (p2 = (0 : Int32) → (∃ a_24 : Nat, r_5 = some a_24 ∧ ∃ (fs_25 : List Value) (v_26 : Int32), h_12 a_24 = some (ga_O 7 fs_25) ∧ fs_25[0]? = some (.int v_26) ∧ (post v_26 h_12)))) (fun (E_13 : String) (q_14 : Nat) (h_15 : ga_H) => xp E_13 q_14 h_15))) (fun (E_6 : String) (q_7 : Nat) (h_8 : ga_H) => xp E_6 q_7 h_8)
set_option maxHeartbeats 4000000 in
theorem gm_X1_cartOf (l : Launch) (hst : l.stackTraces = false) (g : ga_G) (p0 : Nat) (p1 : Int32) (p2 : Int32) (h : ga_H) (mc ms : Nat) (post : Int32 → ga_H → Prop) (xp : String → Nat → ga_H → Prop) (hw : gw_X1_cartOf g.2.2 p0 p1 p2 h mc ms post xp) : vx_Met l yX1_cartOf (ws_ yX1_cartOf cX1_cartOf 4 (some .int)) ({ frames := 12, cells := mc, slots := ms, locals := 225 } : Room) (va_Pc [.ref p0, .int p1, .int p2] (ga_B g h)) (va_Qi post (ga_E g) (ga_A g)) (ga_X g xp) mc ms (ga_A g) := by
  refine ga_metx (own := "PaperStore") (nm := "cartOf") (by decide) rfl rfl (by exact Nat.le_of_ble_eq_true rfl) (fun p e s m below meth c ls hC htab hI hl => ?_)
  have hl : lv_has ls 4 [(0, .ref p0), (1, .int p1), (2, .int p2)] := hl
  generalize ([.ref p0, .int p1, .int p2] : List Value).toArray = args at hC ⊢
  obtain ⟨hx, hb, hml, hown, hts, hr, hlk, hnm⟩ := hC
  unfold gw_X1_cartOf at hw
  obtain ⟨H, eH⟩ : ∃ z, z = s.heap := ⟨_, rfl⟩
  obtain ⟨locs, elo⟩ : ∃ z : List Loc, z = [] := ⟨_, rfl⟩
  rw [← eH, ← elo] at hI ⊢
  obtain ⟨cells, slots, hbc, hbs, e0, e1⟩ : ∃ a b : Nat, a + mc ≤ mc ∧ b + ms ≤ ms ∧ a = 0 ∧ b = 0 := ⟨0, 0, by omega, by omega, rfl, rfl⟩
  show W p l e ({ frames := 12, cells := mc, slots := ms, locals := 225 } : Room) s m args below meth c H locs 0 0 (vx_MQ below (va_Qi post (ga_E g) (ga_A g)) (ga_X g xp) args s mc ms (ga_A g)) (F0 m 0 ls [])
  suffices hgoal : W p l e ({ frames := 12, cells := mc, slots := ms, locals := 225 } : Room) s m args below meth c H locs cells slots (vx_MQ below (va_Qi post (ga_E g) (ga_A g)) (ga_X g xp) args s mc ms (ga_A g)) (F0 m 0 ls []) by rw [e0, e1] at hgoal; exact hgoal
  refine lv_aload_n hx hb dX1_cartOf_0 rfl (lv_at hl 0 rfl) ?_
  refine lv_iload_n hx hb dX1_cartOf_1 rfl (lv_at hl 1 rfl) ?_
  obtain ⟨kc_1, ks_2, hk1, hk2, hw⟩ := hw
  obtain ⟨fs_3, hq, hw⟩ := hw
  refine ga_xcallq (vx_runV (As := [.int p1]) (rest := []) ⟨hx, hb, hml, hown, hts⟩ (gm_X1_cartAt l hst g p0 p1 h kc_1 ks_2 _ _ hw) (cwV 1 hts (lw_V q2503 q2505 qs16 q100 q2506) rfl rfl rfl ⟨rfl, hdG_X1_cartAt⟩ ⟨Nat.le_of_ble_eq_true rfl, Nat.le_of_ble_eq_true rfl⟩) (ga_preV hI hq rfl rfl) rfl rfl hl.1 rfl (ga_room (Nat.le_of_ble_eq_true rfl)) dX1_cartOf_2 ⟨Nat.le_trans (Nat.add_le_add_left hk1 _) hbc, Nat.le_trans (Nat.add_le_add_left hk2 _) hbs⟩) hI hbc hbs hk1 hk2 (fun E_6 q_7 h_8 ce H locs cells slots hw hI hce hbc hbs => ?_) (fun r_5 h_4 H locs cells slots hw hI hbc hbs => ?_)
  · exact ga_out hown hlk hI hw (by rw [htab]; intro z hz; cases hz) hce (Nat.le_trans (Nat.le_add_right _ _) hbc) (Nat.le_trans (Nat.le_add_right _ _) hbs)
  · skip
    refine ga_astore_n (i := 3) (x := r_5) (lv' := [(3, va_rf r_5), (0, .ref p0), (1, .int p1), (2, .int p2)]) hx hb dX1_cartOf_5 rfl hl (by decide) rfl (fun ls hl => ?_)
    refine lv_iload_n hx hb dX1_cartOf_6 rfl (lv_at hl 3 rfl) ?_
    refine lv_iconst (v := 0) hx hb dX1_cartOf_7 (by decide) ?_
    refine lv_iconst (v := 2) hx hb dX1_cartOf_8 (by decide) ?_
    refine ga_callS (As := [.int p2, .int (0 : Int32), .int (2 : Int32)]) (rest := []) ⟨hx, hb, hml, hown, hts⟩ (gm_X1_isIn l p2 (0 : Int32) (2 : Int32) _ hw) (va_cwS 3 hts (lw_S q2024 q2025 q100 q2026) rfl rfl rfl hdG_X1_isIn ⟨Nat.le_of_ble_eq_true rfl, Nat.le_of_ble_eq_true rfl⟩) rfl hl.1 rfl (ga_room (Nat.le_of_ble_eq_true rfl)) dX1_cartOf_9 hbc hbs (fun r_9 hw => ?_)
    obtain ⟨kc_10, ks_11, hk1, hk2, hw⟩ := hw
    refine ga_xcallv (vx_runS (As := [.int r_9]) (rest := []) ⟨hx, hb, hml, hown, hts⟩ (gm_X1_checkArgument l hst g r_9 h_4 kc_10 ks_11 _ _ hw) (va_cwS 1 hts (lw_S q2027 q2028 q100 q2029) rfl rfl rfl hdG_X1_checkArgument ⟨Nat.le_of_ble_eq_true rfl, Nat.le_of_ble_eq_true rfl⟩) (ga_preS hI rfl) rfl rfl hl.1 rfl (ga_room (Nat.le_of_ble_eq_true rfl)) dX1_cartOf_12 ⟨Nat.le_trans (Nat.add_le_add_left hk1 _) hbc, Nat.le_trans (Nat.add_le_add_left hk2 _) hbs⟩) hI hbc hbs hk1 hk2 (fun E_13 q_14 h_15 ce H locs cells slots hw hI hce hbc hbs => ?_) (fun h_12 H locs cells slots hw hI hbc hbs => ?_)
    · exact ga_out hown hlk hI hw (by rw [htab]; intro z hz; cases hz) hce (Nat.le_trans (Nat.le_add_right _ _) hbc) (Nat.le_trans (Nat.le_add_right _ _) hbs)
    · skip
      refine lv_iload_n hx hb dX1_cartOf_15 rfl (lv_at hl 3 rfl) ?_
      refine lv_if_ne (tgt := 26) hx hb dX1_cartOf_16 (by decide) (fun hc_16 => ?_) (fun hc_16 => ?_)
      · have hw := hw.1 hc_16
        refine lv_iload_n hx hb dX1_cartOf_26 rfl (lv_at hl 3 rfl) ?_
        refine lv_iconst (v := 1) hx hb dX1_cartOf_27 (by decide) ?_
        refine lv_icmp_ne (tgt := 38) hx hb dX1_cartOf_28 (by decide) (fun hc_17 => ?_) (fun hc_17 => ?_)
        · have hw := hw.1 hc_17
          refine ga_aload_n hx hb dX1_cartOf_38 rfl (lv_at hl 0 rfl) ?_
          obtain ⟨a_18, ea_18, hw⟩ := hw
          rewrite [ea_18]
          obtain ⟨fs_19, v_20, hq, hv, hw⟩ := hw
          refine ga_getN (ci := 7) (T := TX9) (v := .int v_20) hx hb hts hown hI in_X9 rfl 2 (by decide) q1412 (fun _ z => z) (ga_at.h hq) hv dX1_cartOf_39 ?_
          exact ga_iretx hx hb hr rfl hlk hI hw (Nat.le_trans (Nat.le_add_right _ _) hbc) (Nat.le_trans (Nat.le_add_right _ _) hbs) dX1_cartOf_42
        · have hw := hw.2 hc_17
          refine ga_aload_n hx hb dX1_cartOf_31 rfl (lv_at hl 0 rfl) ?_
          obtain ⟨a_21, ea_21, hw⟩ := hw
          rewrite [ea_21]
          obtain ⟨fs_22, v_23, hq, hv, hw⟩ := hw
          refine ga_getN (ci := 7) (T := TX9) (v := .int v_23) hx hb hts hown hI in_X9 rfl 1 (by decide) q1409 (fun _ z => z) (ga_at.h hq) hv dX1_cartOf_32 ?_
          refine lv_goto (tgt := 42) hx hb dX1_cartOf_35 (by decide) ?_
          exact ga_iretx hx hb hr rfl hlk hI hw (Nat.le_trans (Nat.le_add_right _ _) hbc) (Nat.le_trans (Nat.le_add_right _ _) hbs) dX1_cartOf_42
      · have hw := hw.2 hc_16
        refine ga_aload_n hx hb dX1_cartOf_19 rfl (lv_at hl 0 rfl) ?_
        obtain ⟨a_24, ea_24, hw⟩ := hw
        rewrite [ea_24]
        obtain ⟨fs_25, v_26, hq, hv, hw⟩ := hw
        refine ga_getN (ci := 7) (T := TX9) (v := .int v_26) hx hb hts hown hI in_X9 rfl 0 (by decide) q1406 (fun _ z => z) (ga_at.h hq) hv dX1_cartOf_20 ?_
        refine lv_goto (tgt := 42) hx hb dX1_cartOf_23 (by decide) ?_
        exact ga_iretx hx hb hr rfl hlk hI hw (Nat.le_trans (Nat.le_add_right _ _) hbc) (Nat.le_trans (Nat.le_add_right _ _) hbs) dX1_cartOf_42
theorem hdG_X1_cartOf : yX1_cartOf.cls ≠ "java/lang/invoke/MethodHandle" ∧ yX1_cartOf.cls ≠ "java/lang/invoke/VarHandle" ∧ (parseMethodDescriptor yX1_cartOf.desc).map (fun d => d.parameters.length) = some 2 := by decide +kernel
def gw_X0_cartOf (K : ga_K) (p0 : Option Nat) (p1 : Int32) (p2 : Int32) (p3 : Option Nat) (h : ga_H) (mc ms : Nat) (post : Int32 → ga_H → Prop) (xp : String → Nat → ga_H → Prop) : Prop :=
  ∃ a_1 : Nat, p0 = some a_1 ∧ ∃ kc_2 ks_3 : Nat, kc_2 ≤ mc ∧ ks_3 ≤ ms ∧ ∃ fs_4 : List Value, ga_at K h a_1 (ga_O 0 fs_4) ∧ gw_X1_cartOf K a_1 p1 p2 h kc_2 ks_3 (fun (r_6 : Int32) (h_5 : ga_H) => ∃ a_10 : Nat, p3 = some a_10 ∧ ∃ (n_11 : Nat) (f_12 : Nat → Int64), h_5 a_10 = some (ga_Al n_11 f_12) ∧ vp_in (0 : Int32) n_11 ∧ ∀ h_13 : ga_H, h_13 = ga_set h_5 a_10 (ga_Al n_11 (vp_updL f_12 (0 : Int32).toNatClampNeg r_6.toInt64)) → (post (0 : Int32) h_13)) (fun (E_7 : String) (q_8 : Nat) (h_9 : ga_H) => (E_7 = "java/lang/IllegalArgumentException" ∧ (post (2 : Int32) h_9)) ∨ (E_7 = "java/lang/IndexOutOfBoundsException" ∧ (post (1 : Int32) h_9)))
set_option maxHeartbeats 4000000 in
theorem gm_X0_cartOf (l : Launch) (hst : l.stackTraces = false) (g : ga_G) (p0 : Option Nat) (p1 : Int32) (p2 : Int32) (p3 : Option Nat) (h : ga_H) (mc ms : Nat) (post : Int32 → ga_H → Prop) (xp : String → Nat → ga_H → Prop) (hw : gw_X0_cartOf g.2.2 p0 p1 p2 p3 h mc ms post xp) : vx_Met l yX0_cartOf (wsW_ yX0_cartOf cX0_cartOf 5 (some .int) [(0, 10, 13, 21), (0, 10, 17, 13)]) ({ frames := 13, cells := mc, slots := ms, locals := 248 } : Room) (va_Pc [va_rf p0, .int p1, .int p2, va_rf p3] (ga_B g h)) (va_Qi post (ga_E g) (ga_A g)) (ga_X g xp) mc ms (ga_A g) := by
  refine ga_metxW (own := "PaperStoreLaw") (nm := "cartOf") (by decide) rfl rfl (by cases p0 <;> cases p3 <;> exact Nat.le_of_ble_eq_true rfl) (fun p e s m below meth c ls hC htab hI hl => ?_)
  have hl : lv_has ls 5 [(0, va_rf p0), (1, .int p1), (2, .int p2), (3, va_rf p3)] := (by cases p0 <;> cases p3 <;> exact hl)
  generalize ([va_rf p0, .int p1, .int p2, va_rf p3] : List Value).toArray = args at hC ⊢
  obtain ⟨hx, hb, hml, hown, hts, hr, hlk, hnm⟩ := hC
  unfold gw_X0_cartOf at hw
  obtain ⟨H, eH⟩ : ∃ z, z = s.heap := ⟨_, rfl⟩
  obtain ⟨locs, elo⟩ : ∃ z : List Loc, z = [] := ⟨_, rfl⟩
  rw [← eH, ← elo] at hI ⊢
  obtain ⟨cells, slots, hbc, hbs, e0, e1⟩ : ∃ a b : Nat, a + mc ≤ mc ∧ b + ms ≤ ms ∧ a = 0 ∧ b = 0 := ⟨0, 0, by omega, by omega, rfl, rfl⟩
  show W p l e ({ frames := 13, cells := mc, slots := ms, locals := 248 } : Room) s m args below meth c H locs 0 0 (vx_MQ below (va_Qi post (ga_E g) (ga_A g)) (ga_X g xp) args s mc ms (ga_A g)) (F0 m 0 ls [])
  suffices hgoal : W p l e ({ frames := 13, cells := mc, slots := ms, locals := 248 } : Room) s m args below meth c H locs cells slots (vx_MQ below (va_Qi post (ga_E g) (ga_A g)) (ga_X g xp) args s mc ms (ga_A g)) (F0 m 0 ls []) by rw [e0, e1] at hgoal; exact hgoal
  refine ga_aload_n hx hb dX0_cartOf_0 rfl (lv_at hl 3 rfl) ?_
  refine lv_iconst (v := 0) hx hb dX0_cartOf_1 (by decide) ?_
  refine ga_aload_n hx hb dX0_cartOf_2 rfl (lv_at hl 0 rfl) ?_
  refine lv_iload_n hx hb dX0_cartOf_3 rfl (lv_at hl 1 rfl) ?_
  refine lv_iload_n hx hb dX0_cartOf_4 rfl (lv_at hl 2 rfl) ?_
  obtain ⟨a_1, ea_1, hw⟩ := hw
  rewrite [ea_1]
  obtain ⟨kc_2, ks_3, hk1, hk2, hw⟩ := hw
  obtain ⟨fs_4, hq, hw⟩ := hw
  refine ga_xcalli (vx_runV (As := [.int p1, .int p2]) (rest := [.int (0 : Int32), va_rf p3]) ⟨hx, hb, hml, hown, hts⟩ (gm_X1_cartOf l hst g a_1 p1 p2 h kc_2 ks_3 _ _ hw) (cwV 2 hts (lw_V q2593 q2594 q2595 q100 q2596) rfl rfl rfl ⟨rfl, hdG_X1_cartOf⟩ ⟨Nat.le_of_ble_eq_true rfl, Nat.le_of_ble_eq_true rfl⟩) (ga_preV hI hq rfl rfl) rfl rfl hl.1 rfl (ga_room (Nat.le_of_ble_eq_true rfl)) dX0_cartOf_5 ⟨Nat.le_trans (Nat.add_le_add_left hk1 _) hbc, Nat.le_trans (Nat.add_le_add_left hk2 _) hbs⟩) hI hbc hbs hk1 hk2 (fun E_7 q_8 h_9 ce H locs cells slots hw hI hce hbc hbs => ?_) (fun r_6 h_5 H locs cells slots hw hI hbc hbs => ?_)
  · rcases hw with ⟨rfl, hw⟩ | ⟨rfl, hw⟩
    · skip
      refine ga_catch hown hts hI ([⟨0, 10, 13, 21⟩]) (⟨0, 10, 17, 13⟩) ([]) (by rw [htab]; rfl) (List.forall_mem_cons.mpr ⟨Or.inr ⟨by decide, ga_ncs hts hI q2105 (List.mem_of_getElem? (i := 1) rfl)⟩, fun _ h => absurd h List.not_mem_nil⟩) rfl (by decide) q2017 q1054 hce ?_
      refine W.eq (g2 := F0 m 17 ls [.ref q_8]) rfl ?_
      refine lv_astore (lv' := [(4, .ref q_8), (0, va_rf p0), (1, .int p1), (2, .int p2), (3, va_rf p3)]) hx hb dX0_cartOf_17 hl (by decide) (by simp [ga_rcat, ga_cat_r, ga_cat_i, ga_cat_f, ga_cat_l, ga_cat_d]) (fun ls hl => ?_)
      refine lv_iconst (v := 2) hx hb dX0_cartOf_19 (by decide) ?_
      exact ga_iretx hx hb hr rfl hlk hI hw (Nat.le_trans (Nat.le_add_right _ _) hbc) (Nat.le_trans (Nat.le_add_right _ _) hbs) dX0_cartOf_20
    · skip
      refine ga_catch hown hts hI ([]) (⟨0, 10, 13, 21⟩) ([⟨0, 10, 17, 13⟩]) (by rw [htab]; rfl) (fun _ h => absurd h List.not_mem_nil) rfl (by decide) q2105 q866 hce ?_
      refine W.eq (g2 := F0 m 13 ls [.ref q_8]) rfl ?_
      refine lv_astore (lv' := [(4, .ref q_8), (0, va_rf p0), (1, .int p1), (2, .int p2), (3, va_rf p3)]) hx hb dX0_cartOf_13 hl (by decide) (by simp [ga_rcat, ga_cat_r, ga_cat_i, ga_cat_f, ga_cat_l, ga_cat_d]) (fun ls hl => ?_)
      refine lv_iconst (v := 1) hx hb dX0_cartOf_15 (by decide) ?_
      exact ga_iretx hx hb hr rfl hlk hI hw (Nat.le_trans (Nat.le_add_right _ _) hbc) (Nat.le_trans (Nat.le_add_right _ _) hbs) dX0_cartOf_16
  · skip
    refine lv_i2l (v := r_6.toInt64) hx hb dX0_cartOf_8 rfl ?_
    obtain ⟨a_10, ea_10, hw⟩ := hw
    rewrite [ea_10]
    obtain ⟨n_11, f_12, hq, hi, hw⟩ := hw
    refine ga_stl hx hb hI hq hi dX0_cartOf_9 (fun H locs hI => ?_)
    obtain ⟨h_13, eh_13⟩ : ∃ z, z = ga_set h_5 a_10 (ga_Al n_11 (vp_updL f_12 (0 : Int32).toNatClampNeg r_6.toInt64)) := ⟨_, rfl⟩
    rw [← eh_13] at hI
    have hw := hw h_13 eh_13
    refine lv_goto (tgt := 21) hx hb dX0_cartOf_10 (by decide) ?_
    refine lv_iconst (v := 0) hx hb dX0_cartOf_21 (by decide) ?_
    exact ga_iretx hx hb hr rfl hlk hI hw (Nat.le_trans (Nat.le_add_right _ _) hbc) (Nat.le_trans (Nat.le_add_right _ _) hbs) dX0_cartOf_22
theorem hdG_X0_cartOf : yX0_cartOf.cls ≠ "java/lang/invoke/MethodHandle" ∧ yX0_cartOf.cls ≠ "java/lang/invoke/VarHandle" ∧ (parseMethodDescriptor yX0_cartOf.desc).map (fun d => d.parameters.length) = some 4 := by decide +kernel
def gw_X1_stock (K : ga_K) (p0 : Nat) (p1 : Int32) (p2 : Int32) (p3 : Int32) (h : ga_H) (mc ms : Nat) (post : Int32 → ga_H → Prop) (xp : String → Nat → ga_H → Prop) : Prop :=
  gw_X1_isPaper p1 p2 (fun (r_1 : Int32) => ∃ kc_2 ks_3 : Nat, kc_2 ≤ mc ∧ ks_3 ≤ ms ∧ gw_X1_checkArgument K r_1 h kc_2 ks_3 (fun (h_4 : ga_H) => ∃ (fs_8 : List Value) (v_9 : Option Nat), h_4 p0 = some (ga_O 0 fs_8) ∧ fs_8[0]? = some (va_rf v_9) ∧ (1 ≤ (mc - kc_2) ∧ 2 ≤ (ms - ks_3) ∧ ∀ q_10 : Nat, h_4 q_10 = none → ∀ h_11 : ga_H, h_11 = ga_set h_4 q_10 (ga_O 9 [.int 0, .int 0]) → (gw_X11_init K q_10 p1 p2 h_11 (fun (h_12 : ga_H) => ∃ a_13 : Nat, v_9 = some a_13 ∧ ∃ kc_14 ks_15 : Nat, kc_14 ≤ ((mc - kc_2) - 1) ∧ ks_15 ≤ ((ms - ks_3) - 2) ∧ ∃ fs_16 : List Value, ga_at K h_12 a_13 (ga_O 1 fs_16) ∧ gw_X2_stock K a_13 (some q_10) p3 h_12 kc_14 ks_15 (fun (r_18 : Int32) (h_17 : ga_H) => post r_18 h_17))))) (fun (E_5 : String) (q_6 : Nat) (h_7 : ga_H) => xp E_5 q_6 h_7))
set_option maxHeartbeats 4000000 in
theorem gm_X1_stock (l : Launch) (hst : l.stackTraces = false) (g : ga_G) (p0 : Nat) (p1 : Int32) (p2 : Int32) (p3 : Int32) (h : ga_H) (mc ms : Nat) (post : Int32 → ga_H → Prop) (xp : String → Nat → ga_H → Prop) (hw : gw_X1_stock g.2.2 p0 p1 p2 p3 h mc ms post xp) : vx_Met l yX1_stock (ws_ yX1_stock cX1_stock 4 (some .int)) ({ frames := 15, cells := mc, slots := ms, locals := 308 } : Room) (va_Pc [.ref p0, .int p1, .int p2, .int p3] (ga_B g h)) (va_Qi post (ga_E g) (ga_A g)) (ga_X g xp) mc ms (ga_A g) := by
  refine ga_metx (own := "PaperStore") (nm := "stock") (by decide) rfl rfl (by exact Nat.le_of_ble_eq_true rfl) (fun p e s m below meth c ls hC htab hI hl => ?_)
  have hl : lv_has ls 4 [(0, .ref p0), (1, .int p1), (2, .int p2), (3, .int p3)] := hl
  generalize ([.ref p0, .int p1, .int p2, .int p3] : List Value).toArray = args at hC ⊢
  obtain ⟨hx, hb, hml, hown, hts, hr, hlk, hnm⟩ := hC
  unfold gw_X1_stock at hw
  obtain ⟨H, eH⟩ : ∃ z, z = s.heap := ⟨_, rfl⟩
  obtain ⟨locs, elo⟩ : ∃ z : List Loc, z = [] := ⟨_, rfl⟩
  rw [← eH, ← elo] at hI ⊢
  obtain ⟨cells, slots, hbc, hbs, e0, e1⟩ : ∃ a b : Nat, a + mc ≤ mc ∧ b + ms ≤ ms ∧ a = 0 ∧ b = 0 := ⟨0, 0, by omega, by omega, rfl, rfl⟩
  show W p l e ({ frames := 15, cells := mc, slots := ms, locals := 308 } : Room) s m args below meth c H locs 0 0 (vx_MQ below (va_Qi post (ga_E g) (ga_A g)) (ga_X g xp) args s mc ms (ga_A g)) (F0 m 0 ls [])
  suffices hgoal : W p l e ({ frames := 15, cells := mc, slots := ms, locals := 308 } : Room) s m args below meth c H locs cells slots (vx_MQ below (va_Qi post (ga_E g) (ga_A g)) (ga_X g xp) args s mc ms (ga_A g)) (F0 m 0 ls []) by rw [e0, e1] at hgoal; exact hgoal
  refine lv_iload_n hx hb dX1_stock_0 rfl (lv_at hl 1 rfl) ?_
  refine lv_iload_n hx hb dX1_stock_1 rfl (lv_at hl 2 rfl) ?_
  refine ga_callS (As := [.int p1, .int p2]) (rest := []) ⟨hx, hb, hml, hown, hts⟩ (gm_X1_isPaper l p1 p2 _ hw) (va_cwS 2 hts (lw_S q2161 q2162 q100 q2163) rfl rfl rfl hdG_X1_isPaper ⟨Nat.le_of_ble_eq_true rfl, Nat.le_of_ble_eq_true rfl⟩) rfl hl.1 rfl (ga_room (Nat.le_of_ble_eq_true rfl)) dX1_stock_2 hbc hbs (fun r_1 hw => ?_)
  obtain ⟨kc_2, ks_3, hk1, hk2, hw⟩ := hw
  refine ga_xcallv (vx_runS (As := [.int r_1]) (rest := []) ⟨hx, hb, hml, hown, hts⟩ (gm_X1_checkArgument l hst g r_1 h kc_2 ks_3 _ _ hw) (va_cwS 1 hts (lw_S q2027 q2028 q100 q2029) rfl rfl rfl hdG_X1_checkArgument ⟨Nat.le_of_ble_eq_true rfl, Nat.le_of_ble_eq_true rfl⟩) (ga_preS hI rfl) rfl rfl hl.1 rfl (ga_room (Nat.le_of_ble_eq_true rfl)) dX1_stock_5 ⟨Nat.le_trans (Nat.add_le_add_left hk1 _) hbc, Nat.le_trans (Nat.add_le_add_left hk2 _) hbs⟩) hI hbc hbs hk1 hk2 (fun E_5 q_6 h_7 ce H locs cells slots hw hI hce hbc hbs => ?_) (fun h_4 H locs cells slots hw hI hbc hbs => ?_)
  · exact ga_out hown hlk hI hw (by rw [htab]; intro z hz; cases hz) hce (Nat.le_trans (Nat.le_add_right _ _) hbc) (Nat.le_trans (Nat.le_add_right _ _) hbs)
  · skip
    refine lv_aload_n hx hb dX1_stock_8 rfl (lv_at hl 0 rfl) ?_
    obtain ⟨fs_8, v_9, hq, hv, hw⟩ := hw
    refine ga_get (ci := 0) (T := TX1) (v := va_rf v_9) hx hb hts hown hI in_X1 rfl 0 (by decide) q387 (fun _ z => z) (ga_at.h hq) hv dX1_stock_9 ?_
    refine ga_new (ci := 9) (T := TX11) hx hb hts hown hI in_X11 rfl tyX11 tyX11_ok q2164 q2165 q153 [.int 0, .int 0] ga_df_X11 hbc hbs hw.1 hw.2.1 dX1_stock_12 (fun q_10 H cells slots hn_q_10 hI hbc hbs => ?_)
    obtain ⟨h_11, eh_11⟩ : ∃ z, z = ga_set h_4 q_10 (ga_O 9 [.int 0, .int 0]) := ⟨_, rfl⟩
    rw [← eh_11] at hI
    have hw := hw.2.2 q_10 hn_q_10 h_11 eh_11
    refine lv_dup hx hb dX1_stock_15 rfl ?_
    refine lv_iload_n hx hb dX1_stock_16 rfl (lv_at hl 1 rfl) ?_
    refine lv_iload_n hx hb dX1_stock_17 rfl (lv_at hl 2 rfl) ?_
    refine ga_callv (va_runI (As := [.int p1, .int p2]) (rest := [.ref q_10, va_rf v_9]) ⟨hx, hb, hml, hown, hts⟩ (gm_X11_init l g q_10 p1 p2 h_11 _ hw) (cwI 2 hts (lw_meth q2168) rfl rfl rfl (hts _ q153) (hts _ q2166) (hts _ q2167) rfl hdG_X11_init ⟨Nat.le_of_ble_eq_true rfl, Nat.le_of_ble_eq_true rfl⟩) (ga_preS hI rfl) rfl rfl hl.1 rfl (ga_room (Nat.le_of_ble_eq_true rfl)) dX1_stock_18 ⟨Nat.le_trans (Nat.add_le_add_left (Nat.zero_le _) _) hbc, Nat.le_trans (Nat.add_le_add_left (Nat.zero_le _) _) hbs⟩) hI hbc hbs (Nat.zero_le _) (Nat.zero_le _) (fun h_12 H locs cells slots hw hI hbc hbs => ?_)
    refine lv_iload_n hx hb dX1_stock_21 rfl (lv_at hl 3 rfl) ?_
    obtain ⟨a_13, ea_13, hw⟩ := hw
    rewrite [ea_13]
    obtain ⟨kc_14, ks_15, hk1, hk2, hw⟩ := hw
    obtain ⟨fs_16, hq, hw⟩ := hw
    refine ga_calli (va_runV (As := [va_rf (some q_10), .int p3]) (rest := []) ⟨hx, hb, hml, hown, hts⟩ (gm_X2_stock l g a_13 (some q_10) p3 h_12 kc_14 ks_15 _ hw) (cwV 2 hts (lw_V q2604 q2572 q2573 q101 q2574) rfl rfl rfl ⟨rfl, hdG_X2_stock⟩ ⟨Nat.le_of_ble_eq_true rfl, Nat.le_of_ble_eq_true rfl⟩) (ga_preV hI hq rfl rfl) rfl rfl hl.1 rfl (ga_room (Nat.le_of_ble_eq_true rfl)) dX1_stock_22 ⟨Nat.le_trans (Nat.add_le_add_left hk1 _) hbc, Nat.le_trans (Nat.add_le_add_left hk2 _) hbs⟩) hI hbc hbs hk1 hk2 (fun r_18 h_17 H locs cells slots hw hI hbc hbs => ?_)
    exact ga_iretx hx hb hr rfl hlk hI hw (Nat.le_trans (Nat.le_add_right _ _) hbc) (Nat.le_trans (Nat.le_add_right _ _) hbs) dX1_stock_25
theorem hdG_X1_stock : yX1_stock.cls ≠ "java/lang/invoke/MethodHandle" ∧ yX1_stock.cls ≠ "java/lang/invoke/VarHandle" ∧ (parseMethodDescriptor yX1_stock.desc).map (fun d => d.parameters.length) = some 3 := by decide +kernel
def gw_X0_stock (K : ga_K) (p0 : Option Nat) (p1 : Int32) (p2 : Int32) (p3 : Int32) (p4 : Option Nat) (h : ga_H) (mc ms : Nat) (post : Int32 → ga_H → Prop) (xp : String → Nat → ga_H → Prop) : Prop :=
  ∃ a_1 : Nat, p0 = some a_1 ∧ ∃ kc_2 ks_3 : Nat, kc_2 ≤ mc ∧ ks_3 ≤ ms ∧ ∃ fs_4 : List Value, ga_at K h a_1 (ga_O 0 fs_4) ∧ gw_X1_stock K a_1 p1 p2 p3 h kc_2 ks_3 (fun (r_6 : Int32) (h_5 : ga_H) => ∃ a_10 : Nat, p4 = some a_10 ∧ ∃ (n_11 : Nat) (f_12 : Nat → Int64), h_5 a_10 = some (ga_Al n_11 f_12) ∧ vp_in (0 : Int32) n_11 ∧ ∀ h_13 : ga_H, h_13 = ga_set h_5 a_10 (ga_Al n_11 (vp_updL f_12 (0 : Int32).toNatClampNeg r_6.toInt64)) → (post (0 : Int32) h_13)) (fun (E_7 : String) (q_8 : Nat) (h_9 : ga_H) => (E_7 = "java/lang/IllegalArgumentException" ∧ (post (1 : Int32) h_9)))
set_option maxHeartbeats 4000000 in
theorem gm_X0_stock (l : Launch) (hst : l.stackTraces = false) (g : ga_G) (p0 : Option Nat) (p1 : Int32) (p2 : Int32) (p3 : Int32) (p4 : Option Nat) (h : ga_H) (mc ms : Nat) (post : Int32 → ga_H → Prop) (xp : String → Nat → ga_H → Prop) (hw : gw_X0_stock g.2.2 p0 p1 p2 p3 p4 h mc ms post xp) : vx_Met l yX0_stock (wsW_ yX0_stock cX0_stock 6 (some .int) [(0, 12, 15, 13)]) ({ frames := 16, cells := mc, slots := ms, locals := 331 } : Room) (va_Pc [va_rf p0, .int p1, .int p2, .int p3, va_rf p4] (ga_B g h)) (va_Qi post (ga_E g) (ga_A g)) (ga_X g xp) mc ms (ga_A g) := by
  refine ga_metxW (own := "PaperStoreLaw") (nm := "stock") (by decide) rfl rfl (by cases p0 <;> cases p4 <;> exact Nat.le_of_ble_eq_true rfl) (fun p e s m below meth c ls hC htab hI hl => ?_)
  have hl : lv_has ls 6 [(0, va_rf p0), (1, .int p1), (2, .int p2), (3, .int p3), (4, va_rf p4)] := (by cases p0 <;> cases p4 <;> exact hl)
  generalize ([va_rf p0, .int p1, .int p2, .int p3, va_rf p4] : List Value).toArray = args at hC ⊢
  obtain ⟨hx, hb, hml, hown, hts, hr, hlk, hnm⟩ := hC
  unfold gw_X0_stock at hw
  obtain ⟨H, eH⟩ : ∃ z, z = s.heap := ⟨_, rfl⟩
  obtain ⟨locs, elo⟩ : ∃ z : List Loc, z = [] := ⟨_, rfl⟩
  rw [← eH, ← elo] at hI ⊢
  obtain ⟨cells, slots, hbc, hbs, e0, e1⟩ : ∃ a b : Nat, a + mc ≤ mc ∧ b + ms ≤ ms ∧ a = 0 ∧ b = 0 := ⟨0, 0, by omega, by omega, rfl, rfl⟩
  show W p l e ({ frames := 16, cells := mc, slots := ms, locals := 331 } : Room) s m args below meth c H locs 0 0 (vx_MQ below (va_Qi post (ga_E g) (ga_A g)) (ga_X g xp) args s mc ms (ga_A g)) (F0 m 0 ls [])
  suffices hgoal : W p l e ({ frames := 16, cells := mc, slots := ms, locals := 331 } : Room) s m args below meth c H locs cells slots (vx_MQ below (va_Qi post (ga_E g) (ga_A g)) (ga_X g xp) args s mc ms (ga_A g)) (F0 m 0 ls []) by rw [e0, e1] at hgoal; exact hgoal
  refine ga_aload hx hb dX0_stock_0 (lv_at hl 4 rfl) ?_
  refine lv_iconst (v := 0) hx hb dX0_stock_2 (by decide) ?_
  refine ga_aload_n hx hb dX0_stock_3 rfl (lv_at hl 0 rfl) ?_
  refine lv_iload_n hx hb dX0_stock_4 rfl (lv_at hl 1 rfl) ?_
  refine lv_iload_n hx hb dX0_stock_5 rfl (lv_at hl 2 rfl) ?_
  refine lv_iload_n hx hb dX0_stock_6 rfl (lv_at hl 3 rfl) ?_
  obtain ⟨a_1, ea_1, hw⟩ := hw
  rewrite [ea_1]
  obtain ⟨kc_2, ks_3, hk1, hk2, hw⟩ := hw
  obtain ⟨fs_4, hq, hw⟩ := hw
  refine ga_xcalli (vx_runV (As := [.int p1, .int p2, .int p3]) (rest := [.int (0 : Int32), va_rf p4]) ⟨hx, hb, hml, hown, hts⟩ (gm_X1_stock l hst g a_1 p1 p2 p3 h kc_2 ks_3 _ _ hw) (cwV 3 hts (lw_V q2600 q2601 q2602 q100 q2603) rfl rfl rfl ⟨rfl, hdG_X1_stock⟩ ⟨Nat.le_of_ble_eq_true rfl, Nat.le_of_ble_eq_true rfl⟩) (ga_preV hI hq rfl rfl) rfl rfl hl.1 rfl (ga_room (Nat.le_of_ble_eq_true rfl)) dX0_stock_7 ⟨Nat.le_trans (Nat.add_le_add_left hk1 _) hbc, Nat.le_trans (Nat.add_le_add_left hk2 _) hbs⟩) hI hbc hbs hk1 hk2 (fun E_7 q_8 h_9 ce H locs cells slots hw hI hce hbc hbs => ?_) (fun r_6 h_5 H locs cells slots hw hI hbc hbs => ?_)
  · obtain ⟨rfl, hw⟩ := hw
    refine ga_catch hown hts hI ([]) (⟨0, 12, 15, 13⟩) ([]) (by rw [htab]; rfl) (fun _ h => absurd h List.not_mem_nil) rfl (by decide) q2017 q1054 hce ?_
    refine W.eq (g2 := F0 m 15 ls [.ref q_8]) rfl ?_
    refine lv_astore (lv' := [(5, .ref q_8), (0, va_rf p0), (1, .int p1), (2, .int p2), (3, .int p3), (4, va_rf p4)]) hx hb dX0_stock_15 hl (by decide) (by simp [ga_rcat, ga_cat_r, ga_cat_i, ga_cat_f, ga_cat_l, ga_cat_d]) (fun ls hl => ?_)
    refine lv_iconst (v := 1) hx hb dX0_stock_17 (by decide) ?_
    exact ga_iretx hx hb hr rfl hlk hI hw (Nat.le_trans (Nat.le_add_right _ _) hbc) (Nat.le_trans (Nat.le_add_right _ _) hbs) dX0_stock_18
  · skip
    refine lv_i2l (v := r_6.toInt64) hx hb dX0_stock_10 rfl ?_
    obtain ⟨a_10, ea_10, hw⟩ := hw
    rewrite [ea_10]
    obtain ⟨n_11, f_12, hq, hi, hw⟩ := hw
    refine ga_stl hx hb hI hq hi dX0_stock_11 (fun H locs hI => ?_)
    obtain ⟨h_13, eh_13⟩ : ∃ z, z = ga_set h_5 a_10 (ga_Al n_11 (vp_updL f_12 (0 : Int32).toNatClampNeg r_6.toInt64)) := ⟨_, rfl⟩
    rw [← eh_13] at hI
    have hw := hw h_13 eh_13
    refine lv_goto (tgt := 19) hx hb dX0_stock_12 (by decide) ?_
    refine lv_iconst (v := 0) hx hb dX0_stock_19 (by decide) ?_
    exact ga_iretx hx hb hr rfl hlk hI hw (Nat.le_trans (Nat.le_add_right _ _) hbc) (Nat.le_trans (Nat.le_add_right _ _) hbs) dX0_stock_20
theorem hdG_X0_stock : yX0_stock.cls ≠ "java/lang/invoke/MethodHandle" ∧ yX0_stock.cls ≠ "java/lang/invoke/VarHandle" ∧ (parseMethodDescriptor yX0_stock.desc).map (fun d => d.parameters.length) = some 5 := by decide +kernel
def gw_X1_sent (K : ga_K) (p0 : Nat) (p1 : Int32) (p2 : Int32) (h : ga_H) (mc ms : Nat) (post : Int32 → ga_H → Prop) (xp : String → Nat → ga_H → Prop) : Prop :=
  gw_X1_isPaper p1 p2 (fun (r_1 : Int32) => ∃ kc_2 ks_3 : Nat, kc_2 ≤ mc ∧ ks_3 ≤ ms ∧ gw_X1_checkArgument K r_1 h kc_2 ks_3 (fun (h_4 : ga_H) => ∃ (fs_8 : List Value) (v_9 : Option Nat), h_4 p0 = some (ga_O 0 fs_8) ∧ fs_8[0]? = some (va_rf v_9) ∧ (∃ a_10 : Nat, v_9 = some a_10 ∧ ∃ (fs_11 : List Value) (v_12 : Option Nat), h_4 a_10 = some (ga_O 1 fs_11) ∧ fs_11[5]? = some (va_rf v_12) ∧ (1 ≤ (mc - kc_2) ∧ 2 ≤ (ms - ks_3) ∧ ∀ q_13 : Nat, h_4 q_13 = none → ∀ h_14 : ga_H, h_14 = ga_set h_4 q_13 (ga_O 9 [.int 0, .int 0]) → (gw_X11_init K q_13 p1 p2 h_14 (fun (h_15 : ga_H) => ∃ a_16 : Nat, v_12 = some a_16 ∧ ∃ fs_17 : List Value, ga_at K h_15 a_16 (ga_O 15 fs_17) ∧ gw_J4_get_P K a_16 (some q_13) h_15 (fun (r_19 : Option Nat) (h_18 : ga_H) => ga_ok K h_18 "java/lang/Integer" r_19 ∧ ((r_19 = none → (post (0 : Int32) h_18)) ∧ (∀ a_20 : Nat, r_19 = some a_20 → (∃ a_21 : Nat, r_19 = some a_21 ∧ ∃ fs_22 : List Value, ga_at K h_18 a_21 (ga_O 24 fs_22) ∧ gw_J30_intValue K a_21 h_18 (fun (r_24 : Int32) (h_23 : ga_H) => post r_24 h_23)))))))))) (fun (E_5 : String) (q_6 : Nat) (h_7 : ga_H) => xp E_5 q_6 h_7))
set_option maxHeartbeats 4000000 in
theorem gm_X1_sent (l : Launch) (hst : l.stackTraces = false) (g : ga_G) (p0 : Nat) (p1 : Int32) (p2 : Int32) (h : ga_H) (mc ms : Nat) (post : Int32 → ga_H → Prop) (xp : String → Nat → ga_H → Prop) (hw : gw_X1_sent g.2.2 p0 p1 p2 h mc ms post xp) : vx_Met l yX1_sent (ws_ yX1_sent cX1_sent 4 (some .int)) ({ frames := 12, cells := mc, slots := ms, locals := 230 } : Room) (va_Pc [.ref p0, .int p1, .int p2] (ga_B g h)) (va_Qi post (ga_E g) (ga_A g)) (ga_X g xp) mc ms (ga_A g) := by
  refine ga_metx (own := "PaperStore") (nm := "sent") (by decide) rfl rfl (by exact Nat.le_of_ble_eq_true rfl) (fun p e s m below meth c ls hC htab hI hl => ?_)
  have hl : lv_has ls 4 [(0, .ref p0), (1, .int p1), (2, .int p2)] := hl
  generalize ([.ref p0, .int p1, .int p2] : List Value).toArray = args at hC ⊢
  obtain ⟨hx, hb, hml, hown, hts, hr, hlk, hnm⟩ := hC
  unfold gw_X1_sent at hw
  obtain ⟨H, eH⟩ : ∃ z, z = s.heap := ⟨_, rfl⟩
  obtain ⟨locs, elo⟩ : ∃ z : List Loc, z = [] := ⟨_, rfl⟩
  rw [← eH, ← elo] at hI ⊢
  obtain ⟨cells, slots, hbc, hbs, e0, e1⟩ : ∃ a b : Nat, a + mc ≤ mc ∧ b + ms ≤ ms ∧ a = 0 ∧ b = 0 := ⟨0, 0, by omega, by omega, rfl, rfl⟩
  show W p l e ({ frames := 12, cells := mc, slots := ms, locals := 230 } : Room) s m args below meth c H locs 0 0 (vx_MQ below (va_Qi post (ga_E g) (ga_A g)) (ga_X g xp) args s mc ms (ga_A g)) (F0 m 0 ls [])
  suffices hgoal : W p l e ({ frames := 12, cells := mc, slots := ms, locals := 230 } : Room) s m args below meth c H locs cells slots (vx_MQ below (va_Qi post (ga_E g) (ga_A g)) (ga_X g xp) args s mc ms (ga_A g)) (F0 m 0 ls []) by rw [e0, e1] at hgoal; exact hgoal
  refine lv_iload_n hx hb dX1_sent_0 rfl (lv_at hl 1 rfl) ?_
  refine lv_iload_n hx hb dX1_sent_1 rfl (lv_at hl 2 rfl) ?_
  refine ga_callS (As := [.int p1, .int p2]) (rest := []) ⟨hx, hb, hml, hown, hts⟩ (gm_X1_isPaper l p1 p2 _ hw) (va_cwS 2 hts (lw_S q2161 q2162 q100 q2163) rfl rfl rfl hdG_X1_isPaper ⟨Nat.le_of_ble_eq_true rfl, Nat.le_of_ble_eq_true rfl⟩) rfl hl.1 rfl (ga_room (Nat.le_of_ble_eq_true rfl)) dX1_sent_2 hbc hbs (fun r_1 hw => ?_)
  obtain ⟨kc_2, ks_3, hk1, hk2, hw⟩ := hw
  refine ga_xcallv (vx_runS (As := [.int r_1]) (rest := []) ⟨hx, hb, hml, hown, hts⟩ (gm_X1_checkArgument l hst g r_1 h kc_2 ks_3 _ _ hw) (va_cwS 1 hts (lw_S q2027 q2028 q100 q2029) rfl rfl rfl hdG_X1_checkArgument ⟨Nat.le_of_ble_eq_true rfl, Nat.le_of_ble_eq_true rfl⟩) (ga_preS hI rfl) rfl rfl hl.1 rfl (ga_room (Nat.le_of_ble_eq_true rfl)) dX1_sent_5 ⟨Nat.le_trans (Nat.add_le_add_left hk1 _) hbc, Nat.le_trans (Nat.add_le_add_left hk2 _) hbs⟩) hI hbc hbs hk1 hk2 (fun E_5 q_6 h_7 ce H locs cells slots hw hI hce hbc hbs => ?_) (fun h_4 H locs cells slots hw hI hbc hbs => ?_)
  · exact ga_out hown hlk hI hw (by rw [htab]; intro z hz; cases hz) hce (Nat.le_trans (Nat.le_add_right _ _) hbc) (Nat.le_trans (Nat.le_add_right _ _) hbs)
  · skip
    refine lv_aload_n hx hb dX1_sent_8 rfl (lv_at hl 0 rfl) ?_
    obtain ⟨fs_8, v_9, hq, hv, hw⟩ := hw
    refine ga_get (ci := 0) (T := TX1) (v := va_rf v_9) hx hb hts hown hI in_X1 rfl 0 (by decide) q387 (fun _ z => z) (ga_at.h hq) hv dX1_sent_9 ?_
    obtain ⟨a_10, ea_10, hw⟩ := hw
    rewrite [ea_10]
    obtain ⟨fs_11, v_12, hq, hv, hw⟩ := hw
    refine ga_getN (ci := 1) (T := TX2) (v := va_rf v_12) hx hb hts hown hI in_X2 rfl 5 (by decide) q321 (fun _ z => z) (ga_at.h hq) hv dX1_sent_12 ?_
    refine ga_new (ci := 9) (T := TX11) hx hb hts hown hI in_X11 rfl tyX11 tyX11_ok q2164 q2165 q153 [.int 0, .int 0] ga_df_X11 hbc hbs hw.1 hw.2.1 dX1_sent_15 (fun q_13 H cells slots hn_q_13 hI hbc hbs => ?_)
    obtain ⟨h_14, eh_14⟩ : ∃ z, z = ga_set h_4 q_13 (ga_O 9 [.int 0, .int 0]) := ⟨_, rfl⟩
    rw [← eh_14] at hI
    have hw := hw.2.2 q_13 hn_q_13 h_14 eh_14
    refine lv_dup hx hb dX1_sent_18 rfl ?_
    refine lv_iload_n hx hb dX1_sent_19 rfl (lv_at hl 1 rfl) ?_
    refine lv_iload_n hx hb dX1_sent_20 rfl (lv_at hl 2 rfl) ?_
    refine ga_callv (va_runI (As := [.int p1, .int p2]) (rest := [.ref q_13, va_rf v_12]) ⟨hx, hb, hml, hown, hts⟩ (gm_X11_init l g q_13 p1 p2 h_14 _ hw) (cwI 2 hts (lw_meth q2168) rfl rfl rfl (hts _ q153) (hts _ q2166) (hts _ q2167) rfl hdG_X11_init ⟨Nat.le_of_ble_eq_true rfl, Nat.le_of_ble_eq_true rfl⟩) (ga_preS hI rfl) rfl rfl hl.1 rfl (ga_room (Nat.le_of_ble_eq_true rfl)) dX1_sent_21 ⟨Nat.le_trans (Nat.add_le_add_left (Nat.zero_le _) _) hbc, Nat.le_trans (Nat.add_le_add_left (Nat.zero_le _) _) hbs⟩) hI hbc hbs (Nat.zero_le _) (Nat.zero_le _) (fun h_15 H locs cells slots hw hI hbc hbs => ?_)
    obtain ⟨a_16, ea_16, hw⟩ := hw
    rewrite [ea_16]
    obtain ⟨fs_17, hq, hw⟩ := hw
    refine ga_callq (va_runV (As := [va_rf (some q_13)]) (rest := []) ⟨hx, hb, hml, hown, hts⟩ (gm_J4_get_P l g a_16 (some q_13) h_15 _ hw) (cwV 1 hts (lw_V q2612 q2525 q2526 q106 q2527) rfl rfl rfl ⟨rfl, hdG_J4_get_P⟩ ⟨Nat.le_of_ble_eq_true rfl, Nat.le_of_ble_eq_true rfl⟩) (ga_preV hI hq rfl rfl) rfl rfl hl.1 rfl (ga_room (Nat.le_of_ble_eq_true rfl)) dX1_sent_24 ⟨Nat.le_trans (Nat.add_le_add_left (Nat.zero_le _) _) hbc, Nat.le_trans (Nat.add_le_add_left (Nat.zero_le _) _) hbs⟩) hI hbc hbs (Nat.zero_le _) (Nat.zero_le _) (fun r_19 h_18 H locs cells slots hw hI hbc hbs => ?_)
    refine ga_cast (x := r_19) hx hb hts hown hI q2613 hw.1 dX1_sent_27 ?_
    have hw := hw.2
    refine ga_astore_n (i := 3) (x := r_19) (lv' := [(3, va_rf r_19), (0, .ref p0), (1, .int p1), (2, .int p2)]) hx hb dX1_sent_30 rfl hl (by decide) rfl (fun ls hl => ?_)
    refine ga_aload_n hx hb dX1_sent_31 rfl (lv_at hl 0 rfl) ?_
    refine ga_ifnonnull (tgt := 39) hx hb dX1_sent_32 (by decide) (fun a_20 hc_a_20 => ?_) (fun hc_a_20 => ?_)
    · have hw := hw.2 a_20 hc_a_20
      skip
      refine ga_aload_n hx hb dX1_sent_39 rfl (lv_at hl 0 rfl) ?_
      obtain ⟨a_21, ea_21, hw⟩ := hw
      rewrite [ea_21]
      obtain ⟨fs_22, hq, hw⟩ := hw
      refine ga_calli (va_runV (As := []) (rest := []) ⟨hx, hb, hml, hown, hts⟩ (gm_J30_intValue l g a_21 h_18 _ hw) (cwV 0 hts (lw_V q2614 q1931 q1932 q136 q1933) rfl rfl rfl ⟨rfl, hdG_J30_intValue⟩ ⟨Nat.le_of_ble_eq_true rfl, Nat.le_of_ble_eq_true rfl⟩) (ga_preV hI hq rfl rfl) rfl rfl hl.1 rfl (ga_room (Nat.le_of_ble_eq_true rfl)) dX1_sent_40 ⟨Nat.le_trans (Nat.add_le_add_left (Nat.zero_le _) _) hbc, Nat.le_trans (Nat.add_le_add_left (Nat.zero_le _) _) hbs⟩) hI hbc hbs (Nat.zero_le _) (Nat.zero_le _) (fun r_24 h_23 H locs cells slots hw hI hbc hbs => ?_)
      exact ga_iretx hx hb hr rfl hlk hI hw (Nat.le_trans (Nat.le_add_right _ _) hbc) (Nat.le_trans (Nat.le_add_right _ _) hbs) dX1_sent_43
    · have hw := hw.1 hc_a_20
      refine lv_iconst (v := 0) hx hb dX1_sent_35 (by decide) ?_
      refine lv_goto (tgt := 43) hx hb dX1_sent_36 (by decide) ?_
      exact ga_iretx hx hb hr rfl hlk hI hw (Nat.le_trans (Nat.le_add_right _ _) hbc) (Nat.le_trans (Nat.le_add_right _ _) hbs) dX1_sent_43
theorem hdG_X1_sent : yX1_sent.cls ≠ "java/lang/invoke/MethodHandle" ∧ yX1_sent.cls ≠ "java/lang/invoke/VarHandle" ∧ (parseMethodDescriptor yX1_sent.desc).map (fun d => d.parameters.length) = some 2 := by decide +kernel
def gw_X0_sent (K : ga_K) (p0 : Option Nat) (p1 : Int32) (p2 : Int32) (p3 : Option Nat) (h : ga_H) (mc ms : Nat) (post : Int32 → ga_H → Prop) (xp : String → Nat → ga_H → Prop) : Prop :=
  ∃ a_1 : Nat, p0 = some a_1 ∧ ∃ kc_2 ks_3 : Nat, kc_2 ≤ mc ∧ ks_3 ≤ ms ∧ ∃ fs_4 : List Value, ga_at K h a_1 (ga_O 0 fs_4) ∧ gw_X1_sent K a_1 p1 p2 h kc_2 ks_3 (fun (r_6 : Int32) (h_5 : ga_H) => ∃ a_10 : Nat, p3 = some a_10 ∧ ∃ (n_11 : Nat) (f_12 : Nat → Int64), h_5 a_10 = some (ga_Al n_11 f_12) ∧ vp_in (0 : Int32) n_11 ∧ ∀ h_13 : ga_H, h_13 = ga_set h_5 a_10 (ga_Al n_11 (vp_updL f_12 (0 : Int32).toNatClampNeg r_6.toInt64)) → (post (0 : Int32) h_13)) (fun (E_7 : String) (q_8 : Nat) (h_9 : ga_H) => (E_7 = "java/lang/IllegalArgumentException" ∧ (post (1 : Int32) h_9)))
set_option maxHeartbeats 4000000 in
theorem gm_X0_sent (l : Launch) (hst : l.stackTraces = false) (g : ga_G) (p0 : Option Nat) (p1 : Int32) (p2 : Int32) (p3 : Option Nat) (h : ga_H) (mc ms : Nat) (post : Int32 → ga_H → Prop) (xp : String → Nat → ga_H → Prop) (hw : gw_X0_sent g.2.2 p0 p1 p2 p3 h mc ms post xp) : vx_Met l yX0_sent (wsW_ yX0_sent cX0_sent 5 (some .int) [(0, 10, 13, 13)]) ({ frames := 13, cells := mc, slots := ms, locals := 253 } : Room) (va_Pc [va_rf p0, .int p1, .int p2, va_rf p3] (ga_B g h)) (va_Qi post (ga_E g) (ga_A g)) (ga_X g xp) mc ms (ga_A g) := by
  refine ga_metxW (own := "PaperStoreLaw") (nm := "sent") (by decide) rfl rfl (by cases p0 <;> cases p3 <;> exact Nat.le_of_ble_eq_true rfl) (fun p e s m below meth c ls hC htab hI hl => ?_)
  have hl : lv_has ls 5 [(0, va_rf p0), (1, .int p1), (2, .int p2), (3, va_rf p3)] := (by cases p0 <;> cases p3 <;> exact hl)
  generalize ([va_rf p0, .int p1, .int p2, va_rf p3] : List Value).toArray = args at hC ⊢
  obtain ⟨hx, hb, hml, hown, hts, hr, hlk, hnm⟩ := hC
  unfold gw_X0_sent at hw
  obtain ⟨H, eH⟩ : ∃ z, z = s.heap := ⟨_, rfl⟩
  obtain ⟨locs, elo⟩ : ∃ z : List Loc, z = [] := ⟨_, rfl⟩
  rw [← eH, ← elo] at hI ⊢
  obtain ⟨cells, slots, hbc, hbs, e0, e1⟩ : ∃ a b : Nat, a + mc ≤ mc ∧ b + ms ≤ ms ∧ a = 0 ∧ b = 0 := ⟨0, 0, by omega, by omega, rfl, rfl⟩
  show W p l e ({ frames := 13, cells := mc, slots := ms, locals := 253 } : Room) s m args below meth c H locs 0 0 (vx_MQ below (va_Qi post (ga_E g) (ga_A g)) (ga_X g xp) args s mc ms (ga_A g)) (F0 m 0 ls [])
  suffices hgoal : W p l e ({ frames := 13, cells := mc, slots := ms, locals := 253 } : Room) s m args below meth c H locs cells slots (vx_MQ below (va_Qi post (ga_E g) (ga_A g)) (ga_X g xp) args s mc ms (ga_A g)) (F0 m 0 ls []) by rw [e0, e1] at hgoal; exact hgoal
  refine ga_aload_n hx hb dX0_sent_0 rfl (lv_at hl 3 rfl) ?_
  refine lv_iconst (v := 0) hx hb dX0_sent_1 (by decide) ?_
  refine ga_aload_n hx hb dX0_sent_2 rfl (lv_at hl 0 rfl) ?_
  refine lv_iload_n hx hb dX0_sent_3 rfl (lv_at hl 1 rfl) ?_
  refine lv_iload_n hx hb dX0_sent_4 rfl (lv_at hl 2 rfl) ?_
  obtain ⟨a_1, ea_1, hw⟩ := hw
  rewrite [ea_1]
  obtain ⟨kc_2, ks_3, hk1, hk2, hw⟩ := hw
  obtain ⟨fs_4, hq, hw⟩ := hw
  refine ga_xcalli (vx_runV (As := [.int p1, .int p2]) (rest := [.int (0 : Int32), va_rf p3]) ⟨hx, hb, hml, hown, hts⟩ (gm_X1_sent l hst g a_1 p1 p2 h kc_2 ks_3 _ _ hw) (cwV 2 hts (lw_V q2608 q2609 q2610 q100 q2611) rfl rfl rfl ⟨rfl, hdG_X1_sent⟩ ⟨Nat.le_of_ble_eq_true rfl, Nat.le_of_ble_eq_true rfl⟩) (ga_preV hI hq rfl rfl) rfl rfl hl.1 rfl (ga_room (Nat.le_of_ble_eq_true rfl)) dX0_sent_5 ⟨Nat.le_trans (Nat.add_le_add_left hk1 _) hbc, Nat.le_trans (Nat.add_le_add_left hk2 _) hbs⟩) hI hbc hbs hk1 hk2 (fun E_7 q_8 h_9 ce H locs cells slots hw hI hce hbc hbs => ?_) (fun r_6 h_5 H locs cells slots hw hI hbc hbs => ?_)
  · obtain ⟨rfl, hw⟩ := hw
    refine ga_catch hown hts hI ([]) (⟨0, 10, 13, 13⟩) ([]) (by rw [htab]; rfl) (fun _ h => absurd h List.not_mem_nil) rfl (by decide) q2017 q1054 hce ?_
    refine W.eq (g2 := F0 m 13 ls [.ref q_8]) rfl ?_
    refine lv_astore (lv' := [(4, .ref q_8), (0, va_rf p0), (1, .int p1), (2, .int p2), (3, va_rf p3)]) hx hb dX0_sent_13 hl (by decide) (by simp [ga_rcat, ga_cat_r, ga_cat_i, ga_cat_f, ga_cat_l, ga_cat_d]) (fun ls hl => ?_)
    refine lv_iconst (v := 1) hx hb dX0_sent_15 (by decide) ?_
    exact ga_iretx hx hb hr rfl hlk hI hw (Nat.le_trans (Nat.le_add_right _ _) hbc) (Nat.le_trans (Nat.le_add_right _ _) hbs) dX0_sent_16
  · skip
    refine lv_i2l (v := r_6.toInt64) hx hb dX0_sent_8 rfl ?_
    obtain ⟨a_10, ea_10, hw⟩ := hw
    rewrite [ea_10]
    obtain ⟨n_11, f_12, hq, hi, hw⟩ := hw
    refine ga_stl hx hb hI hq hi dX0_sent_9 (fun H locs hI => ?_)
    obtain ⟨h_13, eh_13⟩ : ∃ z, z = ga_set h_5 a_10 (ga_Al n_11 (vp_updL f_12 (0 : Int32).toNatClampNeg r_6.toInt64)) := ⟨_, rfl⟩
    rw [← eh_13] at hI
    have hw := hw h_13 eh_13
    refine lv_goto (tgt := 17) hx hb dX0_sent_10 (by decide) ?_
    refine lv_iconst (v := 0) hx hb dX0_sent_17 (by decide) ?_
    exact ga_iretx hx hb hr rfl hlk hI hw (Nat.le_trans (Nat.le_add_right _ _) hbc) (Nat.le_trans (Nat.le_add_right _ _) hbs) dX0_sent_18
theorem hdG_X0_sent : yX0_sent.cls ≠ "java/lang/invoke/MethodHandle" ∧ yX0_sent.cls ≠ "java/lang/invoke/VarHandle" ∧ (parseMethodDescriptor yX0_sent.desc).map (fun d => d.parameters.length) = some 4 := by decide +kernel
def gw_X2_bestPaper_103 (K : ga_K) (post : Int32 → ga_H → Prop) (hd17 : Int32 → Int32 → ga_H → Nat → Nat → Prop) (p0 : Nat) (t0 : Int32) (v2 : Int32) (v3 : Option Nat) (v6 : Int32) (h : ga_H) (bc bs : Nat) : Prop :=
  ∀ r_45 : Int32, r_45 = (if v2 < v6 then v6 else v2) → (hd17 t0 r_45 h bc bs)
set_option maxHeartbeats 4000000 in
theorem gj_X2_bestPaper_103 {p : Program} {l : Launch} {e : Env} {s : State} {m : MethodId} {args : Array Value} {below : List Frame} {meth : Method} {c : Code} {mc ms : Nat} {H : Heap} {locs : List Loc} {cells slots : Nat} {ls : Array Slot} (g : ga_G) (post : Int32 → ga_H → Prop) (hd17 : Int32 → Int32 → ga_H → Nat → Nat → Prop) (p0 : Nat) (t0 : Int32) (v2 : Int32) (v3 : Option Nat) (v6 : Int32) (h : ga_H) (bc bs : Nat) (hC : ga_Cx p s m args meth c cX2_bestPaper 8 (some .int) "PaperStore$Store" "bestPaper") (hw : gw_X2_bestPaper_103 g.2.2 post hd17 p0 t0 v2 v3 v6 h bc bs) (hhd17 : ∀ (y0 : Int32) (y1 : Int32) (T : ga_H) (B1 : Nat) (B2 : Nat) (H : Heap) (locs : List Loc) (cells slots : Nat) (ls : Array Slot), hd17 y0 y1 T B1 B2 → ga_I g T s H locs → cells + B1 ≤ mc → slots + B2 ≤ ms → lv_has ls 8 [(1, .int y0), (2, .int y1), (3, va_rf v3)] → W p l e ({ frames := 12, cells := mc, slots := ms, locals := 222 } : Room) s m args below meth c H locs cells slots (MQ below (va_Qi post (ga_E g) (ga_A g)) args s mc ms (ga_A g)) (F0 m 17 ls [])) (hI : ga_I g h s H locs) (hbc : cells + bc ≤ mc) (hbs : slots + bs ≤ ms) (hl : lv_has ls 8 [(2, .int v2), (3, va_rf v3), (6, .int v6)]) : W p l e ({ frames := 12, cells := mc, slots := ms, locals := 222 } : Room) s m args below meth c H locs cells slots (MQ below (va_Qi post (ga_E g) (ga_A g)) args s mc ms (ga_A g)) (F0 m 103 ls [.int t0]) := by
  obtain ⟨hx, hb, hml, hown, hts, hr, hlk, hnm⟩ := hC
  unfold gw_X2_bestPaper_103 at hw
  refine lv_istore_n (i := 1) (lv' := [(1, .int t0), (2, .int v2), (3, va_rf v3), (6, .int v6)]) hx hb dX2_bestPaper_103 rfl hl (by decide) rfl (fun ls hl => ?_)
  refine lv_iload_n hx hb dX2_bestPaper_104 rfl (lv_at hl 1 rfl) ?_
  refine lv_iload hx hb dX2_bestPaper_105 (lv_at hl 3 rfl) ?_
  refine va_mmax hx hb (hml.trans hl.1.symm) hown (hts _ q2578) (hts _ q899) (hts _ q119) (hts _ q900) (Nat.le_of_ble_eq_true rfl) (Nat.le_trans (Nat.add_le_add_right (ga_sum [] (Nat.le_of_ble_eq_true rfl)) _) (Nat.le_of_ble_eq_true rfl)) (Nat.le_trans (Nat.le_add_right _ _) hbc) (Nat.le_trans (Nat.le_add_right _ _) hbs) dX2_bestPaper_107 ?_
  refine lv_topi (fun r_45 er_45 => ?_)
  have hw := hw r_45 er_45
  refine lv_istore_n (i := 2) (lv' := [(2, .int r_45), (1, .int t0), (3, va_rf v3), (6, .int v6)]) hx hb dX2_bestPaper_110 rfl hl (by decide) rfl (fun ls hl => ?_)
  refine lv_goto (tgt := 17) hx hb dX2_bestPaper_111 (by decide) ?_
  exact hhd17 _ _ _ _ _ H locs cells slots ls hw hI hbc hbs (lv_sub hl [1, 0, 2] rfl)
def gw_X2_bestPaper_90 (K : ga_K) (post : Int32 → ga_H → Prop) (hd17 : Int32 → Int32 → ga_H → Nat → Nat → Prop) (p0 : Nat) (t0 : Int32) (v1 : Int32) (v2 : Int32) (v3 : Option Nat) (v5 : Int32) (v6 : Int32) (h : ga_H) (bc bs : Nat) : Prop :=
  (t0 = (0 : Int32) → (gw_X2_bestPaper_103 K post (fun (y0 : Int32) (y1 : Int32) (T : ga_H) (B1 : Nat) (B2 : Nat) => hd17 y0 y1 T B1 B2) p0 v1 v2 v3 v6 h bc bs)) ∧ (¬ t0 = (0 : Int32) → (gw_X2_bestPaper_103 K post (fun (y0 : Int32) (y1 : Int32) (T : ga_H) (B1 : Nat) (B2 : Nat) => hd17 y0 y1 T B1 B2) p0 v5 v2 v3 v6 h bc bs))
set_option maxHeartbeats 4000000 in
theorem gj_X2_bestPaper_90 {p : Program} {l : Launch} {e : Env} {s : State} {m : MethodId} {args : Array Value} {below : List Frame} {meth : Method} {c : Code} {mc ms : Nat} {H : Heap} {locs : List Loc} {cells slots : Nat} {ls : Array Slot} (g : ga_G) (post : Int32 → ga_H → Prop) (hd17 : Int32 → Int32 → ga_H → Nat → Nat → Prop) (p0 : Nat) (t0 : Int32) (v1 : Int32) (v2 : Int32) (v3 : Option Nat) (v5 : Int32) (v6 : Int32) (h : ga_H) (bc bs : Nat) (hC : ga_Cx p s m args meth c cX2_bestPaper 8 (some .int) "PaperStore$Store" "bestPaper") (hw : gw_X2_bestPaper_90 g.2.2 post hd17 p0 t0 v1 v2 v3 v5 v6 h bc bs) (hhd17 : ∀ (y0 : Int32) (y1 : Int32) (T : ga_H) (B1 : Nat) (B2 : Nat) (H : Heap) (locs : List Loc) (cells slots : Nat) (ls : Array Slot), hd17 y0 y1 T B1 B2 → ga_I g T s H locs → cells + B1 ≤ mc → slots + B2 ≤ ms → lv_has ls 8 [(1, .int y0), (2, .int y1), (3, va_rf v3)] → W p l e ({ frames := 12, cells := mc, slots := ms, locals := 222 } : Room) s m args below meth c H locs cells slots (MQ below (va_Qi post (ga_E g) (ga_A g)) args s mc ms (ga_A g)) (F0 m 17 ls [])) (hI : ga_I g h s H locs) (hbc : cells + bc ≤ mc) (hbs : slots + bs ≤ ms) (hl : lv_has ls 8 [(1, .int v1), (2, .int v2), (3, va_rf v3), (5, .int v5), (6, .int v6)]) : W p l e ({ frames := 12, cells := mc, slots := ms, locals := 222 } : Room) s m args below meth c H locs cells slots (MQ below (va_Qi post (ga_E g) (ga_A g)) args s mc ms (ga_A g)) (F0 m 90 ls [.int t0]) := by
  obtain ⟨hx, hb, hml, hown, hts, hr, hlk, hnm⟩ := hC
  unfold gw_X2_bestPaper_90 at hw
  refine lv_istore (lv' := [(7, .int t0), (1, .int v1), (2, .int v2), (3, va_rf v3), (5, .int v5), (6, .int v6)]) hx hb dX2_bestPaper_90 hl (by decide) rfl (fun ls hl => ?_)
  refine lv_iload hx hb dX2_bestPaper_92 (lv_at hl 0 rfl) ?_
  refine lv_if_eq (tgt := 102) hx hb dX2_bestPaper_94 (by decide) (fun hc_44 => ?_) (fun hc_44 => ?_)
  · have hw := hw.1 hc_44
    refine lv_iload_n hx hb dX2_bestPaper_102 rfl (lv_at hl 1 rfl) ?_
    exact gj_X2_bestPaper_103 g post (fun (y0 : Int32) (y1 : Int32) (T : ga_H) (B1 : Nat) (B2 : Nat) => hd17 y0 y1 T B1 B2) p0 v1 v2 v3 v6 h bc bs ⟨hx, hb, hml, hown, hts, hr, hlk, hnm⟩ hw hhd17 hI hbc hbs (lv_sub hl [2, 3, 5] rfl)
  · have hw := hw.2 hc_44
    refine lv_iload hx hb dX2_bestPaper_97 (lv_at hl 4 rfl) ?_
    refine lv_goto (tgt := 103) hx hb dX2_bestPaper_99 (by decide) ?_
    exact gj_X2_bestPaper_103 g post (fun (y0 : Int32) (y1 : Int32) (T : ga_H) (B1 : Nat) (B2 : Nat) => hd17 y0 y1 T B1 B2) p0 v5 v2 v3 v6 h bc bs ⟨hx, hb, hml, hown, hts, hr, hlk, hnm⟩ hw hhd17 hI hbc hbs (lv_sub hl [2, 3, 5] rfl)
def gw_X2_bestPaper_85 (K : ga_K) (post : Int32 → ga_H → Prop) (hd17 : Int32 → Int32 → ga_H → Nat → Nat → Prop) (p0 : Nat) (v1 : Int32) (v2 : Int32) (v3 : Option Nat) (v5 : Int32) (v6 : Int32) (h : ga_H) (bc bs : Nat) : Prop :=
  gw_X2_bestPaper_90 K post (fun (y0 : Int32) (y1 : Int32) (T : ga_H) (B1 : Nat) (B2 : Nat) => hd17 y0 y1 T B1 B2) p0 (1 : Int32) v1 v2 v3 v5 v6 h bc bs
set_option maxHeartbeats 4000000 in
theorem gj_X2_bestPaper_85 {p : Program} {l : Launch} {e : Env} {s : State} {m : MethodId} {args : Array Value} {below : List Frame} {meth : Method} {c : Code} {mc ms : Nat} {H : Heap} {locs : List Loc} {cells slots : Nat} {ls : Array Slot} (g : ga_G) (post : Int32 → ga_H → Prop) (hd17 : Int32 → Int32 → ga_H → Nat → Nat → Prop) (p0 : Nat) (v1 : Int32) (v2 : Int32) (v3 : Option Nat) (v5 : Int32) (v6 : Int32) (h : ga_H) (bc bs : Nat) (hC : ga_Cx p s m args meth c cX2_bestPaper 8 (some .int) "PaperStore$Store" "bestPaper") (hw : gw_X2_bestPaper_85 g.2.2 post hd17 p0 v1 v2 v3 v5 v6 h bc bs) (hhd17 : ∀ (y0 : Int32) (y1 : Int32) (T : ga_H) (B1 : Nat) (B2 : Nat) (H : Heap) (locs : List Loc) (cells slots : Nat) (ls : Array Slot), hd17 y0 y1 T B1 B2 → ga_I g T s H locs → cells + B1 ≤ mc → slots + B2 ≤ ms → lv_has ls 8 [(1, .int y0), (2, .int y1), (3, va_rf v3)] → W p l e ({ frames := 12, cells := mc, slots := ms, locals := 222 } : Room) s m args below meth c H locs cells slots (MQ below (va_Qi post (ga_E g) (ga_A g)) args s mc ms (ga_A g)) (F0 m 17 ls [])) (hI : ga_I g h s H locs) (hbc : cells + bc ≤ mc) (hbs : slots + bs ≤ ms) (hl : lv_has ls 8 [(1, .int v1), (2, .int v2), (3, va_rf v3), (5, .int v5), (6, .int v6)]) : W p l e ({ frames := 12, cells := mc, slots := ms, locals := 222 } : Room) s m args below meth c H locs cells slots (MQ below (va_Qi post (ga_E g) (ga_A g)) args s mc ms (ga_A g)) (F0 m 85 ls []) := by
  obtain ⟨hx, hb, hml, hown, hts, hr, hlk, hnm⟩ := hC
  unfold gw_X2_bestPaper_85 at hw
  refine lv_iconst (v := 1) hx hb dX2_bestPaper_85 (by decide) ?_
  refine lv_goto (tgt := 90) hx hb dX2_bestPaper_86 (by decide) ?_
  exact gj_X2_bestPaper_90 g post (fun (y0 : Int32) (y1 : Int32) (T : ga_H) (B1 : Nat) (B2 : Nat) => hd17 y0 y1 T B1 B2) p0 (1 : Int32) v1 v2 v3 v5 v6 h bc bs ⟨hx, hb, hml, hown, hts, hr, hlk, hnm⟩ hw hhd17 hI hbc hbs (lv_sub hl [0, 1, 2, 3, 4] rfl)
def gw_X2_bestPaper_89 (K : ga_K) (post : Int32 → ga_H → Prop) (hd17 : Int32 → Int32 → ga_H → Nat → Nat → Prop) (p0 : Nat) (v1 : Int32) (v2 : Int32) (v3 : Option Nat) (v5 : Int32) (v6 : Int32) (h : ga_H) (bc bs : Nat) : Prop :=
  gw_X2_bestPaper_90 K post (fun (y0 : Int32) (y1 : Int32) (T : ga_H) (B1 : Nat) (B2 : Nat) => hd17 y0 y1 T B1 B2) p0 (0 : Int32) v1 v2 v3 v5 v6 h bc bs
set_option maxHeartbeats 4000000 in
theorem gj_X2_bestPaper_89 {p : Program} {l : Launch} {e : Env} {s : State} {m : MethodId} {args : Array Value} {below : List Frame} {meth : Method} {c : Code} {mc ms : Nat} {H : Heap} {locs : List Loc} {cells slots : Nat} {ls : Array Slot} (g : ga_G) (post : Int32 → ga_H → Prop) (hd17 : Int32 → Int32 → ga_H → Nat → Nat → Prop) (p0 : Nat) (v1 : Int32) (v2 : Int32) (v3 : Option Nat) (v5 : Int32) (v6 : Int32) (h : ga_H) (bc bs : Nat) (hC : ga_Cx p s m args meth c cX2_bestPaper 8 (some .int) "PaperStore$Store" "bestPaper") (hw : gw_X2_bestPaper_89 g.2.2 post hd17 p0 v1 v2 v3 v5 v6 h bc bs) (hhd17 : ∀ (y0 : Int32) (y1 : Int32) (T : ga_H) (B1 : Nat) (B2 : Nat) (H : Heap) (locs : List Loc) (cells slots : Nat) (ls : Array Slot), hd17 y0 y1 T B1 B2 → ga_I g T s H locs → cells + B1 ≤ mc → slots + B2 ≤ ms → lv_has ls 8 [(1, .int y0), (2, .int y1), (3, va_rf v3)] → W p l e ({ frames := 12, cells := mc, slots := ms, locals := 222 } : Room) s m args below meth c H locs cells slots (MQ below (va_Qi post (ga_E g) (ga_A g)) args s mc ms (ga_A g)) (F0 m 17 ls [])) (hI : ga_I g h s H locs) (hbc : cells + bc ≤ mc) (hbs : slots + bs ≤ ms) (hl : lv_has ls 8 [(1, .int v1), (2, .int v2), (3, va_rf v3), (5, .int v5), (6, .int v6)]) : W p l e ({ frames := 12, cells := mc, slots := ms, locals := 222 } : Room) s m args below meth c H locs cells slots (MQ below (va_Qi post (ga_E g) (ga_A g)) args s mc ms (ga_A g)) (F0 m 89 ls []) := by
  obtain ⟨hx, hb, hml, hown, hts, hr, hlk, hnm⟩ := hC
  unfold gw_X2_bestPaper_89 at hw
  refine lv_iconst (v := 0) hx hb dX2_bestPaper_89 (by decide) ?_
  exact gj_X2_bestPaper_90 g post (fun (y0 : Int32) (y1 : Int32) (T : ga_H) (B1 : Nat) (B2 : Nat) => hd17 y0 y1 T B1 B2) p0 (0 : Int32) v1 v2 v3 v5 v6 h bc bs ⟨hx, hb, hml, hown, hts, hr, hlk, hnm⟩ hw hhd17 hI hbc hbs (lv_sub hl [0, 1, 2, 3, 4] rfl)
def gw_X2_bestPaper (K : ga_K) (p0 : Nat) (h : ga_H) (mc ms : Nat) (post : Int32 → ga_H → Prop) : Prop :=
  ∃ (fs_1 : List Value) (v_2 : Option Nat), h p0 = some (ga_O 1 fs_1) ∧ fs_1[5]? = some (va_rf v_2) ∧ (∃ a_3 : Nat, v_2 = some a_3 ∧ ∃ kc_4 ks_5 : Nat, kc_4 ≤ mc ∧ ks_5 ≤ ms ∧ ∃ fs_6 : List Value, ga_at K h a_3 (ga_O 15 fs_6) ∧ gw_J4_entrySet K a_3 h kc_4 ks_5 (fun (r_8 : Option Nat) (h_7 : ga_H) => ∃ a_9 : Nat, r_8 = some a_9 ∧ ∃ kc_10 ks_11 : Nat, kc_10 ≤ (mc - kc_4) ∧ ks_11 ≤ (ms - ks_5) ∧ ∃ fs_12 : List Value, ga_at K h_7 a_9 (ga_O 17 fs_12) ∧ gw_J37_iterator K a_9 h_7 kc_10 ks_11 (fun (r_14 : Option Nat) (h_13 : ga_H) => ∃ (In_15 : Int32 → Int32 → ga_H → Nat → Nat → Prop) (mu_15 : Int32 → Int32 → ga_H → Nat → Nat → Nat), In_15 (-1 : Int32) (0 : Int32) h_13 ((mc - kc_4) - kc_10) ((ms - ks_5) - ks_11) ∧ ∀ (x1_15 : Int32) (x2_15 : Int32) (h_15 : ga_H) (bc_15 : Nat) (bs_15 : Nat), In_15 x1_15 x2_15 h_15 bc_15 bs_15 → (∃ a_16 : Nat, r_14 = some a_16 ∧ ∃ fs_17 : List Value, ga_at K h_15 a_16 (ga_O 18 fs_17) ∧ gw_J17_hasNext_E K a_16 h_15 (fun (r_19 : Int32) (h_18 : ga_H) => (r_19 = (0 : Int32) → (post x1_15 h_18)) ∧ (¬ r_19 = (0 : Int32) → (∃ a_21 : Nat, r_14 = some a_21 ∧ ∃ kc_22 ks_23 : Nat, kc_22 ≤ bc_15 ∧ ks_23 ≤ bs_15 ∧ ∃ fs_24 : List Value, ga_at K h_18 a_21 (ga_O 18 fs_24) ∧ gw_J18_next K a_21 h_18 kc_22 ks_23 (fun (r_26 : Option Nat) (h_25 : ga_H) => ga_ok K h_25 "java/util/Map$Entry" r_26 ∧ (∃ a_27 : Nat, r_26 = some a_27 ∧ ∃ fs_28 : List Value, ga_at K h_25 a_27 (ga_O 16 fs_28) ∧ gw_J32_getKey K a_27 h_25 (fun (r_30 : Option Nat) (h_29 : ga_H) => ga_ok K h_29 "PaperStore$Paper" r_30 ∧ (∃ a_31 : Nat, r_30 = some a_31 ∧ ∃ fs_32 : List Value, ga_at K h_29 a_31 (ga_O 9 fs_32) ∧ gw_X11_number K a_31 h_29 (fun (r_34 : Int32) (h_33 : ga_H) => ∃ a_35 : Nat, r_26 = some a_35 ∧ ∃ fs_36 : List Value, ga_at K h_33 a_35 (ga_O 16 fs_36) ∧ gw_J32_getValue K a_35 h_33 (fun (r_38 : Option Nat) (h_37 : ga_H) => ga_ok K h_37 "java/lang/Integer" r_38 ∧ (∃ a_39 : Nat, r_38 = some a_39 ∧ ∃ fs_40 : List Value, ga_at K h_37 a_39 (ga_O 24 fs_40) ∧ gw_J30_intValue K a_39 h_37 (fun (r_42 : Int32) (h_41 : ga_H) => (x2_15 < r_42 → (gw_X2_bestPaper_85 K post (fun (y0 : Int32) (y1 : Int32) (T : ga_H) (B1 : Nat) (B2 : Nat) => In_15 y0 y1 T B1 B2 ∧ mu_15 y0 y1 T B1 B2 < mu_15 x1_15 x2_15 h_15 bc_15 bs_15) p0 x1_15 x2_15 r_14 r_34 r_42 h_41 (bc_15 - kc_22) (bs_15 - ks_23))) ∧ (¬ x2_15 < r_42 → ((¬ r_42 = x2_15 → (gw_X2_bestPaper_89 K post (fun (y0 : Int32) (y1 : Int32) (T : ga_H) (B1 : Nat) (B2 : Nat) => In_15 y0 y1 T B1 B2 ∧ mu_15 y0 y1 T B1 B2 < mu_15 x1_15 x2_15 h_15 bc_15 bs_15) p0 x1_15 x2_15 r_14 r_34 r_42 h_41 (bc_15 - kc_22) (bs_15 - ks_23))) ∧ (r_42 = x2_15 → ((x1_15 ≤ r_34 → (gw_X2_bestPaper_89 K post (fun (y0 : Int32) (y1 : Int32) (T : ga_H) (B1 : Nat) (B2 : Nat) => In_15 y0 y1 T B1 B2 ∧ mu_15 y0 y1 T B1 B2 < mu_15 x1_15 x2_15 h_15 bc_15 bs_15) p0 x1_15 x2_15 r_14 r_34 r_42 h_41 (bc_15 - kc_22) (bs_15 - ks_23))) ∧ (¬ x1_15 ≤ r_34 → (gw_X2_bestPaper_85 K post (fun (y0 : Int32) (y1 : Int32) (T : ga_H) (B1 : Nat) (B2 : Nat) => In_15 y0 y1 T B1 B2 ∧ mu_15 y0 y1 T B1 B2 < mu_15 x1_15 x2_15 h_15 bc_15 bs_15) p0 x1_15 x2_15 r_14 r_34 r_42 h_41 (bc_15 - kc_22) (bs_15 - ks_23))))))))))))))))))))))
set_option maxHeartbeats 4000000 in
theorem gm_X2_bestPaper (l : Launch) (g : ga_G) (p0 : Nat) (h : ga_H) (mc ms : Nat) (post : Int32 → ga_H → Prop) (hw : gw_X2_bestPaper g.2.2 p0 h mc ms post) : Met l yX2_bestPaper (ws_ yX2_bestPaper cX2_bestPaper 8 (some .int)) ({ frames := 12, cells := mc, slots := ms, locals := 222 } : Room) (va_Pc [.ref p0] (ga_B g h)) (va_Qi post (ga_E g) (ga_A g)) mc ms (ga_A g) := by
  refine ga_met (own := "PaperStore$Store") (nm := "bestPaper") (by decide) rfl rfl (by exact Nat.le_of_ble_eq_true rfl) (fun p e s m below meth c ls hC hI hl => ?_)
  have hl : lv_has ls 8 [(0, .ref p0)] := hl
  generalize ([.ref p0] : List Value).toArray = args at hC ⊢
  obtain ⟨hx, hb, hml, hown, hts, hr, hlk, hnm⟩ := hC
  unfold gw_X2_bestPaper at hw
  obtain ⟨H, eH⟩ : ∃ z, z = s.heap := ⟨_, rfl⟩
  obtain ⟨locs, elo⟩ : ∃ z : List Loc, z = [] := ⟨_, rfl⟩
  rw [← eH, ← elo] at hI ⊢
  obtain ⟨cells, slots, hbc, hbs, e0, e1⟩ : ∃ a b : Nat, a + mc ≤ mc ∧ b + ms ≤ ms ∧ a = 0 ∧ b = 0 := ⟨0, 0, by omega, by omega, rfl, rfl⟩
  show W p l e ({ frames := 12, cells := mc, slots := ms, locals := 222 } : Room) s m args below meth c H locs 0 0 (MQ below (va_Qi post (ga_E g) (ga_A g)) args s mc ms (ga_A g)) (F0 m 0 ls [])
  suffices hgoal : W p l e ({ frames := 12, cells := mc, slots := ms, locals := 222 } : Room) s m args below meth c H locs cells slots (MQ below (va_Qi post (ga_E g) (ga_A g)) args s mc ms (ga_A g)) (F0 m 0 ls []) by rw [e0, e1] at hgoal; exact hgoal
  refine lv_iconst (v := -1) hx hb dX2_bestPaper_0 (by decide) ?_
  refine lv_istore_n (i := 1) (lv' := [(1, .int (-1 : Int32)), (0, .ref p0)]) hx hb dX2_bestPaper_1 rfl hl (by decide) rfl (fun ls hl => ?_)
  refine lv_iconst (v := 0) hx hb dX2_bestPaper_2 (by decide) ?_
  refine lv_istore_n (i := 2) (lv' := [(2, .int (0 : Int32)), (1, .int (-1 : Int32)), (0, .ref p0)]) hx hb dX2_bestPaper_3 rfl hl (by decide) rfl (fun ls hl => ?_)
  refine lv_aload_n hx hb dX2_bestPaper_4 rfl (lv_at hl 2 rfl) ?_
  obtain ⟨fs_1, v_2, hq, hv, hw⟩ := hw
  refine ga_get (ci := 1) (T := TX2) (v := va_rf v_2) hx hb hts hown hI in_X2 rfl 5 (by decide) q320 (fun _ z => z) (ga_at.h hq) hv dX2_bestPaper_5 ?_
  obtain ⟨a_3, ea_3, hw⟩ := hw
  rewrite [ea_3]
  obtain ⟨kc_4, ks_5, hk1, hk2, hw⟩ := hw
  obtain ⟨fs_6, hq, hw⟩ := hw
  refine ga_callq (va_runV (As := []) (rest := []) ⟨hx, hb, hml, hown, hts⟩ (gm_J4_entrySet l g a_3 h kc_4 ks_5 _ hw) (cwV 0 hts (lw_V q2626 q1746 q4122 q106 q1748) rfl rfl rfl ⟨rfl, hdG_J4_entrySet⟩ ⟨Nat.le_of_ble_eq_true rfl, Nat.le_of_ble_eq_true rfl⟩) (ga_preV hI hq rfl rfl) rfl rfl hl.1 rfl (ga_room (Nat.le_of_ble_eq_true rfl)) dX2_bestPaper_8 ⟨Nat.le_trans (Nat.add_le_add_left hk1 _) hbc, Nat.le_trans (Nat.add_le_add_left hk2 _) hbs⟩) hI hbc hbs hk1 hk2 (fun r_8 h_7 H locs cells slots hw hI hbc hbs => ?_)
  obtain ⟨a_9, ea_9, hw⟩ := hw
  rewrite [ea_9]
  obtain ⟨kc_10, ks_11, hk1, hk2, hw⟩ := hw
  obtain ⟨fs_12, hq, hw⟩ := hw
  refine ga_callFq (va_runF (As := []) (rest := []) (hI.2.1.1.1.1 17 _ rfl).2 ⟨hx, hb, hml, hown, hts⟩ (gm_J37_iterator l g a_9 h_7 kc_10 ks_11 _ hw) (va_cwF 0 hts (lw_app (List.forall_mem_cons.mpr ⟨q2628, List.forall_mem_cons.mpr ⟨q653, List.forall_mem_cons.mpr ⟨q586, List.forall_mem_cons.mpr ⟨q149, fun _ h => absurd h List.not_mem_nil⟩⟩⟩⟩) (lw_meth q587)) rfl rfl rfl (hI.2.1.1.2.2 _ _ _ ⟨by decide +kernel, q651, q650, q655, q654, q652⟩) (by decide +kernel) ⟨Nat.le_of_ble_eq_true rfl, Nat.le_of_ble_eq_true rfl⟩) (ga_preV (C := "java/util/HashMap$EntrySet") hI hq rfl rfl) rfl rfl hl.1 rfl (ga_room (Nat.le_of_ble_eq_true rfl)) dX2_bestPaper_11 ⟨Nat.le_trans (Nat.add_le_add_left hk1 _) hbc, Nat.le_trans (Nat.add_le_add_left hk2 _) hbs⟩) hI hbc hbs hk1 hk2 (fun r_14 h_13 H locs cells slots hw hI hbc hbs => ?_)
  refine ga_astore_n (i := 3) (x := r_14) (lv' := [(3, va_rf r_14), (2, .int (0 : Int32)), (1, .int (-1 : Int32)), (0, .ref p0)]) hx hb dX2_bestPaper_16 rfl hl (by decide) rfl (fun ls hl => ?_)
  obtain ⟨In_15, mu_15, h0_15, hw⟩ := hw
  have hL_15 : ∀ (n : Nat) (x1_15 : Int32) (x2_15 : Int32) (h_15 : ga_H) (bc_15 : Nat) (bs_15 : Nat) (H : Heap) (locs : List Loc) (cells slots : Nat) (ls : Array Slot), mu_15 x1_15 x2_15 h_15 bc_15 bs_15 < n → In_15 x1_15 x2_15 h_15 bc_15 bs_15 → ga_I g h_15 s H locs → cells + bc_15 ≤ mc → slots + bs_15 ≤ ms → lv_has ls 8 [(1, .int x1_15), (2, .int x2_15), (3, va_rf r_14)] → W p l e ({ frames := 12, cells := mc, slots := ms, locals := 222 } : Room) s m args below meth c H locs cells slots (MQ below (va_Qi post (ga_E g) (ga_A g)) args s mc ms (ga_A g)) (F0 m 17 ls []) := by
    intro n
    induction n with
    | zero => intro x1_15 x2_15 h_15 bc_15 bs_15 H locs cells slots ls hn _ _ _ _ _; exact absurd hn (Nat.not_lt_zero _)
    | succ n ih_15 =>
      intro x1_15 x2_15 h_15 bc_15 bs_15 H locs cells slots ls hn_15 hi_15 hI hbc hbs hl
      have hw := hw x1_15 x2_15 h_15 bc_15 bs_15 hi_15
      refine ga_aload_n hx hb dX2_bestPaper_17 rfl (lv_at hl 2 rfl) ?_
      obtain ⟨a_16, ea_16, hw⟩ := hw
      rewrite [ea_16]
      obtain ⟨fs_17, hq, hw⟩ := hw
      refine ga_callFi (va_runF (As := []) (rest := []) (hI.2.1.1.1.1 18 _ rfl).2 ⟨hx, hb, hml, hown, hts⟩ (gm_J17_hasNext_E l g a_16 h_15 _ hw) (va_cwF 0 hts (lw_app (List.forall_mem_cons.mpr ⟨q1247, List.forall_mem_cons.mpr ⟨q702, List.forall_mem_cons.mpr ⟨q704, List.forall_mem_cons.mpr ⟨q123, fun _ h => absurd h List.not_mem_nil⟩⟩⟩⟩) (lw_meth q706)) rfl rfl rfl (hI.2.1.1.2.2 _ _ _ ⟨by decide +kernel, q694, q693, q705, q703, q701⟩) (by decide +kernel) ⟨Nat.le_of_ble_eq_true rfl, Nat.le_of_ble_eq_true rfl⟩) (ga_preV (C := "java/util/HashMap$EntryIterator") hI hq rfl rfl) rfl rfl hl.1 rfl (ga_room (Nat.le_of_ble_eq_true rfl)) dX2_bestPaper_18 ⟨Nat.le_trans (Nat.add_le_add_left (Nat.zero_le _) _) hbc, Nat.le_trans (Nat.add_le_add_left (Nat.zero_le _) _) hbs⟩) hI hbc hbs (Nat.zero_le _) (Nat.zero_le _) (fun r_19 h_18 H locs cells slots hw hI hbc hbs => ?_)
      refine lv_if_eq (tgt := 114) hx hb dX2_bestPaper_23 (by decide) (fun hc_20 => ?_) (fun hc_20 => ?_)
      · have hw := hw.1 hc_20
        refine lv_iload_n hx hb dX2_bestPaper_114 rfl (lv_at hl 0 rfl) ?_
        exact ga_iret hx hb hr rfl hlk hI hw (Nat.le_trans (Nat.le_add_right _ _) hbc) (Nat.le_trans (Nat.le_add_right _ _) hbs) dX2_bestPaper_115
      · have hw := hw.2 hc_20
        refine ga_aload_n hx hb dX2_bestPaper_26 rfl (lv_at hl 2 rfl) ?_
        obtain ⟨a_21, ea_21, hw⟩ := hw
        rewrite [ea_21]
        obtain ⟨kc_22, ks_23, hk1, hk2, hw⟩ := hw
        obtain ⟨fs_24, hq, hw⟩ := hw
        refine ga_callFq (va_runF (As := []) (rest := []) (hI.2.1.1.1.1 18 _ rfl).2 ⟨hx, hb, hml, hown, hts⟩ (gm_J18_next l g a_21 h_18 kc_22 ks_23 _ hw) (va_cwF 0 hts (lw_app (List.forall_mem_cons.mpr ⟨q1249, List.forall_mem_cons.mpr ⟨q802, List.forall_mem_cons.mpr ⟨q804, List.forall_mem_cons.mpr ⟨q124, fun _ h => absurd h List.not_mem_nil⟩⟩⟩⟩) (lw_meth q806)) rfl rfl rfl (hI.2.1.1.2.2 _ _ _ ⟨by decide +kernel, q720, q719, q805, q803, q701⟩) (by decide +kernel) ⟨Nat.le_of_ble_eq_true rfl, Nat.le_of_ble_eq_true rfl⟩) (ga_preV (C := "java/util/HashMap$EntryIterator") hI hq rfl rfl) rfl rfl hl.1 rfl (ga_room (Nat.le_of_ble_eq_true rfl)) dX2_bestPaper_27 ⟨Nat.le_trans (Nat.add_le_add_left hk1 _) hbc, Nat.le_trans (Nat.add_le_add_left hk2 _) hbs⟩) hI hbc hbs hk1 hk2 (fun r_26 h_25 H locs cells slots hw hI hbc hbs => ?_)
        refine ga_cast (x := r_26) hx hb hts hown hI q2629 hw.1 dX2_bestPaper_32 ?_
        have hw := hw.2
        refine ga_astore (x := r_26) (lv' := [(4, va_rf r_26), (1, .int x1_15), (2, .int x2_15), (3, va_rf r_14)]) hx hb dX2_bestPaper_35 hl (by decide) (by simp [ga_rcat, ga_cat_r, ga_cat_i, ga_cat_f, ga_cat_l, ga_cat_d]) (fun ls hl => ?_)
        refine ga_aload hx hb dX2_bestPaper_37 (lv_at hl 0 rfl) ?_
        obtain ⟨a_27, ea_27, hw⟩ := hw
        rewrite [ea_27]
        obtain ⟨fs_28, hq, hw⟩ := hw
        refine ga_callFq (va_runF (As := []) (rest := []) (hI.2.1.1.1.1 16 _ rfl).2 ⟨hx, hb, hml, hown, hts⟩ (gm_J32_getKey l g a_27 h_25 _ hw) (va_cwF 0 hts (lw_app (List.forall_mem_cons.mpr ⟨q2631, List.forall_mem_cons.mpr ⟨q1771, List.forall_mem_cons.mpr ⟨q1773, List.forall_mem_cons.mpr ⟨q143, fun _ h => absurd h List.not_mem_nil⟩⟩⟩⟩) (lw_meth q1775)) rfl rfl rfl (hI.2.1.1.2.2 _ _ _ ⟨by decide +kernel, q1769, q1768, q1774, q1772, q1770⟩) (by decide +kernel) ⟨Nat.le_of_ble_eq_true rfl, Nat.le_of_ble_eq_true rfl⟩) (ga_preV (C := "java/util/HashMap$Node") hI hq rfl rfl) rfl rfl hl.1 rfl (ga_room (Nat.le_of_ble_eq_true rfl)) dX2_bestPaper_39 ⟨Nat.le_trans (Nat.add_le_add_left (Nat.zero_le _) _) hbc, Nat.le_trans (Nat.add_le_add_left (Nat.zero_le _) _) hbs⟩) hI hbc hbs (Nat.zero_le _) (Nat.zero_le _) (fun r_30 h_29 H locs cells slots hw hI hbc hbs => ?_)
        refine ga_cast (x := r_30) hx hb hts hown hI q2632 hw.1 dX2_bestPaper_44 ?_
        have hw := hw.2
        obtain ⟨a_31, ea_31, hw⟩ := hw
        rewrite [ea_31]
        obtain ⟨fs_32, hq, hw⟩ := hw
        refine ga_calli (va_runV (As := []) (rest := []) ⟨hx, hb, hml, hown, hts⟩ (gm_X11_number l g a_31 h_29 _ hw) (cwV 0 hts (lw_V q2633 q1185 q1186 q153 q1187) rfl rfl rfl ⟨rfl, hdG_X11_number⟩ ⟨Nat.le_of_ble_eq_true rfl, Nat.le_of_ble_eq_true rfl⟩) (ga_preV hI hq rfl rfl) rfl rfl hl.1 rfl (ga_room (Nat.le_of_ble_eq_true rfl)) dX2_bestPaper_47 ⟨Nat.le_trans (Nat.add_le_add_left (Nat.zero_le _) _) hbc, Nat.le_trans (Nat.add_le_add_left (Nat.zero_le _) _) hbs⟩) hI hbc hbs (Nat.zero_le _) (Nat.zero_le _) (fun r_34 h_33 H locs cells slots hw hI hbc hbs => ?_)
        refine lv_istore (lv' := [(5, .int r_34), (4, va_rf r_26), (1, .int x1_15), (2, .int x2_15), (3, va_rf r_14)]) hx hb dX2_bestPaper_50 hl (by decide) (by simp [ga_rcat, ga_cat_r, ga_cat_i, ga_cat_f, ga_cat_l, ga_cat_d]) (fun ls hl => ?_)
        refine ga_aload hx hb dX2_bestPaper_52 (lv_at hl 1 rfl) ?_
        obtain ⟨a_35, ea_35, hw⟩ := hw
        rewrite [ea_35]
        obtain ⟨fs_36, hq, hw⟩ := hw
        refine ga_callFq (va_runF (As := []) (rest := []) (hI.2.1.1.1.1 16 _ rfl).2 ⟨hx, hb, hml, hown, hts⟩ (gm_J32_getValue l g a_35 h_33 _ hw) (va_cwF 0 hts (lw_app (List.forall_mem_cons.mpr ⟨q2635, List.forall_mem_cons.mpr ⟨q1783, List.forall_mem_cons.mpr ⟨q1785, List.forall_mem_cons.mpr ⟨q143, fun _ h => absurd h List.not_mem_nil⟩⟩⟩⟩) (lw_meth q1787)) rfl rfl rfl (hI.2.1.1.2.2 _ _ _ ⟨by decide +kernel, q1782, q1781, q1786, q1784, q1770⟩) (by decide +kernel) ⟨Nat.le_of_ble_eq_true rfl, Nat.le_of_ble_eq_true rfl⟩) (ga_preV (C := "java/util/HashMap$Node") hI hq rfl rfl) rfl rfl hl.1 rfl (ga_room (Nat.le_of_ble_eq_true rfl)) dX2_bestPaper_54 ⟨Nat.le_trans (Nat.add_le_add_left (Nat.zero_le _) _) hbc, Nat.le_trans (Nat.add_le_add_left (Nat.zero_le _) _) hbs⟩) hI hbc hbs (Nat.zero_le _) (Nat.zero_le _) (fun r_38 h_37 H locs cells slots hw hI hbc hbs => ?_)
        refine ga_cast (x := r_38) hx hb hts hown hI q2528 hw.1 dX2_bestPaper_59 ?_
        have hw := hw.2
        obtain ⟨a_39, ea_39, hw⟩ := hw
        rewrite [ea_39]
        obtain ⟨fs_40, hq, hw⟩ := hw
        refine ga_calli (va_runV (As := []) (rest := []) ⟨hx, hb, hml, hown, hts⟩ (gm_J30_intValue l g a_39 h_37 _ hw) (cwV 0 hts (lw_V q2529 q1931 q1932 q136 q1933) rfl rfl rfl ⟨rfl, hdG_J30_intValue⟩ ⟨Nat.le_of_ble_eq_true rfl, Nat.le_of_ble_eq_true rfl⟩) (ga_preV hI hq rfl rfl) rfl rfl hl.1 rfl (ga_room (Nat.le_of_ble_eq_true rfl)) dX2_bestPaper_62 ⟨Nat.le_trans (Nat.add_le_add_left (Nat.zero_le _) _) hbc, Nat.le_trans (Nat.add_le_add_left (Nat.zero_le _) _) hbs⟩) hI hbc hbs (Nat.zero_le _) (Nat.zero_le _) (fun r_42 h_41 H locs cells slots hw hI hbc hbs => ?_)
        refine lv_istore (lv' := [(6, .int r_42), (5, .int r_34), (4, va_rf r_26), (1, .int x1_15), (2, .int x2_15), (3, va_rf r_14)]) hx hb dX2_bestPaper_65 hl (by decide) rfl (fun ls hl => ?_)
        refine lv_iload hx hb dX2_bestPaper_67 (lv_at hl 0 rfl) ?_
        refine lv_iload_n hx hb dX2_bestPaper_69 rfl (lv_at hl 4 rfl) ?_
        refine lv_icmp_gt (tgt := 85) hx hb dX2_bestPaper_70 (by decide) (fun hc_43 => ?_) (fun hc_43 => ?_)
        · have hw := hw.1 hc_43
          exact gj_X2_bestPaper_85 g post (fun (y0 : Int32) (y1 : Int32) (T : ga_H) (B1 : Nat) (B2 : Nat) => In_15 y0 y1 T B1 B2 ∧ mu_15 y0 y1 T B1 B2 < mu_15 x1_15 x2_15 h_15 bc_15 bs_15) p0 x1_15 x2_15 r_14 r_34 r_42 h_41 (bc_15 - kc_22) (bs_15 - ks_23) ⟨hx, hb, hml, hown, hts, hr, hlk, hnm⟩ hw (fun _y0 _y1 _y2 _y3 _y4 H locs cells slots ls hw hI hbc hbs hl => ih_15 _ _ _ _ _ H locs cells slots ls (Nat.lt_of_lt_of_le hw.2 (Nat.le_of_lt_succ hn_15)) hw.1 hI hbc hbs hl) hI hbc hbs (lv_sub hl [3, 4, 5, 1, 0] rfl)
        · have hw := hw.2 hc_43
          refine lv_iload hx hb dX2_bestPaper_73 (lv_at hl 0 rfl) ?_
          refine lv_iload_n hx hb dX2_bestPaper_75 rfl (lv_at hl 4 rfl) ?_
          refine lv_icmp_ne (tgt := 89) hx hb dX2_bestPaper_76 (by decide) (fun hc_46 => ?_) (fun hc_46 => ?_)
          · have hw := hw.1 hc_46
            exact gj_X2_bestPaper_89 g post (fun (y0 : Int32) (y1 : Int32) (T : ga_H) (B1 : Nat) (B2 : Nat) => In_15 y0 y1 T B1 B2 ∧ mu_15 y0 y1 T B1 B2 < mu_15 x1_15 x2_15 h_15 bc_15 bs_15) p0 x1_15 x2_15 r_14 r_34 r_42 h_41 (bc_15 - kc_22) (bs_15 - ks_23) ⟨hx, hb, hml, hown, hts, hr, hlk, hnm⟩ hw (fun _y0 _y1 _y2 _y3 _y4 H locs cells slots ls hw hI hbc hbs hl => ih_15 _ _ _ _ _ H locs cells slots ls (Nat.lt_of_lt_of_le hw.2 (Nat.le_of_lt_succ hn_15)) hw.1 hI hbc hbs hl) hI hbc hbs (lv_sub hl [3, 4, 5, 1, 0] rfl)
          · have hw := hw.2 hc_46
            refine lv_iload hx hb dX2_bestPaper_79 (lv_at hl 1 rfl) ?_
            refine lv_iload_n hx hb dX2_bestPaper_81 rfl (lv_at hl 3 rfl) ?_
            refine lv_icmp_ge (tgt := 89) hx hb dX2_bestPaper_82 (by decide) (fun hc_47 => ?_) (fun hc_47 => ?_)
            · have hw := hw.1 hc_47
              exact gj_X2_bestPaper_89 g post (fun (y0 : Int32) (y1 : Int32) (T : ga_H) (B1 : Nat) (B2 : Nat) => In_15 y0 y1 T B1 B2 ∧ mu_15 y0 y1 T B1 B2 < mu_15 x1_15 x2_15 h_15 bc_15 bs_15) p0 x1_15 x2_15 r_14 r_34 r_42 h_41 (bc_15 - kc_22) (bs_15 - ks_23) ⟨hx, hb, hml, hown, hts, hr, hlk, hnm⟩ hw (fun _y0 _y1 _y2 _y3 _y4 H locs cells slots ls hw hI hbc hbs hl => ih_15 _ _ _ _ _ H locs cells slots ls (Nat.lt_of_lt_of_le hw.2 (Nat.le_of_lt_succ hn_15)) hw.1 hI hbc hbs hl) hI hbc hbs (lv_sub hl [3, 4, 5, 1, 0] rfl)
            · have hw := hw.2 hc_47
              exact gj_X2_bestPaper_85 g post (fun (y0 : Int32) (y1 : Int32) (T : ga_H) (B1 : Nat) (B2 : Nat) => In_15 y0 y1 T B1 B2 ∧ mu_15 y0 y1 T B1 B2 < mu_15 x1_15 x2_15 h_15 bc_15 bs_15) p0 x1_15 x2_15 r_14 r_34 r_42 h_41 (bc_15 - kc_22) (bs_15 - ks_23) ⟨hx, hb, hml, hown, hts, hr, hlk, hnm⟩ hw (fun _y0 _y1 _y2 _y3 _y4 H locs cells slots ls hw hI hbc hbs hl => ih_15 _ _ _ _ _ H locs cells slots ls (Nat.lt_of_lt_of_le hw.2 (Nat.le_of_lt_succ hn_15)) hw.1 hI hbc hbs hl) hI hbc hbs (lv_sub hl [3, 4, 5, 1, 0] rfl)
  exact hL_15 _ _ _ _ _ _ H locs cells slots ls (Nat.lt_succ_self _) h0_15 hI hbc hbs (lv_sub hl [2, 1, 0] rfl)
theorem hdG_X2_bestPaper : yX2_bestPaper.cls ≠ "java/lang/invoke/MethodHandle" ∧ yX2_bestPaper.cls ≠ "java/lang/invoke/VarHandle" ∧ (parseMethodDescriptor yX2_bestPaper.desc).map (fun d => d.parameters.length) = some 0 := by decide +kernel
def gw_X1_bestPaper_18 (K : ga_K) (post : Int32 → ga_H → Prop) (xp : String → Nat → ga_H → Prop) (p0 : Nat) (t0 : Int32) (v1 : Int32) (h : ga_H) (bc bs : Nat) : Prop :=
  ∃ kc_10 ks_11 : Nat, kc_10 ≤ bc ∧ ks_11 ≤ bs ∧ gw_X1_checkElement K t0 h kc_10 ks_11 (fun (h_12 : ga_H) => post v1 h_12) (fun (E_13 : String) (q_14 : Nat) (h_15 : ga_H) => xp E_13 q_14 h_15)
set_option maxHeartbeats 4000000 in
theorem gj_X1_bestPaper_18 {p : Program} {l : Launch} {e : Env} {s : State} {m : MethodId} {args : Array Value} {below : List Frame} {meth : Method} {c : Code} {mc ms : Nat} {H : Heap} {locs : List Loc} {cells slots : Nat} {ls : Array Slot} (hst : l.stackTraces = false) (htab : c.exceptionTable.toList = []) (g : ga_G) (post : Int32 → ga_H → Prop) (xp : String → Nat → ga_H → Prop) (p0 : Nat) (t0 : Int32) (v1 : Int32) (h : ga_H) (bc bs : Nat) (hC : ga_Cx p s m args meth c cX1_bestPaper 2 (some .int) "PaperStore" "bestPaper") (hw : gw_X1_bestPaper_18 g.2.2 post xp p0 t0 v1 h bc bs) (hI : ga_I g h s H locs) (hbc : cells + bc ≤ mc) (hbs : slots + bs ≤ ms) (hl : lv_has ls 2 [(1, .int v1)]) : W p l e ({ frames := 13, cells := mc, slots := ms, locals := 249 } : Room) s m args below meth c H locs cells slots (vx_MQ below (va_Qi post (ga_E g) (ga_A g)) (ga_X g xp) args s mc ms (ga_A g)) (F0 m 18 ls [.int t0]) := by
  obtain ⟨hx, hb, hml, hown, hts, hr, hlk, hnm⟩ := hC
  unfold gw_X1_bestPaper_18 at hw
  obtain ⟨kc_10, ks_11, hk1, hk2, hw⟩ := hw
  refine ga_xcallv (vx_runS (As := [.int t0]) (rest := []) ⟨hx, hb, hml, hown, hts⟩ (gm_X1_checkElement l hst g t0 h kc_10 ks_11 _ _ hw) (va_cwS 1 hts (lw_S q2271 q2272 q100 q2273) rfl rfl rfl hdG_X1_checkElement ⟨Nat.le_of_ble_eq_true rfl, Nat.le_of_ble_eq_true rfl⟩) (ga_preS hI rfl) rfl rfl hl.1 rfl (ga_room (Nat.le_of_ble_eq_true rfl)) dX1_bestPaper_18 ⟨Nat.le_trans (Nat.add_le_add_left hk1 _) hbc, Nat.le_trans (Nat.add_le_add_left hk2 _) hbs⟩) hI hbc hbs hk1 hk2 (fun E_13 q_14 h_15 ce H locs cells slots hw hI hce hbc hbs => ?_) (fun h_12 H locs cells slots hw hI hbc hbs => ?_)
  · exact ga_out hown hlk hI hw (by rw [htab]; intro z hz; cases hz) hce (Nat.le_trans (Nat.le_add_right _ _) hbc) (Nat.le_trans (Nat.le_add_right _ _) hbs)
  · skip
    refine lv_iload_n hx hb dX1_bestPaper_21 rfl (lv_at hl 0 rfl) ?_
    exact ga_iretx hx hb hr rfl hlk hI hw (Nat.le_trans (Nat.le_add_right _ _) hbc) (Nat.le_trans (Nat.le_add_right _ _) hbs) dX1_bestPaper_22
def gw_X1_bestPaper (K : ga_K) (p0 : Nat) (h : ga_H) (mc ms : Nat) (post : Int32 → ga_H → Prop) (xp : String → Nat → ga_H → Prop) : Prop :=
  ∃ (fs_1 : List Value) (v_2 : Option Nat), h p0 = some (ga_O 0 fs_1) ∧ fs_1[0]? = some (va_rf v_2) ∧ (∃ a_3 : Nat, v_2 = some a_3 ∧ ∃ kc_4 ks_5 : Nat, kc_4 ≤ mc ∧ ks_5 ≤ ms ∧ ∃ fs_6 : List Value, ga_at K h a_3 (ga_O 1 fs_6) ∧ gw_X2_bestPaper K a_3 h kc_4 ks_5 (fun (r_8 : Int32) (h_7 : ga_H) => (r_8 = (-1 : Int32) → (gw_X1_bestPaper_18 K post xp p0 (0 : Int32) r_8 h_7 (mc - kc_4) (ms - ks_5))) ∧ (¬ r_8 = (-1 : Int32) → (gw_X1_bestPaper_18 K post xp p0 (1 : Int32) r_8 h_7 (mc - kc_4) (ms - ks_5)))))
set_option maxHeartbeats 4000000 in
theorem gm_X1_bestPaper (l : Launch) (hst : l.stackTraces = false) (g : ga_G) (p0 : Nat) (h : ga_H) (mc ms : Nat) (post : Int32 → ga_H → Prop) (xp : String → Nat → ga_H → Prop) (hw : gw_X1_bestPaper g.2.2 p0 h mc ms post xp) : vx_Met l yX1_bestPaper (ws_ yX1_bestPaper cX1_bestPaper 2 (some .int)) ({ frames := 13, cells := mc, slots := ms, locals := 249 } : Room) (va_Pc [.ref p0] (ga_B g h)) (va_Qi post (ga_E g) (ga_A g)) (ga_X g xp) mc ms (ga_A g) := by
  refine ga_metx (own := "PaperStore") (nm := "bestPaper") (by decide) rfl rfl (by exact Nat.le_of_ble_eq_true rfl) (fun p e s m below meth c ls hC htab hI hl => ?_)
  have hl : lv_has ls 2 [(0, .ref p0)] := hl
  generalize ([.ref p0] : List Value).toArray = args at hC ⊢
  obtain ⟨hx, hb, hml, hown, hts, hr, hlk, hnm⟩ := hC
  unfold gw_X1_bestPaper at hw
  obtain ⟨H, eH⟩ : ∃ z, z = s.heap := ⟨_, rfl⟩
  obtain ⟨locs, elo⟩ : ∃ z : List Loc, z = [] := ⟨_, rfl⟩
  rw [← eH, ← elo] at hI ⊢
  obtain ⟨cells, slots, hbc, hbs, e0, e1⟩ : ∃ a b : Nat, a + mc ≤ mc ∧ b + ms ≤ ms ∧ a = 0 ∧ b = 0 := ⟨0, 0, by omega, by omega, rfl, rfl⟩
  show W p l e ({ frames := 13, cells := mc, slots := ms, locals := 249 } : Room) s m args below meth c H locs 0 0 (vx_MQ below (va_Qi post (ga_E g) (ga_A g)) (ga_X g xp) args s mc ms (ga_A g)) (F0 m 0 ls [])
  suffices hgoal : W p l e ({ frames := 13, cells := mc, slots := ms, locals := 249 } : Room) s m args below meth c H locs cells slots (vx_MQ below (va_Qi post (ga_E g) (ga_A g)) (ga_X g xp) args s mc ms (ga_A g)) (F0 m 0 ls []) by rw [e0, e1] at hgoal; exact hgoal
  refine lv_aload_n hx hb dX1_bestPaper_0 rfl (lv_at hl 0 rfl) ?_
  obtain ⟨fs_1, v_2, hq, hv, hw⟩ := hw
  refine ga_get (ci := 0) (T := TX1) (v := va_rf v_2) hx hb hts hown hI in_X1 rfl 0 (by decide) q387 (fun _ z => z) (ga_at.h hq) hv dX1_bestPaper_1 ?_
  obtain ⟨a_3, ea_3, hw⟩ := hw
  rewrite [ea_3]
  obtain ⟨kc_4, ks_5, hk1, hk2, hw⟩ := hw
  obtain ⟨fs_6, hq, hw⟩ := hw
  refine ga_calli (va_runV (As := []) (rest := []) ⟨hx, hb, hml, hown, hts⟩ (gm_X2_bestPaper l g a_3 h kc_4 ks_5 _ hw) (cwV 0 hts (lw_V q2622 q2623 q2624 q101 q2625) rfl rfl rfl ⟨rfl, hdG_X2_bestPaper⟩ ⟨Nat.le_of_ble_eq_true rfl, Nat.le_of_ble_eq_true rfl⟩) (ga_preV hI hq rfl rfl) rfl rfl hl.1 rfl (ga_room (Nat.le_of_ble_eq_true rfl)) dX1_bestPaper_4 ⟨Nat.le_trans (Nat.add_le_add_left hk1 _) hbc, Nat.le_trans (Nat.add_le_add_left hk2 _) hbs⟩) hI hbc hbs hk1 hk2 (fun r_8 h_7 H locs cells slots hw hI hbc hbs => ?_)
  refine lv_istore_n (i := 1) (lv' := [(1, .int r_8), (0, .ref p0)]) hx hb dX1_bestPaper_7 rfl hl (by decide) rfl (fun ls hl => ?_)
  refine lv_iload_n hx hb dX1_bestPaper_8 rfl (lv_at hl 0 rfl) ?_
  refine lv_iconst (v := -1) hx hb dX1_bestPaper_9 (by decide) ?_
  refine lv_icmp_eq (tgt := 17) hx hb dX1_bestPaper_10 (by decide) (fun hc_9 => ?_) (fun hc_9 => ?_)
  · have hw := hw.1 hc_9
    refine lv_iconst (v := 0) hx hb dX1_bestPaper_17 (by decide) ?_
    exact gj_X1_bestPaper_18 hst htab g post xp p0 (0 : Int32) r_8 h_7 (mc - kc_4) (ms - ks_5) ⟨hx, hb, hml, hown, hts, hr, hlk, hnm⟩ hw hI hbc hbs (lv_sub hl [0] rfl)
  · have hw := hw.2 hc_9
    refine lv_iconst (v := 1) hx hb dX1_bestPaper_13 (by decide) ?_
    refine lv_goto (tgt := 18) hx hb dX1_bestPaper_14 (by decide) ?_
    exact gj_X1_bestPaper_18 hst htab g post xp p0 (1 : Int32) r_8 h_7 (mc - kc_4) (ms - ks_5) ⟨hx, hb, hml, hown, hts, hr, hlk, hnm⟩ hw hI hbc hbs (lv_sub hl [0] rfl)
theorem hdG_X1_bestPaper : yX1_bestPaper.cls ≠ "java/lang/invoke/MethodHandle" ∧ yX1_bestPaper.cls ≠ "java/lang/invoke/VarHandle" ∧ (parseMethodDescriptor yX1_bestPaper.desc).map (fun d => d.parameters.length) = some 0 := by decide +kernel
def gw_X0_bestPaper (K : ga_K) (p0 : Option Nat) (p1 : Option Nat) (h : ga_H) (mc ms : Nat) (post : Int32 → ga_H → Prop) (xp : String → Nat → ga_H → Prop) : Prop :=
  ∃ a_1 : Nat, p0 = some a_1 ∧ ∃ kc_2 ks_3 : Nat, kc_2 ≤ mc ∧ ks_3 ≤ ms ∧ ∃ fs_4 : List Value, ga_at K h a_1 (ga_O 0 fs_4) ∧ gw_X1_bestPaper K a_1 h kc_2 ks_3 (fun (r_6 : Int32) (h_5 : ga_H) => ∃ a_10 : Nat, p1 = some a_10 ∧ ∃ (n_11 : Nat) (f_12 : Nat → Int64), h_5 a_10 = some (ga_Al n_11 f_12) ∧ vp_in (0 : Int32) n_11 ∧ ∀ h_13 : ga_H, h_13 = ga_set h_5 a_10 (ga_Al n_11 (vp_updL f_12 (0 : Int32).toNatClampNeg r_6.toInt64)) → (post (0 : Int32) h_13)) (fun (E_7 : String) (q_8 : Nat) (h_9 : ga_H) => (E_7 = "java/util/NoSuchElementException" ∧ (post (1 : Int32) h_9)))
set_option maxHeartbeats 4000000 in
theorem gm_X0_bestPaper (l : Launch) (hst : l.stackTraces = false) (g : ga_G) (p0 : Option Nat) (p1 : Option Nat) (h : ga_H) (mc ms : Nat) (post : Int32 → ga_H → Prop) (xp : String → Nat → ga_H → Prop) (hw : gw_X0_bestPaper g.2.2 p0 p1 h mc ms post xp) : vx_Met l yX0_bestPaper (wsW_ yX0_bestPaper cX0_bestPaper 3 (some .int) [(0, 8, 11, 37)]) ({ frames := 14, cells := mc, slots := ms, locals := 270 } : Room) (va_Pc [va_rf p0, va_rf p1] (ga_B g h)) (va_Qi post (ga_E g) (ga_A g)) (ga_X g xp) mc ms (ga_A g) := by
  refine ga_metxW (own := "PaperStoreLaw") (nm := "bestPaper") (by decide) rfl rfl (by cases p0 <;> cases p1 <;> exact Nat.le_of_ble_eq_true rfl) (fun p e s m below meth c ls hC htab hI hl => ?_)
  have hl : lv_has ls 3 [(0, va_rf p0), (1, va_rf p1)] := (by cases p0 <;> cases p1 <;> exact hl)
  generalize ([va_rf p0, va_rf p1] : List Value).toArray = args at hC ⊢
  obtain ⟨hx, hb, hml, hown, hts, hr, hlk, hnm⟩ := hC
  unfold gw_X0_bestPaper at hw
  obtain ⟨H, eH⟩ : ∃ z, z = s.heap := ⟨_, rfl⟩
  obtain ⟨locs, elo⟩ : ∃ z : List Loc, z = [] := ⟨_, rfl⟩
  rw [← eH, ← elo] at hI ⊢
  obtain ⟨cells, slots, hbc, hbs, e0, e1⟩ : ∃ a b : Nat, a + mc ≤ mc ∧ b + ms ≤ ms ∧ a = 0 ∧ b = 0 := ⟨0, 0, by omega, by omega, rfl, rfl⟩
  show W p l e ({ frames := 14, cells := mc, slots := ms, locals := 270 } : Room) s m args below meth c H locs 0 0 (vx_MQ below (va_Qi post (ga_E g) (ga_A g)) (ga_X g xp) args s mc ms (ga_A g)) (F0 m 0 ls [])
  suffices hgoal : W p l e ({ frames := 14, cells := mc, slots := ms, locals := 270 } : Room) s m args below meth c H locs cells slots (vx_MQ below (va_Qi post (ga_E g) (ga_A g)) (ga_X g xp) args s mc ms (ga_A g)) (F0 m 0 ls []) by rw [e0, e1] at hgoal; exact hgoal
  refine ga_aload_n hx hb dX0_bestPaper_0 rfl (lv_at hl 1 rfl) ?_
  refine lv_iconst (v := 0) hx hb dX0_bestPaper_1 (by decide) ?_
  refine ga_aload_n hx hb dX0_bestPaper_2 rfl (lv_at hl 0 rfl) ?_
  obtain ⟨a_1, ea_1, hw⟩ := hw
  rewrite [ea_1]
  obtain ⟨kc_2, ks_3, hk1, hk2, hw⟩ := hw
  obtain ⟨fs_4, hq, hw⟩ := hw
  refine ga_xcalli (vx_runV (As := []) (rest := [.int (0 : Int32), va_rf p1]) ⟨hx, hb, hml, hown, hts⟩ (gm_X1_bestPaper l hst g a_1 h kc_2 ks_3 _ _ hw) (cwV 0 hts (lw_V q2618 q2619 q2620 q100 q2621) rfl rfl rfl ⟨rfl, hdG_X1_bestPaper⟩ ⟨Nat.le_of_ble_eq_true rfl, Nat.le_of_ble_eq_true rfl⟩) (ga_preV hI hq rfl rfl) rfl rfl hl.1 rfl (ga_room (Nat.le_of_ble_eq_true rfl)) dX0_bestPaper_3 ⟨Nat.le_trans (Nat.add_le_add_left hk1 _) hbc, Nat.le_trans (Nat.add_le_add_left hk2 _) hbs⟩) hI hbc hbs hk1 hk2 (fun E_7 q_8 h_9 ce H locs cells slots hw hI hce hbc hbs => ?_) (fun r_6 h_5 H locs cells slots hw hI hbc hbs => ?_)
  · obtain ⟨rfl, hw⟩ := hw
    refine ga_catch hown hts hI ([]) (⟨0, 8, 11, 37⟩) ([]) (by rw [htab]; rfl) (fun _ h => absurd h List.not_mem_nil) rfl (by decide) q2256 q732 hce ?_
    refine W.eq (g2 := F0 m 11 ls [.ref q_8]) rfl ?_
    refine lv_astore_n (i := 2) (lv' := [(2, .ref q_8), (0, va_rf p0), (1, va_rf p1)]) hx hb dX0_bestPaper_11 rfl hl (by decide) (by simp [ga_rcat, ga_cat_r, ga_cat_i, ga_cat_f, ga_cat_l, ga_cat_d]) (fun ls hl => ?_)
    refine lv_iconst (v := 1) hx hb dX0_bestPaper_12 (by decide) ?_
    exact ga_iretx hx hb hr rfl hlk hI hw (Nat.le_trans (Nat.le_add_right _ _) hbc) (Nat.le_trans (Nat.le_add_right _ _) hbs) dX0_bestPaper_13
  · skip
    refine lv_i2l (v := r_6.toInt64) hx hb dX0_bestPaper_6 rfl ?_
    obtain ⟨a_10, ea_10, hw⟩ := hw
    rewrite [ea_10]
    obtain ⟨n_11, f_12, hq, hi, hw⟩ := hw
    refine ga_stl hx hb hI hq hi dX0_bestPaper_7 (fun H locs hI => ?_)
    obtain ⟨h_13, eh_13⟩ : ∃ z, z = ga_set h_5 a_10 (ga_Al n_11 (vp_updL f_12 (0 : Int32).toNatClampNeg r_6.toInt64)) := ⟨_, rfl⟩
    rw [← eh_13] at hI
    have hw := hw h_13 eh_13
    refine lv_goto (tgt := 14) hx hb dX0_bestPaper_8 (by decide) ?_
    refine lv_iconst (v := 0) hx hb dX0_bestPaper_14 (by decide) ?_
    exact ga_iretx hx hb hr rfl hlk hI hw (Nat.le_trans (Nat.le_add_right _ _) hbc) (Nat.le_trans (Nat.le_add_right _ _) hbs) dX0_bestPaper_15
theorem hdG_X0_bestPaper : yX0_bestPaper.cls ≠ "java/lang/invoke/MethodHandle" ∧ yX0_bestPaper.cls ≠ "java/lang/invoke/VarHandle" ∧ (parseMethodDescriptor yX0_bestPaper.desc).map (fun d => d.parameters.length) = some 2 := by decide +kernel
def gw_X3_airs (K : ga_K) (p0 : Nat) (h : ga_H) (mc ms : Nat) (post : ga_H → Prop) : Prop :=
  ∃ kc_1 ks_2 : Nat, kc_1 ≤ mc ∧ ks_2 ≤ ms ∧ ∃ fs_3 : List Value, ga_at K h p0 (ga_O 2 fs_3) ∧ gw_X3_reams K p0 h kc_1 ks_2 (fun (r_5 : Option Nat) (h_4 : ga_H) => ∃ a_6 : Nat, r_5 = some a_6 ∧ ∃ kc_7 ks_8 : Nat, kc_7 ≤ (mc - kc_1) ∧ ks_8 ≤ (ms - ks_2) ∧ ∃ fs_9 : List Value, ga_at K h_4 a_6 (ga_O 13 fs_9) ∧ gw_J2_iterator K a_6 h_4 kc_7 ks_8 (fun (r_11 : Option Nat) (h_10 : ga_H) => ∃ (In_12 : ga_H → Nat → Nat → Prop) (mu_12 : ga_H → Nat → Nat → Nat), In_12 h_10 ((mc - kc_1) - kc_7) ((ms - ks_2) - ks_8) ∧ ∀ (h_12 : ga_H) (bc_12 : Nat) (bs_12 : Nat), In_12 h_12 bc_12 bs_12 → (∃ a_13 : Nat, r_11 = some a_13 ∧ ∃ fs_14 : List Value, ga_at K h_12 a_13 (ga_O 14 fs_14) ∧ gw_J16_hasNext K a_13 h_12 (fun (r_16 : Int32) (h_15 : ga_H) => (r_16 = (0 : Int32) → (post h_15)) ∧ (¬ r_16 = (0 : Int32) → (∃ a_18 : Nat, r_11 = some a_18 ∧ ∃ kc_19 ks_20 : Nat, kc_19 ≤ bc_12 ∧ ks_20 ≤ bs_12 ∧ ∃ fs_21 : List Value, ga_at K h_15 a_18 (ga_O 14 fs_21) ∧ gw_J16_next K a_18 h_15 kc_19 ks_20 (fun (r_23 : Option Nat) (h_22 : ga_H) => ga_ok K h_22 "PaperStore$Ream" r_23 ∧ (∃ (fs_24 : List Value) (v_25 : Int32), h_22 p0 = some (ga_O 2 fs_24) ∧ fs_24[1]? = some (.int v_25) ∧ (∃ a_26 : Nat, r_23 = some a_26 ∧ ∃ fs_27 : List Value, ga_at K h_22 a_26 (ga_O 4 fs_27) ∧ gw_X6_comesNear K a_26 v_25 h_22 (fun (h_28 : ga_H) => In_12 h_28 (bc_12 - kc_19) (bs_12 - ks_20) ∧ mu_12 h_28 (bc_12 - kc_19) (bs_12 - ks_20) < mu_12 h_12 bc_12 bs_12))))))))))
set_option maxHeartbeats 4000000 in
theorem gm_X3_airs (l : Launch) (g : ga_G) (p0 : Nat) (h : ga_H) (mc ms : Nat) (post : ga_H → Prop) (hw : gw_X3_airs g.2.2 p0 h mc ms post) : Met l yX3_airs (ws_ yX3_airs cX3_airs 3 none) ({ frames := 13, cells := mc, slots := ms, locals := 257 } : Room) (va_Pc [.ref p0] (ga_B g h)) (va_Qv post (ga_E g) (ga_A g)) mc ms (ga_A g) := by
  refine ga_met (own := "PaperStore$Aisle") (nm := "airs") (by decide) rfl rfl (by exact Nat.le_of_ble_eq_true rfl) (fun p e s m below meth c ls hC hI hl => ?_)
  have hl : lv_has ls 3 [(0, .ref p0)] := hl
  generalize ([.ref p0] : List Value).toArray = args at hC ⊢
  obtain ⟨hx, hb, hml, hown, hts, hr, hlk, hnm⟩ := hC
  unfold gw_X3_airs at hw
  obtain ⟨H, eH⟩ : ∃ z, z = s.heap := ⟨_, rfl⟩
  obtain ⟨locs, elo⟩ : ∃ z : List Loc, z = [] := ⟨_, rfl⟩
  rw [← eH, ← elo] at hI ⊢
  obtain ⟨cells, slots, hbc, hbs, e0, e1⟩ : ∃ a b : Nat, a + mc ≤ mc ∧ b + ms ≤ ms ∧ a = 0 ∧ b = 0 := ⟨0, 0, by omega, by omega, rfl, rfl⟩
  show W p l e ({ frames := 13, cells := mc, slots := ms, locals := 257 } : Room) s m args below meth c H locs 0 0 (MQ below (va_Qv post (ga_E g) (ga_A g)) args s mc ms (ga_A g)) (F0 m 0 ls [])
  suffices hgoal : W p l e ({ frames := 13, cells := mc, slots := ms, locals := 257 } : Room) s m args below meth c H locs cells slots (MQ below (va_Qv post (ga_E g) (ga_A g)) args s mc ms (ga_A g)) (F0 m 0 ls []) by rw [e0, e1] at hgoal; exact hgoal
  refine lv_aload_n hx hb dX3_airs_0 rfl (lv_at hl 0 rfl) ?_
  obtain ⟨kc_1, ks_2, hk1, hk2, hw⟩ := hw
  obtain ⟨fs_3, hq, hw⟩ := hw
  refine ga_callq (va_runV (As := []) (rest := []) ⟨hx, hb, hml, hown, hts⟩ (gm_X3_reams l g p0 h kc_1 ks_2 _ hw) (cwV 0 hts (lw_V q2351 q445 q446 q107 q447) rfl rfl rfl ⟨rfl, hdG_X3_reams⟩ ⟨Nat.le_of_ble_eq_true rfl, Nat.le_of_ble_eq_true rfl⟩) (ga_preV hI hq rfl rfl) rfl rfl hl.1 rfl (ga_room (Nat.le_of_ble_eq_true rfl)) dX3_airs_1 ⟨Nat.le_trans (Nat.add_le_add_left hk1 _) hbc, Nat.le_trans (Nat.add_le_add_left hk2 _) hbs⟩) hI hbc hbs hk1 hk2 (fun r_5 h_4 H locs cells slots hw hI hbc hbs => ?_)
  obtain ⟨a_6, ea_6, hw⟩ := hw
  rewrite [ea_6]
  obtain ⟨kc_7, ks_8, hk1, hk2, hw⟩ := hw
  obtain ⟨fs_9, hq, hw⟩ := hw
  refine ga_callFq (va_runF (As := []) (rest := []) (hI.2.1.1.1.1 13 _ rfl).2 ⟨hx, hb, hml, hown, hts⟩ (gm_J2_iterator l g a_6 h_4 kc_7 ks_8 _ hw) (va_cwF 0 hts (lw_app (List.forall_mem_cons.mpr ⟨q2353, List.forall_mem_cons.mpr ⟨q1171, List.forall_mem_cons.mpr ⟨q564, List.forall_mem_cons.mpr ⟨q104, fun _ h => absurd h List.not_mem_nil⟩⟩⟩⟩) (lw_meth q565)) rfl rfl rfl (hI.2.1.1.2.2 _ _ _ ⟨by decide +kernel, q1170, q1169, q1173, q1172, q836⟩) (by decide +kernel) ⟨Nat.le_of_ble_eq_true rfl, Nat.le_of_ble_eq_true rfl⟩) (ga_preV (C := "java/util/ArrayList") hI hq rfl rfl) rfl rfl hl.1 rfl (ga_room (Nat.le_of_ble_eq_true rfl)) dX3_airs_4 ⟨Nat.le_trans (Nat.add_le_add_left hk1 _) hbc, Nat.le_trans (Nat.add_le_add_left hk2 _) hbs⟩) hI hbc hbs hk1 hk2 (fun r_11 h_10 H locs cells slots hw hI hbc hbs => ?_)
  refine ga_astore_n (i := 1) (x := r_11) (lv' := [(1, va_rf r_11), (0, .ref p0)]) hx hb dX3_airs_9 rfl hl (by decide) rfl (fun ls hl => ?_)
  obtain ⟨In_12, mu_12, h0_12, hw⟩ := hw
  have hL_12 : ∀ (n : Nat) (h_12 : ga_H) (bc_12 : Nat) (bs_12 : Nat) (H : Heap) (locs : List Loc) (cells slots : Nat) (ls : Array Slot), mu_12 h_12 bc_12 bs_12 < n → In_12 h_12 bc_12 bs_12 → ga_I g h_12 s H locs → cells + bc_12 ≤ mc → slots + bs_12 ≤ ms → lv_has ls 3 [(0, .ref p0), (1, va_rf r_11)] → W p l e ({ frames := 13, cells := mc, slots := ms, locals := 257 } : Room) s m args below meth c H locs cells slots (MQ below (va_Qv post (ga_E g) (ga_A g)) args s mc ms (ga_A g)) (F0 m 10 ls []) := by
    intro n
    induction n with
    | zero => intro h_12 bc_12 bs_12 H locs cells slots ls hn _ _ _ _ _; exact absurd hn (Nat.not_lt_zero _)
    | succ n ih_12 =>
      intro h_12 bc_12 bs_12 H locs cells slots ls hn_12 hi_12 hI hbc hbs hl
      have hw := hw h_12 bc_12 bs_12 hi_12
      refine ga_aload_n hx hb dX3_airs_10 rfl (lv_at hl 1 rfl) ?_
      obtain ⟨a_13, ea_13, hw⟩ := hw
      rewrite [ea_13]
      obtain ⟨fs_14, hq, hw⟩ := hw
      refine ga_callFi (va_runF (As := []) (rest := []) (hI.2.1.1.1.1 14 _ rfl).2 ⟨hx, hb, hml, hown, hts⟩ (gm_J16_hasNext l g a_13 h_12 _ hw) (va_cwF 0 hts (lw_app (List.forall_mem_cons.mpr ⟨q2355, List.forall_mem_cons.mpr ⟨q696, List.forall_mem_cons.mpr ⟨q698, List.forall_mem_cons.mpr ⟨q122, fun _ h => absurd h List.not_mem_nil⟩⟩⟩⟩) (lw_meth q700)) rfl rfl rfl (hI.2.1.1.2.2 _ _ _ ⟨by decide +kernel, q694, q693, q699, q697, q695⟩) (by decide +kernel) ⟨Nat.le_of_ble_eq_true rfl, Nat.le_of_ble_eq_true rfl⟩) (ga_preV (C := "java/util/ArrayList$Itr") hI hq rfl rfl) rfl rfl hl.1 rfl (ga_room (Nat.le_of_ble_eq_true rfl)) dX3_airs_11 ⟨Nat.le_trans (Nat.add_le_add_left (Nat.zero_le _) _) hbc, Nat.le_trans (Nat.add_le_add_left (Nat.zero_le _) _) hbs⟩) hI hbc hbs (Nat.zero_le _) (Nat.zero_le _) (fun r_16 h_15 H locs cells slots hw hI hbc hbs => ?_)
      refine lv_if_eq (tgt := 40) hx hb dX3_airs_16 (by decide) (fun hc_17 => ?_) (fun hc_17 => ?_)
      · have hw := hw.1 hc_17
        exact ga_vret hx hb hr hlk hI hw (Nat.le_trans (Nat.le_add_right _ _) hbc) (Nat.le_trans (Nat.le_add_right _ _) hbs) dX3_airs_40
      · have hw := hw.2 hc_17
        refine ga_aload_n hx hb dX3_airs_19 rfl (lv_at hl 1 rfl) ?_
        obtain ⟨a_18, ea_18, hw⟩ := hw
        rewrite [ea_18]
        obtain ⟨kc_19, ks_20, hk1, hk2, hw⟩ := hw
        obtain ⟨fs_21, hq, hw⟩ := hw
        refine ga_callFq (va_runF (As := []) (rest := []) (hI.2.1.1.1.1 14 _ rfl).2 ⟨hx, hb, hml, hown, hts⟩ (gm_J16_next l g a_18 h_15 kc_19 ks_20 _ hw) (va_cwF 0 hts (lw_app (List.forall_mem_cons.mpr ⟨q2357, List.forall_mem_cons.mpr ⟨q721, List.forall_mem_cons.mpr ⟨q723, List.forall_mem_cons.mpr ⟨q122, fun _ h => absurd h List.not_mem_nil⟩⟩⟩⟩) (lw_meth q725)) rfl rfl rfl (hI.2.1.1.2.2 _ _ _ ⟨by decide +kernel, q720, q719, q724, q722, q695⟩) (by decide +kernel) ⟨Nat.le_of_ble_eq_true rfl, Nat.le_of_ble_eq_true rfl⟩) (ga_preV (C := "java/util/ArrayList$Itr") hI hq rfl rfl) rfl rfl hl.1 rfl (ga_room (Nat.le_of_ble_eq_true rfl)) dX3_airs_20 ⟨Nat.le_trans (Nat.add_le_add_left hk1 _) hbc, Nat.le_trans (Nat.add_le_add_left hk2 _) hbs⟩) hI hbc hbs hk1 hk2 (fun r_23 h_22 H locs cells slots hw hI hbc hbs => ?_)
        refine ga_cast (x := r_23) hx hb hts hown hI q2358 hw.1 dX3_airs_25 ?_
        have hw := hw.2
        refine ga_astore_n (i := 2) (x := r_23) (lv' := [(2, va_rf r_23), (0, .ref p0), (1, va_rf r_11)]) hx hb dX3_airs_28 rfl hl (by decide) (by simp [ga_rcat, ga_cat_r, ga_cat_i, ga_cat_f, ga_cat_l, ga_cat_d]) (fun ls hl => ?_)
        refine ga_aload_n hx hb dX3_airs_29 rfl (lv_at hl 0 rfl) ?_
        refine lv_aload_n hx hb dX3_airs_30 rfl (lv_at hl 1 rfl) ?_
        obtain ⟨fs_24, v_25, hq, hv, hw⟩ := hw
        refine ga_get (ci := 2) (T := TX3) (v := .int v_25) hx hb hts hown hI in_X3 rfl 1 (by decide) q282 (fun _ z => z) (ga_at.h hq) hv dX3_airs_31 ?_
        obtain ⟨a_26, ea_26, hw⟩ := hw
        rewrite [ea_26]
        obtain ⟨fs_27, hq, hw⟩ := hw
        refine ga_callv (va_runV (As := [.int v_25]) (rest := []) ⟨hx, hb, hml, hown, hts⟩ (gm_X6_comesNear l g a_26 v_25 h_22 _ hw) (cwV 1 hts (lw_V q2655 q2656 q2657 q137 q2658) rfl rfl rfl ⟨rfl, hdG_X6_comesNear⟩ ⟨Nat.le_of_ble_eq_true rfl, Nat.le_of_ble_eq_true rfl⟩) (ga_preV hI hq rfl rfl) rfl rfl hl.1 rfl (ga_room (Nat.le_of_ble_eq_true rfl)) dX3_airs_34 ⟨Nat.le_trans (Nat.add_le_add_left (Nat.zero_le _) _) hbc, Nat.le_trans (Nat.add_le_add_left (Nat.zero_le _) _) hbs⟩) hI hbc hbs (Nat.zero_le _) (Nat.zero_le _) (fun h_28 H locs cells slots hw hI hbc hbs => ?_)
        refine lv_goto (tgt := 10) hx hb dX3_airs_37 (by decide) ?_
        exact ih_12 _ _ _ H locs cells slots ls (Nat.lt_of_lt_of_le hw.2 (Nat.le_of_lt_succ hn_12)) hw.1 hI hbc hbs (lv_sub hl [1, 2] rfl)
  exact hL_12 _ _ _ _ H locs cells slots ls (Nat.lt_succ_self _) h0_12 hI hbc hbs (lv_sub hl [1, 0] rfl)
theorem hdG_X3_airs : yX3_airs.cls ≠ "java/lang/invoke/MethodHandle" ∧ yX3_airs.cls ≠ "java/lang/invoke/VarHandle" ∧ (parseMethodDescriptor yX3_airs.desc).map (fun d => d.parameters.length) = some 0 := by decide +kernel
def gw_X2_dayGoesBy (K : ga_K) (p0 : Nat) (h : ga_H) (mc ms : Nat) (post : Int32 → ga_H → Prop) : Prop :=
  ∃ (fs_1 : List Value) (v_2 : Option Nat), h p0 = some (ga_O 1 fs_1) ∧ fs_1[0]? = some (va_rf v_2) ∧ (∃ a_3 : Nat, v_2 = some a_3 ∧ ∃ (n_4 : Nat) (f_5 : Nat → Option Nat), h a_3 = some (ga_Aq 6 n_4 f_5) ∧ (∃ (In_6 : Int32 → ga_H → Nat → Nat → Prop) (mu_6 : Int32 → ga_H → Nat → Nat → Nat), In_6 (0 : Int32) h mc ms ∧ ∀ (x3_6 : Int32) (h_6 : ga_H) (bc_6 : Nat) (bs_6 : Nat), In_6 x3_6 h_6 bc_6 bs_6 → ((nI n_4 ≤ x3_6 → (∃ (fs_8 : List Value) (v_9 : Option Nat), h_6 p0 = some (ga_O 1 fs_8) ∧ fs_8[0]? = some (va_rf v_9) ∧ (∃ a_10 : Nat, v_9 = some a_10 ∧ ∃ (n_11 : Nat) (f_12 : Nat → Option Nat), h_6 a_10 = some (ga_Aq 6 n_11 f_12) ∧ (∃ (In_13 : Int32 → Int32 → ga_H → Nat → Nat → Prop) (mu_13 : Int32 → Int32 → ga_H → Nat → Nat → Nat), In_13 (0 : Int32) (0 : Int32) h_6 bc_6 bs_6 ∧ ∀ (x1_13 : Int32) (x4_13 : Int32) (h_13 : ga_H) (bc_13 : Nat) (bs_13 : Nat), In_13 x1_13 x4_13 h_13 bc_13 bs_13 → ((nI n_11 ≤ x4_13 → (∃ (fs_15 : List Value) (v_16 : Int32), h_13 p0 = some (ga_O 1 fs_15) ∧ fs_15[9]? = some (.int v_16) ∧ (∃ fs_17 : List Value, h_13 p0 = some (ga_O 1 fs_17) ∧ 9 < fs_17.length ∧ ∀ h_18 : ga_H, h_18 = ga_set h_13 p0 (ga_O 1 (fs_17.set 9 (.int (v_16 + (1 : Int32))))) → (post x1_13 h_18)))) ∧ (¬ nI n_11 ≤ x4_13 → (∃ a_19 : Nat, v_9 = some a_19 ∧ ∃ (n_20 : Nat) (f_21 : Nat → Option Nat), h_13 a_19 = some (ga_Aq 6 n_20 f_21) ∧ vp_in x4_13 n_20 ∧ ∀ v_22 : Option Nat, v_22 = f_21 x4_13.toNatClampNeg → (∃ a_23 : Nat, v_22 = some a_23 ∧ ∃ fs_24 : List Value, ga_at K h_13 a_23 (ga_O 2 fs_24) ∧ gw_X3_isEaten K a_23 h_13 (fun (r_26 : Int32) (h_25 : ga_H) => In_13 (x1_13 + r_26) (x4_13 + (1 : Int32)) h_25 bc_13 bs_13 ∧ mu_13 (x1_13 + r_26) (x4_13 + (1 : Int32)) h_25 bc_13 bs_13 < mu_13 x1_13 x4_13 h_13 bc_13 bs_13))))))))) ∧ (¬ nI n_4 ≤ x3_6 → (∃ a_27 : Nat, v_2 = some a_27 ∧ ∃ (n_28 : Nat) (f_29 : Nat → Option Nat), h_6 a_27 = some (ga_Aq 6 n_28 f_29) ∧ vp_in x3_6 n_28 ∧ ∀ v_30 : Option Nat, v_30 = f_29 x3_6.toNatClampNeg → (∃ a_31 : Nat, v_30 = some a_31 ∧ ∃ kc_32 ks_33 : Nat, kc_32 ≤ bc_6 ∧ ks_33 ≤ bs_6 ∧ ∃ fs_34 : List Value, ga_at K h_6 a_31 (ga_O 2 fs_34) ∧ gw_X3_airs K a_31 h_6 kc_32 ks_33 (fun (h_35 : ga_H) => In_6 (x3_6 + (1 : Int32)) h_35 (bc_6 - kc_32) (bs_6 - ks_33) ∧ mu_6 (x3_6 + (1 : Int32)) h_35 (bc_6 - kc_32) (bs_6 - ks_33) < mu_6 x3_6 h_6 bc_6 bs_6)))))))
set_option maxHeartbeats 4000000 in
theorem gm_X2_dayGoesBy (l : Launch) (g : ga_G) (p0 : Nat) (h : ga_H) (mc ms : Nat) (post : Int32 → ga_H → Prop) (hw : gw_X2_dayGoesBy g.2.2 p0 h mc ms post) : Met l yX2_dayGoesBy (ws_ yX2_dayGoesBy cX2_dayGoesBy 6 (some .int)) ({ frames := 14, cells := mc, slots := ms, locals := 279 } : Room) (va_Pc [.ref p0] (ga_B g h)) (va_Qi post (ga_E g) (ga_A g)) mc ms (ga_A g) := by
  refine ga_met (own := "PaperStore$Store") (nm := "dayGoesBy") (by decide) rfl rfl (by exact Nat.le_of_ble_eq_true rfl) (fun p e s m below meth c ls hC hI hl => ?_)
  have hl : lv_has ls 6 [(0, .ref p0)] := hl
  generalize ([.ref p0] : List Value).toArray = args at hC ⊢
  obtain ⟨hx, hb, hml, hown, hts, hr, hlk, hnm⟩ := hC
  unfold gw_X2_dayGoesBy at hw
  obtain ⟨H, eH⟩ : ∃ z, z = s.heap := ⟨_, rfl⟩
  obtain ⟨locs, elo⟩ : ∃ z : List Loc, z = [] := ⟨_, rfl⟩
  rw [← eH, ← elo] at hI ⊢
  obtain ⟨cells, slots, hbc, hbs, e0, e1⟩ : ∃ a b : Nat, a + mc ≤ mc ∧ b + ms ≤ ms ∧ a = 0 ∧ b = 0 := ⟨0, 0, by omega, by omega, rfl, rfl⟩
  show W p l e ({ frames := 14, cells := mc, slots := ms, locals := 279 } : Room) s m args below meth c H locs 0 0 (MQ below (va_Qi post (ga_E g) (ga_A g)) args s mc ms (ga_A g)) (F0 m 0 ls [])
  suffices hgoal : W p l e ({ frames := 14, cells := mc, slots := ms, locals := 279 } : Room) s m args below meth c H locs cells slots (MQ below (va_Qi post (ga_E g) (ga_A g)) args s mc ms (ga_A g)) (F0 m 0 ls []) by rw [e0, e1] at hgoal; exact hgoal
  refine lv_aload_n hx hb dX2_dayGoesBy_0 rfl (lv_at hl 0 rfl) ?_
  obtain ⟨fs_1, v_2, hq, hv, hw⟩ := hw
  refine ga_get (ci := 1) (T := TX2) (v := va_rf v_2) hx hb hts hown hI in_X2 rfl 0 (by decide) q310 (fun _ z => z) (ga_at.h hq) hv dX2_dayGoesBy_1 ?_
  refine ga_astore_n (i := 1) (x := v_2) (lv' := [(1, va_rf v_2), (0, .ref p0)]) hx hb dX2_dayGoesBy_4 rfl hl (by decide) rfl (fun ls hl => ?_)
  refine ga_aload_n hx hb dX2_dayGoesBy_5 rfl (lv_at hl 0 rfl) ?_
  obtain ⟨a_3, ea_3, hw⟩ := hw
  rewrite [ea_3]
  obtain ⟨n_4, f_5, hq, hw⟩ := hw
  refine ga_len hx hb hI (ga_at.h hq) rfl dX2_dayGoesBy_6 ?_
  refine lv_istore_n (i := 2) (lv' := [(2, .int (nI n_4)), (1, va_rf v_2), (0, .ref p0)]) hx hb dX2_dayGoesBy_7 rfl hl (by decide) (by simp [ga_rcat, ga_cat_r, ga_cat_i, ga_cat_f, ga_cat_l, ga_cat_d]) (fun ls hl => ?_)
  refine lv_iconst (v := 0) hx hb dX2_dayGoesBy_8 (by decide) ?_
  refine lv_istore_n (i := 3) (lv' := [(3, .int (0 : Int32)), (2, .int (nI n_4)), (1, va_rf v_2), (0, .ref p0)]) hx hb dX2_dayGoesBy_9 rfl hl (by decide) rfl (fun ls hl => ?_)
  obtain ⟨In_6, mu_6, h0_6, hw⟩ := hw
  have hL_6 : ∀ (n : Nat) (x3_6 : Int32) (h_6 : ga_H) (bc_6 : Nat) (bs_6 : Nat) (H : Heap) (locs : List Loc) (cells slots : Nat) (ls : Array Slot), mu_6 x3_6 h_6 bc_6 bs_6 < n → In_6 x3_6 h_6 bc_6 bs_6 → ga_I g h_6 s H locs → cells + bc_6 ≤ mc → slots + bs_6 ≤ ms → lv_has ls 6 [(0, .ref p0), (1, va_rf v_2), (2, .int (nI n_4)), (3, .int x3_6)] → W p l e ({ frames := 14, cells := mc, slots := ms, locals := 279 } : Room) s m args below meth c H locs cells slots (MQ below (va_Qi post (ga_E g) (ga_A g)) args s mc ms (ga_A g)) (F0 m 10 ls []) := by
    intro n
    induction n with
    | zero => intro x3_6 h_6 bc_6 bs_6 H locs cells slots ls hn _ _ _ _ _; exact absurd hn (Nat.not_lt_zero _)
    | succ n ih_6 =>
      intro x3_6 h_6 bc_6 bs_6 H locs cells slots ls hn_6 hi_6 hI hbc hbs hl
      have hw := hw x3_6 h_6 bc_6 bs_6 hi_6
      refine lv_iload_n hx hb dX2_dayGoesBy_10 rfl (lv_at hl 3 rfl) ?_
      refine lv_iload_n hx hb dX2_dayGoesBy_11 rfl (lv_at hl 2 rfl) ?_
      refine lv_icmp_ge (tgt := 31) hx hb dX2_dayGoesBy_12 (by decide) (fun hc_7 => ?_) (fun hc_7 => ?_)
      · have hw := hw.1 hc_7
        refine lv_iconst (v := 0) hx hb dX2_dayGoesBy_31 (by decide) ?_
        refine lv_istore_n (i := 1) (lv' := [(1, .int (0 : Int32)), (0, .ref p0), (2, .int (nI n_4)), (3, .int x3_6)]) hx hb dX2_dayGoesBy_32 rfl hl (by decide) rfl (fun ls hl => ?_)
        refine lv_aload_n hx hb dX2_dayGoesBy_33 rfl (lv_at hl 1 rfl) ?_
        obtain ⟨fs_8, v_9, hq, hv, hw⟩ := hw
        refine ga_get (ci := 1) (T := TX2) (v := va_rf v_9) hx hb hts hown hI in_X2 rfl 0 (by decide) q310 (fun _ z => z) (ga_at.h hq) hv dX2_dayGoesBy_34 ?_
        refine ga_astore_n (i := 2) (x := v_9) (lv' := [(2, va_rf v_9), (1, .int (0 : Int32)), (0, .ref p0), (3, .int x3_6)]) hx hb dX2_dayGoesBy_37 rfl hl (by decide) rfl (fun ls hl => ?_)
        refine ga_aload_n hx hb dX2_dayGoesBy_38 rfl (lv_at hl 0 rfl) ?_
        obtain ⟨a_10, ea_10, hw⟩ := hw
        rewrite [ea_10]
        obtain ⟨n_11, f_12, hq, hw⟩ := hw
        refine ga_len hx hb hI (ga_at.h hq) rfl dX2_dayGoesBy_39 ?_
        refine lv_istore_n (i := 3) (lv' := [(3, .int (nI n_11)), (2, va_rf v_9), (1, .int (0 : Int32)), (0, .ref p0)]) hx hb dX2_dayGoesBy_40 rfl hl (by decide) (by simp [ga_rcat, ga_cat_r, ga_cat_i, ga_cat_f, ga_cat_l, ga_cat_d]) (fun ls hl => ?_)
        refine lv_iconst (v := 0) hx hb dX2_dayGoesBy_41 (by decide) ?_
        refine lv_istore (lv' := [(4, .int (0 : Int32)), (3, .int (nI n_11)), (2, va_rf v_9), (1, .int (0 : Int32)), (0, .ref p0)]) hx hb dX2_dayGoesBy_42 hl (by decide) rfl (fun ls hl => ?_)
        obtain ⟨In_13, mu_13, h0_13, hw⟩ := hw
        have hL_13 : ∀ (n : Nat) (x1_13 : Int32) (x4_13 : Int32) (h_13 : ga_H) (bc_13 : Nat) (bs_13 : Nat) (H : Heap) (locs : List Loc) (cells slots : Nat) (ls : Array Slot), mu_13 x1_13 x4_13 h_13 bc_13 bs_13 < n → In_13 x1_13 x4_13 h_13 bc_13 bs_13 → ga_I g h_13 s H locs → cells + bc_13 ≤ mc → slots + bs_13 ≤ ms → lv_has ls 6 [(0, .ref p0), (1, .int x1_13), (2, va_rf v_9), (3, .int (nI n_11)), (4, .int x4_13)] → W p l e ({ frames := 14, cells := mc, slots := ms, locals := 279 } : Room) s m args below meth c H locs cells slots (MQ below (va_Qi post (ga_E g) (ga_A g)) args s mc ms (ga_A g)) (F0 m 44 ls []) := by
          intro n
          induction n with
          | zero => intro x1_13 x4_13 h_13 bc_13 bs_13 H locs cells slots ls hn _ _ _ _ _; exact absurd hn (Nat.not_lt_zero _)
          | succ n ih_13 =>
            intro x1_13 x4_13 h_13 bc_13 bs_13 H locs cells slots ls hn_13 hi_13 hI hbc hbs hl
            have hw := hw x1_13 x4_13 h_13 bc_13 bs_13 hi_13
            refine lv_iload hx hb dX2_dayGoesBy_44 (lv_at hl 4 rfl) ?_
            refine lv_iload_n hx hb dX2_dayGoesBy_46 rfl (lv_at hl 3 rfl) ?_
            refine lv_icmp_ge (tgt := 70) hx hb dX2_dayGoesBy_47 (by decide) (fun hc_14 => ?_) (fun hc_14 => ?_)
            · have hw := hw.1 hc_14
              refine lv_aload_n hx hb dX2_dayGoesBy_70 rfl (lv_at hl 0 rfl) ?_
              refine lv_dup hx hb dX2_dayGoesBy_71 rfl ?_
              obtain ⟨fs_15, v_16, hq, hv, hw⟩ := hw
              refine ga_get (ci := 1) (T := TX2) (v := .int v_16) hx hb hts hown hI in_X2 rfl 9 (by decide) q328 (fun _ z => z) (ga_at.h hq) hv dX2_dayGoesBy_72 ?_
              refine lv_iconst (v := 1) hx hb dX2_dayGoesBy_75 (by decide) ?_
              refine lv_iadd hx hb dX2_dayGoesBy_76 ?_
              obtain ⟨fs_17, hq, hk, hw⟩ := hw
              refine ga_put (ci := 1) (T := TX2) (v := .int (v_16 + (1 : Int32))) (ty := tyX2 9) hx hb hts hown hI in_X2 rfl tyX2 tyX2_ok nmX2 9 (by decide) q328 (fun _ z => z) rfl (tyX2_ok 9 (by decide)) rfl rfl hq hk dX2_dayGoesBy_77 (fun H locs hI => ?_)
              obtain ⟨h_18, eh_18⟩ : ∃ z, z = ga_set h_13 p0 (ga_O 1 (fs_17.set 9 (.int (v_16 + (1 : Int32))))) := ⟨_, rfl⟩
              rw [← eh_18] at hI
              have hw := hw h_18 eh_18
              refine lv_iload_n hx hb dX2_dayGoesBy_80 rfl (lv_at hl 1 rfl) ?_
              exact ga_iret hx hb hr rfl hlk hI hw (Nat.le_trans (Nat.le_add_right _ _) hbc) (Nat.le_trans (Nat.le_add_right _ _) hbs) dX2_dayGoesBy_81
            · have hw := hw.2 hc_14
              refine ga_aload_n hx hb dX2_dayGoesBy_50 rfl (lv_at hl 2 rfl) ?_
              refine lv_iload hx hb dX2_dayGoesBy_51 (lv_at hl 4 rfl) ?_
              obtain ⟨a_19, ea_19, hw⟩ := hw
              rewrite [ea_19]
              obtain ⟨n_20, f_21, hq, hi, hw⟩ := hw
              refine ga_ldq hx hb hI (ga_at.h hq) rfl hi dX2_dayGoesBy_53 ?_
              obtain ⟨v_22, ev_22⟩ : ∃ z, z = f_21 x4_13.toNatClampNeg := ⟨_, rfl⟩
              rw [← ev_22]
              have hw := hw v_22 ev_22
              refine ga_astore (x := v_22) (lv' := [(5, va_rf v_22), (0, .ref p0), (1, .int x1_13), (2, va_rf v_9), (3, .int (nI n_11)), (4, .int x4_13)]) hx hb dX2_dayGoesBy_54 hl (by decide) rfl (fun ls hl => ?_)
              refine lv_iload_n hx hb dX2_dayGoesBy_56 rfl (lv_at hl 2 rfl) ?_
              refine ga_aload hx hb dX2_dayGoesBy_57 (lv_at hl 0 rfl) ?_
              obtain ⟨a_23, ea_23, hw⟩ := hw
              rewrite [ea_23]
              obtain ⟨fs_24, hq, hw⟩ := hw
              refine ga_calli (va_runV (As := []) (rest := [.int x1_13]) ⟨hx, hb, hml, hown, hts⟩ (gm_X3_isEaten l g a_23 h_13 _ hw) (cwV 0 hts (lw_V q2660 q2369 q2370 q107 q2371) rfl rfl rfl ⟨rfl, hdG_X3_isEaten⟩ ⟨Nat.le_of_ble_eq_true rfl, Nat.le_of_ble_eq_true rfl⟩) (ga_preV hI hq rfl rfl) rfl rfl hl.1 rfl (ga_room (Nat.le_of_ble_eq_true rfl)) dX2_dayGoesBy_59 ⟨Nat.le_trans (Nat.add_le_add_left (Nat.zero_le _) _) hbc, Nat.le_trans (Nat.add_le_add_left (Nat.zero_le _) _) hbs⟩) hI hbc hbs (Nat.zero_le _) (Nat.zero_le _) (fun r_26 h_25 H locs cells slots hw hI hbc hbs => ?_)
              refine lv_iadd hx hb dX2_dayGoesBy_62 ?_
              refine lv_istore_n (i := 1) (lv' := [(1, .int (x1_13 + r_26)), (5, va_rf v_22), (0, .ref p0), (2, va_rf v_9), (3, .int (nI n_11)), (4, .int x4_13)]) hx hb dX2_dayGoesBy_63 rfl hl (by decide) rfl (fun ls hl => ?_)
              refine lv_iinc (v := x4_13 + (1 : Int32)) (lv' := [(4, .int (x4_13 + (1 : Int32))), (1, .int (x1_13 + r_26)), (5, va_rf v_22), (0, .ref p0), (2, va_rf v_9), (3, .int (nI n_11))]) hx hb dX2_dayGoesBy_64 hl (k := 5) rfl rfl (by decide) rfl (fun ls hl => ?_)
              refine lv_goto (tgt := 44) hx hb dX2_dayGoesBy_67 (by decide) ?_
              exact ih_13 _ _ _ _ _ H locs cells slots ls (Nat.lt_of_lt_of_le hw.2 (Nat.le_of_lt_succ hn_13)) hw.1 hI hbc hbs (lv_sub hl [3, 1, 4, 5, 0] rfl)
        exact hL_13 _ _ _ _ _ _ H locs cells slots ls (Nat.lt_succ_self _) h0_13 hI hbc hbs (lv_sub hl [4, 3, 2, 1, 0] rfl)
      · have hw := hw.2 hc_7
        refine ga_aload_n hx hb dX2_dayGoesBy_15 rfl (lv_at hl 1 rfl) ?_
        refine lv_iload_n hx hb dX2_dayGoesBy_16 rfl (lv_at hl 3 rfl) ?_
        obtain ⟨a_27, ea_27, hw⟩ := hw
        rewrite [ea_27]
        obtain ⟨n_28, f_29, hq, hi, hw⟩ := hw
        refine ga_ldq hx hb hI (ga_at.h hq) rfl hi dX2_dayGoesBy_17 ?_
        obtain ⟨v_30, ev_30⟩ : ∃ z, z = f_29 x3_6.toNatClampNeg := ⟨_, rfl⟩
        rw [← ev_30]
        have hw := hw v_30 ev_30
        refine ga_astore (x := v_30) (lv' := [(4, va_rf v_30), (0, .ref p0), (1, va_rf v_2), (2, .int (nI n_4)), (3, .int x3_6)]) hx hb dX2_dayGoesBy_18 hl (by decide) rfl (fun ls hl => ?_)
        refine ga_aload hx hb dX2_dayGoesBy_20 (lv_at hl 0 rfl) ?_
        obtain ⟨a_31, ea_31, hw⟩ := hw
        rewrite [ea_31]
        obtain ⟨kc_32, ks_33, hk1, hk2, hw⟩ := hw
        obtain ⟨fs_34, hq, hw⟩ := hw
        refine ga_callv (va_runV (As := []) (rest := []) ⟨hx, hb, hml, hown, hts⟩ (gm_X3_airs l g a_31 h_6 kc_32 ks_33 _ hw) (cwV 0 hts (lw_V q2651 q2652 q2653 q107 q2654) rfl rfl rfl ⟨rfl, hdG_X3_airs⟩ ⟨Nat.le_of_ble_eq_true rfl, Nat.le_of_ble_eq_true rfl⟩) (ga_preV hI hq rfl rfl) rfl rfl hl.1 rfl (ga_room (Nat.le_of_ble_eq_true rfl)) dX2_dayGoesBy_22 ⟨Nat.le_trans (Nat.add_le_add_left hk1 _) hbc, Nat.le_trans (Nat.add_le_add_left hk2 _) hbs⟩) hI hbc hbs hk1 hk2 (fun h_35 H locs cells slots hw hI hbc hbs => ?_)
        refine lv_iinc (v := x3_6 + (1 : Int32)) (lv' := [(3, .int (x3_6 + (1 : Int32))), (4, va_rf v_30), (0, .ref p0), (1, va_rf v_2), (2, .int (nI n_4))]) hx hb dX2_dayGoesBy_25 hl (k := 4) rfl rfl (by decide) rfl (fun ls hl => ?_)
        refine lv_goto (tgt := 10) hx hb dX2_dayGoesBy_28 (by decide) ?_
        exact ih_6 _ _ _ _ H locs cells slots ls (Nat.lt_of_lt_of_le hw.2 (Nat.le_of_lt_succ hn_6)) hw.1 hI hbc hbs (lv_sub hl [2, 3, 4, 0] rfl)
  exact hL_6 _ _ _ _ _ H locs cells slots ls (Nat.lt_succ_self _) h0_6 hI hbc hbs (lv_sub hl [3, 2, 1, 0] rfl)
theorem hdG_X2_dayGoesBy : yX2_dayGoesBy.cls ≠ "java/lang/invoke/MethodHandle" ∧ yX2_dayGoesBy.cls ≠ "java/lang/invoke/VarHandle" ∧ (parseMethodDescriptor yX2_dayGoesBy.desc).map (fun d => d.parameters.length) = some 0 := by decide +kernel
def gw_X2_days (K : ga_K) (p0 : Nat) (p1 : Int32) (h : ga_H) (mc ms : Nat) (post : Int32 → ga_H → Prop) : Prop :=
  ∃ (In_1 : Int32 → Int32 → ga_H → Nat → Nat → Prop) (mu_1 : Int32 → Int32 → ga_H → Nat → Nat → Nat), In_1 (0 : Int32) (0 : Int32) h mc ms ∧ ∀ (x2_1 : Int32) (x3_1 : Int32) (h_1 : ga_H) (bc_1 : Nat) (bs_1 : Nat), In_1 x2_1 x3_1 h_1 bc_1 bs_1 → ((p1 ≤ x3_1 → (post x2_1 h_1)) ∧ (¬ p1 ≤ x3_1 → (∃ kc_3 ks_4 : Nat, kc_3 ≤ bc_1 ∧ ks_4 ≤ bs_1 ∧ ∃ fs_5 : List Value, ga_at K h_1 p0 (ga_O 1 fs_5) ∧ gw_X2_dayGoesBy K p0 h_1 kc_3 ks_4 (fun (r_7 : Int32) (h_6 : ga_H) => In_1 (x2_1 + r_7) (x3_1 + (1 : Int32)) h_6 (bc_1 - kc_3) (bs_1 - ks_4) ∧ mu_1 (x2_1 + r_7) (x3_1 + (1 : Int32)) h_6 (bc_1 - kc_3) (bs_1 - ks_4) < mu_1 x2_1 x3_1 h_1 bc_1 bs_1))))
set_option maxHeartbeats 4000000 in
theorem gm_X2_days (l : Launch) (g : ga_G) (p0 : Nat) (p1 : Int32) (h : ga_H) (mc ms : Nat) (post : Int32 → ga_H → Prop) (hw : gw_X2_days g.2.2 p0 p1 h mc ms post) : Met l yX2_days (ws_ yX2_days cX2_days 4 (some .int)) ({ frames := 15, cells := mc, slots := ms, locals := 304 } : Room) (va_Pc [.ref p0, .int p1] (ga_B g h)) (va_Qi post (ga_E g) (ga_A g)) mc ms (ga_A g) := by
  refine ga_met (own := "PaperStore$Store") (nm := "days") (by decide) rfl rfl (by exact Nat.le_of_ble_eq_true rfl) (fun p e s m below meth c ls hC hI hl => ?_)
  have hl : lv_has ls 4 [(0, .ref p0), (1, .int p1)] := hl
  generalize ([.ref p0, .int p1] : List Value).toArray = args at hC ⊢
  obtain ⟨hx, hb, hml, hown, hts, hr, hlk, hnm⟩ := hC
  unfold gw_X2_days at hw
  obtain ⟨H, eH⟩ : ∃ z, z = s.heap := ⟨_, rfl⟩
  obtain ⟨locs, elo⟩ : ∃ z : List Loc, z = [] := ⟨_, rfl⟩
  rw [← eH, ← elo] at hI ⊢
  obtain ⟨cells, slots, hbc, hbs, e0, e1⟩ : ∃ a b : Nat, a + mc ≤ mc ∧ b + ms ≤ ms ∧ a = 0 ∧ b = 0 := ⟨0, 0, by omega, by omega, rfl, rfl⟩
  show W p l e ({ frames := 15, cells := mc, slots := ms, locals := 304 } : Room) s m args below meth c H locs 0 0 (MQ below (va_Qi post (ga_E g) (ga_A g)) args s mc ms (ga_A g)) (F0 m 0 ls [])
  suffices hgoal : W p l e ({ frames := 15, cells := mc, slots := ms, locals := 304 } : Room) s m args below meth c H locs cells slots (MQ below (va_Qi post (ga_E g) (ga_A g)) args s mc ms (ga_A g)) (F0 m 0 ls []) by rw [e0, e1] at hgoal; exact hgoal
  refine lv_iconst (v := 0) hx hb dX2_days_0 (by decide) ?_
  refine lv_istore_n (i := 2) (lv' := [(2, .int (0 : Int32)), (0, .ref p0), (1, .int p1)]) hx hb dX2_days_1 rfl hl (by decide) rfl (fun ls hl => ?_)
  refine lv_iconst (v := 0) hx hb dX2_days_2 (by decide) ?_
  refine lv_istore_n (i := 3) (lv' := [(3, .int (0 : Int32)), (2, .int (0 : Int32)), (0, .ref p0), (1, .int p1)]) hx hb dX2_days_3 rfl hl (by decide) rfl (fun ls hl => ?_)
  obtain ⟨In_1, mu_1, h0_1, hw⟩ := hw
  have hL_1 : ∀ (n : Nat) (x2_1 : Int32) (x3_1 : Int32) (h_1 : ga_H) (bc_1 : Nat) (bs_1 : Nat) (H : Heap) (locs : List Loc) (cells slots : Nat) (ls : Array Slot), mu_1 x2_1 x3_1 h_1 bc_1 bs_1 < n → In_1 x2_1 x3_1 h_1 bc_1 bs_1 → ga_I g h_1 s H locs → cells + bc_1 ≤ mc → slots + bs_1 ≤ ms → lv_has ls 4 [(0, .ref p0), (1, .int p1), (2, .int x2_1), (3, .int x3_1)] → W p l e ({ frames := 15, cells := mc, slots := ms, locals := 304 } : Room) s m args below meth c H locs cells slots (MQ below (va_Qi post (ga_E g) (ga_A g)) args s mc ms (ga_A g)) (F0 m 4 ls []) := by
    intro n
    induction n with
    | zero => intro x2_1 x3_1 h_1 bc_1 bs_1 H locs cells slots ls hn _ _ _ _ _; exact absurd hn (Nat.not_lt_zero _)
    | succ n ih_1 =>
      intro x2_1 x3_1 h_1 bc_1 bs_1 H locs cells slots ls hn_1 hi_1 hI hbc hbs hl
      have hw := hw x2_1 x3_1 h_1 bc_1 bs_1 hi_1
      refine lv_iload_n hx hb dX2_days_4 rfl (lv_at hl 3 rfl) ?_
      refine lv_iload_n hx hb dX2_days_5 rfl (lv_at hl 1 rfl) ?_
      refine lv_icmp_ge (tgt := 22) hx hb dX2_days_6 (by decide) (fun hc_2 => ?_) (fun hc_2 => ?_)
      · have hw := hw.1 hc_2
        refine lv_iload_n hx hb dX2_days_22 rfl (lv_at hl 2 rfl) ?_
        exact ga_iret hx hb hr rfl hlk hI hw (Nat.le_trans (Nat.le_add_right _ _) hbc) (Nat.le_trans (Nat.le_add_right _ _) hbs) dX2_days_23
      · have hw := hw.2 hc_2
        refine lv_iload_n hx hb dX2_days_9 rfl (lv_at hl 2 rfl) ?_
        refine lv_aload_n hx hb dX2_days_10 rfl (lv_at hl 0 rfl) ?_
        obtain ⟨kc_3, ks_4, hk1, hk2, hw⟩ := hw
        obtain ⟨fs_5, hq, hw⟩ := hw
        refine ga_calli (va_runV (As := []) (rest := [.int x2_1]) ⟨hx, hb, hml, hown, hts⟩ (gm_X2_dayGoesBy l g p0 h_1 kc_3 ks_4 _ hw) (cwV 0 hts (lw_V q2647 q2649 qs17 q101 q2650) rfl rfl rfl ⟨rfl, hdG_X2_dayGoesBy⟩ ⟨Nat.le_of_ble_eq_true rfl, Nat.le_of_ble_eq_true rfl⟩) (ga_preV hI hq rfl rfl) rfl rfl hl.1 rfl (ga_room (Nat.le_of_ble_eq_true rfl)) dX2_days_11 ⟨Nat.le_trans (Nat.add_le_add_left hk1 _) hbc, Nat.le_trans (Nat.add_le_add_left hk2 _) hbs⟩) hI hbc hbs hk1 hk2 (fun r_7 h_6 H locs cells slots hw hI hbc hbs => ?_)
        refine lv_iadd hx hb dX2_days_14 ?_
        refine lv_istore_n (i := 2) (lv' := [(2, .int (x2_1 + r_7)), (0, .ref p0), (1, .int p1), (3, .int x3_1)]) hx hb dX2_days_15 rfl hl (by decide) rfl (fun ls hl => ?_)
        refine lv_iinc (v := x3_1 + (1 : Int32)) (lv' := [(3, .int (x3_1 + (1 : Int32))), (2, .int (x2_1 + r_7)), (0, .ref p0), (1, .int p1)]) hx hb dX2_days_16 hl (k := 3) rfl rfl (by decide) rfl (fun ls hl => ?_)
        refine lv_goto (tgt := 4) hx hb dX2_days_19 (by decide) ?_
        exact ih_1 _ _ _ _ _ H locs cells slots ls (Nat.lt_of_lt_of_le hw.2 (Nat.le_of_lt_succ hn_1)) hw.1 hI hbc hbs (lv_sub hl [2, 3, 1, 0] rfl)
  exact hL_1 _ _ _ _ _ _ H locs cells slots ls (Nat.lt_succ_self _) h0_1 hI hbc hbs (lv_sub hl [2, 3, 1, 0] rfl)
theorem hdG_X2_days : yX2_days.cls ≠ "java/lang/invoke/MethodHandle" ∧ yX2_days.cls ≠ "java/lang/invoke/VarHandle" ∧ (parseMethodDescriptor yX2_days.desc).map (fun d => d.parameters.length) = some 1 := by decide +kernel
def gw_X1_days (K : ga_K) (p0 : Nat) (p1 : Int32) (h : ga_H) (mc ms : Nat) (post : Int32 → ga_H → Prop) (xp : String → Nat → ga_H → Prop) : Prop :=
  gw_X1_isIn p1 (1 : Int32) (30 : Int32) (fun (r_1 : Int32) => ∃ kc_2 ks_3 : Nat, kc_2 ≤ mc ∧ ks_3 ≤ ms ∧ gw_X1_checkArgument K r_1 h kc_2 ks_3 (fun (h_4 : ga_H) => ∃ (fs_8 : List Value) (v_9 : Option Nat), h_4 p0 = some (ga_O 0 fs_8) ∧ fs_8[0]? = some (va_rf v_9) ∧ (∃ a_10 : Nat, v_9 = some a_10 ∧ ∃ kc_11 ks_12 : Nat, kc_11 ≤ (mc - kc_2) ∧ ks_12 ≤ (ms - ks_3) ∧ ∃ fs_13 : List Value, ga_at K h_4 a_10 (ga_O 1 fs_13) ∧ gw_X2_copy K a_10 h_4 kc_11 ks_12 (fun (r_15 : Option Nat) (h_14 : ga_H) => ∃ a_16 : Nat, r_15 = some a_16 ∧ ∃ kc_17 ks_18 : Nat, kc_17 ≤ ((mc - kc_2) - kc_11) ∧ ks_18 ≤ ((ms - ks_3) - ks_12) ∧ ∃ fs_19 : List Value, ga_at K h_14 a_16 (ga_O 1 fs_19) ∧ gw_X2_days K a_16 p1 h_14 kc_17 ks_18 (fun (r_21 : Int32) (h_20 : ga_H) => ∃ kc_22 ks_23 : Nat, kc_22 ≤ (((mc - kc_2) - kc_11) - kc_17) ∧ ks_23 ≤ (((ms - ks_3) - ks_12) - ks_18) ∧ ∃ fs_24 : List Value, ga_at K h_20 p0 (ga_O 0 fs_24) ∧ gw_X1_become K p0 (some a_16) r_21 h_20 kc_22 ks_23 (fun (r_26 : Int32) (h_25 : ga_H) => post r_26 h_25))))) (fun (E_5 : String) (q_6 : Nat) (h_7 : ga_H) => xp E_5 q_6 h_7))
set_option maxHeartbeats 4000000 in
theorem gm_X1_days (l : Launch) (hst : l.stackTraces = false) (g : ga_G) (p0 : Nat) (p1 : Int32) (h : ga_H) (mc ms : Nat) (post : Int32 → ga_H → Prop) (xp : String → Nat → ga_H → Prop) (hw : gw_X1_days g.2.2 p0 p1 h mc ms post xp) : vx_Met l yX1_days (ws_ yX1_days cX1_days 3 (some .int)) ({ frames := 17, cells := mc, slots := ms, locals := 1389 } : Room) (va_Pc [.ref p0, .int p1] (ga_B g h)) (va_Qi post (ga_E g) (ga_A g)) (ga_X g xp) mc ms (ga_A g) := by
  refine ga_metx (own := "PaperStore") (nm := "days") (by decide) rfl rfl (by exact Nat.le_of_ble_eq_true rfl) (fun p e s m below meth c ls hC htab hI hl => ?_)
  have hl : lv_has ls 3 [(0, .ref p0), (1, .int p1)] := hl
  generalize ([.ref p0, .int p1] : List Value).toArray = args at hC ⊢
  obtain ⟨hx, hb, hml, hown, hts, hr, hlk, hnm⟩ := hC
  unfold gw_X1_days at hw
  obtain ⟨H, eH⟩ : ∃ z, z = s.heap := ⟨_, rfl⟩
  obtain ⟨locs, elo⟩ : ∃ z : List Loc, z = [] := ⟨_, rfl⟩
  rw [← eH, ← elo] at hI ⊢
  obtain ⟨cells, slots, hbc, hbs, e0, e1⟩ : ∃ a b : Nat, a + mc ≤ mc ∧ b + ms ≤ ms ∧ a = 0 ∧ b = 0 := ⟨0, 0, by omega, by omega, rfl, rfl⟩
  show W p l e ({ frames := 17, cells := mc, slots := ms, locals := 1389 } : Room) s m args below meth c H locs 0 0 (vx_MQ below (va_Qi post (ga_E g) (ga_A g)) (ga_X g xp) args s mc ms (ga_A g)) (F0 m 0 ls [])
  suffices hgoal : W p l e ({ frames := 17, cells := mc, slots := ms, locals := 1389 } : Room) s m args below meth c H locs cells slots (vx_MQ below (va_Qi post (ga_E g) (ga_A g)) (ga_X g xp) args s mc ms (ga_A g)) (F0 m 0 ls []) by rw [e0, e1] at hgoal; exact hgoal
  refine lv_iload_n hx hb dX1_days_0 rfl (lv_at hl 1 rfl) ?_
  refine lv_iconst (v := 1) hx hb dX1_days_1 (by decide) ?_
  refine lv_bipush (v := 30) hx hb dX1_days_2 (by decide) ?_
  refine ga_callS (As := [.int p1, .int (1 : Int32), .int (30 : Int32)]) (rest := []) ⟨hx, hb, hml, hown, hts⟩ (gm_X1_isIn l p1 (1 : Int32) (30 : Int32) _ hw) (va_cwS 3 hts (lw_S q2024 q2025 q100 q2026) rfl rfl rfl hdG_X1_isIn ⟨Nat.le_of_ble_eq_true rfl, Nat.le_of_ble_eq_true rfl⟩) rfl hl.1 rfl (ga_room (Nat.le_of_ble_eq_true rfl)) dX1_days_4 hbc hbs (fun r_1 hw => ?_)
  obtain ⟨kc_2, ks_3, hk1, hk2, hw⟩ := hw
  refine ga_xcallv (vx_runS (As := [.int r_1]) (rest := []) ⟨hx, hb, hml, hown, hts⟩ (gm_X1_checkArgument l hst g r_1 h kc_2 ks_3 _ _ hw) (va_cwS 1 hts (lw_S q2027 q2028 q100 q2029) rfl rfl rfl hdG_X1_checkArgument ⟨Nat.le_of_ble_eq_true rfl, Nat.le_of_ble_eq_true rfl⟩) (ga_preS hI rfl) rfl rfl hl.1 rfl (ga_room (Nat.le_of_ble_eq_true rfl)) dX1_days_7 ⟨Nat.le_trans (Nat.add_le_add_left hk1 _) hbc, Nat.le_trans (Nat.add_le_add_left hk2 _) hbs⟩) hI hbc hbs hk1 hk2 (fun E_5 q_6 h_7 ce H locs cells slots hw hI hce hbc hbs => ?_) (fun h_4 H locs cells slots hw hI hbc hbs => ?_)
  · exact ga_out hown hlk hI hw (by rw [htab]; intro z hz; cases hz) hce (Nat.le_trans (Nat.le_add_right _ _) hbc) (Nat.le_trans (Nat.le_add_right _ _) hbs)
  · skip
    refine lv_aload_n hx hb dX1_days_10 rfl (lv_at hl 0 rfl) ?_
    obtain ⟨fs_8, v_9, hq, hv, hw⟩ := hw
    refine ga_get (ci := 0) (T := TX1) (v := va_rf v_9) hx hb hts hown hI in_X1 rfl 0 (by decide) q387 (fun _ z => z) (ga_at.h hq) hv dX1_days_11 ?_
    obtain ⟨a_10, ea_10, hw⟩ := hw
    rewrite [ea_10]
    obtain ⟨kc_11, ks_12, hk1, hk2, hw⟩ := hw
    obtain ⟨fs_13, hq, hw⟩ := hw
    refine ga_callq (va_runV (As := []) (rest := []) ⟨hx, hb, hml, hown, hts⟩ (gm_X2_copy l g a_10 h_4 kc_11 ks_12 _ hw) (cwV 0 hts (lw_V q1259 q1260 q1261 q101 q1262) rfl rfl rfl ⟨rfl, hdG_X2_copy⟩ ⟨Nat.le_of_ble_eq_true rfl, Nat.le_of_ble_eq_true rfl⟩) (ga_preV hI hq rfl rfl) rfl rfl hl.1 rfl (ga_room (Nat.le_of_ble_eq_true rfl)) dX1_days_14 ⟨Nat.le_trans (Nat.add_le_add_left hk1 _) hbc, Nat.le_trans (Nat.add_le_add_left hk2 _) hbs⟩) hI hbc hbs hk1 hk2 (fun r_15 h_14 H locs cells slots hw hI hbc hbs => ?_)
    refine ga_astore_n (i := 2) (x := r_15) (lv' := [(2, va_rf r_15), (0, .ref p0), (1, .int p1)]) hx hb dX1_days_17 rfl hl (by decide) rfl (fun ls hl => ?_)
    refine lv_aload_n hx hb dX1_days_18 rfl (lv_at hl 1 rfl) ?_
    refine ga_aload_n hx hb dX1_days_19 rfl (lv_at hl 0 rfl) ?_
    refine ga_aload_n hx hb dX1_days_20 rfl (lv_at hl 0 rfl) ?_
    refine lv_iload_n hx hb dX1_days_21 rfl (lv_at hl 2 rfl) ?_
    obtain ⟨a_16, ea_16, hw⟩ := hw
    rewrite [ea_16]
    obtain ⟨kc_17, ks_18, hk1, hk2, hw⟩ := hw
    obtain ⟨fs_19, hq, hw⟩ := hw
    refine ga_calli (va_runV (As := [.int p1]) (rest := [.ref a_16, .ref p0]) ⟨hx, hb, hml, hown, hts⟩ (gm_X2_days l g a_16 p1 h_14 kc_17 ks_18 _ hw) (cwV 1 hts (lw_V q2643 q2644 q2645 q101 q2646) rfl rfl rfl ⟨rfl, hdG_X2_days⟩ ⟨Nat.le_of_ble_eq_true rfl, Nat.le_of_ble_eq_true rfl⟩) (ga_preV hI hq rfl rfl) rfl rfl hl.1 rfl (ga_room (Nat.le_of_ble_eq_true rfl)) dX1_days_22 ⟨Nat.le_trans (Nat.add_le_add_left hk1 _) hbc, Nat.le_trans (Nat.add_le_add_left hk2 _) hbs⟩) hI hbc hbs hk1 hk2 (fun r_21 h_20 H locs cells slots hw hI hbc hbs => ?_)
    obtain ⟨kc_22, ks_23, hk1, hk2, hw⟩ := hw
    obtain ⟨fs_24, hq, hw⟩ := hw
    refine ga_calli (va_runV (As := [va_rf (some a_16), .int r_21]) (rest := []) ⟨hx, hb, hml, hown, hts⟩ (gm_X1_become l g p0 (some a_16) r_21 h_20 kc_22 ks_23 _ hw) (cwV 2 hts (lw_V q2070 q2072 qs8 q100 q2073) rfl rfl rfl ⟨rfl, hdG_X1_become⟩ ⟨Nat.le_of_ble_eq_true rfl, Nat.le_of_ble_eq_true rfl⟩) (ga_preV hI hq rfl rfl) rfl rfl hl.1 rfl (ga_room (Nat.le_of_ble_eq_true rfl)) dX1_days_25 ⟨Nat.le_trans (Nat.add_le_add_left hk1 _) hbc, Nat.le_trans (Nat.add_le_add_left hk2 _) hbs⟩) hI hbc hbs hk1 hk2 (fun r_26 h_25 H locs cells slots hw hI hbc hbs => ?_)
    exact ga_iretx hx hb hr rfl hlk hI hw (Nat.le_trans (Nat.le_add_right _ _) hbc) (Nat.le_trans (Nat.le_add_right _ _) hbs) dX1_days_28
theorem hdG_X1_days : yX1_days.cls ≠ "java/lang/invoke/MethodHandle" ∧ yX1_days.cls ≠ "java/lang/invoke/VarHandle" ∧ (parseMethodDescriptor yX1_days.desc).map (fun d => d.parameters.length) = some 1 := by decide +kernel
def gw_X0_days (K : ga_K) (p0 : Option Nat) (p1 : Int32) (p2 : Option Nat) (h : ga_H) (mc ms : Nat) (post : Int32 → ga_H → Prop) (xp : String → Nat → ga_H → Prop) : Prop :=
  ∃ a_1 : Nat, p0 = some a_1 ∧ ∃ kc_2 ks_3 : Nat, kc_2 ≤ mc ∧ ks_3 ≤ ms ∧ ∃ fs_4 : List Value, ga_at K h a_1 (ga_O 0 fs_4) ∧ gw_X1_days K a_1 p1 h kc_2 ks_3 (fun (r_6 : Int32) (h_5 : ga_H) => ∃ a_10 : Nat, p2 = some a_10 ∧ ∃ (n_11 : Nat) (f_12 : Nat → Int64), h_5 a_10 = some (ga_Al n_11 f_12) ∧ vp_in (0 : Int32) n_11 ∧ ∀ h_13 : ga_H, h_13 = ga_set h_5 a_10 (ga_Al n_11 (vp_updL f_12 (0 : Int32).toNatClampNeg r_6.toInt64)) → (post (0 : Int32) h_13)) (fun (E_7 : String) (q_8 : Nat) (h_9 : ga_H) => (E_7 = "java/lang/IllegalArgumentException" ∧ (post (1 : Int32) h_9)))
set_option maxHeartbeats 4000000 in
theorem gm_X0_days (l : Launch) (hst : l.stackTraces = false) (g : ga_G) (p0 : Option Nat) (p1 : Int32) (p2 : Option Nat) (h : ga_H) (mc ms : Nat) (post : Int32 → ga_H → Prop) (xp : String → Nat → ga_H → Prop) (hw : gw_X0_days g.2.2 p0 p1 p2 h mc ms post xp) : vx_Met l yX0_days (wsW_ yX0_days cX0_days 4 (some .int) [(0, 9, 12, 13)]) ({ frames := 18, cells := mc, slots := ms, locals := 1411 } : Room) (va_Pc [va_rf p0, .int p1, va_rf p2] (ga_B g h)) (va_Qi post (ga_E g) (ga_A g)) (ga_X g xp) mc ms (ga_A g) := by
  refine ga_metxW (own := "PaperStoreLaw") (nm := "days") (by decide) rfl rfl (by cases p0 <;> cases p2 <;> exact Nat.le_of_ble_eq_true rfl) (fun p e s m below meth c ls hC htab hI hl => ?_)
  have hl : lv_has ls 4 [(0, va_rf p0), (1, .int p1), (2, va_rf p2)] := (by cases p0 <;> cases p2 <;> exact hl)
  generalize ([va_rf p0, .int p1, va_rf p2] : List Value).toArray = args at hC ⊢
  obtain ⟨hx, hb, hml, hown, hts, hr, hlk, hnm⟩ := hC
  unfold gw_X0_days at hw
  obtain ⟨H, eH⟩ : ∃ z, z = s.heap := ⟨_, rfl⟩
  obtain ⟨locs, elo⟩ : ∃ z : List Loc, z = [] := ⟨_, rfl⟩
  rw [← eH, ← elo] at hI ⊢
  obtain ⟨cells, slots, hbc, hbs, e0, e1⟩ : ∃ a b : Nat, a + mc ≤ mc ∧ b + ms ≤ ms ∧ a = 0 ∧ b = 0 := ⟨0, 0, by omega, by omega, rfl, rfl⟩
  show W p l e ({ frames := 18, cells := mc, slots := ms, locals := 1411 } : Room) s m args below meth c H locs 0 0 (vx_MQ below (va_Qi post (ga_E g) (ga_A g)) (ga_X g xp) args s mc ms (ga_A g)) (F0 m 0 ls [])
  suffices hgoal : W p l e ({ frames := 18, cells := mc, slots := ms, locals := 1411 } : Room) s m args below meth c H locs cells slots (vx_MQ below (va_Qi post (ga_E g) (ga_A g)) (ga_X g xp) args s mc ms (ga_A g)) (F0 m 0 ls []) by rw [e0, e1] at hgoal; exact hgoal
  refine ga_aload_n hx hb dX0_days_0 rfl (lv_at hl 2 rfl) ?_
  refine lv_iconst (v := 0) hx hb dX0_days_1 (by decide) ?_
  refine ga_aload_n hx hb dX0_days_2 rfl (lv_at hl 0 rfl) ?_
  refine lv_iload_n hx hb dX0_days_3 rfl (lv_at hl 1 rfl) ?_
  obtain ⟨a_1, ea_1, hw⟩ := hw
  rewrite [ea_1]
  obtain ⟨kc_2, ks_3, hk1, hk2, hw⟩ := hw
  obtain ⟨fs_4, hq, hw⟩ := hw
  refine ga_xcalli (vx_runV (As := [.int p1]) (rest := [.int (0 : Int32), va_rf p2]) ⟨hx, hb, hml, hown, hts⟩ (gm_X1_days l hst g a_1 p1 h kc_2 ks_3 _ _ hw) (cwV 1 hts (lw_V q2639 q2640 q2641 q100 q2642) rfl rfl rfl ⟨rfl, hdG_X1_days⟩ ⟨Nat.le_of_ble_eq_true rfl, Nat.le_of_ble_eq_true rfl⟩) (ga_preV hI hq rfl rfl) rfl rfl hl.1 rfl (ga_room (Nat.le_of_ble_eq_true rfl)) dX0_days_4 ⟨Nat.le_trans (Nat.add_le_add_left hk1 _) hbc, Nat.le_trans (Nat.add_le_add_left hk2 _) hbs⟩) hI hbc hbs hk1 hk2 (fun E_7 q_8 h_9 ce H locs cells slots hw hI hce hbc hbs => ?_) (fun r_6 h_5 H locs cells slots hw hI hbc hbs => ?_)
  · obtain ⟨rfl, hw⟩ := hw
    refine ga_catch hown hts hI ([]) (⟨0, 9, 12, 13⟩) ([]) (by rw [htab]; rfl) (fun _ h => absurd h List.not_mem_nil) rfl (by decide) q2017 q1054 hce ?_
    refine W.eq (g2 := F0 m 12 ls [.ref q_8]) rfl ?_
    refine lv_astore_n (i := 3) (lv' := [(3, .ref q_8), (0, va_rf p0), (1, .int p1), (2, va_rf p2)]) hx hb dX0_days_12 rfl hl (by decide) (by simp [ga_rcat, ga_cat_r, ga_cat_i, ga_cat_f, ga_cat_l, ga_cat_d]) (fun ls hl => ?_)
    refine lv_iconst (v := 1) hx hb dX0_days_13 (by decide) ?_
    exact ga_iretx hx hb hr rfl hlk hI hw (Nat.le_trans (Nat.le_add_right _ _) hbc) (Nat.le_trans (Nat.le_add_right _ _) hbs) dX0_days_14
  · skip
    refine lv_i2l (v := r_6.toInt64) hx hb dX0_days_7 rfl ?_
    obtain ⟨a_10, ea_10, hw⟩ := hw
    rewrite [ea_10]
    obtain ⟨n_11, f_12, hq, hi, hw⟩ := hw
    refine ga_stl hx hb hI hq hi dX0_days_8 (fun H locs hI => ?_)
    obtain ⟨h_13, eh_13⟩ : ∃ z, z = ga_set h_5 a_10 (ga_Al n_11 (vp_updL f_12 (0 : Int32).toNatClampNeg r_6.toInt64)) := ⟨_, rfl⟩
    rw [← eh_13] at hI
    have hw := hw h_13 eh_13
    refine lv_goto (tgt := 15) hx hb dX0_days_9 (by decide) ?_
    refine lv_iconst (v := 0) hx hb dX0_days_15 (by decide) ?_
    exact ga_iretx hx hb hr rfl hlk hI hw (Nat.le_trans (Nat.le_add_right _ _) hbc) (Nat.le_trans (Nat.le_add_right _ _) hbs) dX0_days_16
theorem hdG_X0_days : yX0_days.cls ≠ "java/lang/invoke/MethodHandle" ∧ yX0_days.cls ≠ "java/lang/invoke/VarHandle" ∧ (parseMethodDescriptor yX0_days.desc).map (fun d => d.parameters.length) = some 3 := by decide +kernel
def gw_J5_newCapacity (K : ga_K) (p0 : Nat) (p1 : Int32) (h : ga_H) (mc ms : Nat) (post : Int32 → ga_H → Prop) : Prop :=
  ∃ (fs_1 : List Value) (v_2 : Option Nat), h p0 = some (ga_O 22 fs_1) ∧ fs_1[0]? = some (va_rf v_2) ∧ (∃ a_3 : Nat, v_2 = some a_3 ∧ ∃ (n_4 : Nat) (f_5 : Nat → Int32), ga_at K h a_3 (ga_Ab n_4 f_5) ∧ (∃ (fs_6 : List Value) (v_7 : Int32), h p0 = some (ga_O 22 fs_6) ∧ fs_6[1]? = some (.int v_7) ∧ (∃ (fs_8 : List Value) (v_9 : Int32), h p0 = some (ga_O 22 fs_8) ∧ fs_8[1]? = some (.int v_9) ∧ (gw_J27_newLength K (nI n_4) ((p1 <<< (v_7 &&& 31)) - (nI n_4)) ((nI n_4) + ((2 : Int32) <<< (v_9 &&& 31))) h (fun (r_11 : Int32) (h_10 : ga_H) => (¬ r_11 = (2147483647 : Int32) → (∃ (fs_13 : List Value) (v_14 : Int32), h_10 p0 = some (ga_O 22 fs_13) ∧ fs_13[1]? = some (.int v_14) ∧ (post (r_11 >>> (v_14 &&& 31)) h_10))) ∧ (r_11 = (2147483647 : Int32) → False))))))
set_option maxHeartbeats 4000000 in
theorem gm_J5_newCapacity (l : Launch) (g : ga_G) (p0 : Nat) (p1 : Int32) (h : ga_H) (mc ms : Nat) (post : Int32 → ga_H → Prop) (hw : gw_J5_newCapacity g.2.2 p0 p1 h mc ms post) : Met l yJ5_newCapacity (ws_ yJ5_newCapacity cJ5_newCapacity 6 (some .int)) ({ frames := 9, cells := mc, slots := ms, locals := 163 } : Room) (va_Pc [.ref p0, .int p1] (ga_B g h)) (va_Qi post (ga_E g) (ga_A g)) mc ms (ga_A g) := by
  refine ga_met (own := "java/lang/AbstractStringBuilder") (nm := "newCapacity") (by decide) rfl rfl (by exact Nat.le_of_ble_eq_true rfl) (fun p e s m below meth c ls hC hI hl => ?_)
  have hl : lv_has ls 6 [(0, .ref p0), (1, .int p1)] := hl
  generalize ([.ref p0, .int p1] : List Value).toArray = args at hC ⊢
  obtain ⟨hx, hb, hml, hown, hts, hr, hlk, hnm⟩ := hC
  unfold gw_J5_newCapacity at hw
  obtain ⟨H, eH⟩ : ∃ z, z = s.heap := ⟨_, rfl⟩
  obtain ⟨locs, elo⟩ : ∃ z : List Loc, z = [] := ⟨_, rfl⟩
  rw [← eH, ← elo] at hI ⊢
  obtain ⟨cells, slots, hbc, hbs, e0, e1⟩ : ∃ a b : Nat, a + mc ≤ mc ∧ b + ms ≤ ms ∧ a = 0 ∧ b = 0 := ⟨0, 0, by omega, by omega, rfl, rfl⟩
  show W p l e ({ frames := 9, cells := mc, slots := ms, locals := 163 } : Room) s m args below meth c H locs 0 0 (MQ below (va_Qi post (ga_E g) (ga_A g)) args s mc ms (ga_A g)) (F0 m 0 ls [])
  suffices hgoal : W p l e ({ frames := 9, cells := mc, slots := ms, locals := 163 } : Room) s m args below meth c H locs cells slots (MQ below (va_Qi post (ga_E g) (ga_A g)) args s mc ms (ga_A g)) (F0 m 0 ls []) by rw [e0, e1] at hgoal; exact hgoal
  refine lv_aload_n hx hb dJ5_newCapacity_0 rfl (lv_at hl 0 rfl) ?_
  obtain ⟨fs_1, v_2, hq, hv, hw⟩ := hw
  refine ga_get (ci := 22) (T := TJ6) (v := va_rf v_2) hx hb hts hown hI in_J6 rfl 0 (by decide) q371 (fun _ z => z) (ga_at.h hq) hv dJ5_newCapacity_1 ?_
  obtain ⟨a_3, ea_3, hw⟩ := hw
  rewrite [ea_3]
  obtain ⟨n_4, f_5, hq, hw⟩ := hw
  refine ga_len hx hb hI hq rfl dJ5_newCapacity_4 ?_
  refine lv_istore_n (i := 2) (lv' := [(2, .int (nI n_4)), (0, .ref p0), (1, .int p1)]) hx hb dJ5_newCapacity_5 rfl hl (by decide) rfl (fun ls hl => ?_)
  refine lv_iload_n hx hb dJ5_newCapacity_6 rfl (lv_at hl 2 rfl) ?_
  refine lv_aload_n hx hb dJ5_newCapacity_7 rfl (lv_at hl 1 rfl) ?_
  obtain ⟨fs_6, v_7, hq, hv, hw⟩ := hw
  refine ga_get (ci := 22) (T := TJ6) (v := .int v_7) hx hb hts hown hI in_J6 rfl 1 (by decide) q372 (fun _ z => z) (ga_at.h hq) hv dJ5_newCapacity_8 ?_
  refine lv_ishl hx hb dJ5_newCapacity_11 ?_
  refine lv_istore_n (i := 3) (lv' := [(3, .int (p1 <<< (v_7 &&& 31))), (2, .int (nI n_4)), (0, .ref p0), (1, .int p1)]) hx hb dJ5_newCapacity_12 rfl hl (by decide) rfl (fun ls hl => ?_)
  refine lv_iload_n hx hb dJ5_newCapacity_13 rfl (lv_at hl 0 rfl) ?_
  refine lv_iload_n hx hb dJ5_newCapacity_14 rfl (lv_at hl 1 rfl) ?_
  refine lv_isub hx hb dJ5_newCapacity_15 ?_
  refine lv_istore (lv' := [(4, .int ((p1 <<< (v_7 &&& 31)) - (nI n_4))), (3, .int (p1 <<< (v_7 &&& 31))), (2, .int (nI n_4)), (0, .ref p0), (1, .int p1)]) hx hb dJ5_newCapacity_16 hl (by decide) rfl (fun ls hl => ?_)
  refine lv_iload_n hx hb dJ5_newCapacity_18 rfl (lv_at hl 2 rfl) ?_
  refine lv_iload hx hb dJ5_newCapacity_19 (lv_at hl 0 rfl) ?_
  refine lv_iload_n hx hb dJ5_newCapacity_21 rfl (lv_at hl 2 rfl) ?_
  refine lv_iconst (v := 2) hx hb dJ5_newCapacity_22 (by decide) ?_
  refine lv_aload_n hx hb dJ5_newCapacity_23 rfl (lv_at hl 3 rfl) ?_
  obtain ⟨fs_8, v_9, hq, hv, hw⟩ := hw
  refine ga_get (ci := 22) (T := TJ6) (v := .int v_9) hx hb hts hown hI in_J6 rfl 1 (by decide) q372 (fun _ z => z) (ga_at.h hq) hv dJ5_newCapacity_24 ?_
  refine lv_ishl hx hb dJ5_newCapacity_27 ?_
  refine lv_iadd hx hb dJ5_newCapacity_28 ?_
  refine ga_calli (va_runS (As := [.int (nI n_4), .int ((p1 <<< (v_7 &&& 31)) - (nI n_4)), .int ((nI n_4) + ((2 : Int32) <<< (v_9 &&& 31)))]) (rest := []) ⟨hx, hb, hml, hown, hts⟩ (gm_J27_newLength l g (nI n_4) ((p1 <<< (v_7 &&& 31)) - (nI n_4)) ((nI n_4) + ((2 : Int32) <<< (v_9 &&& 31))) h _ hw) (va_cwS 3 hts (lw_S q895 q896 q133 q897) rfl rfl rfl hdG_J27_newLength ⟨Nat.le_of_ble_eq_true rfl, Nat.le_of_ble_eq_true rfl⟩) (ga_preS hI rfl) rfl rfl hl.1 rfl (ga_room (Nat.le_of_ble_eq_true rfl)) dJ5_newCapacity_29 ⟨Nat.le_trans (Nat.add_le_add_left (Nat.zero_le _) _) hbc, Nat.le_trans (Nat.add_le_add_left (Nat.zero_le _) _) hbs⟩) hI hbc hbs (Nat.zero_le _) (Nat.zero_le _) (fun r_11 h_10 H locs cells slots hw hI hbc hbs => ?_)
  refine lv_istore (lv' := [(5, .int r_11), (4, .int ((p1 <<< (v_7 &&& 31)) - (nI n_4))), (3, .int (p1 <<< (v_7 &&& 31))), (2, .int (nI n_4)), (0, .ref p0), (1, .int p1)]) hx hb dJ5_newCapacity_32 hl (by decide) rfl (fun ls hl => ?_)
  refine lv_iload hx hb dJ5_newCapacity_34 (lv_at hl 0 rfl) ?_
  refine lv_ldc (v := 2147483647) hx hb hown (hts _ q905) dJ5_newCapacity_36 ?_
  refine lv_icmp_ne (tgt := 51) hx hb dJ5_newCapacity_38 (by decide) (fun hc_12 => ?_) (fun hc_12 => ?_)
  · have hw := hw.1 hc_12
    refine lv_iload hx hb dJ5_newCapacity_51 (lv_at hl 0 rfl) ?_
    refine lv_aload_n hx hb dJ5_newCapacity_53 rfl (lv_at hl 4 rfl) ?_
    obtain ⟨fs_13, v_14, hq, hv, hw⟩ := hw
    refine ga_get (ci := 22) (T := TJ6) (v := .int v_14) hx hb hts hown hI in_J6 rfl 1 (by decide) q372 (fun _ z => z) (ga_at.h hq) hv dJ5_newCapacity_54 ?_
    refine lv_ishr hx hb dJ5_newCapacity_57 ?_
    exact ga_iret hx hb hr rfl hlk hI hw (Nat.le_trans (Nat.le_add_right _ _) hbc) (Nat.le_trans (Nat.le_add_right _ _) hbs) dJ5_newCapacity_58
  · have hw := hw.2 hc_12
    exact hw.elim
theorem hdG_J5_newCapacity : yJ5_newCapacity.cls ≠ "java/lang/invoke/MethodHandle" ∧ yJ5_newCapacity.cls ≠ "java/lang/invoke/VarHandle" ∧ (parseMethodDescriptor yJ5_newCapacity.desc).map (fun d => d.parameters.length) = some 1 := by decide +kernel
def gw_J13_copyOf_3 (K : ga_K) (p0 : Option Nat) (p1 : Int32) (h : ga_H) (mc ms : Nat) (post : Option Nat → ga_H → Prop) : Prop :=
  ∃ a_1 : Nat, p0 = some a_1 ∧ ∃ (n_2 : Nat) (f_3 : Nat → Int32), ga_at K h a_1 (ga_Ab n_2 f_3) ∧ ((¬ p1 = nI n_2 → (¬ p1 < 0 ∧ p1.toNatClampNeg ≤ 1000000 ∧ 1 ≤ mc ∧ p1.toNatClampNeg ≤ ms ∧ ∀ q_5 : Nat, h q_5 = none → ∀ h_6 : ga_H, h_6 = ga_set h q_5 (ga_Ab (p1.toNatClampNeg) (fun _ => 0)) → (∃ a_7 : Nat, p0 = some a_7 ∧ ∃ (n_8 : Nat) (f_9 : Nat → Int32), ga_at K h_6 a_7 (ga_Ab n_8 f_9) ∧ (∀ r_10 : Int32, r_10 = (if p1 < (nI n_8) then p1 else (nI n_8)) → (∃ (n_11 : Nat) (f_12 : Nat → Int32) (n_13 : Nat) (f_14 : Nat → Int32), ga_at K h_6 a_7 (ga_Ab n_11 f_12) ∧ h_6 q_5 = some (ga_Ab n_13 f_14) ∧ ¬ (0 : Int32) < 0 ∧ ¬ (0 : Int32) < 0 ∧ ¬ r_10 < 0 ∧ (0 : Int32).toNatClampNeg + r_10.toNatClampNeg ≤ n_11 ∧ (0 : Int32).toNatClampNeg + r_10.toNatClampNeg ≤ n_13 ∧ (∀ i : Nat, i < r_10.toNatClampNeg → fits .byte (.int (f_12 ((0 : Int32).toNatClampNeg + i))) = true) ∧ ∀ h_15 : ga_H, h_15 = ga_set h_6 q_5 (ga_Ab n_13 (va_cpy f_12 f_14 (0 : Int32).toNatClampNeg (0 : Int32).toNatClampNeg r_10.toNatClampNeg)) → (post (some q_5) h_15)))))) ∧ (p1 = nI n_2 → False))
set_option maxHeartbeats 4000000 in
theorem gm_J13_copyOf_3 (l : Launch) (g : ga_G) (p0 : Option Nat) (p1 : Int32) (h : ga_H) (mc ms : Nat) (post : Option Nat → ga_H → Prop) (hw : gw_J13_copyOf_3 g.2.2 p0 p1 h mc ms post) : Met l yJ13_copyOf_3 (ws_ yJ13_copyOf_3 cJ13_copyOf_3 3 (some (.array .byte))) ({ frames := 8, cells := mc, slots := ms, locals := 140 } : Room) (va_Pc [va_rf p0, .int p1] (ga_B g h)) (va_Qq post (ga_E g) (ga_A g)) mc ms (ga_A g) := by
  refine ga_met (own := "java/util/Arrays") (nm := "copyOf") (by decide) rfl rfl (by cases p0 <;> exact Nat.le_of_ble_eq_true rfl) (fun p e s m below meth c ls hC hI hl => ?_)
  have hl : lv_has ls 3 [(0, va_rf p0), (1, .int p1)] := (by cases p0 <;> exact hl)
  generalize ([va_rf p0, .int p1] : List Value).toArray = args at hC ⊢
  obtain ⟨hx, hb, hml, hown, hts, hr, hlk, hnm⟩ := hC
  unfold gw_J13_copyOf_3 at hw
  obtain ⟨H, eH⟩ : ∃ z, z = s.heap := ⟨_, rfl⟩
  obtain ⟨locs, elo⟩ : ∃ z : List Loc, z = [] := ⟨_, rfl⟩
  rw [← eH, ← elo] at hI ⊢
  obtain ⟨cells, slots, hbc, hbs, e0, e1⟩ : ∃ a b : Nat, a + mc ≤ mc ∧ b + ms ≤ ms ∧ a = 0 ∧ b = 0 := ⟨0, 0, by omega, by omega, rfl, rfl⟩
  show W p l e ({ frames := 8, cells := mc, slots := ms, locals := 140 } : Room) s m args below meth c H locs 0 0 (MQ below (va_Qq post (ga_E g) (ga_A g)) args s mc ms (ga_A g)) (F0 m 0 ls [])
  suffices hgoal : W p l e ({ frames := 8, cells := mc, slots := ms, locals := 140 } : Room) s m args below meth c H locs cells slots (MQ below (va_Qq post (ga_E g) (ga_A g)) args s mc ms (ga_A g)) (F0 m 0 ls []) by rw [e0, e1] at hgoal; exact hgoal
  refine lv_iload_n hx hb dJ13_copyOf_3_0 rfl (lv_at hl 1 rfl) ?_
  refine ga_aload_n hx hb dJ13_copyOf_3_1 rfl (lv_at hl 0 rfl) ?_
  obtain ⟨a_1, ea_1, hw⟩ := hw
  rewrite [ea_1]
  obtain ⟨n_2, f_3, hq, hw⟩ := hw
  refine ga_len hx hb hI hq rfl dJ13_copyOf_3_2 ?_
  refine lv_icmp_ne (tgt := 14) hx hb dJ13_copyOf_3_3 (by decide) (fun hc_4 => ?_) (fun hc_4 => ?_)
  · have hw := hw.1 hc_4
    refine lv_iload_n hx hb dJ13_copyOf_3_14 rfl (lv_at hl 1 rfl) ?_
    refine ga_nab hx hb hts hI q386 hbc hbs hw.1 (N := p1.toNatClampNeg) rfl hw.2.1 hw.2.2.1 hw.2.2.2.1 dJ13_copyOf_3_15 (fun q_5 H cells slots hn_q_5 hI hbc hbs => ?_)
    obtain ⟨h_6, eh_6⟩ : ∃ z, z = ga_set h q_5 (ga_Ab (p1.toNatClampNeg) (fun _ => 0)) := ⟨_, rfl⟩
    rw [← eh_6] at hI
    have hw := hw.2.2.2.2 q_5 hn_q_5 h_6 eh_6
    refine lv_astore_n (i := 2) (lv' := [(2, .ref q_5), (0, va_rf p0), (1, .int p1)]) hx hb dJ13_copyOf_3_17 rfl hl (by decide) rfl (fun ls hl => ?_)
    refine ga_aload_n hx hb dJ13_copyOf_3_18 rfl (lv_at hl 1 rfl) ?_
    refine lv_iconst (v := 0) hx hb dJ13_copyOf_3_19 (by decide) ?_
    refine lv_aload_n hx hb dJ13_copyOf_3_20 rfl (lv_at hl 0 rfl) ?_
    refine lv_iconst (v := 0) hx hb dJ13_copyOf_3_21 (by decide) ?_
    refine ga_aload_n hx hb dJ13_copyOf_3_22 rfl (lv_at hl 1 rfl) ?_
    obtain ⟨a_7, ea_7, hw⟩ := hw
    rewrite [ea_7]
    obtain ⟨n_8, f_9, hq, hw⟩ := hw
    refine ga_len hx hb hI hq rfl dJ13_copyOf_3_23 ?_
    refine lv_iload_n hx hb dJ13_copyOf_3_24 rfl (lv_at hl 2 rfl) ?_
    refine va_mmin hx hb (hml.trans hl.1.symm) hown (hts _ q520) (hts _ q521) (hts _ q119) (hts _ q522) (Nat.le_of_ble_eq_true rfl) (Nat.le_trans (Nat.add_le_add_right (ga_sum [.int (0 : Int32), .ref q_5, .int (0 : Int32), .ref a_7] (Nat.le_of_ble_eq_true rfl)) _) (Nat.le_of_ble_eq_true rfl)) (Nat.le_trans (Nat.le_add_right _ _) hbc) (Nat.le_trans (Nat.le_add_right _ _) hbs) dJ13_copyOf_3_25 ?_
    refine lv_topi (fun r_10 er_10 => ?_)
    have hw := hw r_10 er_10
    obtain ⟨n_11, f_12, n_13, f_14, hq0, hq1, k1, k2, k3, k4, k5, k6, hw⟩ := hw
    refine ga_copyb hx hb (hml.trans hl.1.symm) hts hown q523 hI hq0 hq1 k1 k2 k3 k4 k5 k6 (Nat.le_of_ble_eq_true rfl) (Nat.le_trans (Nat.add_le_add_right (ga_sum [] (Nat.le_of_ble_eq_true rfl)) _) (show (8 : Nat) + (nativeFrameWords "java/lang/System" "arraycopy" 5 + 11) ≤ 140 by decide +kernel)) dJ13_copyOf_3_28 (fun H locs hI => ?_)
    obtain ⟨h_15, eh_15⟩ : ∃ z, z = ga_set h_6 q_5 (ga_Ab n_13 (va_cpy f_12 f_14 (0 : Int32).toNatClampNeg (0 : Int32).toNatClampNeg r_10.toNatClampNeg)) := ⟨_, rfl⟩
    rw [← eh_15] at hI
    have hw := hw h_15 eh_15
    refine lv_aload_n hx hb dJ13_copyOf_3_31 rfl (lv_at hl 0 rfl) ?_
    exact ga_qret (v := (some q_5)) hx hb hr (Or.inr ⟨_, rfl⟩) hlk hI hw (Nat.le_trans (Nat.le_add_right _ _) hbc) (Nat.le_trans (Nat.le_add_right _ _) hbs) dJ13_copyOf_3_32
  · have hw := hw.2 hc_4
    exact hw.elim
theorem hdG_J13_copyOf_3 : yJ13_copyOf_3.cls ≠ "java/lang/invoke/MethodHandle" ∧ yJ13_copyOf_3.cls ≠ "java/lang/invoke/VarHandle" ∧ (parseMethodDescriptor yJ13_copyOf_3.desc).map (fun d => d.parameters.length) = some 2 := by decide +kernel
def gw_J5_ensureCapacityInternal (K : ga_K) (p0 : Nat) (p1 : Int32) (h : ga_H) (mc ms : Nat) (post : ga_H → Prop) : Prop :=
  ∃ (fs_1 : List Value) (v_2 : Option Nat), h p0 = some (ga_O 22 fs_1) ∧ fs_1[0]? = some (va_rf v_2) ∧ (∃ a_3 : Nat, v_2 = some a_3 ∧ ∃ (n_4 : Nat) (f_5 : Nat → Int32), ga_at K h a_3 (ga_Ab n_4 f_5) ∧ (∃ (fs_6 : List Value) (v_7 : Int32), h p0 = some (ga_O 22 fs_6) ∧ fs_6[1]? = some (.int v_7) ∧ ((p1 - ((nI n_4) >>> (v_7 &&& 31)) ≤ (0 : Int32) → (post h)) ∧ (¬ p1 - ((nI n_4) >>> (v_7 &&& 31)) ≤ (0 : Int32) → (∃ (fs_9 : List Value) (v_10 : Option Nat), h p0 = some (ga_O 22 fs_9) ∧ fs_9[0]? = some (va_rf v_10) ∧ (∃ kc_11 ks_12 : Nat, kc_11 ≤ mc ∧ ks_12 ≤ ms ∧ ∃ fs_13 : List Value, ga_at K h p0 (ga_O 22 fs_13) ∧ gw_J5_newCapacity K p0 p1 h kc_11 ks_12 (fun (r_15 : Int32) (h_14 : ga_H) => ∃ (fs_16 : List Value) (v_17 : Int32), h_14 p0 = some (ga_O 22 fs_16) ∧ fs_16[1]? = some (.int v_17) ∧ (∃ kc_18 ks_19 : Nat, kc_18 ≤ (mc - kc_11) ∧ ks_19 ≤ (ms - ks_12) ∧ gw_J13_copyOf_3 K v_10 (r_15 <<< (v_17 &&& 31)) h_14 kc_18 ks_19 (fun (r_21 : Option Nat) (h_20 : ga_H) => ∃ fs_22 : List Value, h_20 p0 = some (ga_O 22 fs_22) ∧ 0 < fs_22.length ∧ ∀ h_23 : ga_H, h_23 = ga_set h_20 p0 (ga_O 22 (fs_22.set 0 (va_rf r_21))) → (post h_23))))))))))
set_option maxHeartbeats 4000000 in
theorem gm_J5_ensureCapacityInternal (l : Launch) (g : ga_G) (p0 : Nat) (p1 : Int32) (h : ga_H) (mc ms : Nat) (post : ga_H → Prop) (hw : gw_J5_ensureCapacityInternal g.2.2 p0 p1 h mc ms post) : Met l yJ5_ensureCapacityInternal (ws_ yJ5_ensureCapacityInternal cJ5_ensureCapacityInternal 3 none) ({ frames := 10, cells := mc, slots := ms, locals := 188 } : Room) (va_Pc [.ref p0, .int p1] (ga_B g h)) (va_Qv post (ga_E g) (ga_A g)) mc ms (ga_A g) := by
  refine ga_met (own := "java/lang/AbstractStringBuilder") (nm := "ensureCapacityInternal") (by decide) rfl rfl (by exact Nat.le_of_ble_eq_true rfl) (fun p e s m below meth c ls hC hI hl => ?_)
  have hl : lv_has ls 3 [(0, .ref p0), (1, .int p1)] := hl
  generalize ([.ref p0, .int p1] : List Value).toArray = args at hC ⊢
  obtain ⟨hx, hb, hml, hown, hts, hr, hlk, hnm⟩ := hC
  unfold gw_J5_ensureCapacityInternal at hw
  obtain ⟨H, eH⟩ : ∃ z, z = s.heap := ⟨_, rfl⟩
  obtain ⟨locs, elo⟩ : ∃ z : List Loc, z = [] := ⟨_, rfl⟩
  rw [← eH, ← elo] at hI ⊢
  obtain ⟨cells, slots, hbc, hbs, e0, e1⟩ : ∃ a b : Nat, a + mc ≤ mc ∧ b + ms ≤ ms ∧ a = 0 ∧ b = 0 := ⟨0, 0, by omega, by omega, rfl, rfl⟩
  show W p l e ({ frames := 10, cells := mc, slots := ms, locals := 188 } : Room) s m args below meth c H locs 0 0 (MQ below (va_Qv post (ga_E g) (ga_A g)) args s mc ms (ga_A g)) (F0 m 0 ls [])
  suffices hgoal : W p l e ({ frames := 10, cells := mc, slots := ms, locals := 188 } : Room) s m args below meth c H locs cells slots (MQ below (va_Qv post (ga_E g) (ga_A g)) args s mc ms (ga_A g)) (F0 m 0 ls []) by rw [e0, e1] at hgoal; exact hgoal
  refine lv_aload_n hx hb dJ5_ensureCapacityInternal_0 rfl (lv_at hl 0 rfl) ?_
  obtain ⟨fs_1, v_2, hq, hv, hw⟩ := hw
  refine ga_get (ci := 22) (T := TJ6) (v := va_rf v_2) hx hb hts hown hI in_J6 rfl 0 (by decide) q371 (fun _ z => z) (ga_at.h hq) hv dJ5_ensureCapacityInternal_1 ?_
  obtain ⟨a_3, ea_3, hw⟩ := hw
  rewrite [ea_3]
  obtain ⟨n_4, f_5, hq, hw⟩ := hw
  refine ga_len hx hb hI hq rfl dJ5_ensureCapacityInternal_4 ?_
  refine lv_aload_n hx hb dJ5_ensureCapacityInternal_5 rfl (lv_at hl 0 rfl) ?_
  obtain ⟨fs_6, v_7, hq, hv, hw⟩ := hw
  refine ga_get (ci := 22) (T := TJ6) (v := .int v_7) hx hb hts hown hI in_J6 rfl 1 (by decide) q372 (fun _ z => z) (ga_at.h hq) hv dJ5_ensureCapacityInternal_6 ?_
  refine lv_ishr hx hb dJ5_ensureCapacityInternal_9 ?_
  refine lv_istore_n (i := 2) (lv' := [(2, .int ((nI n_4) >>> (v_7 &&& 31))), (0, .ref p0), (1, .int p1)]) hx hb dJ5_ensureCapacityInternal_10 rfl hl (by decide) rfl (fun ls hl => ?_)
  refine lv_iload_n hx hb dJ5_ensureCapacityInternal_11 rfl (lv_at hl 2 rfl) ?_
  refine lv_iload_n hx hb dJ5_ensureCapacityInternal_12 rfl (lv_at hl 0 rfl) ?_
  refine lv_isub hx hb dJ5_ensureCapacityInternal_13 ?_
  refine lv_if_le (tgt := 38) hx hb dJ5_ensureCapacityInternal_14 (by decide) (fun hc_8 => ?_) (fun hc_8 => ?_)
  · have hw := hw.1 hc_8
    exact ga_vret hx hb hr hlk hI hw (Nat.le_trans (Nat.le_add_right _ _) hbc) (Nat.le_trans (Nat.le_add_right _ _) hbs) dJ5_ensureCapacityInternal_38
  · have hw := hw.2 hc_8
    refine lv_aload_n hx hb dJ5_ensureCapacityInternal_17 rfl (lv_at hl 1 rfl) ?_
    refine lv_aload_n hx hb dJ5_ensureCapacityInternal_18 rfl (lv_at hl 1 rfl) ?_
    obtain ⟨fs_9, v_10, hq, hv, hw⟩ := hw
    refine ga_get (ci := 22) (T := TJ6) (v := va_rf v_10) hx hb hts hown hI in_J6 rfl 0 (by decide) q371 (fun _ z => z) (ga_at.h hq) hv dJ5_ensureCapacityInternal_19 ?_
    refine lv_aload_n hx hb dJ5_ensureCapacityInternal_22 rfl (lv_at hl 1 rfl) ?_
    refine lv_iload_n hx hb dJ5_ensureCapacityInternal_23 rfl (lv_at hl 2 rfl) ?_
    obtain ⟨kc_11, ks_12, hk1, hk2, hw⟩ := hw
    obtain ⟨fs_13, hq, hw⟩ := hw
    refine ga_calli (va_runU (As := [.int p1]) (rest := [va_rf v_10, .ref p0]) ⟨hx, hb, hml, hown, hts⟩ (gm_J5_newCapacity l g p0 p1 h kc_11 ks_12 _ hw) (ga_cwP (C := "java/lang/StringBuilder") 1 hts hI.2.1.1.2.1 q891 q4112 q919 rfl q892 q893 q109 (lw_meth q894) rfl rfl rfl hdG_J5_newCapacity ⟨Nat.le_of_ble_eq_true rfl, Nat.le_of_ble_eq_true rfl⟩) (ga_preV (C := "java/lang/StringBuilder") hI hq rfl rfl) rfl rfl hl.1 rfl (ga_room (Nat.le_of_ble_eq_true rfl)) dJ5_ensureCapacityInternal_24 ⟨Nat.le_trans (Nat.add_le_add_left hk1 _) hbc, Nat.le_trans (Nat.add_le_add_left hk2 _) hbs⟩) hI hbc hbs hk1 hk2 (fun r_15 h_14 H locs cells slots hw hI hbc hbs => ?_)
    refine lv_aload_n hx hb dJ5_ensureCapacityInternal_27 rfl (lv_at hl 1 rfl) ?_
    obtain ⟨fs_16, v_17, hq, hv, hw⟩ := hw
    refine ga_get (ci := 22) (T := TJ6) (v := .int v_17) hx hb hts hown hI in_J6 rfl 1 (by decide) q372 (fun _ z => z) (ga_at.h hq) hv dJ5_ensureCapacityInternal_28 ?_
    refine lv_ishl hx hb dJ5_ensureCapacityInternal_31 ?_
    obtain ⟨kc_18, ks_19, hk1, hk2, hw⟩ := hw
    refine ga_callq (va_runS (As := [va_rf v_10, .int (r_15 <<< (v_17 &&& 31))]) (rest := [.ref p0]) ⟨hx, hb, hml, hown, hts⟩ (gm_J13_copyOf_3 l g v_10 (r_15 <<< (v_17 &&& 31)) h_14 kc_18 ks_19 _ hw) (va_cwS 2 hts (lw_S q906 q907 q118 q908) rfl rfl rfl hdG_J13_copyOf_3 ⟨Nat.le_of_ble_eq_true rfl, Nat.le_of_ble_eq_true rfl⟩) (ga_preS hI rfl) rfl rfl hl.1 rfl (ga_room (Nat.le_of_ble_eq_true rfl)) dJ5_ensureCapacityInternal_32 ⟨Nat.le_trans (Nat.add_le_add_left hk1 _) hbc, Nat.le_trans (Nat.add_le_add_left hk2 _) hbs⟩) hI hbc hbs hk1 hk2 (fun r_21 h_20 H locs cells slots hw hI hbc hbs => ?_)
    obtain ⟨fs_22, hq, hk, hw⟩ := hw
    refine ga_put (ci := 22) (T := TJ6) (v := va_rf r_21) (ty := tyJ6 0) hx hb hts hown hI in_J6 rfl tyJ6 tyJ6_ok nmJ6 0 (by decide) q371 (fun _ z => z) rfl (tyJ6_ok 0 (by decide)) (ga_nq' _ _) (ga_fq' _ _) hq hk dJ5_ensureCapacityInternal_35 (fun H locs hI => ?_)
    obtain ⟨h_23, eh_23⟩ : ∃ z, z = ga_set h_20 p0 (ga_O 22 (fs_22.set 0 (va_rf r_21))) := ⟨_, rfl⟩
    rw [← eh_23] at hI
    have hw := hw h_23 eh_23
    exact ga_vret hx hb hr hlk hI hw (Nat.le_trans (Nat.le_add_right _ _) hbc) (Nat.le_trans (Nat.le_add_right _ _) hbs) dJ5_ensureCapacityInternal_38
theorem hdG_J5_ensureCapacityInternal : yJ5_ensureCapacityInternal.cls ≠ "java/lang/invoke/MethodHandle" ∧ yJ5_ensureCapacityInternal.cls ≠ "java/lang/invoke/VarHandle" ∧ (parseMethodDescriptor yJ5_ensureCapacityInternal.desc).map (fun d => d.parameters.length) = some 1 := by decide +kernel
def gw_J5_isLatin1 (K : ga_K) (p0 : Nat) (h : ga_H) (post : Int32 → ga_H → Prop) : Prop :=
  ∃ (fs_2 : List Value) (v_3 : Int32), h p0 = some (ga_O 22 fs_2) ∧ fs_2[1]? = some (.int v_3) ∧ ((¬ v_3 = (0 : Int32) → (post (0 : Int32) h)) ∧ (v_3 = (0 : Int32) → (post (1 : Int32) h)))
set_option maxHeartbeats 4000000 in
theorem gm_J5_isLatin1 (l : Launch) (g : ga_G) (p0 : Nat) (h : ga_H) (post : Int32 → ga_H → Prop) (hw : gw_J5_isLatin1 g.2.2 p0 h post) : Met l yJ5_isLatin1 (ws_ yJ5_isLatin1 cJ5_isLatin1 1 (some .boolean)) ({ frames := 8, cells := 0, slots := 0, locals := 140 } : Room) (va_Pc [.ref p0] (ga_B g h)) (va_Qi post (ga_E g) (ga_A g)) 0 0 (ga_A g) := by
  refine ga_met (own := "java/lang/AbstractStringBuilder") (nm := "isLatin1") (by decide) rfl rfl (by exact Nat.le_of_ble_eq_true rfl) (fun p e s m below meth c ls hC hI hl => ?_)
  have hl : lv_has ls 1 [(0, .ref p0)] := hl
  generalize ([.ref p0] : List Value).toArray = args at hC ⊢
  obtain ⟨hx, hb, hml, hown, hts, hr, hlk, hnm⟩ := hC
  unfold gw_J5_isLatin1 at hw
  obtain ⟨H, eH⟩ : ∃ z, z = s.heap := ⟨_, rfl⟩
  obtain ⟨locs, elo⟩ : ∃ z : List Loc, z = [] := ⟨_, rfl⟩
  rw [← eH, ← elo] at hI ⊢
  obtain ⟨cells, slots, hbc, hbs, e0, e1⟩ : ∃ a b : Nat, a ≤ 0 ∧ b ≤ 0 ∧ a = 0 ∧ b = 0 := ⟨0, 0, by omega, by omega, rfl, rfl⟩
  show W p l e ({ frames := 8, cells := 0, slots := 0, locals := 140 } : Room) s m args below meth c H locs 0 0 (MQ below (va_Qi post (ga_E g) (ga_A g)) args s 0 0 (ga_A g)) (F0 m 0 ls [])
  suffices hgoal : W p l e ({ frames := 8, cells := 0, slots := 0, locals := 140 } : Room) s m args below meth c H locs cells slots (MQ below (va_Qi post (ga_E g) (ga_A g)) args s 0 0 (ga_A g)) (F0 m 0 ls []) by rw [e0, e1] at hgoal; exact hgoal
  refine ga_sget (v := .int (1 : Int32)) hx hb hts hown hI 1 rfl q362 (fun _ z => z) dJ5_isLatin1_0 ?_
  refine lv_if_eq (tgt := 17) hx hb dJ5_isLatin1_3 (by decide) (fun hc_1 => by first | exact absurd hc_1 (by decide) | exact absurd (by decide) hc_1) (fun _ => ?_)
  refine lv_aload_n hx hb dJ5_isLatin1_6 rfl (lv_at hl 0 rfl) ?_
  obtain ⟨fs_2, v_3, hq, hv, hw⟩ := hw
  refine ga_get (ci := 22) (T := TJ6) (v := .int v_3) hx hb hts hown hI in_J6 rfl 1 (by decide) q372 (fun _ z => z) (ga_at.h hq) hv dJ5_isLatin1_7 ?_
  refine lv_if_ne (tgt := 17) hx hb dJ5_isLatin1_10 (by decide) (fun hc_4 => ?_) (fun hc_4 => ?_)
  · have hw := hw.1 hc_4
    refine lv_iconst (v := 0) hx hb dJ5_isLatin1_17 (by decide) ?_
    exact ga_iret hx hb hr rfl hlk hI hw hbc hbs dJ5_isLatin1_18
  · have hw := hw.2 hc_4
    refine lv_iconst (v := 1) hx hb dJ5_isLatin1_13 (by decide) ?_
    refine lv_goto (tgt := 18) hx hb dJ5_isLatin1_14 (by decide) ?_
    exact ga_iret hx hb hr rfl hlk hI hw hbc hbs dJ5_isLatin1_18
theorem hdG_J5_isLatin1 : yJ5_isLatin1.cls ≠ "java/lang/invoke/MethodHandle" ∧ yJ5_isLatin1.cls ≠ "java/lang/invoke/VarHandle" ∧ (parseMethodDescriptor yJ5_isLatin1.desc).map (fun d => d.parameters.length) = some 0 := by decide +kernel
def gw_J5_init (K : ga_K) (p0 : Nat) (p1 : Int32) (h : ga_H) (mc ms : Nat) (post : ga_H → Prop) : Prop :=
  ¬ p1 < 0 ∧ p1.toNatClampNeg ≤ 1000000 ∧ 1 ≤ mc ∧ p1.toNatClampNeg ≤ ms ∧ ∀ q_2 : Nat, h q_2 = none → ∀ h_3 : ga_H, h_3 = ga_set h q_2 (ga_Ab (p1.toNatClampNeg) (fun _ => 0)) → (∃ fs_4 : List Value, h_3 p0 = some (ga_O 22 fs_4) ∧ 0 < fs_4.length ∧ ∀ h_5 : ga_H, h_5 = ga_set h_3 p0 (ga_O 22 (fs_4.set 0 (va_rf (some q_2)))) → (∃ fs_6 : List Value, h_5 p0 = some (ga_O 22 fs_6) ∧ 1 < fs_6.length ∧ ∀ h_7 : ga_H, h_7 = ga_set h_5 p0 (ga_O 22 (fs_6.set 1 (.int (0 : Int32)))) → (post h_7)))
set_option maxHeartbeats 4000000 in
theorem gm_J5_init (l : Launch) (g : ga_G) (p0 : Nat) (p1 : Int32) (h : ga_H) (mc ms : Nat) (post : ga_H → Prop) (hw : gw_J5_init g.2.2 p0 p1 h mc ms post) : Met l yJ5_init (ws_ yJ5_init cJ5_init 2 none) ({ frames := 8, cells := mc, slots := ms, locals := 140 } : Room) (va_Pc [.ref p0, .int p1] (ga_B g h)) (va_Qv post (ga_E g) (ga_A g)) mc ms (ga_A g) := by
  refine ga_met (own := "java/lang/AbstractStringBuilder") (nm := "<init>") (by decide) rfl rfl (by exact Nat.le_of_ble_eq_true rfl) (fun p e s m below meth c ls hC hI hl => ?_)
  have hl : lv_has ls 2 [(0, .ref p0), (1, .int p1)] := hl
  generalize ([.ref p0, .int p1] : List Value).toArray = args at hC ⊢
  obtain ⟨hx, hb, hml, hown, hts, hr, hlk, hnm⟩ := hC
  unfold gw_J5_init at hw
  obtain ⟨H, eH⟩ : ∃ z, z = s.heap := ⟨_, rfl⟩
  obtain ⟨locs, elo⟩ : ∃ z : List Loc, z = [] := ⟨_, rfl⟩
  rw [← eH, ← elo] at hI ⊢
  obtain ⟨cells, slots, hbc, hbs, e0, e1⟩ : ∃ a b : Nat, a + mc ≤ mc ∧ b + ms ≤ ms ∧ a = 0 ∧ b = 0 := ⟨0, 0, by omega, by omega, rfl, rfl⟩
  show W p l e ({ frames := 8, cells := mc, slots := ms, locals := 140 } : Room) s m args below meth c H locs 0 0 (MQ below (va_Qv post (ga_E g) (ga_A g)) args s mc ms (ga_A g)) (F0 m 0 ls [])
  suffices hgoal : W p l e ({ frames := 8, cells := mc, slots := ms, locals := 140 } : Room) s m args below meth c H locs cells slots (MQ below (va_Qv post (ga_E g) (ga_A g)) args s mc ms (ga_A g)) (F0 m 0 ls []) by rw [e0, e1] at hgoal; exact hgoal
  refine lv_aload_n hx hb dJ5_init_0 rfl (lv_at hl 0 rfl) ?_
  refine W.objInit hx hb hown (hts _ q361) (hts _ q179) (hts _ q180) rfl (by rw [hml]; exact hl.1) rfl dJ5_init_1 (Nat.le_of_ble_eq_true rfl) (by have := ga_sum [] (Nat.le_of_ble_eq_true rfl); exact Nat.le_trans (Nat.add_le_add_right (Nat.add_le_add_left this 0) 12) (Nat.le_of_ble_eq_true rfl)) ?_
  refine W.eq (g2 := F0 m 4 ls []) rfl ?_
  refine ga_sget (v := .int (1 : Int32)) hx hb hts hown hI 1 rfl q362 (fun _ z => z) dJ5_init_4 ?_
  refine lv_if_eq (tgt := 25) hx hb dJ5_init_7 (by decide) (fun hc_1 => by first | exact absurd hc_1 (by decide) | exact absurd (by decide) hc_1) (fun _ => ?_)
  refine lv_aload_n hx hb dJ5_init_10 rfl (lv_at hl 0 rfl) ?_
  refine lv_iload_n hx hb dJ5_init_11 rfl (lv_at hl 1 rfl) ?_
  refine ga_nab hx hb hts hI q386 hbc hbs hw.1 (N := p1.toNatClampNeg) rfl hw.2.1 hw.2.2.1 hw.2.2.2.1 dJ5_init_12 (fun q_2 H cells slots hn_q_2 hI hbc hbs => ?_)
  obtain ⟨h_3, eh_3⟩ : ∃ z, z = ga_set h q_2 (ga_Ab (p1.toNatClampNeg) (fun _ => 0)) := ⟨_, rfl⟩
  rw [← eh_3] at hI
  have hw := hw.2.2.2.2 q_2 hn_q_2 h_3 eh_3
  obtain ⟨fs_4, hq, hk, hw⟩ := hw
  refine ga_put (ci := 22) (T := TJ6) (v := va_rf (some q_2)) (ty := tyJ6 0) hx hb hts hown hI in_J6 rfl tyJ6 tyJ6_ok nmJ6 0 (by decide) q371 (fun _ z => z) rfl (tyJ6_ok 0 (by decide)) (ga_nq' _ _) (ga_fq' _ _) hq hk dJ5_init_14 (fun H locs hI => ?_)
  obtain ⟨h_5, eh_5⟩ : ∃ z, z = ga_set h_3 p0 (ga_O 22 (fs_4.set 0 (va_rf (some q_2)))) := ⟨_, rfl⟩
  rw [← eh_5] at hI
  have hw := hw h_5 eh_5
  refine lv_aload_n hx hb dJ5_init_17 rfl (lv_at hl 0 rfl) ?_
  refine lv_iconst (v := 0) hx hb dJ5_init_18 (by decide) ?_
  obtain ⟨fs_6, hq, hk, hw⟩ := hw
  refine ga_put (ci := 22) (T := TJ6) (v := .int (0 : Int32)) (ty := tyJ6 1) hx hb hts hown hI in_J6 rfl tyJ6 tyJ6_ok nmJ6 1 (by decide) q372 (fun _ z => z) rfl (tyJ6_ok 1 (by decide)) rfl rfl hq hk dJ5_init_19 (fun H locs hI => ?_)
  obtain ⟨h_7, eh_7⟩ : ∃ z, z = ga_set h_5 p0 (ga_O 22 (fs_6.set 1 (.int (0 : Int32)))) := ⟨_, rfl⟩
  rw [← eh_7] at hI
  have hw := hw h_7 eh_7
  refine lv_goto (tgt := 38) hx hb dJ5_init_22 (by decide) ?_
  exact ga_vret hx hb hr hlk hI hw (Nat.le_trans (Nat.le_add_right _ _) hbc) (Nat.le_trans (Nat.le_add_right _ _) hbs) dJ5_init_38
theorem hdG_J5_init : yJ5_init.cls ≠ "java/lang/invoke/MethodHandle" ∧ yJ5_init.cls ≠ "java/lang/invoke/VarHandle" ∧ (parseMethodDescriptor yJ5_init.desc).map (fun d => d.parameters.length) = some 1 := by decide +kernel
def gw_J6_init (K : ga_K) (p0 : Nat) (h : ga_H) (mc ms : Nat) (post : ga_H → Prop) : Prop :=
  ∃ kc_1 ks_2 : Nat, kc_1 ≤ mc ∧ ks_2 ≤ ms ∧ gw_J5_init K p0 (16 : Int32) h kc_1 ks_2 (fun (h_3 : ga_H) => post h_3)
set_option maxHeartbeats 4000000 in
theorem gm_J6_init (l : Launch) (g : ga_G) (p0 : Nat) (h : ga_H) (mc ms : Nat) (post : ga_H → Prop) (hw : gw_J6_init g.2.2 p0 h mc ms post) : Met l yJ6_init (ws_ yJ6_init cJ6_init 1 none) ({ frames := 9, cells := mc, slots := ms, locals := 161 } : Room) (va_Pc [.ref p0] (ga_B g h)) (va_Qv post (ga_E g) (ga_A g)) mc ms (ga_A g) := by
  refine ga_met (own := "java/lang/StringBuilder") (nm := "<init>") (by decide) rfl rfl (by exact Nat.le_of_ble_eq_true rfl) (fun p e s m below meth c ls hC hI hl => ?_)
  have hl : lv_has ls 1 [(0, .ref p0)] := hl
  generalize ([.ref p0] : List Value).toArray = args at hC ⊢
  obtain ⟨hx, hb, hml, hown, hts, hr, hlk, hnm⟩ := hC
  unfold gw_J6_init at hw
  obtain ⟨H, eH⟩ : ∃ z, z = s.heap := ⟨_, rfl⟩
  obtain ⟨locs, elo⟩ : ∃ z : List Loc, z = [] := ⟨_, rfl⟩
  rw [← eH, ← elo] at hI ⊢
  obtain ⟨cells, slots, hbc, hbs, e0, e1⟩ : ∃ a b : Nat, a + mc ≤ mc ∧ b + ms ≤ ms ∧ a = 0 ∧ b = 0 := ⟨0, 0, by omega, by omega, rfl, rfl⟩
  show W p l e ({ frames := 9, cells := mc, slots := ms, locals := 161 } : Room) s m args below meth c H locs 0 0 (MQ below (va_Qv post (ga_E g) (ga_A g)) args s mc ms (ga_A g)) (F0 m 0 ls [])
  suffices hgoal : W p l e ({ frames := 9, cells := mc, slots := ms, locals := 161 } : Room) s m args below meth c H locs cells slots (MQ below (va_Qv post (ga_E g) (ga_A g)) args s mc ms (ga_A g)) (F0 m 0 ls []) by rw [e0, e1] at hgoal; exact hgoal
  refine lv_aload_n hx hb dJ6_init_0 rfl (lv_at hl 0 rfl) ?_
  refine lv_bipush (v := 16) hx hb dJ6_init_1 (by decide) ?_
  obtain ⟨kc_1, ks_2, hk1, hk2, hw⟩ := hw
  refine ga_callv (va_runI (As := [.int (16 : Int32)]) (rest := []) ⟨hx, hb, hml, hown, hts⟩ (gm_J5_init l g p0 (16 : Int32) h kc_1 ks_2 _ hw) (cwI 1 hts (lw_meth q360) rfl rfl rfl (hts _ q109) (hts _ q358) (hts _ q359) rfl hdG_J5_init ⟨Nat.le_of_ble_eq_true rfl, Nat.le_of_ble_eq_true rfl⟩) (ga_preS hI rfl) rfl rfl hl.1 rfl (ga_room (Nat.le_of_ble_eq_true rfl)) dJ6_init_3 ⟨Nat.le_trans (Nat.add_le_add_left hk1 _) hbc, Nat.le_trans (Nat.add_le_add_left hk2 _) hbs⟩) hI hbc hbs hk1 hk2 (fun h_3 H locs cells slots hw hI hbc hbs => ?_)
  exact ga_vret hx hb hr hlk hI hw (Nat.le_trans (Nat.le_add_right _ _) hbc) (Nat.le_trans (Nat.le_add_right _ _) hbs) dJ6_init_6
theorem hdG_J6_init : yJ6_init.cls ≠ "java/lang/invoke/MethodHandle" ∧ yJ6_init.cls ≠ "java/lang/invoke/VarHandle" ∧ (parseMethodDescriptor yJ6_init.desc).map (fun d => d.parameters.length) = some 0 := by decide +kernel
def gw_J5_appendNull (K : ga_K) (p0 : Nat) (h : ga_H) (mc ms : Nat) (post : Option Nat → ga_H → Prop) : Prop :=
  ∃ (fs_1 : List Value) (v_2 : Int32), h p0 = some (ga_O 22 fs_1) ∧ fs_1[3]? = some (.int v_2) ∧ (∃ kc_3 ks_4 : Nat, kc_3 ≤ mc ∧ ks_4 ≤ ms ∧ ∃ fs_5 : List Value, ga_at K h p0 (ga_O 22 fs_5) ∧ gw_J5_ensureCapacityInternal K p0 (v_2 + (4 : Int32)) h kc_3 ks_4 (fun (h_6 : ga_H) => ∃ (fs_7 : List Value) (v_8 : Int32), h_6 p0 = some (ga_O 22 fs_7) ∧ fs_7[3]? = some (.int v_8) ∧ (∃ (fs_9 : List Value) (v_10 : Option Nat), h_6 p0 = some (ga_O 22 fs_9) ∧ fs_9[0]? = some (va_rf v_10) ∧ (∃ fs_11 : List Value, ga_at K h_6 p0 (ga_O 22 fs_11) ∧ gw_J5_isLatin1 K p0 h_6 (fun (r_13 : Int32) (h_12 : ga_H) => (r_13 = (0 : Int32) → False) ∧ (¬ r_13 = (0 : Int32) → (∃ a_15 : Nat, v_10 = some a_15 ∧ ∃ (n_16 : Nat) (f_17 : Nat → Int32), h_12 a_15 = some (ga_Ab n_16 f_17) ∧ vp_in v_8 n_16 ∧ ∀ h_18 : ga_H, h_18 = ga_set h_12 a_15 (ga_Ab n_16 (upd f_17 v_8.toNatClampNeg (vp_nar .byte (110 : Int32)))) → (∃ a_19 : Nat, v_10 = some a_19 ∧ ∃ (n_20 : Nat) (f_21 : Nat → Int32), h_18 a_19 = some (ga_Ab n_20 f_21) ∧ vp_in (v_8 + (1 : Int32)) n_20 ∧ ∀ h_22 : ga_H, h_22 = ga_set h_18 a_19 (ga_Ab n_20 (upd f_21 (v_8 + (1 : Int32)).toNatClampNeg (vp_nar .byte (117 : Int32)))) → (∃ a_23 : Nat, v_10 = some a_23 ∧ ∃ (n_24 : Nat) (f_25 : Nat → Int32), h_22 a_23 = some (ga_Ab n_24 f_25) ∧ vp_in ((v_8 + (1 : Int32)) + (1 : Int32)) n_24 ∧ ∀ h_26 : ga_H, h_26 = ga_set h_22 a_23 (ga_Ab n_24 (upd f_25 ((v_8 + (1 : Int32)) + (1 : Int32)).toNatClampNeg (vp_nar .byte (108 : Int32)))) → (∃ a_27 : Nat, v_10 = some a_27 ∧ ∃ (n_28 : Nat) (f_29 : Nat → Int32), h_26 a_27 = some (ga_Ab n_28 f_29) ∧ vp_in (((v_8 + (1 : Int32)) + (1 : Int32)) + (1 : Int32)) n_28 ∧ ∀ h_30 : ga_H, h_30 = ga_set h_26 a_27 (ga_Ab n_28 (upd f_29 (((v_8 + (1 : Int32)) + (1 : Int32)) + (1 : Int32)).toNatClampNeg (vp_nar .byte (108 : Int32)))) → (∃ fs_31 : List Value, h_30 p0 = some (ga_O 22 fs_31) ∧ 3 < fs_31.length ∧ ∀ h_32 : ga_H, h_32 = ga_set h_30 p0 (ga_O 22 (fs_31.set 3 (.int ((((v_8 + (1 : Int32)) + (1 : Int32)) + (1 : Int32)) + (1 : Int32))))) → (post (some p0) h_32))))))))))))
set_option maxHeartbeats 4000000 in
theorem gm_J5_appendNull (l : Launch) (g : ga_G) (p0 : Nat) (h : ga_H) (mc ms : Nat) (post : Option Nat → ga_H → Prop) (hw : gw_J5_appendNull g.2.2 p0 h mc ms post) : Met l yJ5_appendNull (ws_ yJ5_appendNull cJ5_appendNull 3 (some (.object "java/lang/AbstractStringBuilder"))) ({ frames := 11, cells := mc, slots := ms, locals := 210 } : Room) (va_Pc [.ref p0] (ga_B g h)) (va_Qq post (ga_E g) (ga_A g)) mc ms (ga_A g) := by
  refine ga_met (own := "java/lang/AbstractStringBuilder") (nm := "appendNull") (by decide) rfl rfl (by exact Nat.le_of_ble_eq_true rfl) (fun p e s m below meth c ls hC hI hl => ?_)
  have hl : lv_has ls 3 [(0, .ref p0)] := hl
  generalize ([.ref p0] : List Value).toArray = args at hC ⊢
  obtain ⟨hx, hb, hml, hown, hts, hr, hlk, hnm⟩ := hC
  unfold gw_J5_appendNull at hw
  obtain ⟨H, eH⟩ : ∃ z, z = s.heap := ⟨_, rfl⟩
  obtain ⟨locs, elo⟩ : ∃ z : List Loc, z = [] := ⟨_, rfl⟩
  rw [← eH, ← elo] at hI ⊢
  obtain ⟨cells, slots, hbc, hbs, e0, e1⟩ : ∃ a b : Nat, a + mc ≤ mc ∧ b + ms ≤ ms ∧ a = 0 ∧ b = 0 := ⟨0, 0, by omega, by omega, rfl, rfl⟩
  show W p l e ({ frames := 11, cells := mc, slots := ms, locals := 210 } : Room) s m args below meth c H locs 0 0 (MQ below (va_Qq post (ga_E g) (ga_A g)) args s mc ms (ga_A g)) (F0 m 0 ls [])
  suffices hgoal : W p l e ({ frames := 11, cells := mc, slots := ms, locals := 210 } : Room) s m args below meth c H locs cells slots (MQ below (va_Qq post (ga_E g) (ga_A g)) args s mc ms (ga_A g)) (F0 m 0 ls []) by rw [e0, e1] at hgoal; exact hgoal
  refine lv_aload_n hx hb dJ5_appendNull_0 rfl (lv_at hl 0 rfl) ?_
  refine lv_aload_n hx hb dJ5_appendNull_1 rfl (lv_at hl 0 rfl) ?_
  obtain ⟨fs_1, v_2, hq, hv, hw⟩ := hw
  refine ga_get (ci := 22) (T := TJ6) (v := .int v_2) hx hb hts hown hI in_J6 rfl 3 (by decide) q375 (fun _ z => z) (ga_at.h hq) hv dJ5_appendNull_2 ?_
  refine lv_iconst (v := 4) hx hb dJ5_appendNull_5 (by decide) ?_
  refine lv_iadd hx hb dJ5_appendNull_6 ?_
  obtain ⟨kc_3, ks_4, hk1, hk2, hw⟩ := hw
  obtain ⟨fs_5, hq, hw⟩ := hw
  refine ga_callv (va_runU (As := [.int (v_2 + (4 : Int32))]) (rest := []) ⟨hx, hb, hml, hown, hts⟩ (gm_J5_ensureCapacityInternal l g p0 (v_2 + (4 : Int32)) h kc_3 ks_4 _ hw) (ga_cwP (C := "java/lang/StringBuilder") 1 hts hI.2.1.1.2.1 q887 q4111 q919 rfl q888 q889 q109 (lw_meth q890) rfl rfl rfl hdG_J5_ensureCapacityInternal ⟨Nat.le_of_ble_eq_true rfl, Nat.le_of_ble_eq_true rfl⟩) (ga_preV (C := "java/lang/StringBuilder") hI hq rfl rfl) rfl rfl hl.1 rfl (ga_room (Nat.le_of_ble_eq_true rfl)) dJ5_appendNull_7 ⟨Nat.le_trans (Nat.add_le_add_left hk1 _) hbc, Nat.le_trans (Nat.add_le_add_left hk2 _) hbs⟩) hI hbc hbs hk1 hk2 (fun h_6 H locs cells slots hw hI hbc hbs => ?_)
  refine lv_aload_n hx hb dJ5_appendNull_10 rfl (lv_at hl 0 rfl) ?_
  obtain ⟨fs_7, v_8, hq, hv, hw⟩ := hw
  refine ga_get (ci := 22) (T := TJ6) (v := .int v_8) hx hb hts hown hI in_J6 rfl 3 (by decide) q375 (fun _ z => z) (ga_at.h hq) hv dJ5_appendNull_11 ?_
  refine lv_istore_n (i := 1) (lv' := [(1, .int v_8), (0, .ref p0)]) hx hb dJ5_appendNull_14 rfl hl (by decide) rfl (fun ls hl => ?_)
  refine lv_aload_n hx hb dJ5_appendNull_15 rfl (lv_at hl 1 rfl) ?_
  obtain ⟨fs_9, v_10, hq, hv, hw⟩ := hw
  refine ga_get (ci := 22) (T := TJ6) (v := va_rf v_10) hx hb hts hown hI in_J6 rfl 0 (by decide) q371 (fun _ z => z) (ga_at.h hq) hv dJ5_appendNull_16 ?_
  refine ga_astore_n (i := 2) (x := v_10) (lv' := [(2, va_rf v_10), (1, .int v_8), (0, .ref p0)]) hx hb dJ5_appendNull_19 rfl hl (by decide) rfl (fun ls hl => ?_)
  refine lv_aload_n hx hb dJ5_appendNull_20 rfl (lv_at hl 2 rfl) ?_
  obtain ⟨fs_11, hq, hw⟩ := hw
  refine ga_calli (va_runU (As := []) (rest := []) ⟨hx, hb, hml, hown, hts⟩ (gm_J5_isLatin1 l g p0 h_6 _ hw) (va_cwU 0 hts (lw_app (List.forall_mem_cons.mpr ⟨q916, List.forall_mem_cons.mpr ⟨q918, List.forall_mem_cons.mpr ⟨q919, List.forall_mem_cons.mpr ⟨q917, List.forall_mem_cons.mpr ⟨q109, fun _ h => absurd h List.not_mem_nil⟩⟩⟩⟩⟩) (lw_meth q920)) rfl rfl rfl rfl hdG_J5_isLatin1 ⟨Nat.le_of_ble_eq_true rfl, Nat.le_of_ble_eq_true rfl⟩) (ga_preV (C := "java/lang/StringBuilder") hI hq rfl rfl) rfl rfl hl.1 rfl (ga_room (Nat.le_of_ble_eq_true rfl)) dJ5_appendNull_21 ⟨Nat.le_trans (Nat.add_le_add_left (Nat.zero_le _) _) hbc, Nat.le_trans (Nat.add_le_add_left (Nat.zero_le _) _) hbs⟩) hI hbc hbs (Nat.zero_le _) (Nat.zero_le _) (fun r_13 h_12 H locs cells slots hw hI hbc hbs => ?_)
  refine lv_if_eq (tgt := 62) hx hb dJ5_appendNull_24 (by decide) (fun hc_14 => ?_) (fun hc_14 => ?_)
  · have hw := hw.1 hc_14
    exact hw.elim
  · have hw := hw.2 hc_14
    refine ga_aload_n hx hb dJ5_appendNull_27 rfl (lv_at hl 0 rfl) ?_
    refine lv_iload_n hx hb dJ5_appendNull_28 rfl (lv_at hl 1 rfl) ?_
    refine lv_iinc (v := v_8 + (1 : Int32)) (lv' := [(1, .int (v_8 + (1 : Int32))), (2, va_rf v_10), (0, .ref p0)]) hx hb dJ5_appendNull_29 hl (k := 1) rfl rfl (by decide) rfl (fun ls hl => ?_)
    refine lv_bipush (v := 110) hx hb dJ5_appendNull_32 (by decide) ?_
    obtain ⟨a_15, ea_15, hw⟩ := hw
    rewrite [ea_15]
    obtain ⟨n_16, f_17, hq, hi, hw⟩ := hw
    refine ga_stb hx hb hI hq hi dJ5_appendNull_34 (fun H locs hI => ?_)
    obtain ⟨h_18, eh_18⟩ : ∃ z, z = ga_set h_12 a_15 (ga_Ab n_16 (upd f_17 v_8.toNatClampNeg (vp_nar .byte (110 : Int32)))) := ⟨_, rfl⟩
    rw [← eh_18] at hI
    have hw := hw h_18 eh_18
    refine ga_aload_n hx hb dJ5_appendNull_35 rfl (lv_at hl 1 rfl) ?_
    refine lv_iload_n hx hb dJ5_appendNull_36 rfl (lv_at hl 0 rfl) ?_
    refine lv_iinc (v := (v_8 + (1 : Int32)) + (1 : Int32)) (lv' := [(1, .int ((v_8 + (1 : Int32)) + (1 : Int32))), (2, va_rf v_10), (0, .ref p0)]) hx hb dJ5_appendNull_37 hl (k := 0) rfl rfl (by decide) rfl (fun ls hl => ?_)
    refine lv_bipush (v := 117) hx hb dJ5_appendNull_40 (by decide) ?_
    obtain ⟨a_19, ea_19, hw⟩ := hw
    rewrite [ea_19]
    obtain ⟨n_20, f_21, hq, hi, hw⟩ := hw
    refine ga_stb hx hb hI hq hi dJ5_appendNull_42 (fun H locs hI => ?_)
    obtain ⟨h_22, eh_22⟩ : ∃ z, z = ga_set h_18 a_19 (ga_Ab n_20 (upd f_21 (v_8 + (1 : Int32)).toNatClampNeg (vp_nar .byte (117 : Int32)))) := ⟨_, rfl⟩
    rw [← eh_22] at hI
    have hw := hw h_22 eh_22
    refine ga_aload_n hx hb dJ5_appendNull_43 rfl (lv_at hl 1 rfl) ?_
    refine lv_iload_n hx hb dJ5_appendNull_44 rfl (lv_at hl 0 rfl) ?_
    refine lv_iinc (v := ((v_8 + (1 : Int32)) + (1 : Int32)) + (1 : Int32)) (lv' := [(1, .int (((v_8 + (1 : Int32)) + (1 : Int32)) + (1 : Int32))), (2, va_rf v_10), (0, .ref p0)]) hx hb dJ5_appendNull_45 hl (k := 0) rfl rfl (by decide) rfl (fun ls hl => ?_)
    refine lv_bipush (v := 108) hx hb dJ5_appendNull_48 (by decide) ?_
    obtain ⟨a_23, ea_23, hw⟩ := hw
    rewrite [ea_23]
    obtain ⟨n_24, f_25, hq, hi, hw⟩ := hw
    refine ga_stb hx hb hI hq hi dJ5_appendNull_50 (fun H locs hI => ?_)
    obtain ⟨h_26, eh_26⟩ : ∃ z, z = ga_set h_22 a_23 (ga_Ab n_24 (upd f_25 ((v_8 + (1 : Int32)) + (1 : Int32)).toNatClampNeg (vp_nar .byte (108 : Int32)))) := ⟨_, rfl⟩
    rw [← eh_26] at hI
    have hw := hw h_26 eh_26
    refine ga_aload_n hx hb dJ5_appendNull_51 rfl (lv_at hl 1 rfl) ?_
    refine lv_iload_n hx hb dJ5_appendNull_52 rfl (lv_at hl 0 rfl) ?_
    refine lv_iinc (v := (((v_8 + (1 : Int32)) + (1 : Int32)) + (1 : Int32)) + (1 : Int32)) (lv' := [(1, .int ((((v_8 + (1 : Int32)) + (1 : Int32)) + (1 : Int32)) + (1 : Int32))), (2, va_rf v_10), (0, .ref p0)]) hx hb dJ5_appendNull_53 hl (k := 0) rfl rfl (by decide) rfl (fun ls hl => ?_)
    refine lv_bipush (v := 108) hx hb dJ5_appendNull_56 (by decide) ?_
    obtain ⟨a_27, ea_27, hw⟩ := hw
    rewrite [ea_27]
    obtain ⟨n_28, f_29, hq, hi, hw⟩ := hw
    refine ga_stb hx hb hI hq hi dJ5_appendNull_58 (fun H locs hI => ?_)
    obtain ⟨h_30, eh_30⟩ : ∃ z, z = ga_set h_26 a_27 (ga_Ab n_28 (upd f_29 (((v_8 + (1 : Int32)) + (1 : Int32)) + (1 : Int32)).toNatClampNeg (vp_nar .byte (108 : Int32)))) := ⟨_, rfl⟩
    rw [← eh_30] at hI
    have hw := hw h_30 eh_30
    refine lv_goto (tgt := 76) hx hb dJ5_appendNull_59 (by decide) ?_
    refine lv_aload_n hx hb dJ5_appendNull_76 rfl (lv_at hl 2 rfl) ?_
    refine lv_iload_n hx hb dJ5_appendNull_77 rfl (lv_at hl 0 rfl) ?_
    obtain ⟨fs_31, hq, hk, hw⟩ := hw
    refine ga_put (ci := 22) (T := TJ6) (v := .int ((((v_8 + (1 : Int32)) + (1 : Int32)) + (1 : Int32)) + (1 : Int32))) (ty := tyJ6 3) hx hb hts hown hI in_J6 rfl tyJ6 tyJ6_ok nmJ6 3 (by decide) q375 (fun _ z => z) rfl (tyJ6_ok 3 (by decide)) rfl rfl hq hk dJ5_appendNull_78 (fun H locs hI => ?_)
    obtain ⟨h_32, eh_32⟩ : ∃ z, z = ga_set h_30 p0 (ga_O 22 (fs_31.set 3 (.int ((((v_8 + (1 : Int32)) + (1 : Int32)) + (1 : Int32)) + (1 : Int32))))) := ⟨_, rfl⟩
    rw [← eh_32] at hI
    have hw := hw h_32 eh_32
    refine lv_aload_n hx hb dJ5_appendNull_81 rfl (lv_at hl 2 rfl) ?_
    exact ga_qret (v := (some p0)) hx hb hr (Or.inl ⟨_, rfl⟩) hlk hI hw (Nat.le_trans (Nat.le_add_right _ _) hbc) (Nat.le_trans (Nat.le_add_right _ _) hbs) dJ5_appendNull_82
theorem hdG_J5_appendNull : yJ5_appendNull.cls ≠ "java/lang/invoke/MethodHandle" ∧ yJ5_appendNull.cls ≠ "java/lang/invoke/VarHandle" ∧ (parseMethodDescriptor yJ5_appendNull.desc).map (fun d => d.parameters.length) = some 0 := by decide +kernel
def gw_J7_coder (K : ga_K) (p0 : Nat) (h : ga_H) (post : Int32 → ga_H → Prop) : Prop :=
  ∃ (fs_2 : List Value) (v_3 : Int32), ga_at K h p0 (ga_O 23 fs_2) ∧ fs_2[1]? = some (.int v_3) ∧ (zt_nar .byte v_3 ∧ post v_3 h)
set_option maxHeartbeats 4000000 in
theorem gm_J7_coder (l : Launch) (g : ga_G) (p0 : Nat) (h : ga_H) (post : Int32 → ga_H → Prop) (hw : gw_J7_coder g.2.2 p0 h post) : Met l yJ7_coder (ws_ yJ7_coder cJ7_coder 1 (some .byte)) ({ frames := 8, cells := 0, slots := 0, locals := 140 } : Room) (va_Pc [.ref p0] (ga_B g h)) (va_Qi post (ga_E g) (ga_A g)) 0 0 (ga_A g) := by
  refine ga_met (own := "java/lang/String") (nm := "coder") (by decide) rfl rfl (by exact Nat.le_of_ble_eq_true rfl) (fun p e s m below meth c ls hC hI hl => ?_)
  have hl : lv_has ls 1 [(0, .ref p0)] := hl
  generalize ([.ref p0] : List Value).toArray = args at hC ⊢
  obtain ⟨hx, hb, hml, hown, hts, hr, hlk, hnm⟩ := hC
  unfold gw_J7_coder at hw
  obtain ⟨H, eH⟩ : ∃ z, z = s.heap := ⟨_, rfl⟩
  obtain ⟨locs, elo⟩ : ∃ z : List Loc, z = [] := ⟨_, rfl⟩
  rw [← eH, ← elo] at hI ⊢
  obtain ⟨cells, slots, hbc, hbs, e0, e1⟩ : ∃ a b : Nat, a ≤ 0 ∧ b ≤ 0 ∧ a = 0 ∧ b = 0 := ⟨0, 0, by omega, by omega, rfl, rfl⟩
  show W p l e ({ frames := 8, cells := 0, slots := 0, locals := 140 } : Room) s m args below meth c H locs 0 0 (MQ below (va_Qi post (ga_E g) (ga_A g)) args s 0 0 (ga_A g)) (F0 m 0 ls [])
  suffices hgoal : W p l e ({ frames := 8, cells := 0, slots := 0, locals := 140 } : Room) s m args below meth c H locs cells slots (MQ below (va_Qi post (ga_E g) (ga_A g)) args s 0 0 (ga_A g)) (F0 m 0 ls []) by rw [e0, e1] at hgoal; exact hgoal
  refine ga_sget (v := .int (1 : Int32)) hx hb hts hown hI 1 rfl q955 (fun _ z => z) dJ7_coder_0 ?_
  refine lv_if_eq (tgt := 13) hx hb dJ7_coder_3 (by decide) (fun hc_1 => by first | exact absurd hc_1 (by decide) | exact absurd (by decide) hc_1) (fun _ => ?_)
  refine lv_aload_n hx hb dJ7_coder_6 rfl (lv_at hl 0 rfl) ?_
  obtain ⟨fs_2, v_3, hq, hv, hw⟩ := hw
  refine ga_get (ci := 23) (T := TJ7) (v := .int v_3) hx hb hts hown hI in_J7 rfl 1 (by decide) q1095 (fun _ z => z) hq hv dJ7_coder_7 ?_
  refine lv_goto (tgt := 14) hx hb dJ7_coder_10 (by decide) ?_
  exact ga_iret hx hb hr hw.1 hlk hI hw.2 hbc hbs dJ7_coder_14
theorem hdG_J7_coder : yJ7_coder.cls ≠ "java/lang/invoke/MethodHandle" ∧ yJ7_coder.cls ≠ "java/lang/invoke/VarHandle" ∧ (parseMethodDescriptor yJ7_coder.desc).map (fun d => d.parameters.length) = some 0 := by decide +kernel
def gw_J7_length (K : ga_K) (p0 : Nat) (h : ga_H) (post : Int32 → ga_H → Prop) : Prop :=
  ∃ (fs_1 : List Value) (v_2 : Option Nat), ga_at K h p0 (ga_O 23 fs_1) ∧ fs_1[0]? = some (va_rf v_2) ∧ (∃ a_3 : Nat, v_2 = some a_3 ∧ ∃ (n_4 : Nat) (f_5 : Nat → Int32), ga_at K h a_3 (ga_Ab n_4 f_5) ∧ (∃ fs_6 : List Value, ga_at K h p0 (ga_O 23 fs_6) ∧ gw_J7_coder K p0 h (fun (r_8 : Int32) (h_7 : ga_H) => post ((nI n_4) >>> (r_8 &&& 31)) h_7)))
set_option maxHeartbeats 4000000 in
theorem gm_J7_length (l : Launch) (g : ga_G) (p0 : Nat) (h : ga_H) (post : Int32 → ga_H → Prop) (hw : gw_J7_length g.2.2 p0 h post) : Met l yJ7_length (ws_ yJ7_length cJ7_length 1 (some .int)) ({ frames := 9, cells := 0, slots := 0, locals := 160 } : Room) (va_Pc [.ref p0] (ga_B g h)) (va_Qi post (ga_E g) (ga_A g)) 0 0 (ga_A g) := by
  refine ga_met (own := "java/lang/String") (nm := "length") (by decide) rfl rfl (by exact Nat.le_of_ble_eq_true rfl) (fun p e s m below meth c ls hC hI hl => ?_)
  have hl : lv_has ls 1 [(0, .ref p0)] := hl
  generalize ([.ref p0] : List Value).toArray = args at hC ⊢
  obtain ⟨hx, hb, hml, hown, hts, hr, hlk, hnm⟩ := hC
  unfold gw_J7_length at hw
  obtain ⟨H, eH⟩ : ∃ z, z = s.heap := ⟨_, rfl⟩
  obtain ⟨locs, elo⟩ : ∃ z : List Loc, z = [] := ⟨_, rfl⟩
  rw [← eH, ← elo] at hI ⊢
  obtain ⟨cells, slots, hbc, hbs, e0, e1⟩ : ∃ a b : Nat, a ≤ 0 ∧ b ≤ 0 ∧ a = 0 ∧ b = 0 := ⟨0, 0, by omega, by omega, rfl, rfl⟩
  show W p l e ({ frames := 9, cells := 0, slots := 0, locals := 160 } : Room) s m args below meth c H locs 0 0 (MQ below (va_Qi post (ga_E g) (ga_A g)) args s 0 0 (ga_A g)) (F0 m 0 ls [])
  suffices hgoal : W p l e ({ frames := 9, cells := 0, slots := 0, locals := 160 } : Room) s m args below meth c H locs cells slots (MQ below (va_Qi post (ga_E g) (ga_A g)) args s 0 0 (ga_A g)) (F0 m 0 ls []) by rw [e0, e1] at hgoal; exact hgoal
  refine lv_aload_n hx hb dJ7_length_0 rfl (lv_at hl 0 rfl) ?_
  obtain ⟨fs_1, v_2, hq, hv, hw⟩ := hw
  refine ga_get (ci := 23) (T := TJ7) (v := va_rf v_2) hx hb hts hown hI in_J7 rfl 0 (by decide) q1094 (fun _ z => z) hq hv dJ7_length_1 ?_
  obtain ⟨a_3, ea_3, hw⟩ := hw
  rewrite [ea_3]
  obtain ⟨n_4, f_5, hq, hw⟩ := hw
  refine ga_len hx hb hI hq rfl dJ7_length_4 ?_
  refine lv_aload_n hx hb dJ7_length_5 rfl (lv_at hl 0 rfl) ?_
  obtain ⟨fs_6, hq, hw⟩ := hw
  refine ga_calli (va_runV (As := []) (rest := [.int (nI n_4)]) ⟨hx, hb, hml, hown, hts⟩ (gm_J7_coder l g p0 h _ hw) (cwV 0 hts (lw_V q951 q952 q953 q111 q954) rfl rfl rfl ⟨rfl, hdG_J7_coder⟩ ⟨Nat.le_of_ble_eq_true rfl, Nat.le_of_ble_eq_true rfl⟩) (ga_preV hI hq rfl rfl) rfl rfl hl.1 rfl (ga_room (Nat.le_of_ble_eq_true rfl)) dJ7_length_6 ⟨hbc, hbs⟩) hI (bc := 0) (bs := 0) hbc hbs (Nat.zero_le _) (Nat.zero_le _) (fun r_8 h_7 H locs cells slots hw hI hbc hbs => ?_)
  refine lv_ishr hx hb dJ7_length_9 ?_
  exact ga_iret hx hb hr rfl hlk hI hw hbc hbs dJ7_length_10
theorem hdG_J7_length : yJ7_length.cls ≠ "java/lang/invoke/MethodHandle" ∧ yJ7_length.cls ≠ "java/lang/invoke/VarHandle" ∧ (parseMethodDescriptor yJ7_length.desc).map (fun d => d.parameters.length) = some 0 := by decide +kernel
def gw_J5_inflateIfNeededFor (K : ga_K) (p0 : Nat) (p1 : Option Nat) (h : ga_H) (post : ga_H → Prop) : Prop :=
  ∃ (fs_2 : List Value) (v_3 : Int32), h p0 = some (ga_O 22 fs_2) ∧ fs_2[1]? = some (.int v_3) ∧ (∃ a_4 : Nat, p1 = some a_4 ∧ ∃ fs_5 : List Value, ga_at K h a_4 (ga_O 23 fs_5) ∧ gw_J7_coder K a_4 h (fun (r_7 : Int32) (h_6 : ga_H) => (v_3 = r_7 → (post h_6)) ∧ (¬ v_3 = r_7 → False)))
set_option maxHeartbeats 4000000 in
theorem gm_J5_inflateIfNeededFor (l : Launch) (g : ga_G) (p0 : Nat) (p1 : Option Nat) (h : ga_H) (post : ga_H → Prop) (hw : gw_J5_inflateIfNeededFor g.2.2 p0 p1 h post) : Met l yJ5_inflateIfNeededFor (ws_ yJ5_inflateIfNeededFor cJ5_inflateIfNeededFor 2 none) ({ frames := 9, cells := 0, slots := 0, locals := 160 } : Room) (va_Pc [.ref p0, va_rf p1] (ga_B g h)) (va_Qv post (ga_E g) (ga_A g)) 0 0 (ga_A g) := by
  refine ga_met (own := "java/lang/AbstractStringBuilder") (nm := "inflateIfNeededFor") (by decide) rfl rfl (by cases p1 <;> exact Nat.le_of_ble_eq_true rfl) (fun p e s m below meth c ls hC hI hl => ?_)
  have hl : lv_has ls 2 [(0, .ref p0), (1, va_rf p1)] := (by cases p1 <;> exact hl)
  generalize ([.ref p0, va_rf p1] : List Value).toArray = args at hC ⊢
  obtain ⟨hx, hb, hml, hown, hts, hr, hlk, hnm⟩ := hC
  unfold gw_J5_inflateIfNeededFor at hw
  obtain ⟨H, eH⟩ : ∃ z, z = s.heap := ⟨_, rfl⟩
  obtain ⟨locs, elo⟩ : ∃ z : List Loc, z = [] := ⟨_, rfl⟩
  rw [← eH, ← elo] at hI ⊢
  obtain ⟨cells, slots, hbc, hbs, e0, e1⟩ : ∃ a b : Nat, a ≤ 0 ∧ b ≤ 0 ∧ a = 0 ∧ b = 0 := ⟨0, 0, by omega, by omega, rfl, rfl⟩
  show W p l e ({ frames := 9, cells := 0, slots := 0, locals := 160 } : Room) s m args below meth c H locs 0 0 (MQ below (va_Qv post (ga_E g) (ga_A g)) args s 0 0 (ga_A g)) (F0 m 0 ls [])
  suffices hgoal : W p l e ({ frames := 9, cells := 0, slots := 0, locals := 160 } : Room) s m args below meth c H locs cells slots (MQ below (va_Qv post (ga_E g) (ga_A g)) args s 0 0 (ga_A g)) (F0 m 0 ls []) by rw [e0, e1] at hgoal; exact hgoal
  refine ga_sget (v := .int (1 : Int32)) hx hb hts hown hI 1 rfl q362 (fun _ z => z) dJ5_inflateIfNeededFor_0 ?_
  refine lv_if_eq (tgt := 21) hx hb dJ5_inflateIfNeededFor_3 (by decide) (fun hc_1 => by first | exact absurd hc_1 (by decide) | exact absurd (by decide) hc_1) (fun _ => ?_)
  refine lv_aload_n hx hb dJ5_inflateIfNeededFor_6 rfl (lv_at hl 0 rfl) ?_
  obtain ⟨fs_2, v_3, hq, hv, hw⟩ := hw
  refine ga_get (ci := 22) (T := TJ6) (v := .int v_3) hx hb hts hown hI in_J6 rfl 1 (by decide) q372 (fun _ z => z) (ga_at.h hq) hv dJ5_inflateIfNeededFor_7 ?_
  refine ga_aload_n hx hb dJ5_inflateIfNeededFor_10 rfl (lv_at hl 1 rfl) ?_
  obtain ⟨a_4, ea_4, hw⟩ := hw
  rewrite [ea_4]
  obtain ⟨fs_5, hq, hw⟩ := hw
  refine ga_calli (va_runV (As := []) (rest := [.int v_3]) ⟨hx, hb, hml, hown, hts⟩ (gm_J7_coder l g a_4 h _ hw) (cwV 0 hts (lw_V q964 q952 q953 q111 q954) rfl rfl rfl ⟨rfl, hdG_J7_coder⟩ ⟨Nat.le_of_ble_eq_true rfl, Nat.le_of_ble_eq_true rfl⟩) (ga_preV hI hq rfl rfl) rfl rfl hl.1 rfl (ga_room (Nat.le_of_ble_eq_true rfl)) dJ5_inflateIfNeededFor_11 ⟨hbc, hbs⟩) hI (bc := 0) (bs := 0) hbc hbs (Nat.zero_le _) (Nat.zero_le _) (fun r_7 h_6 H locs cells slots hw hI hbc hbs => ?_)
  refine lv_icmp_eq (tgt := 21) hx hb dJ5_inflateIfNeededFor_14 (by decide) (fun hc_8 => ?_) (fun hc_8 => ?_)
  · have hw := hw.1 hc_8
    exact ga_vret hx hb hr hlk hI hw hbc hbs dJ5_inflateIfNeededFor_21
  · have hw := hw.2 hc_8
    exact hw.elim
theorem hdG_J5_inflateIfNeededFor : yJ5_inflateIfNeededFor.cls ≠ "java/lang/invoke/MethodHandle" ∧ yJ5_inflateIfNeededFor.cls ≠ "java/lang/invoke/VarHandle" ∧ (parseMethodDescriptor yJ5_inflateIfNeededFor.desc).map (fun d => d.parameters.length) = some 1 := by decide +kernel
def gw_J28_inflate (K : ga_K) (p0 : Option Nat) (p1 : Int32) (p2 : Option Nat) (p3 : Int32) (p4 : Int32) (h : ga_H) (post : ga_H → Prop) : Prop :=
  False
set_option maxHeartbeats 4000000 in
theorem gm_J28_inflate (l : Launch) (g : ga_G) (p0 : Option Nat) (p1 : Int32) (p2 : Option Nat) (p3 : Int32) (p4 : Int32) (h : ga_H) (post : ga_H → Prop) (hw : gw_J28_inflate g.2.2 p0 p1 p2 p3 p4 h post) : Met l yJ28_inflate (ws_ yJ28_inflate cJ28_inflate 5 none) ({ frames := 8, cells := 0, slots := 0, locals := 140 } : Room) (va_Pc [va_rf p0, .int p1, va_rf p2, .int p3, .int p4] (ga_B g h)) (va_Qv post (ga_E g) (ga_A g)) 0 0 (ga_A g) := by
  refine ga_met (own := "java/lang/StringLatin1") (nm := "inflate") (by decide) rfl rfl (by cases p0 <;> cases p2 <;> exact Nat.le_of_ble_eq_true rfl) (fun p e s m below meth c ls hC hI hl => ?_)
  have hl : lv_has ls 5 [(0, va_rf p0), (1, .int p1), (2, va_rf p2), (3, .int p3), (4, .int p4)] := (by cases p0 <;> cases p2 <;> exact hl)
  generalize ([va_rf p0, .int p1, va_rf p2, .int p3, .int p4] : List Value).toArray = args at hC ⊢
  obtain ⟨hx, hb, hml, hown, hts, hr, hlk, hnm⟩ := hC
  unfold gw_J28_inflate at hw
  obtain ⟨H, eH⟩ : ∃ z, z = s.heap := ⟨_, rfl⟩
  obtain ⟨locs, elo⟩ : ∃ z : List Loc, z = [] := ⟨_, rfl⟩
  rw [← eH, ← elo] at hI ⊢
  obtain ⟨cells, slots, hbc, hbs, e0, e1⟩ : ∃ a b : Nat, a ≤ 0 ∧ b ≤ 0 ∧ a = 0 ∧ b = 0 := ⟨0, 0, by omega, by omega, rfl, rfl⟩
  show W p l e ({ frames := 8, cells := 0, slots := 0, locals := 140 } : Room) s m args below meth c H locs 0 0 (MQ below (va_Qv post (ga_E g) (ga_A g)) args s 0 0 (ga_A g)) (F0 m 0 ls [])
  suffices hgoal : W p l e ({ frames := 8, cells := 0, slots := 0, locals := 140 } : Room) s m args below meth c H locs cells slots (MQ below (va_Qv post (ga_E g) (ga_A g)) args s 0 0 (ga_A g)) (F0 m 0 ls []) by rw [e0, e1] at hgoal; exact hgoal
  exact hw.elim
theorem hdG_J28_inflate : yJ28_inflate.cls ≠ "java/lang/invoke/MethodHandle" ∧ yJ28_inflate.cls ≠ "java/lang/invoke/VarHandle" ∧ (parseMethodDescriptor yJ28_inflate.desc).map (fun d => d.parameters.length) = some 5 := by decide +kernel
def gw_J7_getBytes (K : ga_K) (p0 : Nat) (p1 : Option Nat) (p2 : Int32) (p3 : Int32) (h : ga_H) (post : ga_H → Prop) : Prop :=
  ∃ fs_1 : List Value, ga_at K h p0 (ga_O 23 fs_1) ∧ gw_J7_coder K p0 h (fun (r_3 : Int32) (h_2 : ga_H) => (¬ r_3 = p3 → (∃ (fs_5 : List Value) (v_6 : Option Nat), ga_at K h_2 p0 (ga_O 23 fs_5) ∧ fs_5[0]? = some (va_rf v_6) ∧ (∃ (fs_7 : List Value) (v_8 : Option Nat), ga_at K h_2 p0 (ga_O 23 fs_7) ∧ fs_7[0]? = some (va_rf v_8) ∧ (∃ a_9 : Nat, v_8 = some a_9 ∧ ∃ (n_10 : Nat) (f_11 : Nat → Int32), ga_at K h_2 a_9 (ga_Ab n_10 f_11) ∧ (gw_J28_inflate K v_6 (0 : Int32) p1 p2 (nI n_10) h_2 (fun (h_12 : ga_H) => post h_12)))))) ∧ (r_3 = p3 → (∃ (fs_13 : List Value) (v_14 : Option Nat), ga_at K h_2 p0 (ga_O 23 fs_13) ∧ fs_13[0]? = some (va_rf v_14) ∧ (∃ (fs_15 : List Value) (v_16 : Option Nat), ga_at K h_2 p0 (ga_O 23 fs_15) ∧ fs_15[0]? = some (va_rf v_16) ∧ (∃ a_17 : Nat, v_16 = some a_17 ∧ ∃ (n_18 : Nat) (f_19 : Nat → Int32), ga_at K h_2 a_17 (ga_Ab n_18 f_19) ∧ (∃ a_20 : Nat, v_14 = some a_20 ∧ ∃ a_21 : Nat, p1 = some a_21 ∧ ∃ (n_22 : Nat) (f_23 : Nat → Int32) (n_24 : Nat) (f_25 : Nat → Int32), ga_at K h_2 a_20 (ga_Ab n_22 f_23) ∧ h_2 a_21 = some (ga_Ab n_24 f_25) ∧ ¬ (0 : Int32) < 0 ∧ ¬ (p2 <<< (p3 &&& 31)) < 0 ∧ ¬ (nI n_18) < 0 ∧ (0 : Int32).toNatClampNeg + (nI n_18).toNatClampNeg ≤ n_22 ∧ (p2 <<< (p3 &&& 31)).toNatClampNeg + (nI n_18).toNatClampNeg ≤ n_24 ∧ (∀ i : Nat, i < (nI n_18).toNatClampNeg → fits .byte (.int (f_23 ((0 : Int32).toNatClampNeg + i))) = true) ∧ ∀ h_26 : ga_H, h_26 = ga_set h_2 a_21 (ga_Ab n_24 (va_cpy f_23 f_25 (0 : Int32).toNatClampNeg (p2 <<< (p3 &&& 31)).toNatClampNeg (nI n_18).toNatClampNeg)) → (post h_26)))))))
set_option maxHeartbeats 4000000 in
theorem gm_J7_getBytes (l : Launch) (g : ga_G) (p0 : Nat) (p1 : Option Nat) (p2 : Int32) (p3 : Int32) (h : ga_H) (post : ga_H → Prop) (hw : gw_J7_getBytes g.2.2 p0 p1 p2 p3 h post) : Met l yJ7_getBytes (ws_ yJ7_getBytes cJ7_getBytes 4 none) ({ frames := 9, cells := 0, slots := 0, locals := 164 } : Room) (va_Pc [.ref p0, va_rf p1, .int p2, .int p3] (ga_B g h)) (va_Qv post (ga_E g) (ga_A g)) 0 0 (ga_A g) := by
  refine ga_met (own := "java/lang/String") (nm := "getBytes") (by decide) rfl rfl (by cases p1 <;> exact Nat.le_of_ble_eq_true rfl) (fun p e s m below meth c ls hC hI hl => ?_)
  have hl : lv_has ls 4 [(0, .ref p0), (1, va_rf p1), (2, .int p2), (3, .int p3)] := (by cases p1 <;> exact hl)
  generalize ([.ref p0, va_rf p1, .int p2, .int p3] : List Value).toArray = args at hC ⊢
  obtain ⟨hx, hb, hml, hown, hts, hr, hlk, hnm⟩ := hC
  unfold gw_J7_getBytes at hw
  obtain ⟨H, eH⟩ : ∃ z, z = s.heap := ⟨_, rfl⟩
  obtain ⟨locs, elo⟩ : ∃ z : List Loc, z = [] := ⟨_, rfl⟩
  rw [← eH, ← elo] at hI ⊢
  obtain ⟨cells, slots, hbc, hbs, e0, e1⟩ : ∃ a b : Nat, a ≤ 0 ∧ b ≤ 0 ∧ a = 0 ∧ b = 0 := ⟨0, 0, by omega, by omega, rfl, rfl⟩
  show W p l e ({ frames := 9, cells := 0, slots := 0, locals := 164 } : Room) s m args below meth c H locs 0 0 (MQ below (va_Qv post (ga_E g) (ga_A g)) args s 0 0 (ga_A g)) (F0 m 0 ls [])
  suffices hgoal : W p l e ({ frames := 9, cells := 0, slots := 0, locals := 164 } : Room) s m args below meth c H locs cells slots (MQ below (va_Qv post (ga_E g) (ga_A g)) args s 0 0 (ga_A g)) (F0 m 0 ls []) by rw [e0, e1] at hgoal; exact hgoal
  refine lv_aload_n hx hb dJ7_getBytes_0 rfl (lv_at hl 0 rfl) ?_
  obtain ⟨fs_1, hq, hw⟩ := hw
  refine ga_calli (va_runV (As := []) (rest := []) ⟨hx, hb, hml, hown, hts⟩ (gm_J7_coder l g p0 h _ hw) (cwV 0 hts (lw_V q951 q952 q953 q111 q954) rfl rfl rfl ⟨rfl, hdG_J7_coder⟩ ⟨Nat.le_of_ble_eq_true rfl, Nat.le_of_ble_eq_true rfl⟩) (ga_preV hI hq rfl rfl) rfl rfl hl.1 rfl (ga_room (Nat.le_of_ble_eq_true rfl)) dJ7_getBytes_1 ⟨hbc, hbs⟩) hI (bc := 0) (bs := 0) hbc hbs (Nat.zero_le _) (Nat.zero_le _) (fun r_3 h_2 H locs cells slots hw hI hbc hbs => ?_)
  refine lv_iload_n hx hb dJ7_getBytes_4 rfl (lv_at hl 3 rfl) ?_
  refine lv_icmp_ne (tgt := 28) hx hb dJ7_getBytes_5 (by decide) (fun hc_4 => ?_) (fun hc_4 => ?_)
  · have hw := hw.1 hc_4
    refine lv_aload_n hx hb dJ7_getBytes_28 rfl (lv_at hl 0 rfl) ?_
    obtain ⟨fs_5, v_6, hq, hv, hw⟩ := hw
    refine ga_get (ci := 23) (T := TJ7) (v := va_rf v_6) hx hb hts hown hI in_J7 rfl 0 (by decide) q1094 (fun _ z => z) hq hv dJ7_getBytes_29 ?_
    refine lv_iconst (v := 0) hx hb dJ7_getBytes_32 (by decide) ?_
    refine ga_aload_n hx hb dJ7_getBytes_33 rfl (lv_at hl 1 rfl) ?_
    refine lv_iload_n hx hb dJ7_getBytes_34 rfl (lv_at hl 2 rfl) ?_
    refine lv_aload_n hx hb dJ7_getBytes_35 rfl (lv_at hl 0 rfl) ?_
    obtain ⟨fs_7, v_8, hq, hv, hw⟩ := hw
    refine ga_get (ci := 23) (T := TJ7) (v := va_rf v_8) hx hb hts hown hI in_J7 rfl 0 (by decide) q1094 (fun _ z => z) hq hv dJ7_getBytes_36 ?_
    obtain ⟨a_9, ea_9, hw⟩ := hw
    rewrite [ea_9]
    obtain ⟨n_10, f_11, hq, hw⟩ := hw
    refine ga_len hx hb hI hq rfl dJ7_getBytes_39 ?_
    refine ga_callv (va_runS (As := [va_rf v_6, .int (0 : Int32), va_rf p1, .int p2, .int (nI n_10)]) (rest := []) ⟨hx, hb, hml, hown, hts⟩ (gm_J28_inflate l g v_6 (0 : Int32) p1 p2 (nI n_10) h_2 _ hw) (va_cwS 5 hts (lw_S q989 q970 q134 q971) rfl rfl rfl hdG_J28_inflate ⟨Nat.le_of_ble_eq_true rfl, Nat.le_of_ble_eq_true rfl⟩) (ga_preS hI rfl) rfl rfl hl.1 rfl (ga_room (Nat.le_of_ble_eq_true rfl)) dJ7_getBytes_40 ⟨hbc, hbs⟩) hI (bc := 0) (bs := 0) hbc hbs (Nat.zero_le _) (Nat.zero_le _) (fun h_12 H locs cells slots hw hI hbc hbs => ?_)
    exact ga_vret hx hb hr hlk hI hw hbc hbs dJ7_getBytes_43
  · have hw := hw.2 hc_4
    refine lv_aload_n hx hb dJ7_getBytes_8 rfl (lv_at hl 0 rfl) ?_
    obtain ⟨fs_13, v_14, hq, hv, hw⟩ := hw
    refine ga_get (ci := 23) (T := TJ7) (v := va_rf v_14) hx hb hts hown hI in_J7 rfl 0 (by decide) q1094 (fun _ z => z) hq hv dJ7_getBytes_9 ?_
    refine lv_iconst (v := 0) hx hb dJ7_getBytes_12 (by decide) ?_
    refine ga_aload_n hx hb dJ7_getBytes_13 rfl (lv_at hl 1 rfl) ?_
    refine lv_iload_n hx hb dJ7_getBytes_14 rfl (lv_at hl 2 rfl) ?_
    refine lv_iload_n hx hb dJ7_getBytes_15 rfl (lv_at hl 3 rfl) ?_
    refine lv_ishl hx hb dJ7_getBytes_16 ?_
    refine lv_aload_n hx hb dJ7_getBytes_17 rfl (lv_at hl 0 rfl) ?_
    obtain ⟨fs_15, v_16, hq, hv, hw⟩ := hw
    refine ga_get (ci := 23) (T := TJ7) (v := va_rf v_16) hx hb hts hown hI in_J7 rfl 0 (by decide) q1094 (fun _ z => z) hq hv dJ7_getBytes_18 ?_
    obtain ⟨a_17, ea_17, hw⟩ := hw
    rewrite [ea_17]
    obtain ⟨n_18, f_19, hq, hw⟩ := hw
    refine ga_len hx hb hI hq rfl dJ7_getBytes_21 ?_
    obtain ⟨a_20, ea_20, hw⟩ := hw
    rewrite [ea_20]
    obtain ⟨a_21, ea_21, hw⟩ := hw
    rewrite [ea_21]
    obtain ⟨n_22, f_23, n_24, f_25, hq0, hq1, k1, k2, k3, k4, k5, k6, hw⟩ := hw
    refine ga_copyb hx hb (hml.trans hl.1.symm) hts hown q988 hI hq0 hq1 k1 k2 k3 k4 k5 k6 (Nat.le_of_ble_eq_true rfl) (Nat.le_trans (Nat.add_le_add_right (ga_sum [] (Nat.le_of_ble_eq_true rfl)) _) (show (8 : Nat) + (nativeFrameWords "java/lang/System" "arraycopy" 5 + 11) ≤ 164 by decide +kernel)) dJ7_getBytes_22 (fun H locs hI => ?_)
    obtain ⟨h_26, eh_26⟩ : ∃ z, z = ga_set h_2 a_21 (ga_Ab n_24 (va_cpy f_23 f_25 (0 : Int32).toNatClampNeg (p2 <<< (p3 &&& 31)).toNatClampNeg (nI n_18).toNatClampNeg)) := ⟨_, rfl⟩
    rw [← eh_26] at hI
    have hw := hw h_26 eh_26
    refine lv_goto (tgt := 43) hx hb dJ7_getBytes_25 (by decide) ?_
    exact ga_vret hx hb hr hlk hI hw hbc hbs dJ7_getBytes_43
theorem hdG_J7_getBytes : yJ7_getBytes.cls ≠ "java/lang/invoke/MethodHandle" ∧ yJ7_getBytes.cls ≠ "java/lang/invoke/VarHandle" ∧ (parseMethodDescriptor yJ7_getBytes.desc).map (fun d => d.parameters.length) = some 3 := by decide +kernel
def gw_J5_putStringAt (K : ga_K) (p0 : Nat) (p1 : Int32) (p2 : Option Nat) (h : ga_H) (post : ga_H → Prop) : Prop :=
  ∃ fs_1 : List Value, ga_at K h p0 (ga_O 22 fs_1) ∧ gw_J5_inflateIfNeededFor K p0 p2 h (fun (h_2 : ga_H) => ∃ (fs_3 : List Value) (v_4 : Option Nat), h_2 p0 = some (ga_O 22 fs_3) ∧ fs_3[0]? = some (va_rf v_4) ∧ (∃ (fs_5 : List Value) (v_6 : Int32), h_2 p0 = some (ga_O 22 fs_5) ∧ fs_5[1]? = some (.int v_6) ∧ (∃ a_7 : Nat, p2 = some a_7 ∧ ∃ fs_8 : List Value, ga_at K h_2 a_7 (ga_O 23 fs_8) ∧ gw_J7_getBytes K a_7 v_4 p1 v_6 h_2 (fun (h_9 : ga_H) => post h_9))))
set_option maxHeartbeats 4000000 in
theorem gm_J5_putStringAt (l : Launch) (g : ga_G) (p0 : Nat) (p1 : Int32) (p2 : Option Nat) (h : ga_H) (post : ga_H → Prop) (hw : gw_J5_putStringAt g.2.2 p0 p1 p2 h post) : Met l yJ5_putStringAt (ws_ yJ5_putStringAt cJ5_putStringAt 3 none) ({ frames := 10, cells := 0, slots := 0, locals := 187 } : Room) (va_Pc [.ref p0, .int p1, va_rf p2] (ga_B g h)) (va_Qv post (ga_E g) (ga_A g)) 0 0 (ga_A g) := by
  refine ga_met (own := "java/lang/AbstractStringBuilder") (nm := "putStringAt") (by decide) rfl rfl (by cases p2 <;> exact Nat.le_of_ble_eq_true rfl) (fun p e s m below meth c ls hC hI hl => ?_)
  have hl : lv_has ls 3 [(0, .ref p0), (1, .int p1), (2, va_rf p2)] := (by cases p2 <;> exact hl)
  generalize ([.ref p0, .int p1, va_rf p2] : List Value).toArray = args at hC ⊢
  obtain ⟨hx, hb, hml, hown, hts, hr, hlk, hnm⟩ := hC
  unfold gw_J5_putStringAt at hw
  obtain ⟨H, eH⟩ : ∃ z, z = s.heap := ⟨_, rfl⟩
  obtain ⟨locs, elo⟩ : ∃ z : List Loc, z = [] := ⟨_, rfl⟩
  rw [← eH, ← elo] at hI ⊢
  obtain ⟨cells, slots, hbc, hbs, e0, e1⟩ : ∃ a b : Nat, a ≤ 0 ∧ b ≤ 0 ∧ a = 0 ∧ b = 0 := ⟨0, 0, by omega, by omega, rfl, rfl⟩
  show W p l e ({ frames := 10, cells := 0, slots := 0, locals := 187 } : Room) s m args below meth c H locs 0 0 (MQ below (va_Qv post (ga_E g) (ga_A g)) args s 0 0 (ga_A g)) (F0 m 0 ls [])
  suffices hgoal : W p l e ({ frames := 10, cells := 0, slots := 0, locals := 187 } : Room) s m args below meth c H locs cells slots (MQ below (va_Qv post (ga_E g) (ga_A g)) args s 0 0 (ga_A g)) (F0 m 0 ls []) by rw [e0, e1] at hgoal; exact hgoal
  refine lv_aload_n hx hb dJ5_putStringAt_0 rfl (lv_at hl 0 rfl) ?_
  refine ga_aload_n hx hb dJ5_putStringAt_1 rfl (lv_at hl 2 rfl) ?_
  obtain ⟨fs_1, hq, hw⟩ := hw
  refine ga_callv (va_runU (As := [va_rf p2]) (rest := []) ⟨hx, hb, hml, hown, hts⟩ (gm_J5_inflateIfNeededFor l g p0 p2 h _ hw) (ga_cwP (C := "java/lang/StringBuilder") 1 hts hI.2.1.1.2.1 q960 q4114 q919 rfl q961 q962 q109 (lw_meth q963) rfl rfl rfl hdG_J5_inflateIfNeededFor ⟨Nat.le_of_ble_eq_true rfl, Nat.le_of_ble_eq_true rfl⟩) (ga_preV (C := "java/lang/StringBuilder") hI hq rfl rfl) rfl rfl hl.1 rfl (ga_room (Nat.le_of_ble_eq_true rfl)) dJ5_putStringAt_2 ⟨hbc, hbs⟩) hI (bc := 0) (bs := 0) hbc hbs (Nat.zero_le _) (Nat.zero_le _) (fun h_2 H locs cells slots hw hI hbc hbs => ?_)
  refine ga_aload_n hx hb dJ5_putStringAt_5 rfl (lv_at hl 2 rfl) ?_
  refine lv_aload_n hx hb dJ5_putStringAt_6 rfl (lv_at hl 0 rfl) ?_
  obtain ⟨fs_3, v_4, hq, hv, hw⟩ := hw
  refine ga_get (ci := 22) (T := TJ6) (v := va_rf v_4) hx hb hts hown hI in_J6 rfl 0 (by decide) q371 (fun _ z => z) (ga_at.h hq) hv dJ5_putStringAt_7 ?_
  refine lv_iload_n hx hb dJ5_putStringAt_10 rfl (lv_at hl 1 rfl) ?_
  refine lv_aload_n hx hb dJ5_putStringAt_11 rfl (lv_at hl 0 rfl) ?_
  obtain ⟨fs_5, v_6, hq, hv, hw⟩ := hw
  refine ga_get (ci := 22) (T := TJ6) (v := .int v_6) hx hb hts hown hI in_J6 rfl 1 (by decide) q372 (fun _ z => z) (ga_at.h hq) hv dJ5_putStringAt_12 ?_
  obtain ⟨a_7, ea_7, hw⟩ := hw
  rewrite [ea_7]
  obtain ⟨fs_8, hq, hw⟩ := hw
  refine ga_callv (va_runV (As := [va_rf v_4, .int p1, .int v_6]) (rest := []) ⟨hx, hb, hml, hown, hts⟩ (gm_J7_getBytes l g a_7 v_4 p1 v_6 h_2 _ hw) (cwV 3 hts (lw_V q984 q985 q986 q111 q987) rfl rfl rfl ⟨rfl, hdG_J7_getBytes⟩ ⟨Nat.le_of_ble_eq_true rfl, Nat.le_of_ble_eq_true rfl⟩) (ga_preV hI hq rfl rfl) rfl rfl hl.1 rfl (ga_room (Nat.le_of_ble_eq_true rfl)) dJ5_putStringAt_15 ⟨hbc, hbs⟩) hI (bc := 0) (bs := 0) hbc hbs (Nat.zero_le _) (Nat.zero_le _) (fun h_9 H locs cells slots hw hI hbc hbs => ?_)
  exact ga_vret hx hb hr hlk hI hw hbc hbs dJ5_putStringAt_18
theorem hdG_J5_putStringAt : yJ5_putStringAt.cls ≠ "java/lang/invoke/MethodHandle" ∧ yJ5_putStringAt.cls ≠ "java/lang/invoke/VarHandle" ∧ (parseMethodDescriptor yJ5_putStringAt.desc).map (fun d => d.parameters.length) = some 2 := by decide +kernel
def gw_J5_append (K : ga_K) (p0 : Nat) (p1 : Option Nat) (h : ga_H) (mc ms : Nat) (post : Option Nat → ga_H → Prop) : Prop :=
  (p1 = none → (∃ kc_20 ks_21 : Nat, kc_20 ≤ mc ∧ ks_21 ≤ ms ∧ ∃ fs_22 : List Value, ga_at K h p0 (ga_O 22 fs_22) ∧ gw_J5_appendNull K p0 h kc_20 ks_21 (fun (r_24 : Option Nat) (h_23 : ga_H) => post r_24 h_23))) ∧ (∀ a_1 : Nat, p1 = some a_1 → (∃ a_2 : Nat, p1 = some a_2 ∧ ∃ fs_3 : List Value, ga_at K h a_2 (ga_O 23 fs_3) ∧ gw_J7_length K a_2 h (fun (r_5 : Int32) (h_4 : ga_H) => ∃ (fs_6 : List Value) (v_7 : Int32), h_4 p0 = some (ga_O 22 fs_6) ∧ fs_6[3]? = some (.int v_7) ∧ (∃ kc_8 ks_9 : Nat, kc_8 ≤ mc ∧ ks_9 ≤ ms ∧ ∃ fs_10 : List Value, ga_at K h_4 p0 (ga_O 22 fs_10) ∧ gw_J5_ensureCapacityInternal K p0 (v_7 + r_5) h_4 kc_8 ks_9 (fun (h_11 : ga_H) => ∃ (fs_12 : List Value) (v_13 : Int32), h_11 p0 = some (ga_O 22 fs_12) ∧ fs_12[3]? = some (.int v_13) ∧ (∃ fs_14 : List Value, ga_at K h_11 p0 (ga_O 22 fs_14) ∧ gw_J5_putStringAt K p0 v_13 p1 h_11 (fun (h_15 : ga_H) => ∃ (fs_16 : List Value) (v_17 : Int32), h_15 p0 = some (ga_O 22 fs_16) ∧ fs_16[3]? = some (.int v_17) ∧ (∃ fs_18 : List Value, h_15 p0 = some (ga_O 22 fs_18) ∧ 3 < fs_18.length ∧ ∀ h_19 : ga_H, h_19 = ga_set h_15 p0 (ga_O 22 (fs_18.set 3 (.int (v_17 + r_5)))) → (post (some p0) h_19)))))))))
set_option maxHeartbeats 4000000 in
theorem gm_J5_append (l : Launch) (g : ga_G) (p0 : Nat) (p1 : Option Nat) (h : ga_H) (mc ms : Nat) (post : Option Nat → ga_H → Prop) (hw : gw_J5_append g.2.2 p0 p1 h mc ms post) : Met l yJ5_append (ws_ yJ5_append cJ5_append 3 (some (.object "java/lang/AbstractStringBuilder"))) ({ frames := 12, cells := mc, slots := ms, locals := 232 } : Room) (va_Pc [.ref p0, va_rf p1] (ga_B g h)) (va_Qq post (ga_E g) (ga_A g)) mc ms (ga_A g) := by
  refine ga_met (own := "java/lang/AbstractStringBuilder") (nm := "append") (by decide) rfl rfl (by cases p1 <;> exact Nat.le_of_ble_eq_true rfl) (fun p e s m below meth c ls hC hI hl => ?_)
  have hl : lv_has ls 3 [(0, .ref p0), (1, va_rf p1)] := (by cases p1 <;> exact hl)
  generalize ([.ref p0, va_rf p1] : List Value).toArray = args at hC ⊢
  obtain ⟨hx, hb, hml, hown, hts, hr, hlk, hnm⟩ := hC
  unfold gw_J5_append at hw
  obtain ⟨H, eH⟩ : ∃ z, z = s.heap := ⟨_, rfl⟩
  obtain ⟨locs, elo⟩ : ∃ z : List Loc, z = [] := ⟨_, rfl⟩
  rw [← eH, ← elo] at hI ⊢
  obtain ⟨cells, slots, hbc, hbs, e0, e1⟩ : ∃ a b : Nat, a + mc ≤ mc ∧ b + ms ≤ ms ∧ a = 0 ∧ b = 0 := ⟨0, 0, by omega, by omega, rfl, rfl⟩
  show W p l e ({ frames := 12, cells := mc, slots := ms, locals := 232 } : Room) s m args below meth c H locs 0 0 (MQ below (va_Qq post (ga_E g) (ga_A g)) args s mc ms (ga_A g)) (F0 m 0 ls [])
  suffices hgoal : W p l e ({ frames := 12, cells := mc, slots := ms, locals := 232 } : Room) s m args below meth c H locs cells slots (MQ below (va_Qq post (ga_E g) (ga_A g)) args s mc ms (ga_A g)) (F0 m 0 ls []) by rw [e0, e1] at hgoal; exact hgoal
  refine ga_aload_n hx hb dJ5_append_0 rfl (lv_at hl 1 rfl) ?_
  refine ga_ifnonnull (tgt := 9) hx hb dJ5_append_1 (by decide) (fun a_1 hc_a_1 => ?_) (fun hc_a_1 => ?_)
  · have hw := hw.2 a_1 hc_a_1
    skip
    refine ga_aload_n hx hb dJ5_append_9 rfl (lv_at hl 1 rfl) ?_
    obtain ⟨a_2, ea_2, hw⟩ := hw
    rewrite [ea_2]
    obtain ⟨fs_3, hq, hw⟩ := hw
    refine ga_calli (va_runV (As := []) (rest := []) ⟨hx, hb, hml, hown, hts⟩ (gm_J7_length l g a_2 h _ hw) (cwV 0 hts (lw_V q947 q948 q949 q111 q950) rfl rfl rfl ⟨rfl, hdG_J7_length⟩ ⟨Nat.le_of_ble_eq_true rfl, Nat.le_of_ble_eq_true rfl⟩) (ga_preV hI hq rfl rfl) rfl rfl hl.1 rfl (ga_room (Nat.le_of_ble_eq_true rfl)) dJ5_append_10 ⟨Nat.le_trans (Nat.add_le_add_left (Nat.zero_le _) _) hbc, Nat.le_trans (Nat.add_le_add_left (Nat.zero_le _) _) hbs⟩) hI hbc hbs (Nat.zero_le _) (Nat.zero_le _) (fun r_5 h_4 H locs cells slots hw hI hbc hbs => ?_)
    refine lv_istore_n (i := 2) (lv' := [(2, .int r_5), (0, .ref p0), (1, va_rf p1)]) hx hb dJ5_append_13 rfl hl (by decide) (by simp [ga_rcat, ga_cat_r, ga_cat_i, ga_cat_f, ga_cat_l, ga_cat_d]) (fun ls hl => ?_)
    refine lv_aload_n hx hb dJ5_append_14 rfl (lv_at hl 1 rfl) ?_
    refine lv_aload_n hx hb dJ5_append_15 rfl (lv_at hl 1 rfl) ?_
    obtain ⟨fs_6, v_7, hq, hv, hw⟩ := hw
    refine ga_get (ci := 22) (T := TJ6) (v := .int v_7) hx hb hts hown hI in_J6 rfl 3 (by decide) q375 (fun _ z => z) (ga_at.h hq) hv dJ5_append_16 ?_
    refine lv_iload_n hx hb dJ5_append_19 rfl (lv_at hl 0 rfl) ?_
    refine lv_iadd hx hb dJ5_append_20 ?_
    obtain ⟨kc_8, ks_9, hk1, hk2, hw⟩ := hw
    obtain ⟨fs_10, hq, hw⟩ := hw
    refine ga_callv (va_runU (As := [.int (v_7 + r_5)]) (rest := []) ⟨hx, hb, hml, hown, hts⟩ (gm_J5_ensureCapacityInternal l g p0 (v_7 + r_5) h_4 kc_8 ks_9 _ hw) (ga_cwP (C := "java/lang/StringBuilder") 1 hts hI.2.1.1.2.1 q887 q4111 q919 rfl q888 q889 q109 (lw_meth q890) rfl rfl rfl hdG_J5_ensureCapacityInternal ⟨Nat.le_of_ble_eq_true rfl, Nat.le_of_ble_eq_true rfl⟩) (ga_preV (C := "java/lang/StringBuilder") hI hq rfl rfl) rfl rfl hl.1 rfl (ga_room (Nat.le_of_ble_eq_true rfl)) dJ5_append_21 ⟨Nat.le_trans (Nat.add_le_add_left hk1 _) hbc, Nat.le_trans (Nat.add_le_add_left hk2 _) hbs⟩) hI hbc hbs hk1 hk2 (fun h_11 H locs cells slots hw hI hbc hbs => ?_)
    refine lv_aload_n hx hb dJ5_append_24 rfl (lv_at hl 1 rfl) ?_
    refine lv_aload_n hx hb dJ5_append_25 rfl (lv_at hl 1 rfl) ?_
    obtain ⟨fs_12, v_13, hq, hv, hw⟩ := hw
    refine ga_get (ci := 22) (T := TJ6) (v := .int v_13) hx hb hts hown hI in_J6 rfl 3 (by decide) q375 (fun _ z => z) (ga_at.h hq) hv dJ5_append_26 ?_
    refine ga_aload_n hx hb dJ5_append_29 rfl (lv_at hl 2 rfl) ?_
    obtain ⟨fs_14, hq, hw⟩ := hw
    refine ga_callv (va_runU (As := [.int v_13, va_rf p1]) (rest := []) ⟨hx, hb, hml, hown, hts⟩ (gm_J5_putStringAt l g p0 v_13 p1 h_11 _ hw) (ga_cwP (C := "java/lang/StringBuilder") 2 hts hI.2.1.1.2.1 q956 q4113 q919 rfl q957 q958 q109 (lw_meth q959) rfl rfl rfl hdG_J5_putStringAt ⟨Nat.le_of_ble_eq_true rfl, Nat.le_of_ble_eq_true rfl⟩) (ga_preV (C := "java/lang/StringBuilder") hI hq rfl rfl) rfl rfl hl.1 rfl (ga_room (Nat.le_of_ble_eq_true rfl)) dJ5_append_30 ⟨Nat.le_trans (Nat.add_le_add_left (Nat.zero_le _) _) hbc, Nat.le_trans (Nat.add_le_add_left (Nat.zero_le _) _) hbs⟩) hI hbc hbs (Nat.zero_le _) (Nat.zero_le _) (fun h_15 H locs cells slots hw hI hbc hbs => ?_)
    refine lv_aload_n hx hb dJ5_append_33 rfl (lv_at hl 1 rfl) ?_
    refine lv_dup hx hb dJ5_append_34 rfl ?_
    obtain ⟨fs_16, v_17, hq, hv, hw⟩ := hw
    refine ga_get (ci := 22) (T := TJ6) (v := .int v_17) hx hb hts hown hI in_J6 rfl 3 (by decide) q375 (fun _ z => z) (ga_at.h hq) hv dJ5_append_35 ?_
    refine lv_iload_n hx hb dJ5_append_38 rfl (lv_at hl 0 rfl) ?_
    refine lv_iadd hx hb dJ5_append_39 ?_
    obtain ⟨fs_18, hq, hk, hw⟩ := hw
    refine ga_put (ci := 22) (T := TJ6) (v := .int (v_17 + r_5)) (ty := tyJ6 3) hx hb hts hown hI in_J6 rfl tyJ6 tyJ6_ok nmJ6 3 (by decide) q375 (fun _ z => z) rfl (tyJ6_ok 3 (by decide)) rfl rfl hq hk dJ5_append_40 (fun H locs hI => ?_)
    obtain ⟨h_19, eh_19⟩ : ∃ z, z = ga_set h_15 p0 (ga_O 22 (fs_18.set 3 (.int (v_17 + r_5)))) := ⟨_, rfl⟩
    rw [← eh_19] at hI
    have hw := hw h_19 eh_19
    refine lv_aload_n hx hb dJ5_append_43 rfl (lv_at hl 1 rfl) ?_
    exact ga_qret (v := (some p0)) hx hb hr (Or.inl ⟨_, rfl⟩) hlk hI hw (Nat.le_trans (Nat.le_add_right _ _) hbc) (Nat.le_trans (Nat.le_add_right _ _) hbs) dJ5_append_44
  · have hw := hw.1 hc_a_1
    refine lv_aload_n hx hb dJ5_append_4 rfl (lv_at hl 0 rfl) ?_
    obtain ⟨kc_20, ks_21, hk1, hk2, hw⟩ := hw
    obtain ⟨fs_22, hq, hw⟩ := hw
    refine ga_callq (va_runU (As := []) (rest := []) ⟨hx, hb, hml, hown, hts⟩ (gm_J5_appendNull l g p0 h kc_20 ks_21 _ hw) (ga_cwP (C := "java/lang/StringBuilder") 0 hts hI.2.1.1.2.1 q883 q4110 q919 rfl q884 q885 q109 (lw_meth q886) rfl rfl rfl hdG_J5_appendNull ⟨Nat.le_of_ble_eq_true rfl, Nat.le_of_ble_eq_true rfl⟩) (ga_preV (C := "java/lang/StringBuilder") hI hq rfl rfl) rfl rfl hl.1 rfl (ga_room (Nat.le_of_ble_eq_true rfl)) dJ5_append_5 ⟨Nat.le_trans (Nat.add_le_add_left hk1 _) hbc, Nat.le_trans (Nat.add_le_add_left hk2 _) hbs⟩) hI hbc hbs hk1 hk2 (fun r_24 h_23 H locs cells slots hw hI hbc hbs => ?_)
    exact ga_qret (v := r_24) hx hb hr (Or.inl ⟨_, rfl⟩) hlk hI hw (Nat.le_trans (Nat.le_add_right _ _) hbc) (Nat.le_trans (Nat.le_add_right _ _) hbs) dJ5_append_8
theorem hdG_J5_append : yJ5_append.cls ≠ "java/lang/invoke/MethodHandle" ∧ yJ5_append.cls ≠ "java/lang/invoke/VarHandle" ∧ (parseMethodDescriptor yJ5_append.desc).map (fun d => d.parameters.length) = some 1 := by decide +kernel
def gw_J6_append (K : ga_K) (p0 : Nat) (p1 : Option Nat) (h : ga_H) (mc ms : Nat) (post : Option Nat → ga_H → Prop) : Prop :=
  ∃ kc_1 ks_2 : Nat, kc_1 ≤ mc ∧ ks_2 ≤ ms ∧ ∃ fs_3 : List Value, ga_at K h p0 (ga_O 22 fs_3) ∧ gw_J5_append K p0 p1 h kc_1 ks_2 (fun (r_5 : Option Nat) (h_4 : ga_H) => post (some p0) h_4)
set_option maxHeartbeats 4000000 in
theorem gm_J6_append (l : Launch) (g : ga_G) (p0 : Nat) (p1 : Option Nat) (h : ga_H) (mc ms : Nat) (post : Option Nat → ga_H → Prop) (hw : gw_J6_append g.2.2 p0 p1 h mc ms post) : Met l yJ6_append (ws_ yJ6_append cJ6_append 2 (some (.object "java/lang/StringBuilder"))) ({ frames := 13, cells := mc, slots := ms, locals := 254 } : Room) (va_Pc [.ref p0, va_rf p1] (ga_B g h)) (va_Qq post (ga_E g) (ga_A g)) mc ms (ga_A g) := by
  refine ga_met (own := "java/lang/StringBuilder") (nm := "append") (by decide) rfl rfl (by cases p1 <;> exact Nat.le_of_ble_eq_true rfl) (fun p e s m below meth c ls hC hI hl => ?_)
  have hl : lv_has ls 2 [(0, .ref p0), (1, va_rf p1)] := (by cases p1 <;> exact hl)
  generalize ([.ref p0, va_rf p1] : List Value).toArray = args at hC ⊢
  obtain ⟨hx, hb, hml, hown, hts, hr, hlk, hnm⟩ := hC
  unfold gw_J6_append at hw
  obtain ⟨H, eH⟩ : ∃ z, z = s.heap := ⟨_, rfl⟩
  obtain ⟨locs, elo⟩ : ∃ z : List Loc, z = [] := ⟨_, rfl⟩
  rw [← eH, ← elo] at hI ⊢
  obtain ⟨cells, slots, hbc, hbs, e0, e1⟩ : ∃ a b : Nat, a + mc ≤ mc ∧ b + ms ≤ ms ∧ a = 0 ∧ b = 0 := ⟨0, 0, by omega, by omega, rfl, rfl⟩
  show W p l e ({ frames := 13, cells := mc, slots := ms, locals := 254 } : Room) s m args below meth c H locs 0 0 (MQ below (va_Qq post (ga_E g) (ga_A g)) args s mc ms (ga_A g)) (F0 m 0 ls [])
  suffices hgoal : W p l e ({ frames := 13, cells := mc, slots := ms, locals := 254 } : Room) s m args below meth c H locs cells slots (MQ below (va_Qq post (ga_E g) (ga_A g)) args s mc ms (ga_A g)) (F0 m 0 ls []) by rw [e0, e1] at hgoal; exact hgoal
  refine lv_aload_n hx hb dJ6_append_0 rfl (lv_at hl 0 rfl) ?_
  refine ga_aload_n hx hb dJ6_append_1 rfl (lv_at hl 1 rfl) ?_
  obtain ⟨kc_1, ks_2, hk1, hk2, hw⟩ := hw
  obtain ⟨fs_3, hq, hw⟩ := hw
  refine ga_callq (va_runSU (C := "java/lang/StringBuilder") (As := [va_rf p1]) (rest := []) (hI.2.1.1.1.1 22 _ rfl).2 ⟨hx, hb, hml, hown, hts⟩ (gm_J5_append l g p0 p1 h kc_1 ks_2 _ hw) (va_cwSU 1 hts (lw_app (List.forall_mem_cons.mpr ⟨q880, List.forall_mem_cons.mpr ⟨q4109, List.forall_mem_cons.mpr ⟨q384, List.forall_mem_cons.mpr ⟨q881, List.forall_mem_cons.mpr ⟨q109, fun _ h => absurd h List.not_mem_nil⟩⟩⟩⟩⟩) (lw_meth q882)) rfl rfl rfl (by decide +kernel) ⟨Nat.le_of_ble_eq_true rfl, Nat.le_of_ble_eq_true rfl⟩) (ga_preV (C := "java/lang/StringBuilder") hI hq rfl rfl) rfl rfl hl.1 rfl (ga_room (Nat.le_of_ble_eq_true rfl)) dJ6_append_2 ⟨Nat.le_trans (Nat.add_le_add_left hk1 _) hbc, Nat.le_trans (Nat.add_le_add_left hk2 _) hbs⟩) hI hbc hbs hk1 hk2 (fun r_5 h_4 H locs cells slots hw hI hbc hbs => ?_)
  refine lv_pop hx hb dJ6_append_5 (ga_rcat _) ?_
  refine lv_aload_n hx hb dJ6_append_6 rfl (lv_at hl 0 rfl) ?_
  exact ga_qret (v := (some p0)) hx hb hr (Or.inl ⟨_, rfl⟩) hlk hI hw (Nat.le_trans (Nat.le_add_right _ _) hbc) (Nat.le_trans (Nat.le_add_right _ _) hbs) dJ6_append_7
theorem hdG_J6_append : yJ6_append.cls ≠ "java/lang/invoke/MethodHandle" ∧ yJ6_append.cls ≠ "java/lang/invoke/VarHandle" ∧ (parseMethodDescriptor yJ6_append.desc).map (fun d => d.parameters.length) = some 1 := by decide +kernel
def gw_J30_stringSize_11 (post : Int32 → Prop) (v0 : Int32) (v1 : Int32) : Prop :=
  ∃ (In_2 : Int32 → Int32 → Prop) (mu_2 : Int32 → Int32 → Nat), In_2 (-10 : Int32) (1 : Int32) ∧ ∀ (x2_2 : Int32) (x3_2 : Int32), In_2 x2_2 x3_2 → (((10 : Int32) ≤ x3_2 → (post ((10 : Int32) + v1))) ∧ (¬ (10 : Int32) ≤ x3_2 → ((v0 ≤ x2_2 → (In_2 ((10 : Int32) * x2_2) (x3_2 + (1 : Int32)) ∧ mu_2 ((10 : Int32) * x2_2) (x3_2 + (1 : Int32)) < mu_2 x2_2 x3_2)) ∧ (¬ v0 ≤ x2_2 → (post (x3_2 + v1))))))
set_option maxHeartbeats 4000000 in
theorem gj_J30_stringSize_11 {p : Program} {l : Launch} {e : Env} {s : State} {m : MethodId} {args : Array Value} {below : List Frame} {meth : Method} {c : Code} {ls : Array Slot} (post : Int32 → Prop) (v0 : Int32) (v1 : Int32) (hC : ga_Cx p s m args meth c cJ30_stringSize 4 (some .int) "java/lang/Integer" "stringSize") (hw : gw_J30_stringSize_11 post v0 v1) (hl : lv_has ls 4 [(0, .int v0), (1, .int v1)]) : W p l e ({ frames := 8, cells := 0, slots := 0, locals := 140 } : Room) s m args below meth c s.heap [] 0 0 (MQ below (vp_Si post) args s 0 0 (fun _ => False)) (F0 m 11 ls []) := by
  obtain ⟨hx, hb, hml, hown, hts, hr, hlk, hnm⟩ := hC
  unfold gw_J30_stringSize_11 at hw
  refine lv_bipush (v := -10) hx hb dJ30_stringSize_11 (by decide) ?_
  refine lv_istore_n (i := 2) (lv' := [(2, .int (-10 : Int32)), (0, .int v0), (1, .int v1)]) hx hb dJ30_stringSize_13 rfl hl (by decide) rfl (fun ls hl => ?_)
  refine lv_iconst (v := 1) hx hb dJ30_stringSize_14 (by decide) ?_
  refine lv_istore_n (i := 3) (lv' := [(3, .int (1 : Int32)), (2, .int (-10 : Int32)), (0, .int v0), (1, .int v1)]) hx hb dJ30_stringSize_15 rfl hl (by decide) rfl (fun ls hl => ?_)
  obtain ⟨In_2, mu_2, h0_2, hw⟩ := hw
  have hL_2 : ∀ (n : Nat) (x2_2 : Int32) (x3_2 : Int32) (ls : Array Slot), mu_2 x2_2 x3_2 < n → In_2 x2_2 x3_2 → lv_has ls 4 [(0, .int v0), (1, .int v1), (2, .int x2_2), (3, .int x3_2)] → W p l e ({ frames := 8, cells := 0, slots := 0, locals := 140 } : Room) s m args below meth c s.heap [] 0 0 (MQ below (vp_Si post) args s 0 0 (fun _ => False)) (F0 m 16 ls []) := by
    intro n
    induction n with
    | zero => intro x2_2 x3_2 ls hn _ _; exact absurd hn (Nat.not_lt_zero _)
    | succ n ih_2 =>
      intro x2_2 x3_2 ls hn_2 hi_2 hl
      have hw := hw x2_2 x3_2 hi_2
      refine lv_iload_n hx hb dJ30_stringSize_16 rfl (lv_at hl 3 rfl) ?_
      refine lv_bipush (v := 10) hx hb dJ30_stringSize_17 (by decide) ?_
      refine lv_icmp_ge (tgt := 42) hx hb dJ30_stringSize_19 (by decide) (fun hc_3 => ?_) (fun hc_3 => ?_)
      · have hw := hw.1 hc_3
        refine lv_bipush (v := 10) hx hb dJ30_stringSize_42 (by decide) ?_
        refine lv_iload_n hx hb dJ30_stringSize_44 rfl (lv_at hl 1 rfl) ?_
        refine lv_iadd hx hb dJ30_stringSize_45 ?_
        exact ga_sret hx hb hr hlk rfl hw dJ30_stringSize_46
      · have hw := hw.2 hc_3
        refine lv_iload_n hx hb dJ30_stringSize_22 rfl (lv_at hl 0 rfl) ?_
        refine lv_iload_n hx hb dJ30_stringSize_23 rfl (lv_at hl 2 rfl) ?_
        refine lv_icmp_le (tgt := 31) hx hb dJ30_stringSize_24 (by decide) (fun hc_4 => ?_) (fun hc_4 => ?_)
        · have hw := hw.1 hc_4
          refine lv_bipush (v := 10) hx hb dJ30_stringSize_31 (by decide) ?_
          refine lv_iload_n hx hb dJ30_stringSize_33 rfl (lv_at hl 2 rfl) ?_
          refine lv_imul hx hb dJ30_stringSize_34 ?_
          refine lv_istore_n (i := 2) (lv' := [(2, .int ((10 : Int32) * x2_2)), (0, .int v0), (1, .int v1), (3, .int x3_2)]) hx hb dJ30_stringSize_35 rfl hl (by decide) rfl (fun ls hl => ?_)
          refine lv_iinc (v := x3_2 + (1 : Int32)) (lv' := [(3, .int (x3_2 + (1 : Int32))), (2, .int ((10 : Int32) * x2_2)), (0, .int v0), (1, .int v1)]) hx hb dJ30_stringSize_36 hl (k := 3) rfl rfl (by decide) rfl (fun ls hl => ?_)
          refine lv_goto (tgt := 16) hx hb dJ30_stringSize_39 (by decide) ?_
          exact ih_2 _ _ ls (Nat.lt_of_lt_of_le hw.2 (Nat.le_of_lt_succ hn_2)) hw.1 (lv_sub hl [2, 3, 1, 0] rfl)
        · have hw := hw.2 hc_4
          refine lv_iload_n hx hb dJ30_stringSize_27 rfl (lv_at hl 3 rfl) ?_
          refine lv_iload_n hx hb dJ30_stringSize_28 rfl (lv_at hl 1 rfl) ?_
          refine lv_iadd hx hb dJ30_stringSize_29 ?_
          exact ga_sret hx hb hr hlk rfl hw dJ30_stringSize_30
  exact hL_2 _ _ _ ls (Nat.lt_succ_self _) h0_2 (lv_sub hl [2, 3, 1, 0] rfl)
def gw_J30_stringSize (p0 : Int32) (post : Int32 → Prop) : Prop :=
  (p0 < (0 : Int32) → (gw_J30_stringSize_11 post p0 (1 : Int32))) ∧ (¬ p0 < (0 : Int32) → (gw_J30_stringSize_11 post (-p0) (0 : Int32)))
set_option maxHeartbeats 4000000 in
theorem gm_J30_stringSize (l : Launch) (p0 : Int32) (post : Int32 → Prop) (hw : gw_J30_stringSize p0 post) : Met l yJ30_stringSize (ws_ yJ30_stringSize cJ30_stringSize 4 (some .int)) ({ frames := 8, cells := 0, slots := 0, locals := 140 } : Room) (va_Pc [.int p0] (fun _ => True)) (vp_Si post) 0 0 (fun _ => False) := by
  refine ga_metS (own := "java/lang/Integer") (nm := "stringSize") (by decide) rfl rfl (by exact Nat.le_of_ble_eq_true rfl) (fun p e s m below meth c ls hC hl => ?_)
  have hl : lv_has ls 4 [(0, .int p0)] := hl
  generalize ([.int p0] : List Value).toArray = args at hC ⊢
  obtain ⟨hx, hb, hml, hown, hts, hr, hlk, hnm⟩ := hC
  unfold gw_J30_stringSize at hw
  refine lv_iconst (v := 1) hx hb dJ30_stringSize_0 (by decide) ?_
  refine lv_istore_n (i := 1) (lv' := [(1, .int (1 : Int32)), (0, .int p0)]) hx hb dJ30_stringSize_1 rfl hl (by decide) rfl (fun ls hl => ?_)
  refine lv_iload_n hx hb dJ30_stringSize_2 rfl (lv_at hl 1 rfl) ?_
  refine lv_if_lt (tgt := 11) hx hb dJ30_stringSize_3 (by decide) (fun hc_1 => ?_) (fun hc_1 => ?_)
  · have hw := hw.1 hc_1
    exact gj_J30_stringSize_11 post p0 (1 : Int32) ⟨hx, hb, hml, hown, hts, hr, hlk, hnm⟩ hw (lv_sub hl [1, 0] rfl)
  · have hw := hw.2 hc_1
    refine lv_iconst (v := 0) hx hb dJ30_stringSize_6 (by decide) ?_
    refine lv_istore_n (i := 1) (lv' := [(1, .int (0 : Int32)), (0, .int p0)]) hx hb dJ30_stringSize_7 rfl hl (by decide) rfl (fun ls hl => ?_)
    refine lv_iload_n hx hb dJ30_stringSize_8 rfl (lv_at hl 1 rfl) ?_
    refine lv_ineg hx hb dJ30_stringSize_9 ?_
    refine lv_istore_n (i := 0) (lv' := [(0, .int (-p0)), (1, .int (0 : Int32))]) hx hb dJ30_stringSize_10 rfl hl (by decide) rfl (fun ls hl => ?_)
    exact gj_J30_stringSize_11 post (-p0) (0 : Int32) ⟨hx, hb, hml, hown, hts, hr, hlk, hnm⟩ hw (lv_sub hl [0, 1] rfl)
theorem hdG_J30_stringSize : yJ30_stringSize.cls ≠ "java/lang/invoke/MethodHandle" ∧ yJ30_stringSize.cls ≠ "java/lang/invoke/VarHandle" ∧ (parseMethodDescriptor yJ30_stringSize.desc).map (fun d => d.parameters.length) = some 1 := by decide +kernel
def gw_J30_getChars_104 (K : ga_K) (post : Int32 → ga_H → Prop) (v2 : Option Nat) (v5 : Int32) (v6 : Int32) (h : ga_H) : Prop :=
  (v6 = (0 : Int32) → (post v5 h)) ∧ (¬ v6 = (0 : Int32) → (∃ a_13 : Nat, v2 = some a_13 ∧ ∃ (n_14 : Nat) (f_15 : Nat → Int32), h a_13 = some (ga_Ab n_14 f_15) ∧ vp_in (v5 + (-1 : Int32)) n_14 ∧ ∀ h_16 : ga_H, h_16 = ga_set h a_13 (ga_Ab n_14 (upd f_15 (v5 + (-1 : Int32)).toNatClampNeg (vp_nar .byte (45 : Int32)))) → (post (v5 + (-1 : Int32)) h_16)))
set_option maxHeartbeats 4000000 in
theorem gj_J30_getChars_104 {p : Program} {l : Launch} {e : Env} {s : State} {m : MethodId} {args : Array Value} {below : List Frame} {meth : Method} {c : Code} {H : Heap} {locs : List Loc} {cells slots : Nat} {ls : Array Slot} (g : ga_G) (post : Int32 → ga_H → Prop) (v2 : Option Nat) (v5 : Int32) (v6 : Int32) (h : ga_H) (hC : ga_Cx p s m args meth c cJ30_getChars 7 (some .int) "java/lang/Integer" "getChars") (hw : gw_J30_getChars_104 g.2.2 post v2 v5 v6 h) (hI : ga_I g h s H locs) (hbc : cells ≤ 0) (hbs : slots ≤ 0) (hl : lv_has ls 7 [(2, va_rf v2), (5, .int v5), (6, .int v6)]) : W p l e ({ frames := 8, cells := 0, slots := 0, locals := 140 } : Room) s m args below meth c H locs cells slots (MQ below (va_Qi post (ga_E g) (ga_A g)) args s 0 0 (ga_A g)) (F0 m 104 ls []) := by
  obtain ⟨hx, hb, hml, hown, hts, hr, hlk, hnm⟩ := hC
  unfold gw_J30_getChars_104 at hw
  refine lv_iload hx hb dJ30_getChars_104 (lv_at hl 2 rfl) ?_
  refine lv_if_eq (tgt := 118) hx hb dJ30_getChars_106 (by decide) (fun hc_12 => ?_) (fun hc_12 => ?_)
  · have hw := hw.1 hc_12
    refine lv_iload hx hb dJ30_getChars_118 (lv_at hl 1 rfl) ?_
    exact ga_iret hx hb hr rfl hlk hI hw hbc hbs dJ30_getChars_120
  · have hw := hw.2 hc_12
    refine ga_aload_n hx hb dJ30_getChars_109 rfl (lv_at hl 0 rfl) ?_
    refine lv_iinc (v := v5 + (-1 : Int32)) (lv' := [(5, .int (v5 + (-1 : Int32))), (2, va_rf v2), (6, .int v6)]) hx hb dJ30_getChars_110 hl (k := 1) rfl rfl (by decide) rfl (fun ls hl => ?_)
    refine lv_iload hx hb dJ30_getChars_113 (lv_at hl 0 rfl) ?_
    refine lv_bipush (v := 45) hx hb dJ30_getChars_115 (by decide) ?_
    obtain ⟨a_13, ea_13, hw⟩ := hw
    rewrite [ea_13]
    obtain ⟨n_14, f_15, hq, hi, hw⟩ := hw
    refine ga_stb hx hb hI hq hi dJ30_getChars_117 (fun H locs hI => ?_)
    obtain ⟨h_16, eh_16⟩ : ∃ z, z = ga_set h a_13 (ga_Ab n_14 (upd f_15 (v5 + (-1 : Int32)).toNatClampNeg (vp_nar .byte (45 : Int32)))) := ⟨_, rfl⟩
    rw [← eh_16] at hI
    have hw := hw h_16 eh_16
    refine lv_iload hx hb dJ30_getChars_118 (lv_at hl 0 rfl) ?_
    exact ga_iret hx hb hr rfl hlk hI hw hbc hbs dJ30_getChars_120
def gw_J30_getChars_12 (K : ga_K) (post : Int32 → ga_H → Prop) (t0 : Int32) (v0 : Int32) (v2 : Option Nat) (v5 : Int32) (h : ga_H) : Prop :=
  (¬ t0 = (0 : Int32) → (∃ (In_3 : Int32 → Int32 → ga_H → Prop) (mu_3 : Int32 → Int32 → ga_H → Nat), In_3 v0 v5 h ∧ ∀ (x0_3 : Int32) (x5_3 : Int32) (h_3 : ga_H), In_3 x0_3 x5_3 h_3 → (((-100 : Int32) < x0_3 → (∃ (n_5 : Nat) (f_6 : Nat → Int32), ga_at K h_3 (K.2 2) (ga_Ab n_5 f_6) ∧ vp_in (-x0_3) n_5 ∧ (∃ a_7 : Nat, v2 = some a_7 ∧ ∃ (n_8 : Nat) (f_9 : Nat → Int32), h_3 a_7 = some (ga_Ab n_8 f_9) ∧ vp_in (x5_3 + (-1 : Int32)) n_8 ∧ ∀ h_10 : ga_H, h_10 = ga_set h_3 a_7 (ga_Ab n_8 (upd f_9 (x5_3 + (-1 : Int32)).toNatClampNeg (vp_nar .byte (f_6 (-x0_3).toNatClampNeg)))) → (((-9 : Int32) ≤ x0_3 → (gw_J30_getChars_104 K post v2 (x5_3 + (-1 : Int32)) t0 h_10)) ∧ (¬ (-9 : Int32) ≤ x0_3 → (∃ (n_17 : Nat) (f_18 : Nat → Int32), ga_at K h_10 (K.2 3) (ga_Ab n_17 f_18) ∧ vp_in (-x0_3) n_17 ∧ (∃ a_19 : Nat, v2 = some a_19 ∧ ∃ (n_20 : Nat) (f_21 : Nat → Int32), h_10 a_19 = some (ga_Ab n_20 f_21) ∧ vp_in ((x5_3 + (-1 : Int32)) + (-1 : Int32)) n_20 ∧ ∀ h_22 : ga_H, h_22 = ga_set h_10 a_19 (ga_Ab n_20 (upd f_21 ((x5_3 + (-1 : Int32)) + (-1 : Int32)).toNatClampNeg (vp_nar .byte (f_18 (-x0_3).toNatClampNeg)))) → (gw_J30_getChars_104 K post v2 ((x5_3 + (-1 : Int32)) + (-1 : Int32)) t0 h_22)))))))) ∧ (¬ (-100 : Int32) < x0_3 → (∀ x_23 : Int32, x_23 = ((x0_3 / (100 : Int32)) * (100 : Int32)) - x0_3 → (∃ (n_24 : Nat) (f_25 : Nat → Int32), ga_at K h_3 (K.2 2) (ga_Ab n_24 f_25) ∧ vp_in x_23 n_24 ∧ (∃ a_26 : Nat, v2 = some a_26 ∧ ∃ (n_27 : Nat) (f_28 : Nat → Int32), h_3 a_26 = some (ga_Ab n_27 f_28) ∧ vp_in (x5_3 + (-1 : Int32)) n_27 ∧ ∀ h_29 : ga_H, h_29 = ga_set h_3 a_26 (ga_Ab n_27 (upd f_28 (x5_3 + (-1 : Int32)).toNatClampNeg (vp_nar .byte (f_25 x_23.toNatClampNeg)))) → (∃ (n_30 : Nat) (f_31 : Nat → Int32), ga_at K h_29 (K.2 3) (ga_Ab n_30 f_31) ∧ vp_in x_23 n_30 ∧ (∃ a_32 : Nat, v2 = some a_32 ∧ ∃ (n_33 : Nat) (f_34 : Nat → Int32), h_29 a_32 = some (ga_Ab n_33 f_34) ∧ vp_in ((x5_3 + (-1 : Int32)) + (-1 : Int32)) n_33 ∧ ∀ h_35 : ga_H, h_35 = ga_set h_29 a_32 (ga_Ab n_33 (upd f_34 ((x5_3 + (-1 : Int32)) + (-1 : Int32)).toNatClampNeg (vp_nar .byte (f_31 x_23.toNatClampNeg)))) → (In_3 (x0_3 / (100 : Int32)) ((x5_3 + (-1 : Int32)) + (-1 : Int32)) h_35 ∧ mu_3 (x0_3 / (100 : Int32)) ((x5_3 + (-1 : Int32)) + (-1 : Int32)) h_35 < mu_3 x0_3 x5_3 h_3)))))))))) ∧ (t0 = (0 : Int32) → (∃ (In_36 : Int32 → Int32 → ga_H → Prop) (mu_36 : Int32 → Int32 → ga_H → Nat), In_36 (-v0) v5 h ∧ ∀ (x0_36 : Int32) (x5_36 : Int32) (h_36 : ga_H), In_36 x0_36 x5_36 h_36 → (((-100 : Int32) < x0_36 → (∃ (n_38 : Nat) (f_39 : Nat → Int32), ga_at K h_36 (K.2 2) (ga_Ab n_38 f_39) ∧ vp_in (-x0_36) n_38 ∧ (∃ a_40 : Nat, v2 = some a_40 ∧ ∃ (n_41 : Nat) (f_42 : Nat → Int32), h_36 a_40 = some (ga_Ab n_41 f_42) ∧ vp_in (x5_36 + (-1 : Int32)) n_41 ∧ ∀ h_43 : ga_H, h_43 = ga_set h_36 a_40 (ga_Ab n_41 (upd f_42 (x5_36 + (-1 : Int32)).toNatClampNeg (vp_nar .byte (f_39 (-x0_36).toNatClampNeg)))) → (((-9 : Int32) ≤ x0_36 → (gw_J30_getChars_104 K post v2 (x5_36 + (-1 : Int32)) t0 h_43)) ∧ (¬ (-9 : Int32) ≤ x0_36 → (∃ (n_45 : Nat) (f_46 : Nat → Int32), ga_at K h_43 (K.2 3) (ga_Ab n_45 f_46) ∧ vp_in (-x0_36) n_45 ∧ (∃ a_47 : Nat, v2 = some a_47 ∧ ∃ (n_48 : Nat) (f_49 : Nat → Int32), h_43 a_47 = some (ga_Ab n_48 f_49) ∧ vp_in ((x5_36 + (-1 : Int32)) + (-1 : Int32)) n_48 ∧ ∀ h_50 : ga_H, h_50 = ga_set h_43 a_47 (ga_Ab n_48 (upd f_49 ((x5_36 + (-1 : Int32)) + (-1 : Int32)).toNatClampNeg (vp_nar .byte (f_46 (-x0_36).toNatClampNeg)))) → (gw_J30_getChars_104 K post v2 ((x5_36 + (-1 : Int32)) + (-1 : Int32)) t0 h_50)))))))) ∧ (¬ (-100 : Int32) < x0_36 → (∀ x_51 : Int32, x_51 = ((x0_36 / (100 : Int32)) * (100 : Int32)) - x0_36 → (∃ (n_52 : Nat) (f_53 : Nat → Int32), ga_at K h_36 (K.2 2) (ga_Ab n_52 f_53) ∧ vp_in x_51 n_52 ∧ (∃ a_54 : Nat, v2 = some a_54 ∧ ∃ (n_55 : Nat) (f_56 : Nat → Int32), h_36 a_54 = some (ga_Ab n_55 f_56) ∧ vp_in (x5_36 + (-1 : Int32)) n_55 ∧ ∀ h_57 : ga_H, h_57 = ga_set h_36 a_54 (ga_Ab n_55 (upd f_56 (x5_36 + (-1 : Int32)).toNatClampNeg (vp_nar .byte (f_53 x_51.toNatClampNeg)))) → (∃ (n_58 : Nat) (f_59 : Nat → Int32), ga_at K h_57 (K.2 3) (ga_Ab n_58 f_59) ∧ vp_in x_51 n_58 ∧ (∃ a_60 : Nat, v2 = some a_60 ∧ ∃ (n_61 : Nat) (f_62 : Nat → Int32), h_57 a_60 = some (ga_Ab n_61 f_62) ∧ vp_in ((x5_36 + (-1 : Int32)) + (-1 : Int32)) n_61 ∧ ∀ h_63 : ga_H, h_63 = ga_set h_57 a_60 (ga_Ab n_61 (upd f_62 ((x5_36 + (-1 : Int32)) + (-1 : Int32)).toNatClampNeg (vp_nar .byte (f_59 x_51.toNatClampNeg)))) → (In_36 (x0_36 / (100 : Int32)) ((x5_36 + (-1 : Int32)) + (-1 : Int32)) h_63 ∧ mu_36 (x0_36 / (100 : Int32)) ((x5_36 + (-1 : Int32)) + (-1 : Int32)) h_63 < mu_36 x0_36 x5_36 h_36))))))))))
set_option maxHeartbeats 4000000 in
theorem gj_J30_getChars_12 {p : Program} {l : Launch} {e : Env} {s : State} {m : MethodId} {args : Array Value} {below : List Frame} {meth : Method} {c : Code} {H : Heap} {locs : List Loc} {cells slots : Nat} {ls : Array Slot} (g : ga_G) (post : Int32 → ga_H → Prop) (t0 : Int32) (v0 : Int32) (v2 : Option Nat) (v5 : Int32) (h : ga_H) (hC : ga_Cx p s m args meth c cJ30_getChars 7 (some .int) "java/lang/Integer" "getChars") (hw : gw_J30_getChars_12 g.2.2 post t0 v0 v2 v5 h) (hI : ga_I g h s H locs) (hbc : cells ≤ 0) (hbs : slots ≤ 0) (hl : lv_has ls 7 [(0, .int v0), (2, va_rf v2), (5, .int v5)]) : W p l e ({ frames := 8, cells := 0, slots := 0, locals := 140 } : Room) s m args below meth c H locs cells slots (MQ below (va_Qi post (ga_E g) (ga_A g)) args s 0 0 (ga_A g)) (F0 m 12 ls [.int t0]) := by
  obtain ⟨hx, hb, hml, hown, hts, hr, hlk, hnm⟩ := hC
  unfold gw_J30_getChars_12 at hw
  refine lv_istore (lv' := [(6, .int t0), (0, .int v0), (2, va_rf v2), (5, .int v5)]) hx hb dJ30_getChars_12 hl (by decide) rfl (fun ls hl => ?_)
  refine lv_iload hx hb dJ30_getChars_14 (lv_at hl 0 rfl) ?_
  refine lv_if_ne (tgt := 22) hx hb dJ30_getChars_16 (by decide) (fun hc_2 => ?_) (fun hc_2 => ?_)
  · have hw := hw.1 hc_2
    obtain ⟨In_3, mu_3, h0_3, hw⟩ := hw
    have hL_3 : ∀ (n : Nat) (x0_3 : Int32) (x5_3 : Int32) (h_3 : ga_H) (H : Heap) (locs : List Loc) (cells slots : Nat) (ls : Array Slot), mu_3 x0_3 x5_3 h_3 < n → In_3 x0_3 x5_3 h_3 → ga_I g h_3 s H locs → cells ≤ 0 → slots ≤ 0 → lv_has ls 7 [(0, .int x0_3), (2, va_rf v2), (5, .int x5_3), (6, .int t0)] → W p l e ({ frames := 8, cells := 0, slots := 0, locals := 140 } : Room) s m args below meth c H locs cells slots (MQ below (va_Qi post (ga_E g) (ga_A g)) args s 0 0 (ga_A g)) (F0 m 22 ls []) := by
      intro n
      induction n with
      | zero => intro x0_3 x5_3 h_3 H locs cells slots ls hn _ _ _ _ _; exact absurd hn (Nat.not_lt_zero _)
      | succ n ih_3 =>
        intro x0_3 x5_3 h_3 H locs cells slots ls hn_3 hi_3 hI hbc hbs hl
        have hw := hw x0_3 x5_3 h_3 hi_3
        refine lv_iload_n hx hb dJ30_getChars_22 rfl (lv_at hl 0 rfl) ?_
        refine lv_bipush (v := -100) hx hb dJ30_getChars_23 (by decide) ?_
        refine lv_icmp_gt (tgt := 72) hx hb dJ30_getChars_25 (by decide) (fun hc_4 => ?_) (fun hc_4 => ?_)
        · have hw := hw.1 hc_4
          refine ga_aload_n hx hb dJ30_getChars_72 rfl (lv_at hl 1 rfl) ?_
          refine lv_iinc (v := x5_3 + (-1 : Int32)) (lv' := [(5, .int (x5_3 + (-1 : Int32))), (0, .int x0_3), (2, va_rf v2), (6, .int t0)]) hx hb dJ30_getChars_73 hl (k := 2) rfl rfl (by decide) rfl (fun ls hl => ?_)
          refine lv_iload hx hb dJ30_getChars_76 (lv_at hl 0 rfl) ?_
          refine ga_sget (v := .ref (g.2.2.2 2)) hx hb hts hown hI 4 rfl q1003 (fun _ z => z) dJ30_getChars_78 ?_
          refine lv_iload_n hx hb dJ30_getChars_81 rfl (lv_at hl 1 rfl) ?_
          refine lv_ineg hx hb dJ30_getChars_82 ?_
          obtain ⟨n_5, f_6, hq, hi, hw⟩ := hw
          refine ga_ldb hx hb hI hq hi dJ30_getChars_83 ?_
          obtain ⟨a_7, ea_7, hw⟩ := hw
          rewrite [ea_7]
          obtain ⟨n_8, f_9, hq, hi, hw⟩ := hw
          refine ga_stb hx hb hI hq hi dJ30_getChars_84 (fun H locs hI => ?_)
          obtain ⟨h_10, eh_10⟩ : ∃ z, z = ga_set h_3 a_7 (ga_Ab n_8 (upd f_9 (x5_3 + (-1 : Int32)).toNatClampNeg (vp_nar .byte (f_6 (-x0_3).toNatClampNeg)))) := ⟨_, rfl⟩
          rw [← eh_10] at hI
          have hw := hw h_10 eh_10
          refine lv_iload_n hx hb dJ30_getChars_85 rfl (lv_at hl 1 rfl) ?_
          refine lv_bipush (v := -9) hx hb dJ30_getChars_86 (by decide) ?_
          refine lv_icmp_ge (tgt := 104) hx hb dJ30_getChars_88 (by decide) (fun hc_11 => ?_) (fun hc_11 => ?_)
          · have hw := hw.1 hc_11
            exact gj_J30_getChars_104 g post v2 (x5_3 + (-1 : Int32)) t0 h_10 ⟨hx, hb, hml, hown, hts, hr, hlk, hnm⟩ hw hI hbc hbs (lv_sub hl [2, 0, 3] rfl)
          · have hw := hw.2 hc_11
            refine ga_aload_n hx hb dJ30_getChars_91 rfl (lv_at hl 2 rfl) ?_
            refine lv_iinc (v := (x5_3 + (-1 : Int32)) + (-1 : Int32)) (lv' := [(5, .int ((x5_3 + (-1 : Int32)) + (-1 : Int32))), (0, .int x0_3), (2, va_rf v2), (6, .int t0)]) hx hb dJ30_getChars_92 hl (k := 0) rfl rfl (by decide) rfl (fun ls hl => ?_)
            refine lv_iload hx hb dJ30_getChars_95 (lv_at hl 0 rfl) ?_
            refine ga_sget (v := .ref (g.2.2.2 3)) hx hb hts hown hI 5 rfl q1005 (fun _ z => z) dJ30_getChars_97 ?_
            refine lv_iload_n hx hb dJ30_getChars_100 rfl (lv_at hl 1 rfl) ?_
            refine lv_ineg hx hb dJ30_getChars_101 ?_
            obtain ⟨n_17, f_18, hq, hi, hw⟩ := hw
            refine ga_ldb hx hb hI hq hi dJ30_getChars_102 ?_
            obtain ⟨a_19, ea_19, hw⟩ := hw
            rewrite [ea_19]
            obtain ⟨n_20, f_21, hq, hi, hw⟩ := hw
            refine ga_stb hx hb hI hq hi dJ30_getChars_103 (fun H locs hI => ?_)
            obtain ⟨h_22, eh_22⟩ : ∃ z, z = ga_set h_10 a_19 (ga_Ab n_20 (upd f_21 ((x5_3 + (-1 : Int32)) + (-1 : Int32)).toNatClampNeg (vp_nar .byte (f_18 (-x0_3).toNatClampNeg)))) := ⟨_, rfl⟩
            rw [← eh_22] at hI
            have hw := hw h_22 eh_22
            exact gj_J30_getChars_104 g post v2 ((x5_3 + (-1 : Int32)) + (-1 : Int32)) t0 h_22 ⟨hx, hb, hml, hown, hts, hr, hlk, hnm⟩ hw hI hbc hbs (lv_sub hl [2, 0, 3] rfl)
        · have hw := hw.2 hc_4
          refine lv_iload_n hx hb dJ30_getChars_28 rfl (lv_at hl 0 rfl) ?_
          refine lv_bipush (v := 100) hx hb dJ30_getChars_29 (by decide) ?_
          refine lv_idiv hx hb dJ30_getChars_31 (by decide) ?_
          refine lv_istore_n (i := 3) (lv' := [(3, .int (x0_3 / (100 : Int32))), (0, .int x0_3), (2, va_rf v2), (5, .int x5_3), (6, .int t0)]) hx hb dJ30_getChars_32 rfl hl (by decide) (by simp [ga_rcat, ga_cat_r, ga_cat_i, ga_cat_f, ga_cat_l, ga_cat_d]) (fun ls hl => ?_)
          refine lv_iload_n hx hb dJ30_getChars_33 rfl (lv_at hl 0 rfl) ?_
          refine lv_bipush (v := 100) hx hb dJ30_getChars_34 (by decide) ?_
          refine lv_imul hx hb dJ30_getChars_36 ?_
          refine lv_iload_n hx hb dJ30_getChars_37 rfl (lv_at hl 1 rfl) ?_
          refine lv_isub hx hb dJ30_getChars_38 ?_
          refine lv_topi (fun x_23 ex_23 => ?_)
          have hw := hw x_23 ex_23
          refine lv_istore (lv' := [(4, .int x_23), (3, .int (x0_3 / (100 : Int32))), (0, .int x0_3), (2, va_rf v2), (5, .int x5_3), (6, .int t0)]) hx hb dJ30_getChars_39 hl (by decide) rfl (fun ls hl => ?_)
          refine lv_iload_n hx hb dJ30_getChars_41 rfl (lv_at hl 1 rfl) ?_
          refine lv_istore_n (i := 0) (lv' := [(0, .int (x0_3 / (100 : Int32))), (4, .int x_23), (3, .int (x0_3 / (100 : Int32))), (2, va_rf v2), (5, .int x5_3), (6, .int t0)]) hx hb dJ30_getChars_42 rfl hl (by decide) rfl (fun ls hl => ?_)
          refine ga_aload_n hx hb dJ30_getChars_43 rfl (lv_at hl 3 rfl) ?_
          refine lv_iinc (v := x5_3 + (-1 : Int32)) (lv' := [(5, .int (x5_3 + (-1 : Int32))), (0, .int (x0_3 / (100 : Int32))), (4, .int x_23), (3, .int (x0_3 / (100 : Int32))), (2, va_rf v2), (6, .int t0)]) hx hb dJ30_getChars_44 hl (k := 4) rfl rfl (by decide) rfl (fun ls hl => ?_)
          refine lv_iload hx hb dJ30_getChars_47 (lv_at hl 0 rfl) ?_
          refine ga_sget (v := .ref (g.2.2.2 2)) hx hb hts hown hI 4 rfl q1003 (fun _ z => z) dJ30_getChars_49 ?_
          refine lv_iload hx hb dJ30_getChars_52 (lv_at hl 2 rfl) ?_
          obtain ⟨n_24, f_25, hq, hi, hw⟩ := hw
          refine ga_ldb hx hb hI hq hi dJ30_getChars_54 ?_
          obtain ⟨a_26, ea_26, hw⟩ := hw
          rewrite [ea_26]
          obtain ⟨n_27, f_28, hq, hi, hw⟩ := hw
          refine ga_stb hx hb hI hq hi dJ30_getChars_55 (fun H locs hI => ?_)
          obtain ⟨h_29, eh_29⟩ : ∃ z, z = ga_set h_3 a_26 (ga_Ab n_27 (upd f_28 (x5_3 + (-1 : Int32)).toNatClampNeg (vp_nar .byte (f_25 x_23.toNatClampNeg)))) := ⟨_, rfl⟩
          rw [← eh_29] at hI
          have hw := hw h_29 eh_29
          refine ga_aload_n hx hb dJ30_getChars_56 rfl (lv_at hl 4 rfl) ?_
          refine lv_iinc (v := (x5_3 + (-1 : Int32)) + (-1 : Int32)) (lv' := [(5, .int ((x5_3 + (-1 : Int32)) + (-1 : Int32))), (0, .int (x0_3 / (100 : Int32))), (4, .int x_23), (3, .int (x0_3 / (100 : Int32))), (2, va_rf v2), (6, .int t0)]) hx hb dJ30_getChars_57 hl (k := 0) rfl rfl (by decide) rfl (fun ls hl => ?_)
          refine lv_iload hx hb dJ30_getChars_60 (lv_at hl 0 rfl) ?_
          refine ga_sget (v := .ref (g.2.2.2 3)) hx hb hts hown hI 5 rfl q1005 (fun _ z => z) dJ30_getChars_62 ?_
          refine lv_iload hx hb dJ30_getChars_65 (lv_at hl 2 rfl) ?_
          obtain ⟨n_30, f_31, hq, hi, hw⟩ := hw
          refine ga_ldb hx hb hI hq hi dJ30_getChars_67 ?_
          obtain ⟨a_32, ea_32, hw⟩ := hw
          rewrite [ea_32]
          obtain ⟨n_33, f_34, hq, hi, hw⟩ := hw
          refine ga_stb hx hb hI hq hi dJ30_getChars_68 (fun H locs hI => ?_)
          obtain ⟨h_35, eh_35⟩ : ∃ z, z = ga_set h_29 a_32 (ga_Ab n_33 (upd f_34 ((x5_3 + (-1 : Int32)) + (-1 : Int32)).toNatClampNeg (vp_nar .byte (f_31 x_23.toNatClampNeg)))) := ⟨_, rfl⟩
          rw [← eh_35] at hI
          have hw := hw h_35 eh_35
          refine lv_goto (tgt := 22) hx hb dJ30_getChars_69 (by decide) ?_
          exact ih_3 _ _ _ H locs cells slots ls (Nat.lt_of_lt_of_le hw.2 (Nat.le_of_lt_succ hn_3)) hw.1 hI hbc hbs (lv_sub hl [1, 4, 0, 5] rfl)
    exact hL_3 _ _ _ _ H locs cells slots ls (Nat.lt_succ_self _) h0_3 hI hbc hbs (lv_sub hl [1, 2, 3, 0] rfl)
  · have hw := hw.2 hc_2
    refine lv_iload_n hx hb dJ30_getChars_19 rfl (lv_at hl 1 rfl) ?_
    refine lv_ineg hx hb dJ30_getChars_20 ?_
    refine lv_istore_n (i := 0) (lv' := [(0, .int (-v0)), (6, .int t0), (2, va_rf v2), (5, .int v5)]) hx hb dJ30_getChars_21 rfl hl (by decide) rfl (fun ls hl => ?_)
    obtain ⟨In_36, mu_36, h0_36, hw⟩ := hw
    have hL_36 : ∀ (n : Nat) (x0_36 : Int32) (x5_36 : Int32) (h_36 : ga_H) (H : Heap) (locs : List Loc) (cells slots : Nat) (ls : Array Slot), mu_36 x0_36 x5_36 h_36 < n → In_36 x0_36 x5_36 h_36 → ga_I g h_36 s H locs → cells ≤ 0 → slots ≤ 0 → lv_has ls 7 [(0, .int x0_36), (2, va_rf v2), (5, .int x5_36), (6, .int t0)] → W p l e ({ frames := 8, cells := 0, slots := 0, locals := 140 } : Room) s m args below meth c H locs cells slots (MQ below (va_Qi post (ga_E g) (ga_A g)) args s 0 0 (ga_A g)) (F0 m 22 ls []) := by
      intro n
      induction n with
      | zero => intro x0_36 x5_36 h_36 H locs cells slots ls hn _ _ _ _ _; exact absurd hn (Nat.not_lt_zero _)
      | succ n ih_36 =>
        intro x0_36 x5_36 h_36 H locs cells slots ls hn_36 hi_36 hI hbc hbs hl
        have hw := hw x0_36 x5_36 h_36 hi_36
        refine lv_iload_n hx hb dJ30_getChars_22 rfl (lv_at hl 0 rfl) ?_
        refine lv_bipush (v := -100) hx hb dJ30_getChars_23 (by decide) ?_
        refine lv_icmp_gt (tgt := 72) hx hb dJ30_getChars_25 (by decide) (fun hc_37 => ?_) (fun hc_37 => ?_)
        · have hw := hw.1 hc_37
          refine ga_aload_n hx hb dJ30_getChars_72 rfl (lv_at hl 1 rfl) ?_
          refine lv_iinc (v := x5_36 + (-1 : Int32)) (lv' := [(5, .int (x5_36 + (-1 : Int32))), (0, .int x0_36), (2, va_rf v2), (6, .int t0)]) hx hb dJ30_getChars_73 hl (k := 2) rfl rfl (by decide) rfl (fun ls hl => ?_)
          refine lv_iload hx hb dJ30_getChars_76 (lv_at hl 0 rfl) ?_
          refine ga_sget (v := .ref (g.2.2.2 2)) hx hb hts hown hI 4 rfl q1003 (fun _ z => z) dJ30_getChars_78 ?_
          refine lv_iload_n hx hb dJ30_getChars_81 rfl (lv_at hl 1 rfl) ?_
          refine lv_ineg hx hb dJ30_getChars_82 ?_
          obtain ⟨n_38, f_39, hq, hi, hw⟩ := hw
          refine ga_ldb hx hb hI hq hi dJ30_getChars_83 ?_
          obtain ⟨a_40, ea_40, hw⟩ := hw
          rewrite [ea_40]
          obtain ⟨n_41, f_42, hq, hi, hw⟩ := hw
          refine ga_stb hx hb hI hq hi dJ30_getChars_84 (fun H locs hI => ?_)
          obtain ⟨h_43, eh_43⟩ : ∃ z, z = ga_set h_36 a_40 (ga_Ab n_41 (upd f_42 (x5_36 + (-1 : Int32)).toNatClampNeg (vp_nar .byte (f_39 (-x0_36).toNatClampNeg)))) := ⟨_, rfl⟩
          rw [← eh_43] at hI
          have hw := hw h_43 eh_43
          refine lv_iload_n hx hb dJ30_getChars_85 rfl (lv_at hl 1 rfl) ?_
          refine lv_bipush (v := -9) hx hb dJ30_getChars_86 (by decide) ?_
          refine lv_icmp_ge (tgt := 104) hx hb dJ30_getChars_88 (by decide) (fun hc_44 => ?_) (fun hc_44 => ?_)
          · have hw := hw.1 hc_44
            exact gj_J30_getChars_104 g post v2 (x5_36 + (-1 : Int32)) t0 h_43 ⟨hx, hb, hml, hown, hts, hr, hlk, hnm⟩ hw hI hbc hbs (lv_sub hl [2, 0, 3] rfl)
          · have hw := hw.2 hc_44
            refine ga_aload_n hx hb dJ30_getChars_91 rfl (lv_at hl 2 rfl) ?_
            refine lv_iinc (v := (x5_36 + (-1 : Int32)) + (-1 : Int32)) (lv' := [(5, .int ((x5_36 + (-1 : Int32)) + (-1 : Int32))), (0, .int x0_36), (2, va_rf v2), (6, .int t0)]) hx hb dJ30_getChars_92 hl (k := 0) rfl rfl (by decide) rfl (fun ls hl => ?_)
            refine lv_iload hx hb dJ30_getChars_95 (lv_at hl 0 rfl) ?_
            refine ga_sget (v := .ref (g.2.2.2 3)) hx hb hts hown hI 5 rfl q1005 (fun _ z => z) dJ30_getChars_97 ?_
            refine lv_iload_n hx hb dJ30_getChars_100 rfl (lv_at hl 1 rfl) ?_
            refine lv_ineg hx hb dJ30_getChars_101 ?_
            obtain ⟨n_45, f_46, hq, hi, hw⟩ := hw
            refine ga_ldb hx hb hI hq hi dJ30_getChars_102 ?_
            obtain ⟨a_47, ea_47, hw⟩ := hw
            rewrite [ea_47]
            obtain ⟨n_48, f_49, hq, hi, hw⟩ := hw
            refine ga_stb hx hb hI hq hi dJ30_getChars_103 (fun H locs hI => ?_)
            obtain ⟨h_50, eh_50⟩ : ∃ z, z = ga_set h_43 a_47 (ga_Ab n_48 (upd f_49 ((x5_36 + (-1 : Int32)) + (-1 : Int32)).toNatClampNeg (vp_nar .byte (f_46 (-x0_36).toNatClampNeg)))) := ⟨_, rfl⟩
            rw [← eh_50] at hI
            have hw := hw h_50 eh_50
            exact gj_J30_getChars_104 g post v2 ((x5_36 + (-1 : Int32)) + (-1 : Int32)) t0 h_50 ⟨hx, hb, hml, hown, hts, hr, hlk, hnm⟩ hw hI hbc hbs (lv_sub hl [2, 0, 3] rfl)
        · have hw := hw.2 hc_37
          refine lv_iload_n hx hb dJ30_getChars_28 rfl (lv_at hl 0 rfl) ?_
          refine lv_bipush (v := 100) hx hb dJ30_getChars_29 (by decide) ?_
          refine lv_idiv hx hb dJ30_getChars_31 (by decide) ?_
          refine lv_istore_n (i := 3) (lv' := [(3, .int (x0_36 / (100 : Int32))), (0, .int x0_36), (2, va_rf v2), (5, .int x5_36), (6, .int t0)]) hx hb dJ30_getChars_32 rfl hl (by decide) (by simp [ga_rcat, ga_cat_r, ga_cat_i, ga_cat_f, ga_cat_l, ga_cat_d]) (fun ls hl => ?_)
          refine lv_iload_n hx hb dJ30_getChars_33 rfl (lv_at hl 0 rfl) ?_
          refine lv_bipush (v := 100) hx hb dJ30_getChars_34 (by decide) ?_
          refine lv_imul hx hb dJ30_getChars_36 ?_
          refine lv_iload_n hx hb dJ30_getChars_37 rfl (lv_at hl 1 rfl) ?_
          refine lv_isub hx hb dJ30_getChars_38 ?_
          refine lv_topi (fun x_51 ex_51 => ?_)
          have hw := hw x_51 ex_51
          refine lv_istore (lv' := [(4, .int x_51), (3, .int (x0_36 / (100 : Int32))), (0, .int x0_36), (2, va_rf v2), (5, .int x5_36), (6, .int t0)]) hx hb dJ30_getChars_39 hl (by decide) rfl (fun ls hl => ?_)
          refine lv_iload_n hx hb dJ30_getChars_41 rfl (lv_at hl 1 rfl) ?_
          refine lv_istore_n (i := 0) (lv' := [(0, .int (x0_36 / (100 : Int32))), (4, .int x_51), (3, .int (x0_36 / (100 : Int32))), (2, va_rf v2), (5, .int x5_36), (6, .int t0)]) hx hb dJ30_getChars_42 rfl hl (by decide) rfl (fun ls hl => ?_)
          refine ga_aload_n hx hb dJ30_getChars_43 rfl (lv_at hl 3 rfl) ?_
          refine lv_iinc (v := x5_36 + (-1 : Int32)) (lv' := [(5, .int (x5_36 + (-1 : Int32))), (0, .int (x0_36 / (100 : Int32))), (4, .int x_51), (3, .int (x0_36 / (100 : Int32))), (2, va_rf v2), (6, .int t0)]) hx hb dJ30_getChars_44 hl (k := 4) rfl rfl (by decide) rfl (fun ls hl => ?_)
          refine lv_iload hx hb dJ30_getChars_47 (lv_at hl 0 rfl) ?_
          refine ga_sget (v := .ref (g.2.2.2 2)) hx hb hts hown hI 4 rfl q1003 (fun _ z => z) dJ30_getChars_49 ?_
          refine lv_iload hx hb dJ30_getChars_52 (lv_at hl 2 rfl) ?_
          obtain ⟨n_52, f_53, hq, hi, hw⟩ := hw
          refine ga_ldb hx hb hI hq hi dJ30_getChars_54 ?_
          obtain ⟨a_54, ea_54, hw⟩ := hw
          rewrite [ea_54]
          obtain ⟨n_55, f_56, hq, hi, hw⟩ := hw
          refine ga_stb hx hb hI hq hi dJ30_getChars_55 (fun H locs hI => ?_)
          obtain ⟨h_57, eh_57⟩ : ∃ z, z = ga_set h_36 a_54 (ga_Ab n_55 (upd f_56 (x5_36 + (-1 : Int32)).toNatClampNeg (vp_nar .byte (f_53 x_51.toNatClampNeg)))) := ⟨_, rfl⟩
          rw [← eh_57] at hI
          have hw := hw h_57 eh_57
          refine ga_aload_n hx hb dJ30_getChars_56 rfl (lv_at hl 4 rfl) ?_
          refine lv_iinc (v := (x5_36 + (-1 : Int32)) + (-1 : Int32)) (lv' := [(5, .int ((x5_36 + (-1 : Int32)) + (-1 : Int32))), (0, .int (x0_36 / (100 : Int32))), (4, .int x_51), (3, .int (x0_36 / (100 : Int32))), (2, va_rf v2), (6, .int t0)]) hx hb dJ30_getChars_57 hl (k := 0) rfl rfl (by decide) rfl (fun ls hl => ?_)
          refine lv_iload hx hb dJ30_getChars_60 (lv_at hl 0 rfl) ?_
          refine ga_sget (v := .ref (g.2.2.2 3)) hx hb hts hown hI 5 rfl q1005 (fun _ z => z) dJ30_getChars_62 ?_
          refine lv_iload hx hb dJ30_getChars_65 (lv_at hl 2 rfl) ?_
          obtain ⟨n_58, f_59, hq, hi, hw⟩ := hw
          refine ga_ldb hx hb hI hq hi dJ30_getChars_67 ?_
          obtain ⟨a_60, ea_60, hw⟩ := hw
          rewrite [ea_60]
          obtain ⟨n_61, f_62, hq, hi, hw⟩ := hw
          refine ga_stb hx hb hI hq hi dJ30_getChars_68 (fun H locs hI => ?_)
          obtain ⟨h_63, eh_63⟩ : ∃ z, z = ga_set h_57 a_60 (ga_Ab n_61 (upd f_62 ((x5_36 + (-1 : Int32)) + (-1 : Int32)).toNatClampNeg (vp_nar .byte (f_59 x_51.toNatClampNeg)))) := ⟨_, rfl⟩
          rw [← eh_63] at hI
          have hw := hw h_63 eh_63
          refine lv_goto (tgt := 22) hx hb dJ30_getChars_69 (by decide) ?_
          exact ih_36 _ _ _ H locs cells slots ls (Nat.lt_of_lt_of_le hw.2 (Nat.le_of_lt_succ hn_36)) hw.1 hI hbc hbs (lv_sub hl [1, 4, 0, 5] rfl)
    exact hL_36 _ _ _ _ H locs cells slots ls (Nat.lt_succ_self _) h0_36 hI hbc hbs (lv_sub hl [0, 2, 3, 1] rfl)
def gw_J30_getChars (K : ga_K) (p0 : Int32) (p1 : Int32) (p2 : Option Nat) (h : ga_H) (post : Int32 → ga_H → Prop) : Prop :=
  ((0 : Int32) ≤ p0 → (gw_J30_getChars_12 K post (0 : Int32) p0 p2 p1 h)) ∧ (¬ (0 : Int32) ≤ p0 → (gw_J30_getChars_12 K post (1 : Int32) p0 p2 p1 h))
set_option maxHeartbeats 4000000 in
theorem gm_J30_getChars (l : Launch) (g : ga_G) (p0 : Int32) (p1 : Int32) (p2 : Option Nat) (h : ga_H) (post : Int32 → ga_H → Prop) (hw : gw_J30_getChars g.2.2 p0 p1 p2 h post) : Met l yJ30_getChars (ws_ yJ30_getChars cJ30_getChars 7 (some .int)) ({ frames := 8, cells := 0, slots := 0, locals := 140 } : Room) (va_Pc [.int p0, .int p1, va_rf p2] (ga_B g h)) (va_Qi post (ga_E g) (ga_A g)) 0 0 (ga_A g) := by
  refine ga_met (own := "java/lang/Integer") (nm := "getChars") (by decide) rfl rfl (by cases p2 <;> exact Nat.le_of_ble_eq_true rfl) (fun p e s m below meth c ls hC hI hl => ?_)
  have hl : lv_has ls 7 [(0, .int p0), (1, .int p1), (2, va_rf p2)] := (by cases p2 <;> exact hl)
  generalize ([.int p0, .int p1, va_rf p2] : List Value).toArray = args at hC ⊢
  obtain ⟨hx, hb, hml, hown, hts, hr, hlk, hnm⟩ := hC
  unfold gw_J30_getChars at hw
  obtain ⟨H, eH⟩ : ∃ z, z = s.heap := ⟨_, rfl⟩
  obtain ⟨locs, elo⟩ : ∃ z : List Loc, z = [] := ⟨_, rfl⟩
  rw [← eH, ← elo] at hI ⊢
  obtain ⟨cells, slots, hbc, hbs, e0, e1⟩ : ∃ a b : Nat, a ≤ 0 ∧ b ≤ 0 ∧ a = 0 ∧ b = 0 := ⟨0, 0, by omega, by omega, rfl, rfl⟩
  show W p l e ({ frames := 8, cells := 0, slots := 0, locals := 140 } : Room) s m args below meth c H locs 0 0 (MQ below (va_Qi post (ga_E g) (ga_A g)) args s 0 0 (ga_A g)) (F0 m 0 ls [])
  suffices hgoal : W p l e ({ frames := 8, cells := 0, slots := 0, locals := 140 } : Room) s m args below meth c H locs cells slots (MQ below (va_Qi post (ga_E g) (ga_A g)) args s 0 0 (ga_A g)) (F0 m 0 ls []) by rw [e0, e1] at hgoal; exact hgoal
  refine lv_iload_n hx hb dJ30_getChars_0 rfl (lv_at hl 1 rfl) ?_
  refine lv_istore (lv' := [(5, .int p1), (0, .int p0), (1, .int p1), (2, va_rf p2)]) hx hb dJ30_getChars_1 hl (by decide) rfl (fun ls hl => ?_)
  refine lv_iload_n hx hb dJ30_getChars_3 rfl (lv_at hl 1 rfl) ?_
  refine lv_if_ge (tgt := 11) hx hb dJ30_getChars_4 (by decide) (fun hc_1 => ?_) (fun hc_1 => ?_)
  · have hw := hw.1 hc_1
    refine lv_iconst (v := 0) hx hb dJ30_getChars_11 (by decide) ?_
    exact gj_J30_getChars_12 g post (0 : Int32) p0 p2 p1 h ⟨hx, hb, hml, hown, hts, hr, hlk, hnm⟩ hw hI hbc hbs (lv_sub hl [1, 3, 0] rfl)
  · have hw := hw.2 hc_1
    refine lv_iconst (v := 1) hx hb dJ30_getChars_7 (by decide) ?_
    refine lv_goto (tgt := 12) hx hb dJ30_getChars_8 (by decide) ?_
    exact gj_J30_getChars_12 g post (1 : Int32) p0 p2 p1 h ⟨hx, hb, hml, hown, hts, hr, hlk, hnm⟩ hw hI hbc hbs (lv_sub hl [1, 3, 0] rfl)
theorem hdG_J30_getChars : yJ30_getChars.cls ≠ "java/lang/invoke/MethodHandle" ∧ yJ30_getChars.cls ≠ "java/lang/invoke/VarHandle" ∧ (parseMethodDescriptor yJ30_getChars.desc).map (fun d => d.parameters.length) = some 3 := by decide +kernel
def gw_J5_append_2 (K : ga_K) (p0 : Nat) (p1 : Int32) (h : ga_H) (mc ms : Nat) (post : Option Nat → ga_H → Prop) : Prop :=
  ∃ (fs_1 : List Value) (v_2 : Int32), h p0 = some (ga_O 22 fs_1) ∧ fs_1[3]? = some (.int v_2) ∧ (gw_J30_stringSize p1 (fun (r_3 : Int32) => ∃ kc_4 ks_5 : Nat, kc_4 ≤ mc ∧ ks_5 ≤ ms ∧ ∃ fs_6 : List Value, ga_at K h p0 (ga_O 22 fs_6) ∧ gw_J5_ensureCapacityInternal K p0 (v_2 + r_3) h kc_4 ks_5 (fun (h_7 : ga_H) => ∃ fs_8 : List Value, ga_at K h_7 p0 (ga_O 22 fs_8) ∧ gw_J5_isLatin1 K p0 h_7 (fun (r_10 : Int32) (h_9 : ga_H) => (r_10 = (0 : Int32) → False) ∧ (¬ r_10 = (0 : Int32) → (∃ (fs_14 : List Value) (v_15 : Option Nat), h_9 p0 = some (ga_O 22 fs_14) ∧ fs_14[0]? = some (va_rf v_15) ∧ (gw_J30_getChars K p1 (v_2 + r_3) v_15 h_9 (fun (r_17 : Int32) (h_16 : ga_H) => ∃ fs_18 : List Value, h_16 p0 = some (ga_O 22 fs_18) ∧ 3 < fs_18.length ∧ ∀ h_19 : ga_H, h_19 = ga_set h_16 p0 (ga_O 22 (fs_18.set 3 (.int (v_2 + r_3)))) → (post (some p0) h_19)))))))))
set_option maxHeartbeats 4000000 in
theorem gm_J5_append_2 (l : Launch) (g : ga_G) (p0 : Nat) (p1 : Int32) (h : ga_H) (mc ms : Nat) (post : Option Nat → ga_H → Prop) (hw : gw_J5_append_2 g.2.2 p0 p1 h mc ms post) : Met l yJ5_append_2 (ws_ yJ5_append_2 cJ5_append_2 4 (some (.object "java/lang/AbstractStringBuilder"))) ({ frames := 11, cells := mc, slots := ms, locals := 210 } : Room) (va_Pc [.ref p0, .int p1] (ga_B g h)) (va_Qq post (ga_E g) (ga_A g)) mc ms (ga_A g) := by
  refine ga_met (own := "java/lang/AbstractStringBuilder") (nm := "append") (by decide) rfl rfl (by exact Nat.le_of_ble_eq_true rfl) (fun p e s m below meth c ls hC hI hl => ?_)
  have hl : lv_has ls 4 [(0, .ref p0), (1, .int p1)] := hl
  generalize ([.ref p0, .int p1] : List Value).toArray = args at hC ⊢
  obtain ⟨hx, hb, hml, hown, hts, hr, hlk, hnm⟩ := hC
  unfold gw_J5_append_2 at hw
  obtain ⟨H, eH⟩ : ∃ z, z = s.heap := ⟨_, rfl⟩
  obtain ⟨locs, elo⟩ : ∃ z : List Loc, z = [] := ⟨_, rfl⟩
  rw [← eH, ← elo] at hI ⊢
  obtain ⟨cells, slots, hbc, hbs, e0, e1⟩ : ∃ a b : Nat, a + mc ≤ mc ∧ b + ms ≤ ms ∧ a = 0 ∧ b = 0 := ⟨0, 0, by omega, by omega, rfl, rfl⟩
  show W p l e ({ frames := 11, cells := mc, slots := ms, locals := 210 } : Room) s m args below meth c H locs 0 0 (MQ below (va_Qq post (ga_E g) (ga_A g)) args s mc ms (ga_A g)) (F0 m 0 ls [])
  suffices hgoal : W p l e ({ frames := 11, cells := mc, slots := ms, locals := 210 } : Room) s m args below meth c H locs cells slots (MQ below (va_Qq post (ga_E g) (ga_A g)) args s mc ms (ga_A g)) (F0 m 0 ls []) by rw [e0, e1] at hgoal; exact hgoal
  refine lv_aload_n hx hb dJ5_append_2_0 rfl (lv_at hl 0 rfl) ?_
  obtain ⟨fs_1, v_2, hq, hv, hw⟩ := hw
  refine ga_get (ci := 22) (T := TJ6) (v := .int v_2) hx hb hts hown hI in_J6 rfl 3 (by decide) q375 (fun _ z => z) (ga_at.h hq) hv dJ5_append_2_1 ?_
  refine lv_istore_n (i := 2) (lv' := [(2, .int v_2), (0, .ref p0), (1, .int p1)]) hx hb dJ5_append_2_4 rfl hl (by decide) rfl (fun ls hl => ?_)
  refine lv_iload_n hx hb dJ5_append_2_5 rfl (lv_at hl 0 rfl) ?_
  refine lv_iload_n hx hb dJ5_append_2_6 rfl (lv_at hl 2 rfl) ?_
  refine ga_callS (As := [.int p1]) (rest := [.int v_2]) ⟨hx, hb, hml, hown, hts⟩ (gm_J30_stringSize l p1 _ hw) (va_cwS 1 hts (lw_S q997 q998 q136 q999) rfl rfl rfl hdG_J30_stringSize ⟨Nat.le_of_ble_eq_true rfl, Nat.le_of_ble_eq_true rfl⟩) rfl hl.1 rfl (ga_room (Nat.le_of_ble_eq_true rfl)) dJ5_append_2_7 hbc hbs (fun r_3 hw => ?_)
  refine lv_iadd hx hb dJ5_append_2_10 ?_
  refine lv_istore_n (i := 3) (lv' := [(3, .int (v_2 + r_3)), (2, .int v_2), (0, .ref p0), (1, .int p1)]) hx hb dJ5_append_2_11 rfl hl (by decide) rfl (fun ls hl => ?_)
  refine lv_aload_n hx hb dJ5_append_2_12 rfl (lv_at hl 2 rfl) ?_
  refine lv_iload_n hx hb dJ5_append_2_13 rfl (lv_at hl 0 rfl) ?_
  obtain ⟨kc_4, ks_5, hk1, hk2, hw⟩ := hw
  obtain ⟨fs_6, hq, hw⟩ := hw
  refine ga_callv (va_runU (As := [.int (v_2 + r_3)]) (rest := []) ⟨hx, hb, hml, hown, hts⟩ (gm_J5_ensureCapacityInternal l g p0 (v_2 + r_3) h kc_4 ks_5 _ hw) (ga_cwP (C := "java/lang/StringBuilder") 1 hts hI.2.1.1.2.1 q887 q4111 q919 rfl q888 q889 q109 (lw_meth q890) rfl rfl rfl hdG_J5_ensureCapacityInternal ⟨Nat.le_of_ble_eq_true rfl, Nat.le_of_ble_eq_true rfl⟩) (ga_preV (C := "java/lang/StringBuilder") hI hq rfl rfl) rfl rfl hl.1 rfl (ga_room (Nat.le_of_ble_eq_true rfl)) dJ5_append_2_14 ⟨Nat.le_trans (Nat.add_le_add_left hk1 _) hbc, Nat.le_trans (Nat.add_le_add_left hk2 _) hbs⟩) hI hbc hbs hk1 hk2 (fun h_7 H locs cells slots hw hI hbc hbs => ?_)
  refine lv_aload_n hx hb dJ5_append_2_17 rfl (lv_at hl 2 rfl) ?_
  obtain ⟨fs_8, hq, hw⟩ := hw
  refine ga_calli (va_runU (As := []) (rest := []) ⟨hx, hb, hml, hown, hts⟩ (gm_J5_isLatin1 l g p0 h_7 _ hw) (va_cwU 0 hts (lw_app (List.forall_mem_cons.mpr ⟨q916, List.forall_mem_cons.mpr ⟨q918, List.forall_mem_cons.mpr ⟨q919, List.forall_mem_cons.mpr ⟨q917, List.forall_mem_cons.mpr ⟨q109, fun _ h => absurd h List.not_mem_nil⟩⟩⟩⟩⟩) (lw_meth q920)) rfl rfl rfl rfl hdG_J5_isLatin1 ⟨Nat.le_of_ble_eq_true rfl, Nat.le_of_ble_eq_true rfl⟩) (ga_preV (C := "java/lang/StringBuilder") hI hq rfl rfl) rfl rfl hl.1 rfl (ga_room (Nat.le_of_ble_eq_true rfl)) dJ5_append_2_18 ⟨Nat.le_trans (Nat.add_le_add_left (Nat.zero_le _) _) hbc, Nat.le_trans (Nat.add_le_add_left (Nat.zero_le _) _) hbs⟩) hI hbc hbs (Nat.zero_le _) (Nat.zero_le _) (fun r_10 h_9 H locs cells slots hw hI hbc hbs => ?_)
  refine lv_if_eq (tgt := 37) hx hb dJ5_append_2_21 (by decide) (fun hc_11 => ?_) (fun hc_11 => ?_)
  · have hw := hw.1 hc_11
    exact hw.elim
  · have hw := hw.2 hc_11
    refine lv_iload_n hx hb dJ5_append_2_24 rfl (lv_at hl 3 rfl) ?_
    refine lv_iload_n hx hb dJ5_append_2_25 rfl (lv_at hl 0 rfl) ?_
    refine lv_aload_n hx hb dJ5_append_2_26 rfl (lv_at hl 2 rfl) ?_
    obtain ⟨fs_14, v_15, hq, hv, hw⟩ := hw
    refine ga_get (ci := 22) (T := TJ6) (v := va_rf v_15) hx hb hts hown hI in_J6 rfl 0 (by decide) q371 (fun _ z => z) (ga_at.h hq) hv dJ5_append_2_27 ?_
    refine ga_calli (va_runS (As := [.int p1, .int (v_2 + r_3), va_rf v_15]) (rest := []) ⟨hx, hb, hml, hown, hts⟩ (gm_J30_getChars l g p1 (v_2 + r_3) v_15 h_9 _ hw) (va_cwS 3 hts (lw_S q1000 q1001 q136 q1002) rfl rfl rfl hdG_J30_getChars ⟨Nat.le_of_ble_eq_true rfl, Nat.le_of_ble_eq_true rfl⟩) (ga_preS hI rfl) rfl rfl hl.1 rfl (ga_room (Nat.le_of_ble_eq_true rfl)) dJ5_append_2_30 ⟨Nat.le_trans (Nat.add_le_add_left (Nat.zero_le _) _) hbc, Nat.le_trans (Nat.add_le_add_left (Nat.zero_le _) _) hbs⟩) hI hbc hbs (Nat.zero_le _) (Nat.zero_le _) (fun r_17 h_16 H locs cells slots hw hI hbc hbs => ?_)
    refine lv_pop hx hb dJ5_append_2_33 rfl ?_
    refine lv_goto (tgt := 48) hx hb dJ5_append_2_34 (by decide) ?_
    refine lv_aload_n hx hb dJ5_append_2_48 rfl (lv_at hl 2 rfl) ?_
    refine lv_iload_n hx hb dJ5_append_2_49 rfl (lv_at hl 0 rfl) ?_
    obtain ⟨fs_18, hq, hk, hw⟩ := hw
    refine ga_put (ci := 22) (T := TJ6) (v := .int (v_2 + r_3)) (ty := tyJ6 3) hx hb hts hown hI in_J6 rfl tyJ6 tyJ6_ok nmJ6 3 (by decide) q375 (fun _ z => z) rfl (tyJ6_ok 3 (by decide)) rfl rfl hq hk dJ5_append_2_50 (fun H locs hI => ?_)
    obtain ⟨h_19, eh_19⟩ : ∃ z, z = ga_set h_16 p0 (ga_O 22 (fs_18.set 3 (.int (v_2 + r_3)))) := ⟨_, rfl⟩
    rw [← eh_19] at hI
    have hw := hw h_19 eh_19
    refine lv_aload_n hx hb dJ5_append_2_53 rfl (lv_at hl 2 rfl) ?_
    exact ga_qret (v := (some p0)) hx hb hr (Or.inl ⟨_, rfl⟩) hlk hI hw (Nat.le_trans (Nat.le_add_right _ _) hbc) (Nat.le_trans (Nat.le_add_right _ _) hbs) dJ5_append_2_54
theorem hdG_J5_append_2 : yJ5_append_2.cls ≠ "java/lang/invoke/MethodHandle" ∧ yJ5_append_2.cls ≠ "java/lang/invoke/VarHandle" ∧ (parseMethodDescriptor yJ5_append_2.desc).map (fun d => d.parameters.length) = some 1 := by decide +kernel
def gw_J6_append_2 (K : ga_K) (p0 : Nat) (p1 : Int32) (h : ga_H) (mc ms : Nat) (post : Option Nat → ga_H → Prop) : Prop :=
  ∃ kc_1 ks_2 : Nat, kc_1 ≤ mc ∧ ks_2 ≤ ms ∧ ∃ fs_3 : List Value, ga_at K h p0 (ga_O 22 fs_3) ∧ gw_J5_append_2 K p0 p1 h kc_1 ks_2 (fun (r_5 : Option Nat) (h_4 : ga_H) => post (some p0) h_4)
set_option maxHeartbeats 4000000 in
theorem gm_J6_append_2 (l : Launch) (g : ga_G) (p0 : Nat) (p1 : Int32) (h : ga_H) (mc ms : Nat) (post : Option Nat → ga_H → Prop) (hw : gw_J6_append_2 g.2.2 p0 p1 h mc ms post) : Met l yJ6_append_2 (ws_ yJ6_append_2 cJ6_append_2 2 (some (.object "java/lang/StringBuilder"))) ({ frames := 12, cells := mc, slots := ms, locals := 233 } : Room) (va_Pc [.ref p0, .int p1] (ga_B g h)) (va_Qq post (ga_E g) (ga_A g)) mc ms (ga_A g) := by
  refine ga_met (own := "java/lang/StringBuilder") (nm := "append") (by decide) rfl rfl (by exact Nat.le_of_ble_eq_true rfl) (fun p e s m below meth c ls hC hI hl => ?_)
  have hl : lv_has ls 2 [(0, .ref p0), (1, .int p1)] := hl
  generalize ([.ref p0, .int p1] : List Value).toArray = args at hC ⊢
  obtain ⟨hx, hb, hml, hown, hts, hr, hlk, hnm⟩ := hC
  unfold gw_J6_append_2 at hw
  obtain ⟨H, eH⟩ : ∃ z, z = s.heap := ⟨_, rfl⟩
  obtain ⟨locs, elo⟩ : ∃ z : List Loc, z = [] := ⟨_, rfl⟩
  rw [← eH, ← elo] at hI ⊢
  obtain ⟨cells, slots, hbc, hbs, e0, e1⟩ : ∃ a b : Nat, a + mc ≤ mc ∧ b + ms ≤ ms ∧ a = 0 ∧ b = 0 := ⟨0, 0, by omega, by omega, rfl, rfl⟩
  show W p l e ({ frames := 12, cells := mc, slots := ms, locals := 233 } : Room) s m args below meth c H locs 0 0 (MQ below (va_Qq post (ga_E g) (ga_A g)) args s mc ms (ga_A g)) (F0 m 0 ls [])
  suffices hgoal : W p l e ({ frames := 12, cells := mc, slots := ms, locals := 233 } : Room) s m args below meth c H locs cells slots (MQ below (va_Qq post (ga_E g) (ga_A g)) args s mc ms (ga_A g)) (F0 m 0 ls []) by rw [e0, e1] at hgoal; exact hgoal
  refine lv_aload_n hx hb dJ6_append_2_0 rfl (lv_at hl 0 rfl) ?_
  refine lv_iload_n hx hb dJ6_append_2_1 rfl (lv_at hl 1 rfl) ?_
  obtain ⟨kc_1, ks_2, hk1, hk2, hw⟩ := hw
  obtain ⟨fs_3, hq, hw⟩ := hw
  refine ga_callq (va_runSU (C := "java/lang/StringBuilder") (As := [.int p1]) (rest := []) (hI.2.1.1.1.1 22 _ rfl).2 ⟨hx, hb, hml, hown, hts⟩ (gm_J5_append_2 l g p0 p1 h kc_1 ks_2 _ hw) (va_cwSU 1 hts (lw_app (List.forall_mem_cons.mpr ⟨q994, List.forall_mem_cons.mpr ⟨q4116, List.forall_mem_cons.mpr ⟨q384, List.forall_mem_cons.mpr ⟨q995, List.forall_mem_cons.mpr ⟨q109, fun _ h => absurd h List.not_mem_nil⟩⟩⟩⟩⟩) (lw_meth q996)) rfl rfl rfl (by decide +kernel) ⟨Nat.le_of_ble_eq_true rfl, Nat.le_of_ble_eq_true rfl⟩) (ga_preV (C := "java/lang/StringBuilder") hI hq rfl rfl) rfl rfl hl.1 rfl (ga_room (Nat.le_of_ble_eq_true rfl)) dJ6_append_2_2 ⟨Nat.le_trans (Nat.add_le_add_left hk1 _) hbc, Nat.le_trans (Nat.add_le_add_left hk2 _) hbs⟩) hI hbc hbs hk1 hk2 (fun r_5 h_4 H locs cells slots hw hI hbc hbs => ?_)
  refine lv_pop hx hb dJ6_append_2_5 (ga_rcat _) ?_
  refine lv_aload_n hx hb dJ6_append_2_6 rfl (lv_at hl 0 rfl) ?_
  exact ga_qret (v := (some p0)) hx hb hr (Or.inl ⟨_, rfl⟩) hlk hI hw (Nat.le_trans (Nat.le_add_right _ _) hbc) (Nat.le_trans (Nat.le_add_right _ _) hbs) dJ6_append_2_7
theorem hdG_J6_append_2 : yJ6_append_2.cls ≠ "java/lang/invoke/MethodHandle" ∧ yJ6_append_2.cls ≠ "java/lang/invoke/VarHandle" ∧ (parseMethodDescriptor yJ6_append_2.desc).map (fun d => d.parameters.length) = some 1 := by decide +kernel
def gw_J5_getValue (K : ga_K) (p0 : Nat) (h : ga_H) (post : Option Nat → ga_H → Prop) : Prop :=
  ∃ (fs_1 : List Value) (v_2 : Option Nat), h p0 = some (ga_O 22 fs_1) ∧ fs_1[0]? = some (va_rf v_2) ∧ (post v_2 h)
set_option maxHeartbeats 4000000 in
theorem gm_J5_getValue (l : Launch) (g : ga_G) (p0 : Nat) (h : ga_H) (post : Option Nat → ga_H → Prop) (hw : gw_J5_getValue g.2.2 p0 h post) : Met l yJ5_getValue (ws_ yJ5_getValue cJ5_getValue 1 (some (.array .byte))) ({ frames := 8, cells := 0, slots := 0, locals := 140 } : Room) (va_Pc [.ref p0] (ga_B g h)) (va_Qq post (ga_E g) (ga_A g)) 0 0 (ga_A g) := by
  refine ga_met (own := "java/lang/AbstractStringBuilder") (nm := "getValue") (by decide) rfl rfl (by exact Nat.le_of_ble_eq_true rfl) (fun p e s m below meth c ls hC hI hl => ?_)
  have hl : lv_has ls 1 [(0, .ref p0)] := hl
  generalize ([.ref p0] : List Value).toArray = args at hC ⊢
  obtain ⟨hx, hb, hml, hown, hts, hr, hlk, hnm⟩ := hC
  unfold gw_J5_getValue at hw
  obtain ⟨H, eH⟩ : ∃ z, z = s.heap := ⟨_, rfl⟩
  obtain ⟨locs, elo⟩ : ∃ z : List Loc, z = [] := ⟨_, rfl⟩
  rw [← eH, ← elo] at hI ⊢
  obtain ⟨cells, slots, hbc, hbs, e0, e1⟩ : ∃ a b : Nat, a ≤ 0 ∧ b ≤ 0 ∧ a = 0 ∧ b = 0 := ⟨0, 0, by omega, by omega, rfl, rfl⟩
  show W p l e ({ frames := 8, cells := 0, slots := 0, locals := 140 } : Room) s m args below meth c H locs 0 0 (MQ below (va_Qq post (ga_E g) (ga_A g)) args s 0 0 (ga_A g)) (F0 m 0 ls [])
  suffices hgoal : W p l e ({ frames := 8, cells := 0, slots := 0, locals := 140 } : Room) s m args below meth c H locs cells slots (MQ below (va_Qq post (ga_E g) (ga_A g)) args s 0 0 (ga_A g)) (F0 m 0 ls []) by rw [e0, e1] at hgoal; exact hgoal
  refine lv_aload_n hx hb dJ5_getValue_0 rfl (lv_at hl 0 rfl) ?_
  obtain ⟨fs_1, v_2, hq, hv, hw⟩ := hw
  refine ga_get (ci := 22) (T := TJ6) (v := va_rf v_2) hx hb hts hown hI in_J6 rfl 0 (by decide) q371 (fun _ z => z) (ga_at.h hq) hv dJ5_getValue_1 ?_
  exact ga_qret (v := v_2) hx hb hr (Or.inr ⟨_, rfl⟩) hlk hI hw hbc hbs dJ5_getValue_4
theorem hdG_J5_getValue : yJ5_getValue.cls ≠ "java/lang/invoke/MethodHandle" ∧ yJ5_getValue.cls ≠ "java/lang/invoke/VarHandle" ∧ (parseMethodDescriptor yJ5_getValue.desc).map (fun d => d.parameters.length) = some 0 := by decide +kernel
def gw_J5_length (K : ga_K) (p0 : Nat) (h : ga_H) (post : Int32 → ga_H → Prop) : Prop :=
  ∃ (fs_1 : List Value) (v_2 : Int32), h p0 = some (ga_O 22 fs_1) ∧ fs_1[3]? = some (.int v_2) ∧ (post v_2 h)
set_option maxHeartbeats 4000000 in
theorem gm_J5_length (l : Launch) (g : ga_G) (p0 : Nat) (h : ga_H) (post : Int32 → ga_H → Prop) (hw : gw_J5_length g.2.2 p0 h post) : Met l yJ5_length (ws_ yJ5_length cJ5_length 1 (some .int)) ({ frames := 8, cells := 0, slots := 0, locals := 140 } : Room) (va_Pc [.ref p0] (ga_B g h)) (va_Qi post (ga_E g) (ga_A g)) 0 0 (ga_A g) := by
  refine ga_met (own := "java/lang/AbstractStringBuilder") (nm := "length") (by decide) rfl rfl (by exact Nat.le_of_ble_eq_true rfl) (fun p e s m below meth c ls hC hI hl => ?_)
  have hl : lv_has ls 1 [(0, .ref p0)] := hl
  generalize ([.ref p0] : List Value).toArray = args at hC ⊢
  obtain ⟨hx, hb, hml, hown, hts, hr, hlk, hnm⟩ := hC
  unfold gw_J5_length at hw
  obtain ⟨H, eH⟩ : ∃ z, z = s.heap := ⟨_, rfl⟩
  obtain ⟨locs, elo⟩ : ∃ z : List Loc, z = [] := ⟨_, rfl⟩
  rw [← eH, ← elo] at hI ⊢
  obtain ⟨cells, slots, hbc, hbs, e0, e1⟩ : ∃ a b : Nat, a ≤ 0 ∧ b ≤ 0 ∧ a = 0 ∧ b = 0 := ⟨0, 0, by omega, by omega, rfl, rfl⟩
  show W p l e ({ frames := 8, cells := 0, slots := 0, locals := 140 } : Room) s m args below meth c H locs 0 0 (MQ below (va_Qi post (ga_E g) (ga_A g)) args s 0 0 (ga_A g)) (F0 m 0 ls [])
  suffices hgoal : W p l e ({ frames := 8, cells := 0, slots := 0, locals := 140 } : Room) s m args below meth c H locs cells slots (MQ below (va_Qi post (ga_E g) (ga_A g)) args s 0 0 (ga_A g)) (F0 m 0 ls []) by rw [e0, e1] at hgoal; exact hgoal
  refine lv_aload_n hx hb dJ5_length_0 rfl (lv_at hl 0 rfl) ?_
  obtain ⟨fs_1, v_2, hq, hv, hw⟩ := hw
  refine ga_get (ci := 22) (T := TJ6) (v := .int v_2) hx hb hts hown hI in_J6 rfl 3 (by decide) q375 (fun _ z => z) (ga_at.h hq) hv dJ5_length_1 ?_
  exact ga_iret hx hb hr rfl hlk hI hw hbc hbs dJ5_length_4
theorem hdG_J5_length : yJ5_length.cls ≠ "java/lang/invoke/MethodHandle" ∧ yJ5_length.cls ≠ "java/lang/invoke/VarHandle" ∧ (parseMethodDescriptor yJ5_length.desc).map (fun d => d.parameters.length) = some 0 := by decide +kernel
def gw_J6_length (K : ga_K) (p0 : Nat) (h : ga_H) (post : Int32 → ga_H → Prop) : Prop :=
  ∃ fs_1 : List Value, ga_at K h p0 (ga_O 22 fs_1) ∧ gw_J5_length K p0 h (fun (r_3 : Int32) (h_2 : ga_H) => post r_3 h_2)
set_option maxHeartbeats 4000000 in
theorem gm_J6_length (l : Launch) (g : ga_G) (p0 : Nat) (h : ga_H) (post : Int32 → ga_H → Prop) (hw : gw_J6_length g.2.2 p0 h post) : Met l yJ6_length (ws_ yJ6_length cJ6_length 1 (some .int)) ({ frames := 9, cells := 0, slots := 0, locals := 160 } : Room) (va_Pc [.ref p0] (ga_B g h)) (va_Qi post (ga_E g) (ga_A g)) 0 0 (ga_A g) := by
  refine ga_met (own := "java/lang/StringBuilder") (nm := "length") (by decide) rfl rfl (by exact Nat.le_of_ble_eq_true rfl) (fun p e s m below meth c ls hC hI hl => ?_)
  have hl : lv_has ls 1 [(0, .ref p0)] := hl
  generalize ([.ref p0] : List Value).toArray = args at hC ⊢
  obtain ⟨hx, hb, hml, hown, hts, hr, hlk, hnm⟩ := hC
  unfold gw_J6_length at hw
  obtain ⟨H, eH⟩ : ∃ z, z = s.heap := ⟨_, rfl⟩
  obtain ⟨locs, elo⟩ : ∃ z : List Loc, z = [] := ⟨_, rfl⟩
  rw [← eH, ← elo] at hI ⊢
  obtain ⟨cells, slots, hbc, hbs, e0, e1⟩ : ∃ a b : Nat, a ≤ 0 ∧ b ≤ 0 ∧ a = 0 ∧ b = 0 := ⟨0, 0, by omega, by omega, rfl, rfl⟩
  show W p l e ({ frames := 9, cells := 0, slots := 0, locals := 160 } : Room) s m args below meth c H locs 0 0 (MQ below (va_Qi post (ga_E g) (ga_A g)) args s 0 0 (ga_A g)) (F0 m 0 ls [])
  suffices hgoal : W p l e ({ frames := 9, cells := 0, slots := 0, locals := 160 } : Room) s m args below meth c H locs cells slots (MQ below (va_Qi post (ga_E g) (ga_A g)) args s 0 0 (ga_A g)) (F0 m 0 ls []) by rw [e0, e1] at hgoal; exact hgoal
  refine lv_aload_n hx hb dJ6_length_0 rfl (lv_at hl 0 rfl) ?_
  obtain ⟨fs_1, hq, hw⟩ := hw
  refine ga_calli (va_runSU (C := "java/lang/StringBuilder") (As := []) (rest := []) (hI.2.1.1.1.1 22 _ rfl).2 ⟨hx, hb, hml, hown, hts⟩ (gm_J5_length l g p0 h _ hw) (va_cwSU 0 hts (lw_app (List.forall_mem_cons.mpr ⟨q1040, List.forall_mem_cons.mpr ⟨q1036, List.forall_mem_cons.mpr ⟨q384, List.forall_mem_cons.mpr ⟨q1035, List.forall_mem_cons.mpr ⟨q109, fun _ h => absurd h List.not_mem_nil⟩⟩⟩⟩⟩) (lw_meth q1041)) rfl rfl rfl (by decide +kernel) ⟨Nat.le_of_ble_eq_true rfl, Nat.le_of_ble_eq_true rfl⟩) (ga_preV (C := "java/lang/StringBuilder") hI hq rfl rfl) rfl rfl hl.1 rfl (ga_room (Nat.le_of_ble_eq_true rfl)) dJ6_length_1 ⟨hbc, hbs⟩) hI (bc := 0) (bs := 0) hbc hbs (Nat.zero_le _) (Nat.zero_le _) (fun r_3 h_2 H locs cells slots hw hI hbc hbs => ?_)
  exact ga_iret hx hb hr rfl hlk hI hw hbc hbs dJ6_length_4
theorem hdG_J6_length : yJ6_length.cls ≠ "java/lang/invoke/MethodHandle" ∧ yJ6_length.cls ≠ "java/lang/invoke/VarHandle" ∧ (parseMethodDescriptor yJ6_length.desc).map (fun d => d.parameters.length) = some 0 := by decide +kernel
def gw_J13_checkLength (K : ga_K) (p0 : Int32) (p1 : Int32) (h : ga_H) (mc ms : Nat) (post : ga_H → Prop) : Prop :=
  (p0 ≤ p1 → (post h)) ∧ (¬ p0 ≤ p1 → False)
set_option maxHeartbeats 4000000 in
theorem gm_J13_checkLength (l : Launch) (g : ga_G) (p0 : Int32) (p1 : Int32) (h : ga_H) (mc ms : Nat) (post : ga_H → Prop) (hw : gw_J13_checkLength g.2.2 p0 p1 h mc ms post) : Met l yJ13_checkLength (ws_ yJ13_checkLength cJ13_checkLength 2 none) ({ frames := 14, cells := mc, slots := ms, locals := 275 } : Room) (va_Pc [.int p0, .int p1] (ga_B g h)) (va_Qv post (ga_E g) (ga_A g)) mc ms (ga_A g) := by
  refine ga_met (own := "java/util/Arrays") (nm := "checkLength") (by decide) rfl rfl (by exact Nat.le_of_ble_eq_true rfl) (fun p e s m below meth c ls hC hI hl => ?_)
  have hl : lv_has ls 2 [(0, .int p0), (1, .int p1)] := hl
  generalize ([.int p0, .int p1] : List Value).toArray = args at hC ⊢
  obtain ⟨hx, hb, hml, hown, hts, hr, hlk, hnm⟩ := hC
  unfold gw_J13_checkLength at hw
  obtain ⟨H, eH⟩ : ∃ z, z = s.heap := ⟨_, rfl⟩
  obtain ⟨locs, elo⟩ : ∃ z : List Loc, z = [] := ⟨_, rfl⟩
  rw [← eH, ← elo] at hI ⊢
  obtain ⟨cells, slots, hbc, hbs, e0, e1⟩ : ∃ a b : Nat, a + mc ≤ mc ∧ b + ms ≤ ms ∧ a = 0 ∧ b = 0 := ⟨0, 0, by omega, by omega, rfl, rfl⟩
  show W p l e ({ frames := 14, cells := mc, slots := ms, locals := 275 } : Room) s m args below meth c H locs 0 0 (MQ below (va_Qv post (ga_E g) (ga_A g)) args s mc ms (ga_A g)) (F0 m 0 ls [])
  suffices hgoal : W p l e ({ frames := 14, cells := mc, slots := ms, locals := 275 } : Room) s m args below meth c H locs cells slots (MQ below (va_Qv post (ga_E g) (ga_A g)) args s mc ms (ga_A g)) (F0 m 0 ls []) by rw [e0, e1] at hgoal; exact hgoal
  refine lv_iload_n hx hb dJ13_checkLength_0 rfl (lv_at hl 1 rfl) ?_
  refine lv_iload_n hx hb dJ13_checkLength_1 rfl (lv_at hl 0 rfl) ?_
  refine lv_icmp_ge (tgt := 37) hx hb dJ13_checkLength_2 (by decide) (fun hc_1 => ?_) (fun hc_1 => ?_)
  · have hw := hw.1 hc_1
    exact ga_vret hx hb hr hlk hI hw (Nat.le_trans (Nat.le_add_right _ _) hbc) (Nat.le_trans (Nat.le_add_right _ _) hbs) dJ13_checkLength_37
  · have hw := hw.2 hc_1
    exact hw.elim
theorem hdG_J13_checkLength : yJ13_checkLength.cls ≠ "java/lang/invoke/MethodHandle" ∧ yJ13_checkLength.cls ≠ "java/lang/invoke/VarHandle" ∧ (parseMethodDescriptor yJ13_checkLength.desc).map (fun d => d.parameters.length) = some 2 := by decide +kernel
