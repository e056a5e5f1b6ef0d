set_option maxRecDepth 100000
def gw_X1_isPaper (p0 : Int32) (p1 : Int32) (post : Int32 → Prop) : Prop :=
  gw_X1_isIn p0 (0 : Int32) (3 : Int32) (fun (r_1 : Int32) => (r_1 = (0 : Int32) → (post (0 : Int32))) ∧ (¬ r_1 = (0 : Int32) → (gw_X1_isIn p1 (0 : Int32) (2 : Int32) (fun (r_3 : Int32) => (r_3 = (0 : Int32) → (post (0 : Int32))) ∧ (¬ r_3 = (0 : Int32) → (post (1 : Int32)))))))
set_option maxHeartbeats 4000000 in
theorem gm_X1_isPaper (l : Launch) (p0 : Int32) (p1 : Int32) (post : Int32 → Prop) (hw : gw_X1_isPaper p0 p1 post) : Met l yX1_isPaper (ws_ yX1_isPaper cX1_isPaper 2 (some .boolean)) ({ frames := 9, cells := 0, slots := 0, locals := 162 } : Room) (va_Pc [.int p0, .int p1] (fun _ => True)) (vp_Si post) 0 0 (fun _ => False) := by
  refine ga_metS (own := "PaperStore") (nm := "isPaper") (by decide) rfl rfl (by exact Nat.le_of_ble_eq_true rfl) (fun p e s m below meth c ls hC hl => ?_)
  have hl : lv_has ls 2 [(0, .int p0), (1, .int p1)] := hl
  generalize ([.int p0, .int p1] : List Value).toArray = args at hC ⊢
  obtain ⟨hx, hb, hml, hown, hts, hr, hlk, hnm⟩ := hC
  unfold gw_X1_isPaper at hw
  refine lv_iload_n hx hb dX1_isPaper_0 rfl (lv_at hl 0 rfl) ?_
  refine lv_iconst (v := 0) hx hb dX1_isPaper_1 (by decide) ?_
  refine lv_iconst (v := 3) hx hb dX1_isPaper_2 (by decide) ?_
  refine zt_callS (As := [.int p0, .int (0 : Int32), .int (3 : Int32)]) (rest := []) ⟨hx, hb, hml, hown, hts⟩ (gm_X1_isIn l p0 (0 : Int32) (3 : Int32) _ hw) (va_cwS 3 hts (lw_S q2024 q2025 q100 q2026) rfl rfl rfl hdG_X1_isIn ⟨Nat.le_of_ble_eq_true rfl, Nat.le_of_ble_eq_true rfl⟩) rfl hl.1 rfl (ga_room (Nat.le_of_ble_eq_true rfl)) dX1_isPaper_3 ⟨Nat.le_refl _, Nat.le_refl _⟩ (fun r_1 hw => ?_)
  refine lv_if_eq (tgt := 22) hx hb dX1_isPaper_6 (by decide) (fun hc_2 => ?_) (fun hc_2 => ?_)
  · have hw := hw.1 hc_2
    refine lv_iconst (v := 0) hx hb dX1_isPaper_22 (by decide) ?_
    exact ga_sret hx hb hr hlk rfl hw dX1_isPaper_23
  · have hw := hw.2 hc_2
    refine lv_iload_n hx hb dX1_isPaper_9 rfl (lv_at hl 1 rfl) ?_
    refine lv_iconst (v := 0) hx hb dX1_isPaper_10 (by decide) ?_
    refine lv_iconst (v := 2) hx hb dX1_isPaper_11 (by decide) ?_
    refine zt_callS (As := [.int p1, .int (0 : Int32), .int (2 : Int32)]) (rest := []) ⟨hx, hb, hml, hown, hts⟩ (gm_X1_isIn l p1 (0 : Int32) (2 : Int32) _ hw) (va_cwS 3 hts (lw_S q2024 q2025 q100 q2026) rfl rfl rfl hdG_X1_isIn ⟨Nat.le_of_ble_eq_true rfl, Nat.le_of_ble_eq_true rfl⟩) rfl hl.1 rfl (ga_room (Nat.le_of_ble_eq_true rfl)) dX1_isPaper_12 ⟨Nat.le_refl _, Nat.le_refl _⟩ (fun r_3 hw => ?_)
    refine lv_if_eq (tgt := 22) hx hb dX1_isPaper_15 (by decide) (fun hc_4 => ?_) (fun hc_4 => ?_)
    · have hw := hw.1 hc_4
      refine lv_iconst (v := 0) hx hb dX1_isPaper_22 (by decide) ?_
      exact ga_sret hx hb hr hlk rfl hw dX1_isPaper_23
    · have hw := hw.2 hc_4
      refine lv_iconst (v := 1) hx hb dX1_isPaper_18 (by decide) ?_
      refine lv_goto (tgt := 23) hx hb dX1_isPaper_19 (by decide) ?_
      exact ga_sret hx hb hr hlk rfl hw dX1_isPaper_23
theorem hdG_X1_isPaper : yX1_isPaper.cls ≠ "java/lang/invoke/MethodHandle" ∧ yX1_isPaper.cls ≠ "java/lang/invoke/VarHandle" ∧ (parseMethodDescriptor yX1_isPaper.desc).map (fun d => d.parameters.length) = some 2 := by decide +kernel
def gw_X2_store_92 (K : ga_K) (post : Int32 → ga_H → Prop) (xp : String → Nat → ga_H → Prop) (p0 : Nat) (t0 : Int32) (v3 : Option Nat) (v4 : Int32) (v6 : Option Nat) (h : ga_H) (bc bs : Nat) : Prop :=
  ∃ kc_57 ks_58 : Nat, kc_57 ≤ bc ∧ ks_58 ≤ bs ∧ gw_X1_refuse K t0 (1 : Int32) (30 : Int32) h kc_57 ks_58 (fun (h_59 : ga_H) => 1 ≤ (bc - kc_57) ∧ 5 ≤ (bs - ks_58) ∧ ∀ q_63 : Nat, h_59 q_63 = none → ∀ h_64 : ga_H, h_64 = ga_set h_59 q_63 (ga_O 4 [.int 0, va_rf none, .int 0, .int 0, .int 0]) → (∃ (fs_65 : List Value) (v_66 : Option Nat), h_64 p0 = some (ga_O 1 fs_65) ∧ fs_65[4]? = some (va_rf v_66) ∧ (∃ a_67 : Nat, v_66 = some a_67 ∧ ∃ fs_68 : List Value, ga_at K h_64 a_67 (ga_O 13 fs_68) ∧ gw_J2_size K a_67 h_64 (fun (r_70 : Int32) (h_69 : ga_H) => gw_X6_init K q_63 r_70 v3 v4 h_69 (fun (h_71 : ga_H) => ∃ (fs_72 : List Value) (v_73 : Option Nat), h_71 p0 = some (ga_O 1 fs_72) ∧ fs_72[4]? = some (va_rf v_73) ∧ (∃ a_74 : Nat, v_73 = some a_74 ∧ ∃ kc_75 ks_76 : Nat, kc_75 ≤ ((bc - kc_57) - 1) ∧ ks_76 ≤ ((bs - ks_58) - 5) ∧ ∃ fs_77 : List Value, ga_at K h_71 a_74 (ga_O 13 fs_77) ∧ gw_J2_add K a_74 (some q_63) h_71 kc_75 ks_76 (fun (r_79 : Int32) (h_78 : ga_H) => ∃ a_80 : Nat, v6 = some a_80 ∧ ∃ kc_81 ks_82 : Nat, kc_81 ≤ (((bc - kc_57) - 1) - kc_75) ∧ ks_82 ≤ (((bs - ks_58) - 5) - ks_76) ∧ ∃ fs_83 : List Value, ga_at K h_78 a_80 (ga_O 13 fs_83) ∧ gw_J2_add K a_80 (some q_63) h_78 kc_81 ks_82 (fun (r_85 : Int32) (h_84 : ga_H) => ∃ (fs_86 : List Value) (v_87 : Int32), h_84 q_63 = some (ga_O 4 fs_86) ∧ fs_86[0]? = some (.int v_87) ∧ (post v_87 h_84))))))))) (fun (E_60 : String) (q_61 : Nat) (h_62 : ga_H) => xp E_60 q_61 h_62)
set_option maxHeartbeats 4000000 in
theorem gj_X2_store_92 {p : Program} {l : Launch} {e : Env} {s : State} {m : MethodId} {args : Array Value} {below : List Frame} {meth : Method} {c : Code} {mc ms : Nat} {H : Heap} {locs : List Loc} {cells slots : Nat} {ls : Array Slot} (hst : l.stackTraces = false) (htab : c.exceptionTable.toList = []) (g : ga_G) (post : Int32 → ga_H → Prop) (xp : String → Nat → ga_H → Prop) (p0 : Nat) (t0 : Int32) (v3 : Option Nat) (v4 : Int32) (v6 : Option Nat) (h : ga_H) (bc bs : Nat) (hC : ga_Cx p s m args meth c cX2_store 8 (some .int) "PaperStore$Store" "store") (hw : gw_X2_store_92 g.2.2 post xp p0 t0 v3 v4 v6 h bc bs) (hI : ga_I g h s H locs) (hbc : cells + bc ≤ mc) (hbs : slots + bs ≤ ms) (hl : lv_has ls 8 [(0, .ref p0), (3, va_rf v3), (4, .int v4), (6, va_rf v6)]) : W p l e ({ frames := 14, cells := mc, slots := ms, locals := 271 } : Room) s m args below meth c H locs cells slots (vx_MQ below (va_Qi post (ga_E g) (ga_A g)) (ga_X g xp) args s mc ms (ga_A g)) (F0 m 92 ls [.int t0]) := by
  obtain ⟨hx, hb, hml, hown, hts, hr, hlk, hnm⟩ := hC
  unfold gw_X2_store_92 at hw
  refine lv_iconst (v := 1) hx hb dX2_store_92 (by decide) ?_
  refine lv_bipush (v := 30) hx hb dX2_store_93 (by decide) ?_
  obtain ⟨kc_57, ks_58, hk1, hk2, hw⟩ := hw
  refine ga_xcallv (vx_runSN (As := [.int t0, .int (1 : Int32), .int (30 : Int32)]) (rest := []) ⟨hx, hb, hml, hown, hts⟩ (gm_X1_refuse l hst g t0 (1 : Int32) (30 : Int32) h kc_57 ks_58 _ _ hw) ⟨va_cnB 3 hts (lw_meth q2042) rfl rfl rfl (hI.2.1.1.2.1 _ (ga_nin q2040 rfl)) (hts _ q100) hdG_X1_refuse ⟨Nat.le_of_ble_eq_true rfl, Nat.le_of_ble_eq_true rfl⟩, hts _ q2041, trivial⟩ (ga_preS hI rfl) rfl rfl hl.1 rfl (ga_room (Nat.le_of_ble_eq_true rfl)) dX2_store_95 ⟨Nat.le_trans (Nat.add_le_add_left hk1 _) hbc, Nat.le_trans (Nat.add_le_add_left hk2 _) hbs⟩) hI hbc hbs hk1 hk2 (fun E_60 q_61 h_62 ce H locs cells slots hw hI hce hbc hbs => ?_) (fun h_59 H locs cells slots hw hI hbc hbs => ?_)
  · exact ga_out hown hlk hI hw (by rw [htab]; intro z hz; cases hz) hce (Nat.le_trans (Nat.le_add_right _ _) hbc) (Nat.le_trans (Nat.le_add_right _ _) hbs)
  · skip
    refine ga_new (ci := 4) (T := TX6) hx hb hts hown hI in_X6 rfl tyX6 tyX6_ok q1334 q1288 q137 [.int 0, va_rf none, .int 0, .int 0, .int 0] ga_df_X6 hbc hbs hw.1 hw.2.1 dX2_store_98 (fun q_63 H cells slots hn_q_63 hI hbc hbs => ?_)
    obtain ⟨h_64, eh_64⟩ : ∃ z, z = ga_set h_59 q_63 (ga_O 4 [.int 0, va_rf none, .int 0, .int 0, .int 0]) := ⟨_, rfl⟩
    rw [← eh_64] at hI
    have hw := hw.2.2 q_63 hn_q_63 h_64 eh_64
    refine lv_dup hx hb dX2_store_101 rfl ?_
    refine lv_aload_n hx hb dX2_store_102 rfl (lv_at hl 0 rfl) ?_
    obtain ⟨fs_65, v_66, hq, hv, hw⟩ := hw
    refine ga_get (ci := 1) (T := TX2) (v := va_rf v_66) hx hb hts hown hI in_X2 rfl 4 (by decide) q318 (fun _ z => z) (ga_at.h hq) hv dX2_store_103 ?_
    obtain ⟨a_67, ea_67, hw⟩ := hw
    rewrite [ea_67]
    obtain ⟨fs_68, hq, hw⟩ := hw
    refine ga_calli (va_runV (As := []) (rest := [.ref q_63, .ref q_63]) ⟨hx, hb, hml, hown, hts⟩ (gm_J2_size l g a_67 h_64 _ hw) (cwV 0 hts (lw_V q2039 q536 q4117 q104 q537) rfl rfl rfl ⟨rfl, hdG_J2_size⟩ ⟨Nat.le_of_ble_eq_true rfl, Nat.le_of_ble_eq_true rfl⟩) (ga_preV hI hq rfl rfl) rfl rfl hl.1 rfl (ga_room (Nat.le_of_ble_eq_true rfl)) dX2_store_106 ⟨Nat.le_trans (Nat.add_le_add_left (Nat.zero_le _) _) hbc, Nat.le_trans (Nat.add_le_add_left (Nat.zero_le _) _) hbs⟩) hI hbc hbs (Nat.zero_le _) (Nat.zero_le _) (fun r_70 h_69 H locs cells slots hw hI hbc hbs => ?_)
    refine ga_aload_n hx hb dX2_store_109 rfl (lv_at hl 1 rfl) ?_
    refine lv_iload hx hb dX2_store_110 (lv_at hl 2 rfl) ?_
    refine ga_callv (va_runI (As := [.int r_70, va_rf v3, .int v4]) (rest := [.ref q_63]) ⟨hx, hb, hml, hown, hts⟩ (gm_X6_init l g q_63 r_70 v3 v4 h_69 _ hw) (cwI 3 hts (lw_meth q1291) rfl rfl rfl (hts _ q137) (hts _ q2184) (hts _ q1290) rfl hdG_X6_init ⟨Nat.le_of_ble_eq_true rfl, Nat.le_of_ble_eq_true rfl⟩) (ga_preS hI rfl) rfl rfl hl.1 rfl (ga_room (Nat.le_of_ble_eq_true rfl)) dX2_store_112 ⟨Nat.le_trans (Nat.add_le_add_left (Nat.zero_le _) _) hbc, Nat.le_trans (Nat.add_le_add_left (Nat.zero_le _) _) hbs⟩) hI hbc hbs (Nat.zero_le _) (Nat.zero_le _) (fun h_71 H locs cells slots hw hI hbc hbs => ?_)
    refine lv_astore (lv' := [(7, .ref q_63), (0, .ref p0), (3, va_rf v3), (4, .int v4), (6, va_rf v6)]) hx hb dX2_store_115 hl (by decide) (by simp [ga_rcat, ga_cat_r, ga_cat_i, ga_cat_f, ga_cat_l, ga_cat_d]) (fun ls hl => ?_)
    refine lv_aload_n hx hb dX2_store_117 rfl (lv_at hl 1 rfl) ?_
    obtain ⟨fs_72, v_73, hq, hv, hw⟩ := hw
    refine ga_get (ci := 1) (T := TX2) (v := va_rf v_73) hx hb hts hown hI in_X2 rfl 4 (by decide) q318 (fun _ z => z) (ga_at.h hq) hv dX2_store_118 ?_
    refine lv_aload hx hb dX2_store_121 (lv_at hl 0 rfl) ?_
    obtain ⟨a_74, ea_74, hw⟩ := hw
    rewrite [ea_74]
    obtain ⟨kc_75, ks_76, hk1, hk2, hw⟩ := hw
    obtain ⟨fs_77, hq, hw⟩ := hw
    refine ga_calli (va_runV (As := [va_rf (some q_63)]) (rest := []) ⟨hx, hb, hml, hown, hts⟩ (gm_J2_add l g a_74 (some q_63) h_71 kc_75 ks_76 _ hw) (cwV 1 hts (lw_V q1356 q1321 q1322 q104 q1323) rfl rfl rfl ⟨rfl, hdG_J2_add⟩ ⟨Nat.le_of_ble_eq_true rfl, Nat.le_of_ble_eq_true rfl⟩) (ga_preV hI hq rfl rfl) rfl rfl hl.1 rfl (ga_room (Nat.le_of_ble_eq_true rfl)) dX2_store_123 ⟨Nat.le_trans (Nat.add_le_add_left hk1 _) hbc, Nat.le_trans (Nat.add_le_add_left hk2 _) hbs⟩) hI hbc hbs hk1 hk2 (fun r_79 h_78 H locs cells slots hw hI hbc hbs => ?_)
    refine lv_pop hx hb dX2_store_126 rfl ?_
    refine ga_aload hx hb dX2_store_127 (lv_at hl 4 rfl) ?_
    refine lv_aload hx hb dX2_store_129 (lv_at hl 0 rfl) ?_
    obtain ⟨a_80, ea_80, hw⟩ := hw
    rewrite [ea_80]
    obtain ⟨kc_81, ks_82, hk1, hk2, hw⟩ := hw
    obtain ⟨fs_83, hq, hw⟩ := hw
    refine ga_calli (va_runV (As := [va_rf (some q_63)]) (rest := []) ⟨hx, hb, hml, hown, hts⟩ (gm_J2_add l g a_80 (some q_63) h_78 kc_81 ks_82 _ hw) (cwV 1 hts (lw_V q1356 q1321 q1322 q104 q1323) rfl rfl rfl ⟨rfl, hdG_J2_add⟩ ⟨Nat.le_of_ble_eq_true rfl, Nat.le_of_ble_eq_true rfl⟩) (ga_preV hI hq rfl rfl) rfl rfl hl.1 rfl (ga_room (Nat.le_of_ble_eq_true rfl)) dX2_store_131 ⟨Nat.le_trans (Nat.add_le_add_left hk1 _) hbc, Nat.le_trans (Nat.add_le_add_left hk2 _) hbs⟩) hI hbc hbs hk1 hk2 (fun r_85 h_84 H locs cells slots hw hI hbc hbs => ?_)
    refine lv_pop hx hb dX2_store_134 rfl ?_
    refine lv_aload hx hb dX2_store_135 (lv_at hl 0 rfl) ?_
    obtain ⟨fs_86, v_87, hq, hv, hw⟩ := hw
    refine ga_getN (ci := 4) (T := TX6) (v := .int v_87) hx hb hts hown hI in_X6 rfl 0 (by decide) q1294 (fun _ z => z) (ga_at.h hq) hv dX2_store_137 ?_
    exact ga_iretx hx hb hr rfl hlk hI hw (Nat.le_trans (Nat.le_add_right _ _) hbc) (Nat.le_trans (Nat.le_add_right _ _) hbs) dX2_store_140
def gw_X2_store_70 (K : ga_K) (post : Int32 → ga_H → Prop) (xp : String → Nat → ga_H → Prop) (p0 : Nat) (t0 : Int32) (v2 : Int32) (v3 : Option Nat) (v4 : Int32) (v6 : Option Nat) (h : ga_H) (bc bs : Nat) : Prop :=
  ∃ kc_44 ks_45 : Nat, kc_44 ≤ bc ∧ ks_45 ≤ bs ∧ gw_X1_refuse K t0 (3 : Int32) v2 h kc_44 ks_45 (fun (h_46 : ga_H) => ∃ (fs_50 : List Value) (v_51 : Option Nat), h_46 p0 = some (ga_O 1 fs_50) ∧ fs_50[4]? = some (va_rf v_51) ∧ (∃ a_52 : Nat, v_51 = some a_52 ∧ ∃ fs_53 : List Value, ga_at K h_46 a_52 (ga_O 13 fs_53) ∧ gw_J2_size K a_52 h_46 (fun (r_55 : Int32) (h_54 : ga_H) => (¬ r_55 = (30 : Int32) → (gw_X2_store_92 K post xp p0 (0 : Int32) v3 v4 v6 h_54 (bc - kc_44) (bs - ks_45))) ∧ (r_55 = (30 : Int32) → (gw_X2_store_92 K post xp p0 (1 : Int32) v3 v4 v6 h_54 (bc - kc_44) (bs - ks_45)))))) (fun (E_47 : String) (q_48 : Nat) (h_49 : ga_H) => xp E_47 q_48 h_49)
set_option maxHeartbeats 4000000 in
theorem gj_X2_store_70 {p : Program} {l : Launch} {e : Env} {s : State} {m : MethodId} {args : Array Value} {below : List Frame} {meth : Method} {c : Code} {mc ms : Nat} {H : Heap} {locs : List Loc} {cells slots : Nat} {ls : Array Slot} (hst : l.stackTraces = false) (htab : c.exceptionTable.toList = []) (g : ga_G) (post : Int32 → ga_H → Prop) (xp : String → Nat → ga_H → Prop) (p0 : Nat) (t0 : Int32) (v2 : Int32) (v3 : Option Nat) (v4 : Int32) (v6 : Option Nat) (h : ga_H) (bc bs : Nat) (hC : ga_Cx p s m args meth c cX2_store 8 (some .int) "PaperStore$Store" "store") (hw : gw_X2_store_70 g.2.2 post xp p0 t0 v2 v3 v4 v6 h bc bs) (hI : ga_I g h s H locs) (hbc : cells + bc ≤ mc) (hbs : slots + bs ≤ ms) (hl : lv_has ls 8 [(0, .ref p0), (2, .int v2), (3, va_rf v3), (4, .int v4), (6, va_rf v6)]) : W p l e ({ frames := 14, cells := mc, slots := ms, locals := 271 } : Room) s m args below meth c H locs cells slots (vx_MQ below (va_Qi post (ga_E g) (ga_A g)) (ga_X g xp) args s mc ms (ga_A g)) (F0 m 70 ls [.int t0]) := by
  obtain ⟨hx, hb, hml, hown, hts, hr, hlk, hnm⟩ := hC
  unfold gw_X2_store_70 at hw
  refine lv_iconst (v := 3) hx hb dX2_store_70 (by decide) ?_
  refine lv_iload_n hx hb dX2_store_71 rfl (lv_at hl 1 rfl) ?_
  obtain ⟨kc_44, ks_45, hk1, hk2, hw⟩ := hw
  refine ga_xcallv (vx_runSN (As := [.int t0, .int (3 : Int32), .int v2]) (rest := []) ⟨hx, hb, hml, hown, hts⟩ (gm_X1_refuse l hst g t0 (3 : Int32) v2 h kc_44 ks_45 _ _ hw) ⟨va_cnB 3 hts (lw_meth q2042) rfl rfl rfl (hI.2.1.1.2.1 _ (ga_nin q2040 rfl)) (hts _ q100) hdG_X1_refuse ⟨Nat.le_of_ble_eq_true rfl, Nat.le_of_ble_eq_true rfl⟩, hts _ q2041, trivial⟩ (ga_preS hI rfl) rfl rfl hl.1 rfl (ga_room (Nat.le_of_ble_eq_true rfl)) dX2_store_72 ⟨Nat.le_trans (Nat.add_le_add_left hk1 _) hbc, Nat.le_trans (Nat.add_le_add_left hk2 _) hbs⟩) hI hbc hbs hk1 hk2 (fun E_47 q_48 h_49 ce H locs cells slots hw hI hce hbc hbs => ?_) (fun h_46 H locs cells slots hw hI hbc hbs => ?_)
  · exact ga_out hown hlk hI hw (by rw [htab]; intro z hz; cases hz) hce (Nat.le_trans (Nat.le_add_right _ _) hbc) (Nat.le_trans (Nat.le_add_right _ _) hbs)
  · skip
    refine lv_aload_n hx hb dX2_store_75 rfl (lv_at hl 0 rfl) ?_
    obtain ⟨fs_50, v_51, hq, hv, hw⟩ := hw
    refine ga_get (ci := 1) (T := TX2) (v := va_rf v_51) hx hb hts hown hI in_X2 rfl 4 (by decide) q318 (fun _ z => z) (ga_at.h hq) hv dX2_store_76 ?_
    obtain ⟨a_52, ea_52, hw⟩ := hw
    rewrite [ea_52]
    obtain ⟨fs_53, hq, hw⟩ := hw
    refine ga_calli (va_runV (As := []) (rest := []) ⟨hx, hb, hml, hown, hts⟩ (gm_J2_size l g a_52 h_46 _ hw) (cwV 0 hts (lw_V q2039 q536 q4117 q104 q537) rfl rfl rfl ⟨rfl, hdG_J2_size⟩ ⟨Nat.le_of_ble_eq_true rfl, Nat.le_of_ble_eq_true rfl⟩) (ga_preV hI hq rfl rfl) rfl rfl hl.1 rfl (ga_room (Nat.le_of_ble_eq_true rfl)) dX2_store_79 ⟨Nat.le_trans (Nat.add_le_add_left (Nat.zero_le _) _) hbc, Nat.le_trans (Nat.add_le_add_left (Nat.zero_le _) _) hbs⟩) hI hbc hbs (Nat.zero_le _) (Nat.zero_le _) (fun r_55 h_54 H locs cells slots hw hI hbc hbs => ?_)
    refine lv_bipush (v := 30) hx hb dX2_store_82 (by decide) ?_
    refine lv_icmp_ne (tgt := 91) hx hb dX2_store_84 (by decide) (fun hc_56 => ?_) (fun hc_56 => ?_)
    · have hw := hw.1 hc_56
      refine lv_iconst (v := 0) hx hb dX2_store_91 (by decide) ?_
      exact gj_X2_store_92 hst htab g post xp p0 (0 : Int32) v3 v4 v6 h_54 (bc - kc_44) (bs - ks_45) ⟨hx, hb, hml, hown, hts, hr, hlk, hnm⟩ hw hI hbc hbs (lv_sub hl [0, 2, 3, 4] rfl)
    · have hw := hw.2 hc_56
      refine lv_iconst (v := 1) hx hb dX2_store_87 (by decide) ?_
      refine lv_goto (tgt := 92) hx hb dX2_store_88 (by decide) ?_
      exact gj_X2_store_92 hst htab g post xp p0 (1 : Int32) v3 v4 v6 h_54 (bc - kc_44) (bs - ks_45) ⟨hx, hb, hml, hown, hts, hr, hlk, hnm⟩ hw hI hbc hbs (lv_sub hl [0, 2, 3, 4] rfl)
def gw_X2_store_47 (K : ga_K) (post : Int32 → ga_H → Prop) (xp : String → Nat → ga_H → Prop) (p0 : Nat) (t0 : Int32) (v2 : Int32) (v3 : Option Nat) (v4 : Int32) (v5 : Option Nat) (v6 : Option Nat) (h : ga_H) (bc bs : Nat) : Prop :=
  ∃ a_30 : Nat, v5 = some a_30 ∧ ∃ (fs_31 : List Value) (v_32 : Int32), h a_30 = some (ga_O 5 fs_31) ∧ fs_31[0]? = some (.int v_32) ∧ (∃ kc_33 ks_34 : Nat, kc_33 ≤ bc ∧ ks_34 ≤ bs ∧ gw_X1_refuse K t0 (2 : Int32) v_32 h kc_33 ks_34 (fun (h_35 : ga_H) => ∃ a_39 : Nat, v6 = some a_39 ∧ ∃ fs_40 : List Value, ga_at K h_35 a_39 (ga_O 13 fs_40) ∧ gw_J2_size K a_39 h_35 (fun (r_42 : Int32) (h_41 : ga_H) => (¬ r_42 = (3 : Int32) → (gw_X2_store_70 K post xp p0 (0 : Int32) v2 v3 v4 v6 h_41 (bc - kc_33) (bs - ks_34))) ∧ (r_42 = (3 : Int32) → (gw_X2_store_70 K post xp p0 (1 : Int32) v2 v3 v4 v6 h_41 (bc - kc_33) (bs - ks_34))))) (fun (E_36 : String) (q_37 : Nat) (h_38 : ga_H) => xp E_36 q_37 h_38))
set_option maxHeartbeats 4000000 in
theorem gj_X2_store_47 {p : Program} {l : Launch} {e : Env} {s : State} {m : MethodId} {args : Array Value} {below : List Frame} {meth : Method} {c : Code} {mc ms : Nat} {H : Heap} {locs : List Loc} {cells slots : Nat} {ls : Array Slot} (hst : l.stackTraces = false) (htab : c.exceptionTable.toList = []) (g : ga_G) (post : Int32 → ga_H → Prop) (xp : String → Nat → ga_H → Prop) (p0 : Nat) (t0 : Int32) (v2 : Int32) (v3 : Option Nat) (v4 : Int32) (v5 : Option Nat) (v6 : Option Nat) (h : ga_H) (bc bs : Nat) (hC : ga_Cx p s m args meth c cX2_store 8 (some .int) "PaperStore$Store" "store") (hw : gw_X2_store_47 g.2.2 post xp p0 t0 v2 v3 v4 v5 v6 h bc bs) (hI : ga_I g h s H locs) (hbc : cells + bc ≤ mc) (hbs : slots + bs ≤ ms) (hl : lv_has ls 8 [(0, .ref p0), (2, .int v2), (3, va_rf v3), (4, .int v4), (5, va_rf v5), (6, va_rf v6)]) : W p l e ({ frames := 14, cells := mc, slots := ms, locals := 271 } : Room) s m args below meth c H locs cells slots (vx_MQ below (va_Qi post (ga_E g) (ga_A g)) (ga_X g xp) args s mc ms (ga_A g)) (F0 m 47 ls [.int t0]) := by
  obtain ⟨hx, hb, hml, hown, hts, hr, hlk, hnm⟩ := hC
  unfold gw_X2_store_47 at hw
  refine lv_iconst (v := 2) hx hb dX2_store_47 (by decide) ?_
  refine ga_aload hx hb dX2_store_48 (lv_at hl 4 rfl) ?_
  obtain ⟨a_30, ea_30, hw⟩ := hw
  rewrite [ea_30]
  obtain ⟨fs_31, v_32, hq, hv, hw⟩ := hw
  refine ga_getN (ci := 5) (T := TX7) (v := .int v_32) hx hb hts hown hI in_X7 rfl 0 (by decide) q1346 (fun _ z => z) (ga_at.h hq) hv dX2_store_50 ?_
  obtain ⟨kc_33, ks_34, hk1, hk2, hw⟩ := hw
  refine ga_xcallv (vx_runSN (As := [.int t0, .int (2 : Int32), .int v_32]) (rest := []) ⟨hx, hb, hml, hown, hts⟩ (gm_X1_refuse l hst g t0 (2 : Int32) v_32 h kc_33 ks_34 _ _ hw) ⟨va_cnB 3 hts (lw_meth q2042) rfl rfl rfl (hI.2.1.1.2.1 _ (ga_nin q2040 rfl)) (hts _ q100) hdG_X1_refuse ⟨Nat.le_of_ble_eq_true rfl, Nat.le_of_ble_eq_true rfl⟩, hts _ q2041, trivial⟩ (ga_preS hI rfl) rfl rfl hl.1 rfl (ga_room (Nat.le_of_ble_eq_true rfl)) dX2_store_53 ⟨Nat.le_trans (Nat.add_le_add_left hk1 _) hbc, Nat.le_trans (Nat.add_le_add_left hk2 _) hbs⟩) hI hbc hbs hk1 hk2 (fun E_36 q_37 h_38 ce H locs cells slots hw hI hce hbc hbs => ?_) (fun h_35 H locs cells slots hw hI hbc hbs => ?_)
  · exact ga_out hown hlk hI hw (by rw [htab]; intro z hz; cases hz) hce (Nat.le_trans (Nat.le_add_right _ _) hbc) (Nat.le_trans (Nat.le_add_right _ _) hbs)
  · skip
    refine ga_aload hx hb dX2_store_56 (lv_at hl 5 rfl) ?_
    obtain ⟨a_39, ea_39, hw⟩ := hw
    rewrite [ea_39]
    obtain ⟨fs_40, hq, hw⟩ := hw
    refine ga_calli (va_runV (As := []) (rest := []) ⟨hx, hb, hml, hown, hts⟩ (gm_J2_size l g a_39 h_35 _ hw) (cwV 0 hts (lw_V q2039 q536 q4117 q104 q537) rfl rfl rfl ⟨rfl, hdG_J2_size⟩ ⟨Nat.le_of_ble_eq_true rfl, Nat.le_of_ble_eq_true rfl⟩) (ga_preV hI hq rfl rfl) rfl rfl hl.1 rfl (ga_room (Nat.le_of_ble_eq_true rfl)) dX2_store_58 ⟨Nat.le_trans (Nat.add_le_add_left (Nat.zero_le _) _) hbc, Nat.le_trans (Nat.add_le_add_left (Nat.zero_le _) _) hbs⟩) hI hbc hbs (Nat.zero_le _) (Nat.zero_le _) (fun r_42 h_41 H locs cells slots hw hI hbc hbs => ?_)
    refine lv_iconst (v := 3) hx hb dX2_store_61 (by decide) ?_
    refine lv_icmp_ne (tgt := 69) hx hb dX2_store_62 (by decide) (fun hc_43 => ?_) (fun hc_43 => ?_)
    · have hw := hw.1 hc_43
      refine lv_iconst (v := 0) hx hb dX2_store_69 (by decide) ?_
      exact gj_X2_store_70 hst htab g post xp p0 (0 : Int32) v2 v3 v4 v6 h_41 (bc - kc_33) (bs - ks_34) ⟨hx, hb, hml, hown, hts, hr, hlk, hnm⟩ hw hI hbc hbs (lv_sub hl [0, 1, 2, 3, 5] rfl)
    · have hw := hw.2 hc_43
      refine lv_iconst (v := 1) hx hb dX2_store_65 (by decide) ?_
      refine lv_goto (tgt := 70) hx hb dX2_store_66 (by decide) ?_
      exact gj_X2_store_70 hst htab g post xp p0 (1 : Int32) v2 v3 v4 v6 h_41 (bc - kc_33) (bs - ks_34) ⟨hx, hb, hml, hown, hts, hr, hlk, hnm⟩ hw hI hbc hbs (lv_sub hl [0, 1, 2, 3, 5] rfl)
def gw_X2_store (K : ga_K) (p0 : Nat) (p1 : Int32) (p2 : Int32) (p3 : Option Nat) (p4 : Int32) (h : ga_H) (mc ms : Nat) (post : Int32 → ga_H → Prop) (xp : String → Nat → ga_H → Prop) : Prop :=
  ∃ (fs_1 : List Value) (v_2 : Option Nat), h p0 = some (ga_O 1 fs_1) ∧ fs_1[1]? = some (va_rf v_2) ∧ (∃ a_3 : Nat, v_2 = some a_3 ∧ ∃ fs_4 : List Value, ga_at K h a_3 (ga_O 13 fs_4) ∧ gw_J2_get K a_3 p1 h (fun (r_6 : Option Nat) (h_5 : ga_H) => ga_ok K h_5 "PaperStore$Ladder" r_6 ∧ (∃ (fs_7 : List Value) (v_8 : Option Nat), h_5 p0 = some (ga_O 1 fs_7) ∧ fs_7[0]? = some (va_rf v_8) ∧ (∃ a_9 : Nat, r_6 = some a_9 ∧ ∃ (fs_10 : List Value) (v_11 : Int32), h_5 a_9 = some (ga_O 5 fs_10) ∧ fs_10[1]? = some (.int v_11) ∧ (∃ a_12 : Nat, v_8 = some a_12 ∧ ∃ (n_13 : Nat) (f_14 : Nat → Option Nat), h_5 a_12 = some (ga_Aq 6 n_13 f_14) ∧ vp_in v_11 n_13 ∧ ∀ v_15 : Option Nat, v_15 = f_14 v_11.toNatClampNeg → (∃ a_16 : Nat, v_15 = some a_16 ∧ ∃ (fs_17 : List Value) (v_18 : Option Nat), h_5 a_16 = some (ga_O 2 fs_17) ∧ fs_17[0]? = some (va_rf v_18) ∧ (∃ a_19 : Nat, v_18 = some a_19 ∧ ∃ (n_20 : Nat) (f_21 : Nat → Option Nat), h_5 a_19 = some (ga_Aq 7 n_20 f_21) ∧ vp_in p2 n_20 ∧ ∀ v_22 : Option Nat, v_22 = f_21 p2.toNatClampNeg → (∃ a_23 : Nat, v_22 = some a_23 ∧ ∃ (fs_24 : List Value) (v_25 : Option Nat), h_5 a_23 = some (ga_O 3 fs_24) ∧ fs_24[0]? = some (va_rf v_25) ∧ (∃ a_26 : Nat, r_6 = some a_26 ∧ ∃ (fs_27 : List Value) (v_28 : Int32), h_5 a_26 = some (ga_O 5 fs_27) ∧ fs_27[0]? = some (.int v_28) ∧ ((p2 < v_28 → (gw_X2_store_47 K post xp p0 (0 : Int32) p2 p3 p4 r_6 v_25 h_5 mc ms)) ∧ (¬ p2 < v_28 → (gw_X2_store_47 K post xp p0 (1 : Int32) p2 p3 p4 r_6 v_25 h_5 mc ms))))))))))))
set_option maxHeartbeats 4000000 in
theorem gm_X2_store (l : Launch) (hst : l.stackTraces = false) (g : ga_G) (p0 : Nat) (p1 : Int32) (p2 : Int32) (p3 : Option Nat) (p4 : Int32) (h : ga_H) (mc ms : Nat) (post : Int32 → ga_H → Prop) (xp : String → Nat → ga_H → Prop) (hw : gw_X2_store g.2.2 p0 p1 p2 p3 p4 h mc ms post xp) : vx_Met l yX2_store (ws_ yX2_store cX2_store 8 (some .int)) ({ frames := 14, cells := mc, slots := ms, locals := 271 } : Room) (va_Pc [.ref p0, .int p1, .int p2, va_rf p3, .int p4] (ga_B g h)) (va_Qi post (ga_E g) (ga_A g)) (ga_X g xp) mc ms (ga_A g) := by
  refine ga_metx (own := "PaperStore$Store") (nm := "store") (by decide) rfl rfl (by cases p3 <;> exact Nat.le_of_ble_eq_true rfl) (fun p e s m below meth c ls hC htab hI hl => ?_)
  have hl : lv_has ls 8 [(0, .ref p0), (1, .int p1), (2, .int p2), (3, va_rf p3), (4, .int p4)] := (by cases p3 <;> exact hl)
  generalize ([.ref p0, .int p1, .int p2, va_rf p3, .int p4] : List Value).toArray = args at hC ⊢
  obtain ⟨hx, hb, hml, hown, hts, hr, hlk, hnm⟩ := hC
  unfold gw_X2_store at hw
  obtain ⟨H, eH⟩ : ∃ z, z = s.heap := ⟨_, rfl⟩
  obtain ⟨locs, elo⟩ : ∃ z : List Loc, z = [] := ⟨_, rfl⟩
  rw [← eH, ← elo] at hI ⊢
  obtain ⟨cells, slots, hbc, hbs, e0, e1⟩ : ∃ a b : Nat, a + mc ≤ mc ∧ b + ms ≤ ms ∧ a = 0 ∧ b = 0 := ⟨0, 0, by omega, by omega, rfl, rfl⟩
  show W p l e ({ frames := 14, cells := mc, slots := ms, locals := 271 } : Room) s m args below meth c H locs 0 0 (vx_MQ below (va_Qi post (ga_E g) (ga_A g)) (ga_X g xp) args s mc ms (ga_A g)) (F0 m 0 ls [])
  suffices hgoal : W p l e ({ frames := 14, cells := mc, slots := ms, locals := 271 } : Room) s m args below meth c H locs cells slots (vx_MQ below (va_Qi post (ga_E g) (ga_A g)) (ga_X g xp) args s mc ms (ga_A g)) (F0 m 0 ls []) by rw [e0, e1] at hgoal; exact hgoal
  refine lv_aload_n hx hb dX2_store_0 rfl (lv_at hl 0 rfl) ?_
  obtain ⟨fs_1, v_2, hq, hv, hw⟩ := hw
  refine ga_get (ci := 1) (T := TX2) (v := va_rf v_2) hx hb hts hown hI in_X2 rfl 1 (by decide) q312 (fun _ z => z) (ga_at.h hq) hv dX2_store_1 ?_
  refine lv_iload_n hx hb dX2_store_4 rfl (lv_at hl 1 rfl) ?_
  obtain ⟨a_3, ea_3, hw⟩ := hw
  rewrite [ea_3]
  obtain ⟨fs_4, hq, hw⟩ := hw
  refine ga_callq (va_runV (As := [.int p1]) (rest := []) ⟨hx, hb, hml, hown, hts⟩ (gm_J2_get l g a_3 p1 h _ hw) (cwV 1 hts (lw_V q2069 q839 q4120 q104 q841) rfl rfl rfl ⟨rfl, hdG_J2_get⟩ ⟨Nat.le_of_ble_eq_true rfl, Nat.le_of_ble_eq_true rfl⟩) (ga_preV hI hq rfl rfl) rfl rfl hl.1 rfl (ga_room (Nat.le_of_ble_eq_true rfl)) dX2_store_5 ⟨Nat.le_trans (Nat.add_le_add_left (Nat.zero_le _) _) hbc, Nat.le_trans (Nat.add_le_add_left (Nat.zero_le _) _) hbs⟩) hI hbc hbs (Nat.zero_le _) (Nat.zero_le _) (fun r_6 h_5 H locs cells slots hw hI hbc hbs => ?_)
  refine ga_cast (x := r_6) hx hb hts hown hI q1339 hw.1 dX2_store_8 ?_
  have hw := hw.2
  refine ga_astore (x := r_6) (lv' := [(5, va_rf r_6), (0, .ref p0), (1, .int p1), (2, .int p2), (3, va_rf p3), (4, .int p4)]) hx hb dX2_store_11 hl (by decide) rfl (fun ls hl => ?_)
  refine lv_aload_n hx hb dX2_store_13 rfl (lv_at hl 1 rfl) ?_
  obtain ⟨fs_7, v_8, hq, hv, hw⟩ := hw
  refine ga_get (ci := 1) (T := TX2) (v := va_rf v_8) hx hb hts hown hI in_X2 rfl 0 (by decide) q310 (fun _ z => z) (ga_at.h hq) hv dX2_store_14 ?_
  refine ga_aload hx hb dX2_store_17 (lv_at hl 0 rfl) ?_
  obtain ⟨a_9, ea_9, hw⟩ := hw
  rewrite [ea_9]
  obtain ⟨fs_10, v_11, hq, hv, hw⟩ := hw
  refine ga_getN (ci := 5) (T := TX7) (v := .int v_11) hx hb hts hown hI in_X7 rfl 1 (by decide) q1349 (fun _ z => z) (ga_at.h hq) hv dX2_store_19 ?_
  obtain ⟨a_12, ea_12, hw⟩ := hw
  rewrite [ea_12]
  obtain ⟨n_13, f_14, hq, hi, hw⟩ := hw
  refine ga_ldq hx hb hI (ga_at.h hq) rfl hi dX2_store_22 ?_
  obtain ⟨v_15, ev_15⟩ : ∃ z, z = f_14 v_11.toNatClampNeg := ⟨_, rfl⟩
  rw [← ev_15]
  have hw := hw v_15 ev_15
  obtain ⟨a_16, ea_16, hw⟩ := hw
  rewrite [ea_16]
  obtain ⟨fs_17, v_18, hq, hv, hw⟩ := hw
  refine ga_getN (ci := 2) (T := TX3) (v := va_rf v_18) hx hb hts hown hI in_X3 rfl 0 (by decide) q280 (fun _ z => z) (ga_at.h hq) hv dX2_store_23 ?_
  refine lv_iload_n hx hb dX2_store_26 rfl (lv_at hl 3 rfl) ?_
  obtain ⟨a_19, ea_19, hw⟩ := hw
  rewrite [ea_19]
  obtain ⟨n_20, f_21, hq, hi, hw⟩ := hw
  refine ga_ldq hx hb hI (ga_at.h hq) rfl hi dX2_store_27 ?_
  obtain ⟨v_22, ev_22⟩ : ∃ z, z = f_21 p2.toNatClampNeg := ⟨_, rfl⟩
  rw [← ev_22]
  have hw := hw v_22 ev_22
  obtain ⟨a_23, ea_23, hw⟩ := hw
  rewrite [ea_23]
  obtain ⟨fs_24, v_25, hq, hv, hw⟩ := hw
  refine ga_getN (ci := 3) (T := TX4) (v := va_rf v_25) hx hb hts hown hI in_X4 rfl 0 (by decide) q274 (fun _ z => z) (ga_at.h hq) hv dX2_store_28 ?_
  refine ga_astore (x := v_25) (lv' := [(6, va_rf v_25), (5, va_rf r_6), (0, .ref p0), (1, .int p1), (2, .int p2), (3, va_rf p3), (4, .int p4)]) hx hb dX2_store_31 hl (by decide) (by simp [ga_rcat, ga_cat_r, ga_cat_i, ga_cat_f, ga_cat_l, ga_cat_d]) (fun ls hl => ?_)
  refine lv_iload_n hx hb dX2_store_33 rfl (lv_at hl 4 rfl) ?_
  refine ga_aload hx hb dX2_store_34 (lv_at hl 1 rfl) ?_
  obtain ⟨a_26, ea_26, hw⟩ := hw
  rewrite [ea_26]
  obtain ⟨fs_27, v_28, hq, hv, hw⟩ := hw
  refine ga_getN (ci := 5) (T := TX7) (v := .int v_28) hx hb hts hown hI in_X7 rfl 0 (by decide) q1346 (fun _ z => z) (ga_at.h hq) hv dX2_store_36 ?_
  refine lv_icmp_lt (tgt := 46) hx hb dX2_store_39 (by decide) (fun hc_29 => ?_) (fun hc_29 => ?_)
  · have hw := hw.1 hc_29
    refine lv_iconst (v := 0) hx hb dX2_store_46 (by decide) ?_
    exact gj_X2_store_47 hst htab g post xp p0 (0 : Int32) p2 p3 p4 r_6 v_25 h_5 mc ms ⟨hx, hb, hml, hown, hts, hr, hlk, hnm⟩ hw hI hbc hbs (lv_sub hl [2, 4, 5, 6, 1, 0] rfl)
  · have hw := hw.2 hc_29
    refine lv_iconst (v := 1) hx hb dX2_store_42 (by decide) ?_
    refine lv_goto (tgt := 47) hx hb dX2_store_43 (by decide) ?_
    exact gj_X2_store_47 hst htab g post xp p0 (1 : Int32) p2 p3 p4 r_6 v_25 h_5 mc ms ⟨hx, hb, hml, hown, hts, hr, hlk, hnm⟩ hw hI hbc hbs (lv_sub hl [2, 4, 5, 6, 1, 0] rfl)
theorem hdG_X2_store : yX2_store.cls ≠ "java/lang/invoke/MethodHandle" ∧ yX2_store.cls ≠ "java/lang/invoke/VarHandle" ∧ (parseMethodDescriptor yX2_store.desc).map (fun d => d.parameters.length) = some 4 := by decide +kernel
def gw_X1_store_39 (K : ga_K) (post : Int32 → ga_H → Prop) (xp : String → Nat → ga_H → Prop) (p0 : Nat) (t0 : Int32) (v1 : Int32) (v2 : Int32) (v3 : Int32) (v4 : Int32) (v5 : Int32) (h : ga_H) (bc bs : Nat) : Prop :=
  ∃ kc_11 ks_12 : Nat, kc_11 ≤ bc ∧ ks_12 ≤ bs ∧ gw_X1_checkArgument K t0 h kc_11 ks_12 (fun (h_13 : ga_H) => ∃ (fs_17 : List Value) (v_18 : Option Nat), h_13 p0 = some (ga_O 0 fs_17) ∧ fs_17[0]? = some (va_rf v_18) ∧ (∃ a_19 : Nat, v_18 = some a_19 ∧ ∃ kc_20 ks_21 : Nat, kc_20 ≤ (bc - kc_11) ∧ ks_21 ≤ (bs - ks_12) ∧ ∃ fs_22 : List Value, ga_at K h_13 a_19 (ga_O 1 fs_22) ∧ gw_X2_copy K a_19 h_13 kc_20 ks_21 (fun (r_24 : Option Nat) (h_23 : ga_H) => 1 ≤ ((bc - kc_11) - kc_20) ∧ 2 ≤ ((bs - ks_12) - ks_21) ∧ ∀ q_25 : Nat, h_23 q_25 = none → ∀ h_26 : ga_H, h_26 = ga_set h_23 q_25 (ga_O 9 [.int 0, .int 0]) → (gw_X11_init K q_25 v3 v4 h_26 (fun (h_27 : ga_H) => ∃ a_28 : Nat, r_24 = some a_28 ∧ ∃ kc_29 ks_30 : Nat, kc_29 ≤ (((bc - kc_11) - kc_20) - 1) ∧ ks_30 ≤ (((bs - ks_12) - ks_21) - 2) ∧ ∃ fs_31 : List Value, ga_at K h_27 a_28 (ga_O 1 fs_31) ∧ gw_X2_store K a_28 v1 v2 (some q_25) v5 h_27 kc_29 ks_30 (fun (r_33 : Int32) (h_32 : ga_H) => ∃ kc_47 ks_48 : Nat, kc_47 ≤ ((((bc - kc_11) - kc_20) - 1) - kc_29) ∧ ks_48 ≤ ((((bs - ks_12) - ks_21) - 2) - ks_30) ∧ ∃ fs_49 : List Value, ga_at K h_32 p0 (ga_O 0 fs_49) ∧ gw_X1_become K p0 r_24 r_33 h_32 kc_47 ks_48 (fun (r_51 : Int32) (h_50 : ga_H) => post r_51 h_50)) (fun (E_34 : String) (q_35 : Nat) (h_36 : ga_H) => (E_34 = "PaperStore$Refusal" ∧ (∃ kc_37 ks_38 : Nat, kc_37 ≤ ((((bc - kc_11) - kc_20) - 1) - kc_29) ∧ ks_38 ≤ ((((bs - ks_12) - ks_21) - 2) - ks_30) ∧ ∃ fs_39 : List Value, ga_at K h_36 p0 (ga_O 0 fs_39) ∧ gw_X1_kept K p0 (some q_35) h_36 kc_37 ks_38 (fun (r_41 : Option Nat) (h_40 : ga_H) => ∃ a_45 : Nat, r_41 = some a_45 ∧ ∃ fs_46 : List Value, h_40 a_45 = some (ga_O 28 fs_46) ∧ (xp "java/lang/UnsupportedOperationException" a_45 h_40)) (fun (E_42 : String) (q_43 : Nat) (h_44 : ga_H) => False))))))))) (fun (E_14 : String) (q_15 : Nat) (h_16 : ga_H) => (E_14 = "java/lang/IllegalArgumentException" ∧ (xp "java/lang/IllegalArgumentException" q_15 h_16)))
set_option maxHeartbeats 4000000 in
theorem gj_X1_store_39 {p : Program} {l : Launch} {e : Env} {s : State} {m : MethodId} {args : Array Value} {below : List Frame} {meth : Method} {c : Code} {mc ms : Nat} {H : Heap} {locs : List Loc} {cells slots : Nat} {ls : Array Slot} (hst : l.stackTraces = false) (htab : c.exceptionTable.toList = (tableOf [(51, 80, 81, 25)])) (g : ga_G) (post : Int32 → ga_H → Prop) (xp : String → Nat → ga_H → Prop) (p0 : Nat) (t0 : Int32) (v1 : Int32) (v2 : Int32) (v3 : Int32) (v4 : Int32) (v5 : Int32) (h : ga_H) (bc bs : Nat) (hC : ga_Cx p s m args meth c cX1_store 9 (some .int) "PaperStore" "store") (hw : gw_X1_store_39 g.2.2 post xp p0 t0 v1 v2 v3 v4 v5 h bc bs) (hI : ga_I g h s H locs) (hbc : cells + bc ≤ mc) (hbs : slots + bs ≤ ms) (hl : lv_has ls 9 [(0, .ref p0), (1, .int v1), (2, .int v2), (3, .int v3), (4, .int v4), (5, .int v5)]) : W p l e ({ frames := 17, cells := mc, slots := ms, locals := 1389 } : Room) s m args below meth c H locs cells slots (vx_MQ below (va_Qi post (ga_E g) (ga_A g)) (ga_X g xp) args s mc ms (ga_A g)) (F0 m 39 ls [.int t0]) := by
  obtain ⟨hx, hb, hml, hown, hts, hr, hlk, hnm⟩ := hC
  unfold gw_X1_store_39 at hw
  obtain ⟨kc_11, ks_12, hk1, hk2, hw⟩ := hw
  refine ga_xcallv (vx_runS (As := [.int t0]) (rest := []) ⟨hx, hb, hml, hown, hts⟩ (gm_X1_checkArgument l hst g t0 h kc_11 ks_12 _ _ hw) (va_cwS 1 hts (lw_S q2027 q2028 q100 q2029) rfl rfl rfl hdG_X1_checkArgument ⟨Nat.le_of_ble_eq_true rfl, Nat.le_of_ble_eq_true rfl⟩) (ga_preS hI rfl) rfl rfl hl.1 rfl (ga_room (Nat.le_of_ble_eq_true rfl)) dX1_store_39 ⟨Nat.le_trans (Nat.add_le_add_left hk1 _) hbc, Nat.le_trans (Nat.add_le_add_left hk2 _) hbs⟩) hI hbc hbs hk1 hk2 (fun E_14 q_15 h_16 ce H locs cells slots hw hI hce hbc hbs => ?_) (fun h_13 H locs cells slots hw hI hbc hbs => ?_)
  · obtain ⟨rfl, hw⟩ := hw
    exact ga_out hown hlk hI hw (by rw [htab]; exact (List.forall_mem_cons.mpr ⟨Or.inl rfl, fun _ h => absurd h List.not_mem_nil⟩)) hce (Nat.le_trans (Nat.le_add_right _ _) hbc) (Nat.le_trans (Nat.le_add_right _ _) hbs)
  · skip
    refine lv_aload_n hx hb dX1_store_42 rfl (lv_at hl 0 rfl) ?_
    obtain ⟨fs_17, v_18, hq, hv, hw⟩ := hw
    refine ga_get (ci := 0) (T := TX1) (v := va_rf v_18) hx hb hts hown hI in_X1 rfl 0 (by decide) q387 (fun _ z => z) (ga_at.h hq) hv dX1_store_43 ?_
    obtain ⟨a_19, ea_19, hw⟩ := hw
    rewrite [ea_19]
    obtain ⟨kc_20, ks_21, hk1, hk2, hw⟩ := hw
    obtain ⟨fs_22, hq, hw⟩ := hw
    refine ga_callq (va_runV (As := []) (rest := []) ⟨hx, hb, hml, hown, hts⟩ (gm_X2_copy l g a_19 h_13 kc_20 ks_21 _ hw) (cwV 0 hts (lw_V q1259 q1260 q1261 q101 q1262) rfl rfl rfl ⟨rfl, hdG_X2_copy⟩ ⟨Nat.le_of_ble_eq_true rfl, Nat.le_of_ble_eq_true rfl⟩) (ga_preV hI hq rfl rfl) rfl rfl hl.1 rfl (ga_room (Nat.le_of_ble_eq_true rfl)) dX1_store_46 ⟨Nat.le_trans (Nat.add_le_add_left hk1 _) hbc, Nat.le_trans (Nat.add_le_add_left hk2 _) hbs⟩) hI hbc hbs hk1 hk2 (fun r_24 h_23 H locs cells slots hw hI hbc hbs => ?_)
    refine ga_astore (x := r_24) (lv' := [(7, va_rf r_24), (0, .ref p0), (1, .int v1), (2, .int v2), (3, .int v3), (4, .int v4), (5, .int v5)]) hx hb dX1_store_49 hl (by decide) rfl (fun ls hl => ?_)
    refine ga_aload hx hb dX1_store_51 (lv_at hl 0 rfl) ?_
    refine lv_iload_n hx hb dX1_store_53 rfl (lv_at hl 2 rfl) ?_
    refine lv_iload_n hx hb dX1_store_54 rfl (lv_at hl 3 rfl) ?_
    refine ga_new (ci := 9) (T := TX11) hx hb hts hown hI in_X11 rfl tyX11 tyX11_ok q2164 q2165 q153 [.int 0, .int 0] ga_df_X11 hbc hbs hw.1 hw.2.1 dX1_store_55 (fun q_25 H cells slots hn_q_25 hI hbc hbs => ?_)
    obtain ⟨h_26, eh_26⟩ : ∃ z, z = ga_set h_23 q_25 (ga_O 9 [.int 0, .int 0]) := ⟨_, rfl⟩
    rw [← eh_26] at hI
    have hw := hw.2.2 q_25 hn_q_25 h_26 eh_26
    refine lv_dup hx hb dX1_store_58 rfl ?_
    refine lv_iload_n hx hb dX1_store_59 rfl (lv_at hl 4 rfl) ?_
    refine lv_iload hx hb dX1_store_60 (lv_at hl 5 rfl) ?_
    refine ga_callv (va_runI (As := [.int v3, .int v4]) (rest := [.ref q_25, .int v2, .int v1, va_rf r_24]) ⟨hx, hb, hml, hown, hts⟩ (gm_X11_init l g q_25 v3 v4 h_26 _ hw) (cwI 2 hts (lw_meth q2168) rfl rfl rfl (hts _ q153) (hts _ q2166) (hts _ q2167) rfl hdG_X11_init ⟨Nat.le_of_ble_eq_true rfl, Nat.le_of_ble_eq_true rfl⟩) (ga_preS hI rfl) rfl rfl hl.1 rfl (ga_room (Nat.le_of_ble_eq_true rfl)) dX1_store_62 ⟨Nat.le_trans (Nat.add_le_add_left (Nat.zero_le _) _) hbc, Nat.le_trans (Nat.add_le_add_left (Nat.zero_le _) _) hbs⟩) hI hbc hbs (Nat.zero_le _) (Nat.zero_le _) (fun h_27 H locs cells slots hw hI hbc hbs => ?_)
    refine lv_iload hx hb dX1_store_65 (lv_at hl 6 rfl) ?_
    obtain ⟨a_28, ea_28, hw⟩ := hw
    rewrite [ea_28]
    obtain ⟨kc_29, ks_30, hk1, hk2, hw⟩ := hw
    obtain ⟨fs_31, hq, hw⟩ := hw
    refine ga_xcalli (vx_runV (As := [.int v1, .int v2, va_rf (some q_25), .int v5]) (rest := []) ⟨hx, hb, hml, hown, hts⟩ (gm_X2_store l hst g a_28 v1 v2 (some q_25) v5 h_27 kc_29 ks_30 _ _ hw) (cwV 4 hts (lw_V q2180 q2181 q2182 q101 q2183) rfl rfl rfl ⟨rfl, hdG_X2_store⟩ ⟨Nat.le_of_ble_eq_true rfl, Nat.le_of_ble_eq_true rfl⟩) (ga_preV hI hq rfl rfl) rfl rfl hl.1 rfl (ga_room (Nat.le_of_ble_eq_true rfl)) dX1_store_67 ⟨Nat.le_trans (Nat.add_le_add_left hk1 _) hbc, Nat.le_trans (Nat.add_le_add_left hk2 _) hbs⟩) hI hbc hbs hk1 hk2 (fun E_34 q_35 h_36 ce H locs cells slots hw hI hce hbc hbs => ?_) (fun r_33 h_32 H locs cells slots hw hI hbc hbs => ?_)
    · obtain ⟨rfl, hw⟩ := hw
      refine ga_catch hown hts hI ([]) (⟨51, 80, 81, 25⟩) ([]) (by rw [htab]; rfl) (fun _ h => absurd h List.not_mem_nil) rfl (by decide) q2023 q2044 hce ?_
      refine W.eq (g2 := F0 m 81 ls [.ref q_35]) rfl ?_
      refine lv_astore (lv' := [(8, .ref q_35), (7, va_rf r_24), (0, .ref p0), (1, .int v1), (2, .int v2), (3, .int v3), (4, .int v4), (5, .int v5)]) hx hb dX1_store_81 hl (by decide) (by simp [ga_rcat, ga_cat_r, ga_cat_i, ga_cat_f, ga_cat_l, ga_cat_d]) (fun ls hl => ?_)
      refine lv_aload_n hx hb dX1_store_83 rfl (lv_at hl 2 rfl) ?_
      refine lv_aload hx hb dX1_store_84 (lv_at hl 0 rfl) ?_
      obtain ⟨kc_37, ks_38, hk1, hk2, hw⟩ := hw
      obtain ⟨fs_39, hq, hw⟩ := hw
      refine ga_xcallq (vx_runV (As := [va_rf (some q_35)]) (rest := []) ⟨hx, hb, hml, hown, hts⟩ (gm_X1_kept l hst g p0 (some q_35) h_36 kc_37 ks_38 _ _ hw) (cwV 1 hts (lw_V q2083 q2085 qs10 q100 q2086) rfl rfl rfl ⟨rfl, hdG_X1_kept⟩ ⟨Nat.le_of_ble_eq_true rfl, Nat.le_of_ble_eq_true rfl⟩) (ga_preV hI hq rfl rfl) rfl rfl hl.1 rfl (ga_room (Nat.le_of_ble_eq_true rfl)) dX1_store_86 ⟨Nat.le_trans (Nat.add_le_add_left hk1 _) hbc, Nat.le_trans (Nat.add_le_add_left hk2 _) hbs⟩) hI hbc hbs hk1 hk2 (fun E_42 q_43 h_44 ce H locs cells slots hw hI hce hbc hbs => ?_) (fun r_41 h_40 H locs cells slots hw hI hbc hbs => ?_)
      · exact hw.elim
      · skip
        obtain ⟨a_45, ea_45, hw⟩ := hw
        rewrite [ea_45]
        obtain ⟨fs_46, hq, hw⟩ := hw
        refine ga_athrow (ci := 28) hx hb hI (ga_at.h hq) rfl dX1_store_89 (fun ce hce => ?_)
        exact ga_out hown hlk hI hw (by rw [htab]; exact (List.forall_mem_cons.mpr ⟨Or.inl rfl, fun _ h => absurd h List.not_mem_nil⟩)) hce (Nat.le_trans (Nat.le_add_right _ _) hbc) (Nat.le_trans (Nat.le_add_right _ _) hbs)
    · skip
      refine lv_istore (lv' := [(8, .int r_33), (7, va_rf r_24), (0, .ref p0), (1, .int v1), (2, .int v2), (3, .int v3), (4, .int v4), (5, .int v5)]) hx hb dX1_store_70 hl (by decide) (by simp [ga_rcat, ga_cat_r, ga_cat_i, ga_cat_f, ga_cat_l, ga_cat_d]) (fun ls hl => ?_)
      refine lv_aload_n hx hb dX1_store_72 rfl (lv_at hl 2 rfl) ?_
      refine ga_aload hx hb dX1_store_73 (lv_at hl 1 rfl) ?_
      refine lv_iload hx hb dX1_store_75 (lv_at hl 0 rfl) ?_
      obtain ⟨kc_47, ks_48, hk1, hk2, hw⟩ := hw
      obtain ⟨fs_49, hq, hw⟩ := hw
      refine ga_calli (va_runV (As := [va_rf r_24, .int r_33]) (rest := []) ⟨hx, hb, hml, hown, hts⟩ (gm_X1_become l g p0 r_24 r_33 h_32 kc_47 ks_48 _ hw) (cwV 2 hts (lw_V q2070 q2072 qs8 q100 q2073) rfl rfl rfl ⟨rfl, hdG_X1_become⟩ ⟨Nat.le_of_ble_eq_true rfl, Nat.le_of_ble_eq_true rfl⟩) (ga_preV hI hq rfl rfl) rfl rfl hl.1 rfl (ga_room (Nat.le_of_ble_eq_true rfl)) dX1_store_77 ⟨Nat.le_trans (Nat.add_le_add_left hk1 _) hbc, Nat.le_trans (Nat.add_le_add_left hk2 _) hbs⟩) hI hbc hbs hk1 hk2 (fun r_51 h_50 H locs cells slots hw hI hbc hbs => ?_)
      exact ga_iretx hx hb hr rfl hlk hI hw (Nat.le_trans (Nat.le_add_right _ _) hbc) (Nat.le_trans (Nat.le_add_right _ _) hbs) dX1_store_80
def gw_X1_store_38 (K : ga_K) (post : Int32 → ga_H → Prop) (xp : String → Nat → ga_H → Prop) (p0 : Nat) (v1 : Int32) (v2 : Int32) (v3 : Int32) (v4 : Int32) (v5 : Int32) (h : ga_H) (bc bs : Nat) : Prop :=
  gw_X1_store_39 K post xp p0 (0 : Int32) v1 v2 v3 v4 v5 h bc bs
set_option maxHeartbeats 4000000 in
theorem gj_X1_store_38 {p : Program} {l : Launch} {e : Env} {s : State} {m : MethodId} {args : Array Value} {below : List Frame} {meth : Method} {c : Code} {mc ms : Nat} {H : Heap} {locs : List Loc} {cells slots : Nat} {ls : Array Slot} (hst : l.stackTraces = false) (htab : c.exceptionTable.toList = (tableOf [(51, 80, 81, 25)])) (g : ga_G) (post : Int32 → ga_H → Prop) (xp : String → Nat → ga_H → Prop) (p0 : Nat) (v1 : Int32) (v2 : Int32) (v3 : Int32) (v4 : Int32) (v5 : Int32) (h : ga_H) (bc bs : Nat) (hC : ga_Cx p s m args meth c cX1_store 9 (some .int) "PaperStore" "store") (hw : gw_X1_store_38 g.2.2 post xp p0 v1 v2 v3 v4 v5 h bc bs) (hI : ga_I g h s H locs) (hbc : cells + bc ≤ mc) (hbs : slots + bs ≤ ms) (hl : lv_has ls 9 [(0, .ref p0), (1, .int v1), (2, .int v2), (3, .int v3), (4, .int v4), (5, .int v5)]) : W p l e ({ frames := 17, cells := mc, slots := ms, locals := 1389 } : Room) s m args below meth c H locs cells slots (vx_MQ below (va_Qi post (ga_E g) (ga_A g)) (ga_X g xp) args s mc ms (ga_A g)) (F0 m 38 ls []) := by
  obtain ⟨hx, hb, hml, hown, hts, hr, hlk, hnm⟩ := hC
  unfold gw_X1_store_38 at hw
  refine lv_iconst (v := 0) hx hb dX1_store_38 (by decide) ?_
  exact gj_X1_store_39 hst htab g post xp p0 (0 : Int32) v1 v2 v3 v4 v5 h bc bs ⟨hx, hb, hml, hown, hts, hr, hlk, hnm⟩ hw hI hbc hbs (lv_sub hl [0, 1, 2, 3, 4, 5] rfl)
def gw_X1_store (K : ga_K) (p0 : Nat) (p1 : Int32) (p2 : Int32) (p3 : Int32) (p4 : Int32) (p5 : Int32) (h : ga_H) (mc ms : Nat) (post : Int32 → ga_H → Prop) (xp : String → Nat → ga_H → Prop) : Prop :=
  ∃ kc_1 ks_2 : Nat, kc_1 ≤ mc ∧ ks_2 ≤ ms ∧ ∃ fs_3 : List Value, ga_at K h p0 (ga_O 0 fs_3) ∧ gw_X1_ladderAt K p0 p1 h kc_1 ks_2 (fun (r_5 : Option Nat) (h_4 : ga_H) => gw_X1_isShelf p2 (fun (r_9 : Int32) => (r_9 = (0 : Int32) → (gw_X1_store_38 K post xp p0 p1 p2 p3 p4 p5 h_4 (mc - kc_1) (ms - ks_2))) ∧ (¬ r_9 = (0 : Int32) → (gw_X1_isPaper p3 p4 (fun (r_52 : Int32) => (r_52 = (0 : Int32) → (gw_X1_store_38 K post xp p0 p1 p2 p3 p4 p5 h_4 (mc - kc_1) (ms - ks_2))) ∧ (¬ r_52 = (0 : Int32) → (gw_X1_isIn p5 (0 : Int32) (9 : Int32) (fun (r_54 : Int32) => (r_54 = (0 : Int32) → (gw_X1_store_38 K post xp p0 p1 p2 p3 p4 p5 h_4 (mc - kc_1) (ms - ks_2))) ∧ (¬ r_54 = (0 : Int32) → (gw_X1_store_39 K post xp p0 (1 : Int32) p1 p2 p3 p4 p5 h_4 (mc - kc_1) (ms - ks_2))))))))))) (fun (E_6 : String) (q_7 : Nat) (h_8 : ga_H) => (E_6 = "java/lang/IndexOutOfBoundsException" ∧ (xp "java/lang/IndexOutOfBoundsException" q_7 h_8)))
set_option maxHeartbeats 4000000 in
theorem gm_X1_store (l : Launch) (hst : l.stackTraces = false) (g : ga_G) (p0 : Nat) (p1 : Int32) (p2 : Int32) (p3 : Int32) (p4 : Int32) (p5 : Int32) (h : ga_H) (mc ms : Nat) (post : Int32 → ga_H → Prop) (xp : String → Nat → ga_H → Prop) (hw : gw_X1_store g.2.2 p0 p1 p2 p3 p4 p5 h mc ms post xp) : vx_Met l yX1_store (wsW_ yX1_store cX1_store 9 (some .int) [(51, 80, 81, 25)]) ({ frames := 17, cells := mc, slots := ms, locals := 1389 } : Room) (va_Pc [.ref p0, .int p1, .int p2, .int p3, .int p4, .int p5] (ga_B g h)) (va_Qi post (ga_E g) (ga_A g)) (ga_X g xp) mc ms (ga_A g) := by
  refine ga_metxW (own := "PaperStore") (nm := "store") (by decide) rfl rfl (by exact Nat.le_of_ble_eq_true rfl) (fun p e s m below meth c ls hC htab hI hl => ?_)
  have hl : lv_has ls 9 [(0, .ref p0), (1, .int p1), (2, .int p2), (3, .int p3), (4, .int p4), (5, .int p5)] := hl
  generalize ([.ref p0, .int p1, .int p2, .int p3, .int p4, .int p5] : List Value).toArray = args at hC ⊢
  obtain ⟨hx, hb, hml, hown, hts, hr, hlk, hnm⟩ := hC
  unfold gw_X1_store at hw
  obtain ⟨H, eH⟩ : ∃ z, z = s.heap := ⟨_, rfl⟩
  obtain ⟨locs, elo⟩ : ∃ z : List Loc, z = [] := ⟨_, rfl⟩
  rw [← eH, ← elo] at hI ⊢
  obtain ⟨cells, slots, hbc, hbs, e0, e1⟩ : ∃ a b : Nat, a + mc ≤ mc ∧ b + ms ≤ ms ∧ a = 0 ∧ b = 0 := ⟨0, 0, by omega, by omega, rfl, rfl⟩
  show W p l e ({ frames := 17, cells := mc, slots := ms, locals := 1389 } : Room) s m args below meth c H locs 0 0 (vx_MQ below (va_Qi post (ga_E g) (ga_A g)) (ga_X g xp) args s mc ms (ga_A g)) (F0 m 0 ls [])
  suffices hgoal : W p l e ({ frames := 17, cells := mc, slots := ms, locals := 1389 } : Room) s m args below meth c H locs cells slots (vx_MQ below (va_Qi post (ga_E g) (ga_A g)) (ga_X g xp) args s mc ms (ga_A g)) (F0 m 0 ls []) by rw [e0, e1] at hgoal; exact hgoal
  refine lv_aload_n hx hb dX1_store_0 rfl (lv_at hl 0 rfl) ?_
  refine lv_iload_n hx hb dX1_store_1 rfl (lv_at hl 1 rfl) ?_
  obtain ⟨kc_1, ks_2, hk1, hk2, hw⟩ := hw
  obtain ⟨fs_3, hq, hw⟩ := hw
  refine ga_xcallq (vx_runV (As := [.int p1]) (rest := []) ⟨hx, hb, hml, hown, hts⟩ (gm_X1_ladderAt l hst g p0 p1 h kc_1 ks_2 _ _ hw) (cwV 1 hts (lw_V q2125 q2127 qs11 q100 q2128) rfl rfl rfl ⟨rfl, hdG_X1_ladderAt⟩ ⟨Nat.le_of_ble_eq_true rfl, Nat.le_of_ble_eq_true rfl⟩) (ga_preV hI hq rfl rfl) rfl rfl hl.1 rfl (ga_room (Nat.le_of_ble_eq_true rfl)) dX1_store_2 ⟨Nat.le_trans (Nat.add_le_add_left hk1 _) hbc, Nat.le_trans (Nat.add_le_add_left hk2 _) hbs⟩) hI hbc hbs hk1 hk2 (fun E_6 q_7 h_8 ce H locs cells slots hw hI hce hbc hbs => ?_) (fun r_5 h_4 H locs cells slots hw hI hbc hbs => ?_)
  · obtain ⟨rfl, hw⟩ := hw
    exact ga_out hown hlk hI hw (by rw [htab]; exact (List.forall_mem_cons.mpr ⟨Or.inl rfl, fun _ h => absurd h List.not_mem_nil⟩)) hce (Nat.le_trans (Nat.le_add_right _ _) hbc) (Nat.le_trans (Nat.le_add_right _ _) hbs)
  · skip
    refine ga_astore (x := r_5) (lv' := [(6, va_rf r_5), (0, .ref p0), (1, .int p1), (2, .int p2), (3, .int p3), (4, .int p4), (5, .int p5)]) hx hb dX1_store_5 hl (by decide) rfl (fun ls hl => ?_)
    refine lv_iload_n hx hb dX1_store_7 rfl (lv_at hl 3 rfl) ?_
    refine ga_callS (As := [.int p2]) (rest := []) ⟨hx, hb, hml, hown, hts⟩ (gm_X1_isShelf l p2 _ hw) (va_cwS 1 hts (lw_S q2158 q2159 q100 q2160) rfl rfl rfl hdG_X1_isShelf ⟨Nat.le_of_ble_eq_true rfl, Nat.le_of_ble_eq_true rfl⟩) rfl hl.1 rfl (ga_room (Nat.le_of_ble_eq_true rfl)) dX1_store_8 hbc hbs (fun r_9 hw => ?_)
    refine lv_if_eq (tgt := 38) hx hb dX1_store_11 (by decide) (fun hc_10 => ?_) (fun hc_10 => ?_)
    · have hw := hw.1 hc_10
      exact gj_X1_store_38 hst htab g post xp p0 p1 p2 p3 p4 p5 h_4 (mc - kc_1) (ms - ks_2) ⟨hx, hb, hml, hown, hts, hr, hlk, hnm⟩ hw hI hbc hbs (lv_sub hl [1, 2, 3, 4, 5, 6] rfl)
    · have hw := hw.2 hc_10
      refine lv_iload_n hx hb dX1_store_14 rfl (lv_at hl 4 rfl) ?_
      refine lv_iload hx hb dX1_store_15 (lv_at hl 5 rfl) ?_
      refine ga_callS (As := [.int p3, .int p4]) (rest := []) ⟨hx, hb, hml, hown, hts⟩ (gm_X1_isPaper l p3 p4 _ hw) (va_cwS 2 hts (lw_S q2161 q2162 q100 q2163) rfl rfl rfl hdG_X1_isPaper ⟨Nat.le_of_ble_eq_true rfl, Nat.le_of_ble_eq_true rfl⟩) rfl hl.1 rfl (ga_room (Nat.le_of_ble_eq_true rfl)) dX1_store_17 hbc hbs (fun r_52 hw => ?_)
      refine lv_if_eq (tgt := 38) hx hb dX1_store_20 (by decide) (fun hc_53 => ?_) (fun hc_53 => ?_)
      · have hw := hw.1 hc_53
        exact gj_X1_store_38 hst htab g post xp p0 p1 p2 p3 p4 p5 h_4 (mc - kc_1) (ms - ks_2) ⟨hx, hb, hml, hown, hts, hr, hlk, hnm⟩ hw hI hbc hbs (lv_sub hl [1, 2, 3, 4, 5, 6] rfl)
      · have hw := hw.2 hc_53
        refine lv_iload hx hb dX1_store_23 (lv_at hl 6 rfl) ?_
        refine lv_iconst (v := 0) hx hb dX1_store_25 (by decide) ?_
        refine lv_bipush (v := 9) hx hb dX1_store_26 (by decide) ?_
        refine ga_callS (As := [.int p5, .int (0 : Int32), .int (9 : Int32)]) (rest := []) ⟨hx, hb, hml, hown, hts⟩ (gm_X1_isIn l p5 (0 : Int32) (9 : Int32) _ hw) (va_cwS 3 hts (lw_S q2024 q2025 q100 q2026) rfl rfl rfl hdG_X1_isIn ⟨Nat.le_of_ble_eq_true rfl, Nat.le_of_ble_eq_true rfl⟩) rfl hl.1 rfl (ga_room (Nat.le_of_ble_eq_true rfl)) dX1_store_28 hbc hbs (fun r_54 hw => ?_)
        refine lv_if_eq (tgt := 38) hx hb dX1_store_31 (by decide) (fun hc_55 => ?_) (fun hc_55 => ?_)
        · have hw := hw.1 hc_55
          exact gj_X1_store_38 hst htab g post xp p0 p1 p2 p3 p4 p5 h_4 (mc - kc_1) (ms - ks_2) ⟨hx, hb, hml, hown, hts, hr, hlk, hnm⟩ hw hI hbc hbs (lv_sub hl [1, 2, 3, 4, 5, 6] rfl)
        · have hw := hw.2 hc_55
          refine lv_iconst (v := 1) hx hb dX1_store_34 (by decide) ?_
          refine lv_goto (tgt := 39) hx hb dX1_store_35 (by decide) ?_
          exact gj_X1_store_39 hst htab g post xp p0 (1 : Int32) p1 p2 p3 p4 p5 h_4 (mc - kc_1) (ms - ks_2) ⟨hx, hb, hml, hown, hts, hr, hlk, hnm⟩ hw hI hbc hbs (lv_sub hl [1, 2, 3, 4, 5, 6] rfl)
theorem hdG_X1_store : yX1_store.cls ≠ "java/lang/invoke/MethodHandle" ∧ yX1_store.cls ≠ "java/lang/invoke/VarHandle" ∧ (parseMethodDescriptor yX1_store.desc).map (fun d => d.parameters.length) = some 5 := by decide +kernel
def gw_X0_store (K : ga_K) (p0 : Option Nat) (p1 : Int32) (p2 : Int32) (p3 : Int32) (p4 : Int32) (p5 : Int32) (p6 : Option Nat) (h : ga_H) (mc ms : Nat) (post : Int32 → ga_H → Prop) (xp : String → Nat → ga_H → Prop) : Prop :=
  ∃ a_1 : Nat, p0 = some a_1 ∧ ∃ kc_2 ks_3 : Nat, kc_2 ≤ mc ∧ ks_3 ≤ ms ∧ ∃ fs_4 : List Value, ga_at K h a_1 (ga_O 0 fs_4) ∧ gw_X1_store K a_1 p1 p2 p3 p4 p5 h kc_2 ks_3 (fun (r_6 : Int32) (h_5 : ga_H) => ∃ a_10 : Nat, p6 = some a_10 ∧ ∃ (n_11 : Nat) (f_12 : Nat → Int64), h_5 a_10 = some (ga_Al n_11 f_12) ∧ vp_in (0 : Int32) n_11 ∧ ∀ h_13 : ga_H, h_13 = ga_set h_5 a_10 (ga_Al n_11 (vp_updL f_12 (0 : Int32).toNatClampNeg r_6.toInt64)) → (post (0 : Int32) h_13)) (fun (E_7 : String) (q_8 : Nat) (h_9 : ga_H) => (E_7 = "java/lang/IllegalArgumentException" ∧ (post (2 : Int32) h_9)) ∨ (E_7 = "java/lang/IndexOutOfBoundsException" ∧ (post (1 : Int32) h_9)) ∨ (E_7 = "java/lang/UnsupportedOperationException" ∧ (post (3 : Int32) h_9)))
set_option maxHeartbeats 4000000 in
theorem gm_X0_store (l : Launch) (hst : l.stackTraces = false) (g : ga_G) (p0 : Option Nat) (p1 : Int32) (p2 : Int32) (p3 : Int32) (p4 : Int32) (p5 : Int32) (p6 : Option Nat) (h : ga_H) (mc ms : Nat) (post : Int32 → ga_H → Prop) (xp : String → Nat → ga_H → Prop) (hw : gw_X0_store g.2.2 p0 p1 p2 p3 p4 p5 p6 h mc ms post xp) : vx_Met l yX0_store (wsW_ yX0_store cX0_store 8 (some .int) [(0, 16, 19, 21), (0, 16, 23, 13), (0, 16, 27, 15)]) ({ frames := 18, cells := mc, slots := ms, locals := 1417 } : Room) (va_Pc [va_rf p0, .int p1, .int p2, .int p3, .int p4, .int p5, va_rf p6] (ga_B g h)) (va_Qi post (ga_E g) (ga_A g)) (ga_X g xp) mc ms (ga_A g) := by
  refine ga_metxW (own := "PaperStoreLaw") (nm := "store") (by decide) rfl rfl (by cases p0 <;> cases p6 <;> exact Nat.le_of_ble_eq_true rfl) (fun p e s m below meth c ls hC htab hI hl => ?_)
  have hl : lv_has ls 8 [(0, va_rf p0), (1, .int p1), (2, .int p2), (3, .int p3), (4, .int p4), (5, .int p5), (6, va_rf p6)] := (by cases p0 <;> cases p6 <;> exact hl)
  generalize ([va_rf p0, .int p1, .int p2, .int p3, .int p4, .int p5, va_rf p6] : List Value).toArray = args at hC ⊢
  obtain ⟨hx, hb, hml, hown, hts, hr, hlk, hnm⟩ := hC
  unfold gw_X0_store at hw
  obtain ⟨H, eH⟩ : ∃ z, z = s.heap := ⟨_, rfl⟩
  obtain ⟨locs, elo⟩ : ∃ z : List Loc, z = [] := ⟨_, rfl⟩
  rw [← eH, ← elo] at hI ⊢
  obtain ⟨cells, slots, hbc, hbs, e0, e1⟩ : ∃ a b : Nat, a + mc ≤ mc ∧ b + ms ≤ ms ∧ a = 0 ∧ b = 0 := ⟨0, 0, by omega, by omega, rfl, rfl⟩
  show W p l e ({ frames := 18, cells := mc, slots := ms, locals := 1417 } : Room) s m args below meth c H locs 0 0 (vx_MQ below (va_Qi post (ga_E g) (ga_A g)) (ga_X g xp) args s mc ms (ga_A g)) (F0 m 0 ls [])
  suffices hgoal : W p l e ({ frames := 18, cells := mc, slots := ms, locals := 1417 } : Room) s m args below meth c H locs cells slots (vx_MQ below (va_Qi post (ga_E g) (ga_A g)) (ga_X g xp) args s mc ms (ga_A g)) (F0 m 0 ls []) by rw [e0, e1] at hgoal; exact hgoal
  refine ga_aload hx hb dX0_store_0 (lv_at hl 6 rfl) ?_
  refine lv_iconst (v := 0) hx hb dX0_store_2 (by decide) ?_
  refine ga_aload_n hx hb dX0_store_3 rfl (lv_at hl 0 rfl) ?_
  refine lv_iload_n hx hb dX0_store_4 rfl (lv_at hl 1 rfl) ?_
  refine lv_iload_n hx hb dX0_store_5 rfl (lv_at hl 2 rfl) ?_
  refine lv_iload_n hx hb dX0_store_6 rfl (lv_at hl 3 rfl) ?_
  refine lv_iload hx hb dX0_store_7 (lv_at hl 4 rfl) ?_
  refine lv_iload hx hb dX0_store_9 (lv_at hl 5 rfl) ?_
  obtain ⟨a_1, ea_1, hw⟩ := hw
  rewrite [ea_1]
  obtain ⟨kc_2, ks_3, hk1, hk2, hw⟩ := hw
  obtain ⟨fs_4, hq, hw⟩ := hw
  refine ga_xcalli (vx_runVX (As := [.int p1, .int p2, .int p3, .int p4, .int p5]) (rest := [.int (0 : Int32), va_rf p6]) ⟨hx, hb, hml, hown, hts⟩ (gm_X1_store l hst g a_1 p1 p2 p3 p4 p5 h kc_2 ks_3 _ _ hw) (vx_cwVW 5 hts (lw_VW q2154 q2155 q2156 q100 q2157) rfl rfl rfl ⟨rfl, hdG_X1_store⟩ ⟨Nat.le_of_ble_eq_true rfl, Nat.le_of_ble_eq_true rfl⟩) (ga_preV hI hq rfl rfl) rfl rfl hl.1 rfl (ga_room (Nat.le_of_ble_eq_true rfl)) dX0_store_11 ⟨Nat.le_trans (Nat.add_le_add_left hk1 _) hbc, Nat.le_trans (Nat.add_le_add_left hk2 _) hbs⟩) hI hbc hbs hk1 hk2 (fun E_7 q_8 h_9 ce H locs cells slots hw hI hce hbc hbs => ?_) (fun r_6 h_5 H locs cells slots hw hI hbc hbs => ?_)
  · rcases hw with ⟨rfl, hw⟩ | ⟨rfl, hw⟩ | ⟨rfl, hw⟩
    · skip
      refine ga_catch hown hts hI ([⟨0, 16, 19, 21⟩]) (⟨0, 16, 23, 13⟩) ([⟨0, 16, 27, 15⟩]) (by rw [htab]; rfl) (List.forall_mem_cons.mpr ⟨Or.inr ⟨by decide, ga_ncs hts hI q2105 (List.mem_of_getElem? (i := 1) rfl)⟩, fun _ h => absurd h List.not_mem_nil⟩) rfl (by decide) q2017 q1054 hce ?_
      refine W.eq (g2 := F0 m 23 ls [.ref q_8]) rfl ?_
      refine lv_astore (lv' := [(7, .ref q_8), (0, va_rf p0), (1, .int p1), (2, .int p2), (3, .int p3), (4, .int p4), (5, .int p5), (6, va_rf p6)]) hx hb dX0_store_23 hl (by decide) (by simp [ga_rcat, ga_cat_r, ga_cat_i, ga_cat_f, ga_cat_l, ga_cat_d]) (fun ls hl => ?_)
      refine lv_iconst (v := 2) hx hb dX0_store_25 (by decide) ?_
      exact ga_iretx hx hb hr rfl hlk hI hw (Nat.le_trans (Nat.le_add_right _ _) hbc) (Nat.le_trans (Nat.le_add_right _ _) hbs) dX0_store_26
    · skip
      refine ga_catch hown hts hI ([]) (⟨0, 16, 19, 21⟩) ([⟨0, 16, 23, 13⟩, ⟨0, 16, 27, 15⟩]) (by rw [htab]; rfl) (fun _ h => absurd h List.not_mem_nil) rfl (by decide) q2105 q866 hce ?_
      refine W.eq (g2 := F0 m 19 ls [.ref q_8]) rfl ?_
      refine lv_astore (lv' := [(7, .ref q_8), (0, va_rf p0), (1, .int p1), (2, .int p2), (3, .int p3), (4, .int p4), (5, .int p5), (6, va_rf p6)]) hx hb dX0_store_19 hl (by decide) (by simp [ga_rcat, ga_cat_r, ga_cat_i, ga_cat_f, ga_cat_l, ga_cat_d]) (fun ls hl => ?_)
      refine lv_iconst (v := 1) hx hb dX0_store_21 (by decide) ?_
      exact ga_iretx hx hb hr rfl hlk hI hw (Nat.le_trans (Nat.le_add_right _ _) hbc) (Nat.le_trans (Nat.le_add_right _ _) hbs) dX0_store_22
    · skip
      refine ga_catch hown hts hI ([⟨0, 16, 19, 21⟩, ⟨0, 16, 23, 13⟩]) (⟨0, 16, 27, 15⟩) ([]) (by rw [htab]; rfl) (List.forall_mem_cons.mpr ⟨Or.inr ⟨by decide, ga_ncs hts hI q2105 (List.mem_of_getElem? (i := 2) rfl)⟩, List.forall_mem_cons.mpr ⟨Or.inr ⟨by decide, ga_ncs hts hI q2017 (List.mem_of_getElem? (i := 3) rfl)⟩, fun _ h => absurd h List.not_mem_nil⟩⟩) rfl (by decide) q2018 q2089 hce ?_
      refine W.eq (g2 := F0 m 27 ls [.ref q_8]) rfl ?_
      refine lv_astore (lv' := [(7, .ref q_8), (0, va_rf p0), (1, .int p1), (2, .int p2), (3, .int p3), (4, .int p4), (5, .int p5), (6, va_rf p6)]) hx hb dX0_store_27 hl (by decide) (by simp [ga_rcat, ga_cat_r, ga_cat_i, ga_cat_f, ga_cat_l, ga_cat_d]) (fun ls hl => ?_)
      refine lv_iconst (v := 3) hx hb dX0_store_29 (by decide) ?_
      exact ga_iretx hx hb hr rfl hlk hI hw (Nat.le_trans (Nat.le_add_right _ _) hbc) (Nat.le_trans (Nat.le_add_right _ _) hbs) dX0_store_30
  · skip
    refine lv_i2l (v := r_6.toInt64) hx hb dX0_store_14 rfl ?_
    obtain ⟨a_10, ea_10, hw⟩ := hw
    rewrite [ea_10]
    obtain ⟨n_11, f_12, hq, hi, hw⟩ := hw
    refine ga_stl hx hb hI hq hi dX0_store_15 (fun H locs hI => ?_)
    obtain ⟨h_13, eh_13⟩ : ∃ z, z = ga_set h_5 a_10 (ga_Al n_11 (vp_updL f_12 (0 : Int32).toNatClampNeg r_6.toInt64)) := ⟨_, rfl⟩
    rw [← eh_13] at hI
    have hw := hw h_13 eh_13
    refine lv_goto (tgt := 31) hx hb dX0_store_16 (by decide) ?_
    refine lv_iconst (v := 0) hx hb dX0_store_31 (by decide) ?_
    exact ga_iretx hx hb hr rfl hlk hI hw (Nat.le_trans (Nat.le_add_right _ _) hbc) (Nat.le_trans (Nat.le_add_right _ _) hbs) dX0_store_32
theorem hdG_X0_store : yX0_store.cls ≠ "java/lang/invoke/MethodHandle" ∧ yX0_store.cls ≠ "java/lang/invoke/VarHandle" ∧ (parseMethodDescriptor yX0_store.desc).map (fun d => d.parameters.length) = some 7 := by decide +kernel
def gw_X1_ladderOf (K : ga_K) (p0 : Nat) (p1 : Int32) (p2 : Int32) (h : ga_H) (mc ms : Nat) (post : Int32 → ga_H → Prop) (xp : String → Nat → ga_H → Prop) : Prop :=
  ∃ kc_1 ks_2 : Nat, kc_1 ≤ mc ∧ ks_2 ≤ ms ∧ ∃ fs_3 : List Value, ga_at K h p0 (ga_O 0 fs_3) ∧ gw_X1_ladderAt K p0 p1 h kc_1 ks_2 (fun (r_5 : Option Nat) (h_4 : ga_H) => (p2 = (0 : Int32) → (∃ a_10 : Nat, r_5 = some a_10 ∧ ∃ (fs_11 : List Value) (v_12 : Int32), h_4 a_10 = some (ga_O 5 fs_11) ∧ fs_11[1]? = some (.int v_12) ∧ (post v_12 h_4))) ∧ (¬ p2 = (0 : Int32) → (∃ a_13 : Nat, r_5 = some a_13 ∧ ∃ (fs_14 : List Value) (v_15 : Int32), h_4 a_13 = some (ga_O 5 fs_14) ∧ fs_14[0]? = some (.int v_15) ∧ (post v_15 h_4)))) (fun (E_6 : String) (q_7 : Nat) (h_8 : ga_H) => xp E_6 q_7 h_8)
set_option maxHeartbeats 4000000 in
theorem gm_X1_ladderOf (l : Launch) (hst : l.stackTraces = false) (g : ga_G) (p0 : Nat) (p1 : Int32) (p2 : Int32) (h : ga_H) (mc ms : Nat) (post : Int32 → ga_H → Prop) (xp : String → Nat → ga_H → Prop) (hw : gw_X1_ladderOf g.2.2 p0 p1 p2 h mc ms post xp) : vx_Met l yX1_ladderOf (ws_ yX1_ladderOf cX1_ladderOf 4 (some .int)) ({ frames := 12, cells := mc, slots := ms, locals := 225 } : Room) (va_Pc [.ref p0, .int p1, .int p2] (ga_B g h)) (va_Qi post (ga_E g) (ga_A g)) (ga_X g xp) mc ms (ga_A g) := by
  refine ga_metx (own := "PaperStore") (nm := "ladderOf") (by decide) rfl rfl (by exact Nat.le_of_ble_eq_true rfl) (fun p e s m below meth c ls hC htab hI hl => ?_)
  have hl : lv_has ls 4 [(0, .ref p0), (1, .int p1), (2, .int p2)] := hl
  generalize ([.ref p0, .int p1, .int p2] : List Value).toArray = args at hC ⊢
  obtain ⟨hx, hb, hml, hown, hts, hr, hlk, hnm⟩ := hC
  unfold gw_X1_ladderOf at hw
  obtain ⟨H, eH⟩ : ∃ z, z = s.heap := ⟨_, rfl⟩
  obtain ⟨locs, elo⟩ : ∃ z : List Loc, z = [] := ⟨_, rfl⟩
  rw [← eH, ← elo] at hI ⊢
  obtain ⟨cells, slots, hbc, hbs, e0, e1⟩ : ∃ a b : Nat, a + mc ≤ mc ∧ b + ms ≤ ms ∧ a = 0 ∧ b = 0 := ⟨0, 0, by omega, by omega, rfl, rfl⟩
  show W p l e ({ frames := 12, cells := mc, slots := ms, locals := 225 } : Room) s m args below meth c H locs 0 0 (vx_MQ below (va_Qi post (ga_E g) (ga_A g)) (ga_X g xp) args s mc ms (ga_A g)) (F0 m 0 ls [])
  suffices hgoal : W p l e ({ frames := 12, cells := mc, slots := ms, locals := 225 } : Room) s m args below meth c H locs cells slots (vx_MQ below (va_Qi post (ga_E g) (ga_A g)) (ga_X g xp) args s mc ms (ga_A g)) (F0 m 0 ls []) by rw [e0, e1] at hgoal; exact hgoal
  refine lv_aload_n hx hb dX1_ladderOf_0 rfl (lv_at hl 0 rfl) ?_
  refine lv_iload_n hx hb dX1_ladderOf_1 rfl (lv_at hl 1 rfl) ?_
  obtain ⟨kc_1, ks_2, hk1, hk2, hw⟩ := hw
  obtain ⟨fs_3, hq, hw⟩ := hw
  refine ga_xcallq (vx_runV (As := [.int p1]) (rest := []) ⟨hx, hb, hml, hown, hts⟩ (gm_X1_ladderAt l hst g p0 p1 h kc_1 ks_2 _ _ hw) (cwV 1 hts (lw_V q2125 q2127 qs11 q100 q2128) rfl rfl rfl ⟨rfl, hdG_X1_ladderAt⟩ ⟨Nat.le_of_ble_eq_true rfl, Nat.le_of_ble_eq_true rfl⟩) (ga_preV hI hq rfl rfl) rfl rfl hl.1 rfl (ga_room (Nat.le_of_ble_eq_true rfl)) dX1_ladderOf_2 ⟨Nat.le_trans (Nat.add_le_add_left hk1 _) hbc, Nat.le_trans (Nat.add_le_add_left hk2 _) hbs⟩) hI hbc hbs hk1 hk2 (fun E_6 q_7 h_8 ce H locs cells slots hw hI hce hbc hbs => ?_) (fun r_5 h_4 H locs cells slots hw hI hbc hbs => ?_)
  · exact ga_out hown hlk hI hw (by rw [htab]; intro z hz; cases hz) hce (Nat.le_trans (Nat.le_add_right _ _) hbc) (Nat.le_trans (Nat.le_add_right _ _) hbs)
  · skip
    refine ga_astore_n (i := 3) (x := r_5) (lv' := [(3, va_rf r_5), (0, .ref p0), (1, .int p1), (2, .int p2)]) hx hb dX1_ladderOf_5 rfl hl (by decide) rfl (fun ls hl => ?_)
    refine lv_iload_n hx hb dX1_ladderOf_6 rfl (lv_at hl 3 rfl) ?_
    refine lv_if_eq (tgt := 17) hx hb dX1_ladderOf_7 (by decide) (fun hc_9 => ?_) (fun hc_9 => ?_)
    · have hw := hw.1 hc_9
      refine ga_aload_n hx hb dX1_ladderOf_17 rfl (lv_at hl 0 rfl) ?_
      obtain ⟨a_10, ea_10, hw⟩ := hw
      rewrite [ea_10]
      obtain ⟨fs_11, v_12, hq, hv, hw⟩ := hw
      refine ga_getN (ci := 5) (T := TX7) (v := .int v_12) hx hb hts hown hI in_X7 rfl 1 (by decide) q1350 (fun _ z => z) (ga_at.h hq) hv dX1_ladderOf_18 ?_
      exact ga_iretx hx hb hr rfl hlk hI hw (Nat.le_trans (Nat.le_add_right _ _) hbc) (Nat.le_trans (Nat.le_add_right _ _) hbs) dX1_ladderOf_21
    · have hw := hw.2 hc_9
      refine ga_aload_n hx hb dX1_ladderOf_10 rfl (lv_at hl 0 rfl) ?_
      obtain ⟨a_13, ea_13, hw⟩ := hw
      rewrite [ea_13]
      obtain ⟨fs_14, v_15, hq, hv, hw⟩ := hw
      refine ga_getN (ci := 5) (T := TX7) (v := .int v_15) hx hb hts hown hI in_X7 rfl 0 (by decide) q1347 (fun _ z => z) (ga_at.h hq) hv dX1_ladderOf_11 ?_
      refine lv_goto (tgt := 21) hx hb dX1_ladderOf_14 (by decide) ?_
      exact ga_iretx hx hb hr rfl hlk hI hw (Nat.le_trans (Nat.le_add_right _ _) hbc) (Nat.le_trans (Nat.le_add_right _ _) hbs) dX1_ladderOf_21
theorem hdG_X1_ladderOf : yX1_ladderOf.cls ≠ "java/lang/invoke/MethodHandle" ∧ yX1_ladderOf.cls ≠ "java/lang/invoke/VarHandle" ∧ (parseMethodDescriptor yX1_ladderOf.desc).map (fun d => d.parameters.length) = some 2 := by decide +kernel
def gw_X0_ladderOf (K : ga_K) (p0 : Option Nat) (p1 : Int32) (p2 : Int32) (p3 : Option Nat) (h : ga_H) (mc ms : Nat) (post : Int32 → ga_H → Prop) (xp : String → Nat → ga_H → Prop) : Prop :=
  ∃ a_1 : Nat, p0 = some a_1 ∧ ∃ kc_2 ks_3 : Nat, kc_2 ≤ mc ∧ ks_3 ≤ ms ∧ ∃ fs_4 : List Value, ga_at K h a_1 (ga_O 0 fs_4) ∧ gw_X1_ladderOf K a_1 p1 p2 h kc_2 ks_3 (fun (r_6 : Int32) (h_5 : ga_H) => ∃ a_10 : Nat, p3 = some a_10 ∧ ∃ (n_11 : Nat) (f_12 : Nat → Int64), h_5 a_10 = some (ga_Al n_11 f_12) ∧ vp_in (0 : Int32) n_11 ∧ ∀ h_13 : ga_H, h_13 = ga_set h_5 a_10 (ga_Al n_11 (vp_updL f_12 (0 : Int32).toNatClampNeg r_6.toInt64)) → (post (0 : Int32) h_13)) (fun (E_7 : String) (q_8 : Nat) (h_9 : ga_H) => (E_7 = "java/lang/IndexOutOfBoundsException" ∧ (post (1 : Int32) h_9)))
set_option maxHeartbeats 4000000 in
theorem gm_X0_ladderOf (l : Launch) (hst : l.stackTraces = false) (g : ga_G) (p0 : Option Nat) (p1 : Int32) (p2 : Int32) (p3 : Option Nat) (h : ga_H) (mc ms : Nat) (post : Int32 → ga_H → Prop) (xp : String → Nat → ga_H → Prop) (hw : gw_X0_ladderOf g.2.2 p0 p1 p2 p3 h mc ms post xp) : vx_Met l yX0_ladderOf (wsW_ yX0_ladderOf cX0_ladderOf 5 (some .int) [(0, 10, 13, 21)]) ({ frames := 13, cells := mc, slots := ms, locals := 248 } : Room) (va_Pc [va_rf p0, .int p1, .int p2, va_rf p3] (ga_B g h)) (va_Qi post (ga_E g) (ga_A g)) (ga_X g xp) mc ms (ga_A g) := by
  refine ga_metxW (own := "PaperStoreLaw") (nm := "ladderOf") (by decide) rfl rfl (by cases p0 <;> cases p3 <;> exact Nat.le_of_ble_eq_true rfl) (fun p e s m below meth c ls hC htab hI hl => ?_)
  have hl : lv_has ls 5 [(0, va_rf p0), (1, .int p1), (2, .int p2), (3, va_rf p3)] := (by cases p0 <;> cases p3 <;> exact hl)
  generalize ([va_rf p0, .int p1, .int p2, va_rf p3] : List Value).toArray = args at hC ⊢
  obtain ⟨hx, hb, hml, hown, hts, hr, hlk, hnm⟩ := hC
  unfold gw_X0_ladderOf at hw
  obtain ⟨H, eH⟩ : ∃ z, z = s.heap := ⟨_, rfl⟩
  obtain ⟨locs, elo⟩ : ∃ z : List Loc, z = [] := ⟨_, rfl⟩
  rw [← eH, ← elo] at hI ⊢
  obtain ⟨cells, slots, hbc, hbs, e0, e1⟩ : ∃ a b : Nat, a + mc ≤ mc ∧ b + ms ≤ ms ∧ a = 0 ∧ b = 0 := ⟨0, 0, by omega, by omega, rfl, rfl⟩
  show W p l e ({ frames := 13, cells := mc, slots := ms, locals := 248 } : Room) s m args below meth c H locs 0 0 (vx_MQ below (va_Qi post (ga_E g) (ga_A g)) (ga_X g xp) args s mc ms (ga_A g)) (F0 m 0 ls [])
  suffices hgoal : W p l e ({ frames := 13, cells := mc, slots := ms, locals := 248 } : Room) s m args below meth c H locs cells slots (vx_MQ below (va_Qi post (ga_E g) (ga_A g)) (ga_X g xp) args s mc ms (ga_A g)) (F0 m 0 ls []) by rw [e0, e1] at hgoal; exact hgoal
  refine ga_aload_n hx hb dX0_ladderOf_0 rfl (lv_at hl 3 rfl) ?_
  refine lv_iconst (v := 0) hx hb dX0_ladderOf_1 (by decide) ?_
  refine ga_aload_n hx hb dX0_ladderOf_2 rfl (lv_at hl 0 rfl) ?_
  refine lv_iload_n hx hb dX0_ladderOf_3 rfl (lv_at hl 1 rfl) ?_
  refine lv_iload_n hx hb dX0_ladderOf_4 rfl (lv_at hl 2 rfl) ?_
  obtain ⟨a_1, ea_1, hw⟩ := hw
  rewrite [ea_1]
  obtain ⟨kc_2, ks_3, hk1, hk2, hw⟩ := hw
  obtain ⟨fs_4, hq, hw⟩ := hw
  refine ga_xcalli (vx_runV (As := [.int p1, .int p2]) (rest := [.int (0 : Int32), va_rf p3]) ⟨hx, hb, hml, hown, hts⟩ (gm_X1_ladderOf l hst g a_1 p1 p2 h kc_2 ks_3 _ _ hw) (cwV 2 hts (lw_V q2188 q2189 q2190 q100 q2191) rfl rfl rfl ⟨rfl, hdG_X1_ladderOf⟩ ⟨Nat.le_of_ble_eq_true rfl, Nat.le_of_ble_eq_true rfl⟩) (ga_preV hI hq rfl rfl) rfl rfl hl.1 rfl (ga_room (Nat.le_of_ble_eq_true rfl)) dX0_ladderOf_5 ⟨Nat.le_trans (Nat.add_le_add_left hk1 _) hbc, Nat.le_trans (Nat.add_le_add_left hk2 _) hbs⟩) hI hbc hbs hk1 hk2 (fun E_7 q_8 h_9 ce H locs cells slots hw hI hce hbc hbs => ?_) (fun r_6 h_5 H locs cells slots hw hI hbc hbs => ?_)
  · obtain ⟨rfl, hw⟩ := hw
    refine ga_catch hown hts hI ([]) (⟨0, 10, 13, 21⟩) ([]) (by rw [htab]; rfl) (fun _ h => absurd h List.not_mem_nil) rfl (by decide) q2105 q866 hce ?_
    refine W.eq (g2 := F0 m 13 ls [.ref q_8]) rfl ?_
    refine lv_astore (lv' := [(4, .ref q_8), (0, va_rf p0), (1, .int p1), (2, .int p2), (3, va_rf p3)]) hx hb dX0_ladderOf_13 hl (by decide) (by simp [ga_rcat, ga_cat_r, ga_cat_i, ga_cat_f, ga_cat_l, ga_cat_d]) (fun ls hl => ?_)
    refine lv_iconst (v := 1) hx hb dX0_ladderOf_15 (by decide) ?_
    exact ga_iretx hx hb hr rfl hlk hI hw (Nat.le_trans (Nat.le_add_right _ _) hbc) (Nat.le_trans (Nat.le_add_right _ _) hbs) dX0_ladderOf_16
  · skip
    refine lv_i2l (v := r_6.toInt64) hx hb dX0_ladderOf_8 rfl ?_
    obtain ⟨a_10, ea_10, hw⟩ := hw
    rewrite [ea_10]
    obtain ⟨n_11, f_12, hq, hi, hw⟩ := hw
    refine ga_stl hx hb hI hq hi dX0_ladderOf_9 (fun H locs hI => ?_)
    obtain ⟨h_13, eh_13⟩ : ∃ z, z = ga_set h_5 a_10 (ga_Al n_11 (vp_updL f_12 (0 : Int32).toNatClampNeg r_6.toInt64)) := ⟨_, rfl⟩
    rw [← eh_13] at hI
    have hw := hw h_13 eh_13
    refine lv_goto (tgt := 17) hx hb dX0_ladderOf_10 (by decide) ?_
    refine lv_iconst (v := 0) hx hb dX0_ladderOf_17 (by decide) ?_
    exact ga_iretx hx hb hr rfl hlk hI hw (Nat.le_trans (Nat.le_add_right _ _) hbc) (Nat.le_trans (Nat.le_add_right _ _) hbs) dX0_ladderOf_18
theorem hdG_X0_ladderOf : yX0_ladderOf.cls ≠ "java/lang/invoke/MethodHandle" ∧ yX0_ladderOf.cls ≠ "java/lang/invoke/VarHandle" ∧ (parseMethodDescriptor yX0_ladderOf.desc).map (fun d => d.parameters.length) = some 4 := by decide +kernel
def gw_X1_reamAt (K : ga_K) (p0 : Nat) (p1 : Int32) (h : ga_H) (mc ms : Nat) (post : Option Nat → ga_H → Prop) (xp : String → Nat → ga_H → Prop) : Prop :=
  ∃ (fs_1 : List Value) (v_2 : Option Nat), h p0 = some (ga_O 0 fs_1) ∧ fs_1[0]? = some (va_rf v_2) ∧ (∃ a_3 : Nat, v_2 = some a_3 ∧ ∃ (fs_4 : List Value) (v_5 : Option Nat), h a_3 = some (ga_O 1 fs_4) ∧ fs_4[4]? = some (va_rf v_5) ∧ (∃ a_6 : Nat, v_5 = some a_6 ∧ ∃ fs_7 : List Value, ga_at K h a_6 (ga_O 13 fs_7) ∧ gw_J2_size K a_6 h (fun (r_9 : Int32) (h_8 : ga_H) => gw_X1_isIn p1 (0 : Int32) (r_9 - (1 : Int32)) (fun (r_10 : Int32) => ∃ kc_11 ks_12 : Nat, kc_11 ≤ mc ∧ ks_12 ≤ ms ∧ gw_X1_checkIndex K r_10 h_8 kc_11 ks_12 (fun (h_13 : ga_H) => ∃ (fs_17 : List Value) (v_18 : Option Nat), h_13 p0 = some (ga_O 0 fs_17) ∧ fs_17[0]? = some (va_rf v_18) ∧ (∃ a_19 : Nat, v_18 = some a_19 ∧ ∃ (fs_20 : List Value) (v_21 : Option Nat), h_13 a_19 = some (ga_O 1 fs_20) ∧ fs_20[4]? = some (va_rf v_21) ∧ (∃ a_22 : Nat, v_21 = some a_22 ∧ ∃ fs_23 : List Value, ga_at K h_13 a_22 (ga_O 13 fs_23) ∧ gw_J2_get K a_22 p1 h_13 (fun (r_25 : Option Nat) (h_24 : ga_H) => ga_ok K h_24 "PaperStore$Ream" r_25 ∧ (post r_25 h_24))))) (fun (E_14 : String) (q_15 : Nat) (h_16 : ga_H) => xp E_14 q_15 h_16)))))
set_option maxHeartbeats 4000000 in
theorem gm_X1_reamAt (l : Launch) (hst : l.stackTraces = false) (g : ga_G) (p0 : Nat) (p1 : Int32) (h : ga_H) (mc ms : Nat) (post : Option Nat → ga_H → Prop) (xp : String → Nat → ga_H → Prop) (hw : gw_X1_reamAt g.2.2 p0 p1 h mc ms post xp) : vx_Met l yX1_reamAt (ws_ yX1_reamAt cX1_reamAt 2 (some (.object "PaperStore$Ream"))) ({ frames := 11, cells := mc, slots := ms, locals := 204 } : Room) (va_Pc [.ref p0, .int p1] (ga_B g h)) (va_Qq post (ga_E g) (ga_A g)) (ga_X g xp) mc ms (ga_A g) := by
  refine ga_metx (own := "PaperStore") (nm := "reamAt") (by decide) rfl rfl (by exact Nat.le_of_ble_eq_true rfl) (fun p e s m below meth c ls hC htab hI hl => ?_)
  have hl : lv_has ls 2 [(0, .ref p0), (1, .int p1)] := hl
  generalize ([.ref p0, .int p1] : List Value).toArray = args at hC ⊢
  obtain ⟨hx, hb, hml, hown, hts, hr, hlk, hnm⟩ := hC
  unfold gw_X1_reamAt at hw
  obtain ⟨H, eH⟩ : ∃ z, z = s.heap := ⟨_, rfl⟩
  obtain ⟨locs, elo⟩ : ∃ z : List Loc, z = [] := ⟨_, rfl⟩
  rw [← eH, ← elo] at hI ⊢
  obtain ⟨cells, slots, hbc, hbs, e0, e1⟩ : ∃ a b : Nat, a + mc ≤ mc ∧ b + ms ≤ ms ∧ a = 0 ∧ b = 0 := ⟨0, 0, by omega, by omega, rfl, rfl⟩
  show W p l e ({ frames := 11, cells := mc, slots := ms, locals := 204 } : Room) s m args below meth c H locs 0 0 (vx_MQ below (va_Qq post (ga_E g) (ga_A g)) (ga_X g xp) args s mc ms (ga_A g)) (F0 m 0 ls [])
  suffices hgoal : W p l e ({ frames := 11, cells := mc, slots := ms, locals := 204 } : Room) s m args below meth c H locs cells slots (vx_MQ below (va_Qq post (ga_E g) (ga_A g)) (ga_X g xp) args s mc ms (ga_A g)) (F0 m 0 ls []) by rw [e0, e1] at hgoal; exact hgoal
  refine lv_iload_n hx hb dX1_reamAt_0 rfl (lv_at hl 1 rfl) ?_
  refine lv_iconst (v := 0) hx hb dX1_reamAt_1 (by decide) ?_
  refine lv_aload_n hx hb dX1_reamAt_2 rfl (lv_at hl 0 rfl) ?_
  obtain ⟨fs_1, v_2, hq, hv, hw⟩ := hw
  refine ga_get (ci := 0) (T := TX1) (v := va_rf v_2) hx hb hts hown hI in_X1 rfl 0 (by decide) q387 (fun _ z => z) (ga_at.h hq) hv dX1_reamAt_3 ?_
  obtain ⟨a_3, ea_3, hw⟩ := hw
  rewrite [ea_3]
  obtain ⟨fs_4, v_5, hq, hv, hw⟩ := hw
  refine ga_getN (ci := 1) (T := TX2) (v := va_rf v_5) hx hb hts hown hI in_X2 rfl 4 (by decide) q319 (fun _ z => z) (ga_at.h hq) hv dX1_reamAt_6 ?_
  obtain ⟨a_6, ea_6, hw⟩ := hw
  rewrite [ea_6]
  obtain ⟨fs_7, hq, hw⟩ := hw
  refine ga_calli (va_runV (As := []) (rest := [.int (0 : Int32), .int p1]) ⟨hx, hb, hml, hown, hts⟩ (gm_J2_size l g a_6 h _ hw) (cwV 0 hts (lw_V q1240 q536 q4117 q104 q537) rfl rfl rfl ⟨rfl, hdG_J2_size⟩ ⟨Nat.le_of_ble_eq_true rfl, Nat.le_of_ble_eq_true rfl⟩) (ga_preV hI hq rfl rfl) rfl rfl hl.1 rfl (ga_room (Nat.le_of_ble_eq_true rfl)) dX1_reamAt_9 ⟨Nat.le_trans (Nat.add_le_add_left (Nat.zero_le _) _) hbc, Nat.le_trans (Nat.add_le_add_left (Nat.zero_le _) _) hbs⟩) hI hbc hbs (Nat.zero_le _) (Nat.zero_le _) (fun r_9 h_8 H locs cells slots hw hI hbc hbs => ?_)
  refine lv_iconst (v := 1) hx hb dX1_reamAt_12 (by decide) ?_
  refine lv_isub hx hb dX1_reamAt_13 ?_
  refine ga_callS (As := [.int p1, .int (0 : Int32), .int (r_9 - (1 : Int32))]) (rest := []) ⟨hx, hb, hml, hown, hts⟩ (gm_X1_isIn l p1 (0 : Int32) (r_9 - (1 : Int32)) _ hw) (va_cwS 3 hts (lw_S q2024 q2025 q100 q2026) rfl rfl rfl hdG_X1_isIn ⟨Nat.le_of_ble_eq_true rfl, Nat.le_of_ble_eq_true rfl⟩) rfl hl.1 rfl (ga_room (Nat.le_of_ble_eq_true rfl)) dX1_reamAt_14 hbc hbs (fun r_10 hw => ?_)
  obtain ⟨kc_11, ks_12, hk1, hk2, hw⟩ := hw
  refine ga_xcallv (vx_runS (As := [.int r_10]) (rest := []) ⟨hx, hb, hml, hown, hts⟩ (gm_X1_checkIndex l hst g r_10 h_8 kc_11 ks_12 _ _ hw) (va_cwS 1 hts (lw_S q2134 q2135 q100 q2136) rfl rfl rfl hdG_X1_checkIndex ⟨Nat.le_of_ble_eq_true rfl, Nat.le_of_ble_eq_true rfl⟩) (ga_preS hI rfl) rfl rfl hl.1 rfl (ga_room (Nat.le_of_ble_eq_true rfl)) dX1_reamAt_17 ⟨Nat.le_trans (Nat.add_le_add_left hk1 _) hbc, Nat.le_trans (Nat.add_le_add_left hk2 _) hbs⟩) hI hbc hbs hk1 hk2 (fun E_14 q_15 h_16 ce H locs cells slots hw hI hce hbc hbs => ?_) (fun h_13 H locs cells slots hw hI hbc hbs => ?_)
  · exact ga_out hown hlk hI hw (by rw [htab]; intro z hz; cases hz) hce (Nat.le_trans (Nat.le_add_right _ _) hbc) (Nat.le_trans (Nat.le_add_right _ _) hbs)
  · skip
    refine lv_aload_n hx hb dX1_reamAt_20 rfl (lv_at hl 0 rfl) ?_
    obtain ⟨fs_17, v_18, hq, hv, hw⟩ := hw
    refine ga_get (ci := 0) (T := TX1) (v := va_rf v_18) hx hb hts hown hI in_X1 rfl 0 (by decide) q387 (fun _ z => z) (ga_at.h hq) hv dX1_reamAt_21 ?_
    obtain ⟨a_19, ea_19, hw⟩ := hw
    rewrite [ea_19]
    obtain ⟨fs_20, v_21, hq, hv, hw⟩ := hw
    refine ga_getN (ci := 1) (T := TX2) (v := va_rf v_21) hx hb hts hown hI in_X2 rfl 4 (by decide) q319 (fun _ z => z) (ga_at.h hq) hv dX1_reamAt_24 ?_
    refine lv_iload_n hx hb dX1_reamAt_27 rfl (lv_at hl 1 rfl) ?_
    obtain ⟨a_22, ea_22, hw⟩ := hw
    rewrite [ea_22]
    obtain ⟨fs_23, hq, hw⟩ := hw
    refine ga_callq (va_runV (As := [.int p1]) (rest := []) ⟨hx, hb, hml, hown, hts⟩ (gm_J2_get l g a_22 p1 h_13 _ hw) (cwV 1 hts (lw_V q2142 q839 q4120 q104 q841) rfl rfl rfl ⟨rfl, hdG_J2_get⟩ ⟨Nat.le_of_ble_eq_true rfl, Nat.le_of_ble_eq_true rfl⟩) (ga_preV hI hq rfl rfl) rfl rfl hl.1 rfl (ga_room (Nat.le_of_ble_eq_true rfl)) dX1_reamAt_28 ⟨Nat.le_trans (Nat.add_le_add_left (Nat.zero_le _) _) hbc, Nat.le_trans (Nat.add_le_add_left (Nat.zero_le _) _) hbs⟩) hI hbc hbs (Nat.zero_le _) (Nat.zero_le _) (fun r_25 h_24 H locs cells slots hw hI hbc hbs => ?_)
    refine ga_cast (x := r_25) hx hb hts hown hI q1183 hw.1 dX1_reamAt_31 ?_
    have hw := hw.2
    exact ga_qretx (v := r_25) hx hb hr (Or.inl ⟨_, rfl⟩) hlk hI hw (Nat.le_trans (Nat.le_add_right _ _) hbc) (Nat.le_trans (Nat.le_add_right _ _) hbs) dX1_reamAt_34
theorem hdG_X1_reamAt : yX1_reamAt.cls ≠ "java/lang/invoke/MethodHandle" ∧ yX1_reamAt.cls ≠ "java/lang/invoke/VarHandle" ∧ (parseMethodDescriptor yX1_reamAt.desc).map (fun d => d.parameters.length) = some 1 := by decide +kernel
def gw_J55_equals (K : ga_K) (p0 : Nat) (p1 : Option Nat) (h : ga_H) (post : Int32 → ga_H → Prop) : Prop :=
  (¬ (some p0) = p1 → (post (0 : Int32) h)) ∧ ((some p0) = p1 → (post (1 : Int32) h))
set_option maxHeartbeats 4000000 in
theorem gm_J55_equals (l : Launch) (g : ga_G) (p0 : Nat) (p1 : Option Nat) (h : ga_H) (post : Int32 → ga_H → Prop) (hw : gw_J55_equals g.2.2 p0 p1 h post) : Met l yJ55_equals (ws_ yJ55_equals cJ55_equals 2 (some .boolean)) ({ frames := 8, cells := 0, slots := 0, locals := 140 } : Room) (va_Pc [.ref p0, va_rf p1] (ga_B g h)) (va_Qi post (ga_E g) (ga_A g)) 0 0 (ga_A g) := by
  refine ga_metF (own := "java/lang/Object") (nm := "equals") (by decide +kernel) rfl rfl (by cases p1 <;> exact Nat.le_of_ble_eq_true rfl) (fun p e s m below meth c ls hC hI hl => ?_)
  have hl : lv_has ls 2 [(0, .ref p0), (1, va_rf p1)] := (by cases p1 <;> exact hl)
  generalize ([.ref p0, va_rf p1] : List Value).toArray = args at hC ⊢
  obtain ⟨hx, hb, hml, hown, hts, hr, hlk, hnm⟩ := hC
  unfold gw_J55_equals at hw
  obtain ⟨H, eH⟩ : ∃ z, z = s.heap := ⟨_, rfl⟩
  obtain ⟨locs, elo⟩ : ∃ z : List Loc, z = [] := ⟨_, rfl⟩
  rw [← eH, ← elo] at hI ⊢
  obtain ⟨cells, slots, hbc, hbs, e0, e1⟩ : ∃ a b : Nat, a ≤ 0 ∧ b ≤ 0 ∧ a = 0 ∧ b = 0 := ⟨0, 0, by omega, by omega, rfl, rfl⟩
  show W p l e ({ frames := 8, cells := 0, slots := 0, locals := 140 } : Room) s m args below meth c H locs 0 0 (MQ below (va_Qi post (ga_E g) (ga_A g)) args s 0 0 (ga_A g)) (F0 m 0 ls [])
  suffices hgoal : W p l e ({ frames := 8, cells := 0, slots := 0, locals := 140 } : Room) s m args below meth c H locs cells slots (MQ below (va_Qi post (ga_E g) (ga_A g)) args s 0 0 (ga_A g)) (F0 m 0 ls []) by rw [e0, e1] at hgoal; exact hgoal
  refine lv_aload_n hx hb dJ55_equals_0 rfl (lv_at hl 0 rfl) ?_
  refine ga_aload_n hx hb dJ55_equals_1 rfl (lv_at hl 1 rfl) ?_
  refine lv_acmp_ne (rx := (some p0)) (ry := p1) (tgt := 9) hx hb dJ55_equals_2 (by decide) (fun hc_1 => ?_) (fun hc_1 => ?_)
  · have hw := hw.1 hc_1
    refine lv_iconst (v := 0) hx hb dJ55_equals_9 (by decide) ?_
    exact ga_iret hx hb hr rfl hlk hI hw hbc hbs dJ55_equals_10
  · have hw := hw.2 hc_1
    refine lv_iconst (v := 1) hx hb dJ55_equals_5 (by decide) ?_
    refine lv_goto (tgt := 10) hx hb dJ55_equals_6 (by decide) ?_
    exact ga_iret hx hb hr rfl hlk hI hw hbc hbs dJ55_equals_10
theorem hdG_J55_equals : yJ55_equals.cls ≠ "java/lang/invoke/MethodHandle" ∧ yJ55_equals.cls ≠ "java/lang/invoke/VarHandle" ∧ (parseMethodDescriptor yJ55_equals.desc).map (fun d => d.parameters.length) = some 1 := by decide +kernel
def gw_J2_indexOfRange (K : ga_K) (p0 : Nat) (p1 : Option Nat) (p2 : Int32) (p3 : Int32) (h : ga_H) (post : Int32 → ga_H → Prop) : Prop :=
  ∃ (fs_1 : List Value) (v_2 : Option Nat), h p0 = some (ga_O 13 fs_1) ∧ fs_1[1]? = some (va_rf v_2) ∧ ((p1 = none → (∃ (In_15 : Int32 → Prop) (mu_15 : Int32 → Nat), In_15 p2 ∧ ∀ (x5_15 : Int32), In_15 x5_15 → ((p3 ≤ x5_15 → (post (-1 : Int32) h)) ∧ (¬ p3 ≤ x5_15 → (∃ a_17 : Nat, v_2 = some a_17 ∧ ∃ (n_18 : Nat) (f_19 : Nat → Option Nat), ga_at K h a_17 (ga_Aq 5 n_18 f_19) ∧ vp_in x5_15 n_18 ∧ ∀ v_20 : Option Nat, v_20 = f_19 x5_15.toNatClampNeg → ((v_20 = none → (post x5_15 h)) ∧ (∀ a_21 : Nat, v_20 = some a_21 → (In_15 (x5_15 + (1 : Int32)) ∧ mu_15 (x5_15 + (1 : Int32)) < mu_15 x5_15)))))))) ∧ (∀ a_3 : Nat, p1 = some a_3 → (∃ (In_4 : Int32 → ga_H → Prop) (mu_4 : Int32 → ga_H → Nat), In_4 p2 h ∧ ∀ (x5_4 : Int32) (h_4 : ga_H), In_4 x5_4 h_4 → ((p3 ≤ x5_4 → (post (-1 : Int32) h_4)) ∧ (¬ p3 ≤ x5_4 → (∃ a_6 : Nat, v_2 = some a_6 ∧ ∃ (n_7 : Nat) (f_8 : Nat → Option Nat), ga_at K h_4 a_6 (ga_Aq 5 n_7 f_8) ∧ vp_in x5_4 n_7 ∧ ∀ v_9 : Option Nat, v_9 = f_8 x5_4.toNatClampNeg → (∃ a_10 : Nat, p1 = some a_10 ∧ ∃ fs_11 : List Value, ga_at K h_4 a_10 (ga_O 4 fs_11) ∧ gw_J55_equals K a_10 v_9 h_4 (fun (r_13 : Int32) (h_12 : ga_H) => (r_13 = (0 : Int32) → (In_4 (x5_4 + (1 : Int32)) h_12 ∧ mu_4 (x5_4 + (1 : Int32)) h_12 < mu_4 x5_4 h_4)) ∧ (¬ r_13 = (0 : Int32) → (post x5_4 h_12))))))))))
set_option maxHeartbeats 4000000 in
theorem gm_J2_indexOfRange (l : Launch) (g : ga_G) (p0 : Nat) (p1 : Option Nat) (p2 : Int32) (p3 : Int32) (h : ga_H) (post : Int32 → ga_H → Prop) (hw : gw_J2_indexOfRange g.2.2 p0 p1 p2 p3 h post) : Met l yJ2_indexOfRange (ws_ yJ2_indexOfRange cJ2_indexOfRange 6 (some .int)) ({ frames := 9, cells := 0, slots := 0, locals := 161 } : Room) (va_Pc [.ref p0, va_rf p1, .int p2, .int p3] (ga_B g h)) (va_Qi post (ga_E g) (ga_A g)) 0 0 (ga_A g) := by
  refine ga_met (own := "java/util/ArrayList") (nm := "indexOfRange") (by decide) rfl rfl (by cases p1 <;> exact Nat.le_of_ble_eq_true rfl) (fun p e s m below meth c ls hC hI hl => ?_)
  have hl : lv_has ls 6 [(0, .ref p0), (1, va_rf p1), (2, .int p2), (3, .int p3)] := (by cases p1 <;> exact hl)
  generalize ([.ref p0, va_rf p1, .int p2, .int p3] : List Value).toArray = args at hC ⊢
  obtain ⟨hx, hb, hml, hown, hts, hr, hlk, hnm⟩ := hC
  unfold gw_J2_indexOfRange at hw
  obtain ⟨H, eH⟩ : ∃ z, z = s.heap := ⟨_, rfl⟩
  obtain ⟨locs, elo⟩ : ∃ z : List Loc, z = [] := ⟨_, rfl⟩
  rw [← eH, ← elo] at hI ⊢
  obtain ⟨cells, slots, hbc, hbs, e0, e1⟩ : ∃ a b : Nat, a ≤ 0 ∧ b ≤ 0 ∧ a = 0 ∧ b = 0 := ⟨0, 0, by omega, by omega, rfl, rfl⟩
  show W p l e ({ frames := 9, cells := 0, slots := 0, locals := 161 } : Room) s m args below meth c H locs 0 0 (MQ below (va_Qi post (ga_E g) (ga_A g)) args s 0 0 (ga_A g)) (F0 m 0 ls [])
  suffices hgoal : W p l e ({ frames := 9, cells := 0, slots := 0, locals := 161 } : Room) s m args below meth c H locs cells slots (MQ below (va_Qi post (ga_E g) (ga_A g)) args s 0 0 (ga_A g)) (F0 m 0 ls []) by rw [e0, e1] at hgoal; exact hgoal
  refine lv_aload_n hx hb dJ2_indexOfRange_0 rfl (lv_at hl 0 rfl) ?_
  obtain ⟨fs_1, v_2, hq, hv, hw⟩ := hw
  refine ga_get (ci := 13) (T := TJ2) (v := va_rf v_2) hx hb hts hown hI in_J2 rfl 1 (by decide) q203 (fun _ z => z) (ga_at.h hq) hv dJ2_indexOfRange_1 ?_
  refine ga_astore (x := v_2) (lv' := [(4, va_rf v_2), (0, .ref p0), (1, va_rf p1), (2, .int p2), (3, .int p3)]) hx hb dJ2_indexOfRange_4 hl (by decide) rfl (fun ls hl => ?_)
  refine ga_aload_n hx hb dJ2_indexOfRange_6 rfl (lv_at hl 2 rfl) ?_
  refine ga_ifnonnull (tgt := 39) hx hb dJ2_indexOfRange_7 (by decide) (fun a_3 hc_a_3 => ?_) (fun hc_a_3 => ?_)
  · have hw := hw.2 a_3 hc_a_3
    skip
    refine lv_iload_n hx hb dJ2_indexOfRange_39 rfl (lv_at hl 3 rfl) ?_
    refine lv_istore (lv' := [(5, .int p2), (4, va_rf v_2), (0, .ref p0), (1, va_rf p1), (2, .int p2), (3, .int p3)]) hx hb dJ2_indexOfRange_40 hl (by decide) (by simp [ga_rcat, ga_cat_r, ga_cat_i, ga_cat_f, ga_cat_l, ga_cat_d]) (fun ls hl => ?_)
    obtain ⟨In_4, mu_4, h0_4, hw⟩ := hw
    have hL_4 : ∀ (n : Nat) (x5_4 : Int32) (h_4 : ga_H) (H : Heap) (locs : List Loc) (cells slots : Nat) (ls : Array Slot), mu_4 x5_4 h_4 < n → In_4 x5_4 h_4 → ga_I g h_4 s H locs → cells ≤ 0 → slots ≤ 0 → lv_has ls 6 [(1, va_rf p1), (3, .int p3), (4, va_rf v_2), (5, .int x5_4)] → W p l e ({ frames := 9, cells := 0, slots := 0, locals := 161 } : Room) s m args below meth c H locs cells slots (MQ below (va_Qi post (ga_E g) (ga_A g)) args s 0 0 (ga_A g)) (F0 m 42 ls []) := by
      intro n
      induction n with
      | zero => intro x5_4 h_4 H locs cells slots ls hn _ _ _ _ _; exact absurd hn (Nat.not_lt_zero _)
      | succ n ih_4 =>
        intro x5_4 h_4 H locs cells slots ls hn_4 hi_4 hI hbc hbs hl
        have hw := hw x5_4 h_4 hi_4
        refine lv_iload hx hb dJ2_indexOfRange_42 (lv_at hl 3 rfl) ?_
        refine lv_iload_n hx hb dJ2_indexOfRange_44 rfl (lv_at hl 1 rfl) ?_
        refine lv_icmp_ge (tgt := 69) hx hb dJ2_indexOfRange_45 (by decide) (fun hc_5 => ?_) (fun hc_5 => ?_)
        · have hw := hw.1 hc_5
          refine lv_iconst (v := -1) hx hb dJ2_indexOfRange_69 (by decide) ?_
          exact ga_iret hx hb hr rfl hlk hI hw hbc hbs dJ2_indexOfRange_70
        · have hw := hw.2 hc_5
          refine ga_aload_n hx hb dJ2_indexOfRange_48 rfl (lv_at hl 0 rfl) ?_
          refine ga_aload hx hb dJ2_indexOfRange_49 (lv_at hl 2 rfl) ?_
          refine lv_iload hx hb dJ2_indexOfRange_51 (lv_at hl 3 rfl) ?_
          obtain ⟨a_6, ea_6, hw⟩ := hw
          rewrite [ea_6]
          obtain ⟨n_7, f_8, hq, hi, hw⟩ := hw
          refine ga_ldq hx hb hI hq rfl hi dJ2_indexOfRange_53 ?_
          obtain ⟨v_9, ev_9⟩ : ∃ z, z = f_8 x5_4.toNatClampNeg := ⟨_, rfl⟩
          rw [← ev_9]
          have hw := hw v_9 ev_9
          obtain ⟨a_10, ea_10, hw⟩ := hw
          rewrite [ea_10]
          obtain ⟨fs_11, hq, hw⟩ := hw
          refine ga_calli (va_runU (As := [va_rf v_9]) (rest := []) ⟨hx, hb, hml, hown, hts⟩ (gm_J55_equals l g a_10 v_9 h_4 _ hw) (va_cwU 1 hts (lw_app (List.forall_mem_cons.mpr ⟨q2228, List.forall_mem_cons.mpr ⟨q1903, List.forall_mem_cons.mpr ⟨q1916, List.forall_mem_cons.mpr ⟨q1902, List.forall_mem_cons.mpr ⟨q4137, fun _ h => absurd h List.not_mem_nil⟩⟩⟩⟩⟩) (lw_meth q1946)) rfl rfl rfl rfl hdG_J55_equals ⟨Nat.le_of_ble_eq_true rfl, Nat.le_of_ble_eq_true rfl⟩) (ga_preV (C := "PaperStore$Ream") hI hq rfl rfl) rfl rfl hl.1 rfl (ga_room (Nat.le_of_ble_eq_true rfl)) dJ2_indexOfRange_54 ⟨hbc, hbs⟩) hI (bc := 0) (bs := 0) hbc hbs (Nat.zero_le _) (Nat.zero_le _) (fun r_13 h_12 H locs cells slots hw hI hbc hbs => ?_)
          refine lv_if_eq (tgt := 63) hx hb dJ2_indexOfRange_57 (by decide) (fun hc_14 => ?_) (fun hc_14 => ?_)
          · have hw := hw.1 hc_14
            refine lv_iinc (v := x5_4 + (1 : Int32)) (lv' := [(5, .int (x5_4 + (1 : Int32))), (1, va_rf p1), (3, .int p3), (4, va_rf v_2)]) hx hb dJ2_indexOfRange_63 hl (k := 3) rfl rfl (by decide) (by simp [ga_rcat, ga_cat_r, ga_cat_i, ga_cat_f, ga_cat_l, ga_cat_d]) (fun ls hl => ?_)
            refine lv_goto (tgt := 42) hx hb dJ2_indexOfRange_66 (by decide) ?_
            exact ih_4 _ _ H locs cells slots ls (Nat.lt_of_lt_of_le hw.2 (Nat.le_of_lt_succ hn_4)) hw.1 hI hbc hbs (lv_sub hl [1, 2, 3, 0] rfl)
          · have hw := hw.2 hc_14
            refine lv_iload hx hb dJ2_indexOfRange_60 (lv_at hl 3 rfl) ?_
            exact ga_iret hx hb hr rfl hlk hI hw hbc hbs dJ2_indexOfRange_62
    exact hL_4 _ _ _ H locs cells slots ls (Nat.lt_succ_self _) h0_4 hI hbc hbs (lv_sub hl [3, 5, 1, 0] rfl)
  · have hw := hw.1 hc_a_3
    refine lv_iload_n hx hb dJ2_indexOfRange_10 rfl (lv_at hl 3 rfl) ?_
    refine lv_istore (lv' := [(5, .int p2), (4, va_rf v_2), (0, .ref p0), (1, va_rf p1), (2, .int p2), (3, .int p3)]) hx hb dJ2_indexOfRange_11 hl (by decide) (by simp [ga_rcat, ga_cat_r, ga_cat_i, ga_cat_f, ga_cat_l, ga_cat_d]) (fun ls hl => ?_)
    obtain ⟨In_15, mu_15, h0_15, hw⟩ := hw
    have hL_15 : ∀ (n : Nat) (x5_15 : Int32) (ls : Array Slot), mu_15 x5_15 < n → In_15 x5_15 → lv_has ls 6 [(3, .int p3), (4, va_rf v_2), (5, .int x5_15)] → W p l e ({ frames := 9, cells := 0, slots := 0, locals := 161 } : Room) s m args below meth c H locs cells slots (MQ below (va_Qi post (ga_E g) (ga_A g)) args s 0 0 (ga_A g)) (F0 m 13 ls []) := by
      intro n
      induction n with
      | zero => intro x5_15 ls hn _ _; exact absurd hn (Nat.not_lt_zero _)
      | succ n ih_15 =>
        intro x5_15 ls hn_15 hi_15 hl
        have hw := hw x5_15 hi_15
        refine lv_iload hx hb dJ2_indexOfRange_13 (lv_at hl 2 rfl) ?_
        refine lv_iload_n hx hb dJ2_indexOfRange_15 rfl (lv_at hl 0 rfl) ?_
        refine lv_icmp_ge (tgt := 36) hx hb dJ2_indexOfRange_16 (by decide) (fun hc_16 => ?_) (fun hc_16 => ?_)
        · have hw := hw.1 hc_16
          refine lv_goto (tgt := 69) hx hb dJ2_indexOfRange_36 (by decide) ?_
          refine lv_iconst (v := -1) hx hb dJ2_indexOfRange_69 (by decide) ?_
          exact ga_iret hx hb hr rfl hlk hI hw hbc hbs dJ2_indexOfRange_70
        · have hw := hw.2 hc_16
          refine ga_aload hx hb dJ2_indexOfRange_19 (lv_at hl 1 rfl) ?_
          refine lv_iload hx hb dJ2_indexOfRange_21 (lv_at hl 2 rfl) ?_
          obtain ⟨a_17, ea_17, hw⟩ := hw
          rewrite [ea_17]
          obtain ⟨n_18, f_19, hq, hi, hw⟩ := hw
          refine ga_ldq hx hb hI hq rfl hi dJ2_indexOfRange_23 ?_
          obtain ⟨v_20, ev_20⟩ : ∃ z, z = f_19 x5_15.toNatClampNeg := ⟨_, rfl⟩
          rw [← ev_20]
          have hw := hw v_20 ev_20
          refine ga_ifnonnull (tgt := 30) hx hb dJ2_indexOfRange_24 (by decide) (fun a_21 hc_a_21 => ?_) (fun hc_a_21 => ?_)
          · have hw := hw.2 a_21 hc_a_21
            skip
            refine lv_iinc (v := x5_15 + (1 : Int32)) (lv' := [(5, .int (x5_15 + (1 : Int32))), (3, .int p3), (4, va_rf v_2)]) hx hb dJ2_indexOfRange_30 hl (k := 2) rfl rfl (by decide) (by simp [ga_rcat, ga_cat_r, ga_cat_i, ga_cat_f, ga_cat_l, ga_cat_d]) (fun ls hl => ?_)
            refine lv_goto (tgt := 13) hx hb dJ2_indexOfRange_33 (by decide) ?_
            exact ih_15 _ ls (Nat.lt_of_lt_of_le hw.2 (Nat.le_of_lt_succ hn_15)) hw.1 (lv_sub hl [1, 2, 0] rfl)
          · have hw := hw.1 hc_a_21
            refine lv_iload hx hb dJ2_indexOfRange_27 (lv_at hl 2 rfl) ?_
            exact ga_iret hx hb hr rfl hlk hI hw hbc hbs dJ2_indexOfRange_29
    exact hL_15 _ _ ls (Nat.lt_succ_self _) h0_15 (lv_sub hl [5, 1, 0] rfl)
theorem hdG_J2_indexOfRange : yJ2_indexOfRange.cls ≠ "java/lang/invoke/MethodHandle" ∧ yJ2_indexOfRange.cls ≠ "java/lang/invoke/VarHandle" ∧ (parseMethodDescriptor yJ2_indexOfRange.desc).map (fun d => d.parameters.length) = some 3 := by decide +kernel
def gw_J2_indexOf (K : ga_K) (p0 : Nat) (p1 : Option Nat) (h : ga_H) (post : Int32 → ga_H → Prop) : Prop :=
  ∃ (fs_1 : List Value) (v_2 : Int32), h p0 = some (ga_O 13 fs_1) ∧ fs_1[2]? = some (.int v_2) ∧ (∃ fs_3 : List Value, ga_at K h p0 (ga_O 13 fs_3) ∧ gw_J2_indexOfRange K p0 p1 (0 : Int32) v_2 h (fun (r_5 : Int32) (h_4 : ga_H) => post r_5 h_4))
set_option maxHeartbeats 4000000 in
theorem gm_J2_indexOf (l : Launch) (g : ga_G) (p0 : Nat) (p1 : Option Nat) (h : ga_H) (post : Int32 → ga_H → Prop) (hw : gw_J2_indexOf g.2.2 p0 p1 h post) : Met l yJ2_indexOf (ws_ yJ2_indexOf cJ2_indexOf 2 (some .int)) ({ frames := 10, cells := 0, slots := 0, locals := 186 } : Room) (va_Pc [.ref p0, va_rf p1] (ga_B g h)) (va_Qi post (ga_E g) (ga_A g)) 0 0 (ga_A g) := by
  refine ga_met (own := "java/util/ArrayList") (nm := "indexOf") (by decide) rfl rfl (by cases p1 <;> exact Nat.le_of_ble_eq_true rfl) (fun p e s m below meth c ls hC hI hl => ?_)
  have hl : lv_has ls 2 [(0, .ref p0), (1, va_rf p1)] := (by cases p1 <;> exact hl)
  generalize ([.ref p0, va_rf p1] : List Value).toArray = args at hC ⊢
  obtain ⟨hx, hb, hml, hown, hts, hr, hlk, hnm⟩ := hC
  unfold gw_J2_indexOf at hw
  obtain ⟨H, eH⟩ : ∃ z, z = s.heap := ⟨_, rfl⟩
  obtain ⟨locs, elo⟩ : ∃ z : List Loc, z = [] := ⟨_, rfl⟩
  rw [← eH, ← elo] at hI ⊢
  obtain ⟨cells, slots, hbc, hbs, e0, e1⟩ : ∃ a b : Nat, a ≤ 0 ∧ b ≤ 0 ∧ a = 0 ∧ b = 0 := ⟨0, 0, by omega, by omega, rfl, rfl⟩
  show W p l e ({ frames := 10, cells := 0, slots := 0, locals := 186 } : Room) s m args below meth c H locs 0 0 (MQ below (va_Qi post (ga_E g) (ga_A g)) args s 0 0 (ga_A g)) (F0 m 0 ls [])
  suffices hgoal : W p l e ({ frames := 10, cells := 0, slots := 0, locals := 186 } : Room) s m args below meth c H locs cells slots (MQ below (va_Qi post (ga_E g) (ga_A g)) args s 0 0 (ga_A g)) (F0 m 0 ls []) by rw [e0, e1] at hgoal; exact hgoal
  refine lv_aload_n hx hb dJ2_indexOf_0 rfl (lv_at hl 0 rfl) ?_
  refine ga_aload_n hx hb dJ2_indexOf_1 rfl (lv_at hl 1 rfl) ?_
  refine lv_iconst (v := 0) hx hb dJ2_indexOf_2 (by decide) ?_
  refine lv_aload_n hx hb dJ2_indexOf_3 rfl (lv_at hl 0 rfl) ?_
  obtain ⟨fs_1, v_2, hq, hv, hw⟩ := hw
  refine ga_get (ci := 13) (T := TJ2) (v := .int v_2) hx hb hts hown hI in_J2 rfl 2 (by decide) q206 (fun _ z => z) (ga_at.h hq) hv dJ2_indexOf_4 ?_
  obtain ⟨fs_3, hq, hw⟩ := hw
  refine ga_calli (va_runV (As := [va_rf p1, .int (0 : Int32), .int v_2]) (rest := []) ⟨hx, hb, hml, hown, hts⟩ (gm_J2_indexOfRange l g p0 p1 (0 : Int32) v_2 h _ hw) (cwV 3 hts (lw_V q2224 q2225 q2226 q104 q2227) rfl rfl rfl ⟨rfl, hdG_J2_indexOfRange⟩ ⟨Nat.le_of_ble_eq_true rfl, Nat.le_of_ble_eq_true rfl⟩) (ga_preV hI hq rfl rfl) rfl rfl hl.1 rfl (ga_room (Nat.le_of_ble_eq_true rfl)) dJ2_indexOf_7 ⟨hbc, hbs⟩) hI (bc := 0) (bs := 0) hbc hbs (Nat.zero_le _) (Nat.zero_le _) (fun r_5 h_4 H locs cells slots hw hI hbc hbs => ?_)
  exact ga_iret hx hb hr rfl hlk hI hw hbc hbs dJ2_indexOf_10
theorem hdG_J2_indexOf : yJ2_indexOf.cls ≠ "java/lang/invoke/MethodHandle" ∧ yJ2_indexOf.cls ≠ "java/lang/invoke/VarHandle" ∧ (parseMethodDescriptor yJ2_indexOf.desc).map (fun d => d.parameters.length) = some 1 := by decide +kernel
def gw_J2_contains (K : ga_K) (p0 : Nat) (p1 : Option Nat) (h : ga_H) (post : Int32 → ga_H → Prop) : Prop :=
  ∃ fs_1 : List Value, ga_at K h p0 (ga_O 13 fs_1) ∧ gw_J2_indexOf K p0 p1 h (fun (r_3 : Int32) (h_2 : ga_H) => (r_3 < (0 : Int32) → (post (0 : Int32) h_2)) ∧ (¬ r_3 < (0 : Int32) → (post (1 : Int32) h_2)))
set_option maxHeartbeats 4000000 in
theorem gm_J2_contains (l : Launch) (g : ga_G) (p0 : Nat) (p1 : Option Nat) (h : ga_H) (post : Int32 → ga_H → Prop) (hw : gw_J2_contains g.2.2 p0 p1 h post) : Met l yJ2_contains (ws_ yJ2_contains cJ2_contains 2 (some .boolean)) ({ frames := 11, cells := 0, slots := 0, locals := 207 } : Room) (va_Pc [.ref p0, va_rf p1] (ga_B g h)) (va_Qi post (ga_E g) (ga_A g)) 0 0 (ga_A g) := by
  refine ga_met (own := "java/util/ArrayList") (nm := "contains") (by decide) rfl rfl (by cases p1 <;> exact Nat.le_of_ble_eq_true rfl) (fun p e s m below meth c ls hC hI hl => ?_)
  have hl : lv_has ls 2 [(0, .ref p0), (1, va_rf p1)] := (by cases p1 <;> exact hl)
  generalize ([.ref p0, va_rf p1] : List Value).toArray = args at hC ⊢
  obtain ⟨hx, hb, hml, hown, hts, hr, hlk, hnm⟩ := hC
  unfold gw_J2_contains at hw
  obtain ⟨H, eH⟩ : ∃ z, z = s.heap := ⟨_, rfl⟩
  obtain ⟨locs, elo⟩ : ∃ z : List Loc, z = [] := ⟨_, rfl⟩
  rw [← eH, ← elo] at hI ⊢
  obtain ⟨cells, slots, hbc, hbs, e0, e1⟩ : ∃ a b : Nat, a ≤ 0 ∧ b ≤ 0 ∧ a = 0 ∧ b = 0 := ⟨0, 0, by omega, by omega, rfl, rfl⟩
  show W p l e ({ frames := 11, cells := 0, slots := 0, locals := 207 } : Room) s m args below meth c H locs 0 0 (MQ below (va_Qi post (ga_E g) (ga_A g)) args s 0 0 (ga_A g)) (F0 m 0 ls [])
  suffices hgoal : W p l e ({ frames := 11, cells := 0, slots := 0, locals := 207 } : Room) s m args below meth c H locs cells slots (MQ below (va_Qi post (ga_E g) (ga_A g)) args s 0 0 (ga_A g)) (F0 m 0 ls []) by rw [e0, e1] at hgoal; exact hgoal
  refine lv_aload_n hx hb dJ2_contains_0 rfl (lv_at hl 0 rfl) ?_
  refine ga_aload_n hx hb dJ2_contains_1 rfl (lv_at hl 1 rfl) ?_
  obtain ⟨fs_1, hq, hw⟩ := hw
  refine ga_calli (va_runV (As := [va_rf p1]) (rest := []) ⟨hx, hb, hml, hown, hts⟩ (gm_J2_indexOf l g p0 p1 h _ hw) (cwV 1 hts (lw_V q2220 q2221 q2222 q104 q2223) rfl rfl rfl ⟨rfl, hdG_J2_indexOf⟩ ⟨Nat.le_of_ble_eq_true rfl, Nat.le_of_ble_eq_true rfl⟩) (ga_preV hI hq rfl rfl) rfl rfl hl.1 rfl (ga_room (Nat.le_of_ble_eq_true rfl)) dJ2_contains_2 ⟨hbc, hbs⟩) hI (bc := 0) (bs := 0) hbc hbs (Nat.zero_le _) (Nat.zero_le _) (fun r_3 h_2 H locs cells slots hw hI hbc hbs => ?_)
  refine lv_if_lt (tgt := 12) hx hb dJ2_contains_5 (by decide) (fun hc_4 => ?_) (fun hc_4 => ?_)
  · have hw := hw.1 hc_4
    refine lv_iconst (v := 0) hx hb dJ2_contains_12 (by decide) ?_
    exact ga_iret hx hb hr rfl hlk hI hw hbc hbs dJ2_contains_13
  · have hw := hw.2 hc_4
    refine lv_iconst (v := 1) hx hb dJ2_contains_8 (by decide) ?_
    refine lv_goto (tgt := 13) hx hb dJ2_contains_9 (by decide) ?_
    exact ga_iret hx hb hr rfl hlk hI hw hbc hbs dJ2_contains_13
theorem hdG_J2_contains : yJ2_contains.cls ≠ "java/lang/invoke/MethodHandle" ∧ yJ2_contains.cls ≠ "java/lang/invoke/VarHandle" ∧ (parseMethodDescriptor yJ2_contains.desc).map (fun d => d.parameters.length) = some 1 := by decide +kernel
def gw_X2_aisleOf (K : ga_K) (p0 : Nat) (p1 : Option Nat) (h : ga_H) (mc ms : Nat) (post : Int32 → ga_H → Prop) : Prop :=
  ∃ (In_1 : Int32 → ga_H → Nat → Nat → Prop) (mu_1 : Int32 → ga_H → Nat → Nat → Nat), In_1 (0 : Int32) h mc ms ∧ ∀ (x2_1 : Int32) (h_1 : ga_H) (bc_1 : Nat) (bs_1 : Nat), In_1 x2_1 h_1 bc_1 bs_1 → (((5 : Int32) ≤ x2_1 → (post (-1 : Int32) h_1)) ∧ (¬ (5 : Int32) ≤ x2_1 → (∃ (fs_3 : List Value) (v_4 : Option Nat), h_1 p0 = some (ga_O 1 fs_3) ∧ fs_3[0]? = some (va_rf v_4) ∧ (∃ a_5 : Nat, v_4 = some a_5 ∧ ∃ (n_6 : Nat) (f_7 : Nat → Option Nat), h_1 a_5 = some (ga_Aq 6 n_6 f_7) ∧ vp_in x2_1 n_6 ∧ ∀ v_8 : Option Nat, v_8 = f_7 x2_1.toNatClampNeg → (∃ a_9 : Nat, v_8 = some a_9 ∧ ∃ kc_10 ks_11 : Nat, kc_10 ≤ bc_1 ∧ ks_11 ≤ bs_1 ∧ ∃ fs_12 : List Value, ga_at K h_1 a_9 (ga_O 2 fs_12) ∧ gw_X3_reams K a_9 h_1 kc_10 ks_11 (fun (r_14 : Option Nat) (h_13 : ga_H) => ∃ a_15 : Nat, r_14 = some a_15 ∧ ∃ fs_16 : List Value, ga_at K h_13 a_15 (ga_O 13 fs_16) ∧ gw_J2_contains K a_15 p1 h_13 (fun (r_18 : Int32) (h_17 : ga_H) => (r_18 = (0 : Int32) → (In_1 (x2_1 + (1 : Int32)) h_17 (bc_1 - kc_10) (bs_1 - ks_11) ∧ mu_1 (x2_1 + (1 : Int32)) h_17 (bc_1 - kc_10) (bs_1 - ks_11) < mu_1 x2_1 h_1 bc_1 bs_1)) ∧ (¬ r_18 = (0 : Int32) → (post x2_1 h_17)))))))))
set_option maxHeartbeats 4000000 in
theorem gm_X2_aisleOf (l : Launch) (g : ga_G) (p0 : Nat) (p1 : Option Nat) (h : ga_H) (mc ms : Nat) (post : Int32 → ga_H → Prop) (hw : gw_X2_aisleOf g.2.2 p0 p1 h mc ms post) : Met l yX2_aisleOf (ws_ yX2_aisleOf cX2_aisleOf 3 (some .int)) ({ frames := 13, cells := mc, slots := ms, locals := 257 } : Room) (va_Pc [.ref p0, va_rf p1] (ga_B g h)) (va_Qi post (ga_E g) (ga_A g)) mc ms (ga_A g) := by
  refine ga_met (own := "PaperStore$Store") (nm := "aisleOf") (by decide) rfl rfl (by cases p1 <;> exact Nat.le_of_ble_eq_true rfl) (fun p e s m below meth c ls hC hI hl => ?_)
  have hl : lv_has ls 3 [(0, .ref p0), (1, va_rf p1)] := (by cases p1 <;> exact hl)
  generalize ([.ref p0, va_rf p1] : List Value).toArray = args at hC ⊢
  obtain ⟨hx, hb, hml, hown, hts, hr, hlk, hnm⟩ := hC
  unfold gw_X2_aisleOf at hw
  obtain ⟨H, eH⟩ : ∃ z, z = s.heap := ⟨_, rfl⟩
  obtain ⟨locs, elo⟩ : ∃ z : List Loc, z = [] := ⟨_, rfl⟩
  rw [← eH, ← elo] at hI ⊢
  obtain ⟨cells, slots, hbc, hbs, e0, e1⟩ : ∃ a b : Nat, a + mc ≤ mc ∧ b + ms ≤ ms ∧ a = 0 ∧ b = 0 := ⟨0, 0, by omega, by omega, rfl, rfl⟩
  show W p l e ({ frames := 13, cells := mc, slots := ms, locals := 257 } : Room) s m args below meth c H locs 0 0 (MQ below (va_Qi post (ga_E g) (ga_A g)) args s mc ms (ga_A g)) (F0 m 0 ls [])
  suffices hgoal : W p l e ({ frames := 13, cells := mc, slots := ms, locals := 257 } : Room) s m args below meth c H locs cells slots (MQ below (va_Qi post (ga_E g) (ga_A g)) args s mc ms (ga_A g)) (F0 m 0 ls []) by rw [e0, e1] at hgoal; exact hgoal
  refine lv_iconst (v := 0) hx hb dX2_aisleOf_0 (by decide) ?_
  refine lv_istore_n (i := 2) (lv' := [(2, .int (0 : Int32)), (0, .ref p0), (1, va_rf p1)]) hx hb dX2_aisleOf_1 rfl hl (by decide) (by simp [ga_rcat, ga_cat_r, ga_cat_i, ga_cat_f, ga_cat_l, ga_cat_d]) (fun ls hl => ?_)
  obtain ⟨In_1, mu_1, h0_1, hw⟩ := hw
  have hL_1 : ∀ (n : Nat) (x2_1 : Int32) (h_1 : ga_H) (bc_1 : Nat) (bs_1 : Nat) (H : Heap) (locs : List Loc) (cells slots : Nat) (ls : Array Slot), mu_1 x2_1 h_1 bc_1 bs_1 < n → In_1 x2_1 h_1 bc_1 bs_1 → ga_I g h_1 s H locs → cells + bc_1 ≤ mc → slots + bs_1 ≤ ms → lv_has ls 3 [(0, .ref p0), (1, va_rf p1), (2, .int x2_1)] → W p l e ({ frames := 13, cells := mc, slots := ms, locals := 257 } : Room) s m args below meth c H locs cells slots (MQ below (va_Qi post (ga_E g) (ga_A g)) args s mc ms (ga_A g)) (F0 m 2 ls []) := by
    intro n
    induction n with
    | zero => intro x2_1 h_1 bc_1 bs_1 H locs cells slots ls hn _ _ _ _ _; exact absurd hn (Nat.not_lt_zero _)
    | succ n ih_1 =>
      intro x2_1 h_1 bc_1 bs_1 H locs cells slots ls hn_1 hi_1 hI hbc hbs hl
      have hw := hw x2_1 h_1 bc_1 bs_1 hi_1
      refine lv_iload_n hx hb dX2_aisleOf_2 rfl (lv_at hl 2 rfl) ?_
      refine lv_iconst (v := 5) hx hb dX2_aisleOf_3 (by decide) ?_
      refine lv_icmp_ge (tgt := 33) hx hb dX2_aisleOf_4 (by decide) (fun hc_2 => ?_) (fun hc_2 => ?_)
      · have hw := hw.1 hc_2
        refine lv_iconst (v := -1) hx hb dX2_aisleOf_33 (by decide) ?_
        exact ga_iret hx hb hr rfl hlk hI hw (Nat.le_trans (Nat.le_add_right _ _) hbc) (Nat.le_trans (Nat.le_add_right _ _) hbs) dX2_aisleOf_34
      · have hw := hw.2 hc_2
        refine lv_aload_n hx hb dX2_aisleOf_7 rfl (lv_at hl 0 rfl) ?_
        obtain ⟨fs_3, v_4, hq, hv, hw⟩ := hw
        refine ga_get (ci := 1) (T := TX2) (v := va_rf v_4) hx hb hts hown hI in_X2 rfl 0 (by decide) q310 (fun _ z => z) (ga_at.h hq) hv dX2_aisleOf_8 ?_
        refine lv_iload_n hx hb dX2_aisleOf_11 rfl (lv_at hl 2 rfl) ?_
        obtain ⟨a_5, ea_5, hw⟩ := hw
        rewrite [ea_5]
        obtain ⟨n_6, f_7, hq, hi, hw⟩ := hw
        refine ga_ldq hx hb hI (ga_at.h hq) rfl hi dX2_aisleOf_12 ?_
        obtain ⟨v_8, ev_8⟩ : ∃ z, z = f_7 x2_1.toNatClampNeg := ⟨_, rfl⟩
        rw [← ev_8]
        have hw := hw v_8 ev_8
        obtain ⟨a_9, ea_9, hw⟩ := hw
        rewrite [ea_9]
        obtain ⟨kc_10, ks_11, hk1, hk2, hw⟩ := hw
        obtain ⟨fs_12, hq, hw⟩ := hw
        refine ga_callq (va_runV (As := []) (rest := []) ⟨hx, hb, hml, hown, hts⟩ (gm_X3_reams l g a_9 h_1 kc_10 ks_11 _ hw) (cwV 0 hts (lw_V q444 q445 q446 q107 q447) rfl rfl rfl ⟨rfl, hdG_X3_reams⟩ ⟨Nat.le_of_ble_eq_true rfl, Nat.le_of_ble_eq_true rfl⟩) (ga_preV hI hq rfl rfl) rfl rfl hl.1 rfl (ga_room (Nat.le_of_ble_eq_true rfl)) dX2_aisleOf_13 ⟨Nat.le_trans (Nat.add_le_add_left hk1 _) hbc, Nat.le_trans (Nat.add_le_add_left hk2 _) hbs⟩) hI hbc hbs hk1 hk2 (fun r_14 h_13 H locs cells slots hw hI hbc hbs => ?_)
        refine ga_aload_n hx hb dX2_aisleOf_16 rfl (lv_at hl 1 rfl) ?_
        obtain ⟨a_15, ea_15, hw⟩ := hw
        rewrite [ea_15]
        obtain ⟨fs_16, hq, hw⟩ := hw
        refine ga_callFi (va_runF (As := [va_rf p1]) (rest := []) (hI.2.1.1.1.1 13 _ rfl).2 ⟨hx, hb, hml, hown, hts⟩ (gm_J2_contains l g a_15 p1 h_13 _ hw) (va_cwF 1 hts (lw_app (List.forall_mem_cons.mpr ⟨q2212, List.forall_mem_cons.mpr ⟨q2215, List.forall_mem_cons.mpr ⟨q2217, List.forall_mem_cons.mpr ⟨q104, fun _ h => absurd h List.not_mem_nil⟩⟩⟩⟩) (lw_meth q2219)) rfl rfl rfl (hI.2.1.1.2.2 _ _ _ ⟨by decide +kernel, q2214, q2213, q2218, q2216, q836⟩) (by decide +kernel) ⟨Nat.le_of_ble_eq_true rfl, Nat.le_of_ble_eq_true rfl⟩) (ga_preV (C := "java/util/ArrayList") hI hq rfl rfl) rfl rfl hl.1 rfl (ga_room (Nat.le_of_ble_eq_true rfl)) dX2_aisleOf_17 ⟨Nat.le_trans (Nat.add_le_add_left (Nat.zero_le _) _) hbc, Nat.le_trans (Nat.add_le_add_left (Nat.zero_le _) _) hbs⟩) hI hbc hbs (Nat.zero_le _) (Nat.zero_le _) (fun r_18 h_17 H locs cells slots hw hI hbc hbs => ?_)
        refine lv_if_eq (tgt := 27) hx hb dX2_aisleOf_22 (by decide) (fun hc_19 => ?_) (fun hc_19 => ?_)
        · have hw := hw.1 hc_19
          refine lv_iinc (v := x2_1 + (1 : Int32)) (lv' := [(2, .int (x2_1 + (1 : Int32))), (0, .ref p0), (1, va_rf p1)]) hx hb dX2_aisleOf_27 hl (k := 2) rfl rfl (by decide) (by simp [ga_rcat, ga_cat_r, ga_cat_i, ga_cat_f, ga_cat_l, ga_cat_d]) (fun ls hl => ?_)
          refine lv_goto (tgt := 2) hx hb dX2_aisleOf_30 (by decide) ?_
          exact ih_1 _ _ _ _ H locs cells slots ls (Nat.lt_of_lt_of_le hw.2 (Nat.le_of_lt_succ hn_1)) hw.1 hI hbc hbs (lv_sub hl [1, 2, 0] rfl)
        · have hw := hw.2 hc_19
          refine lv_iload_n hx hb dX2_aisleOf_25 rfl (lv_at hl 2 rfl) ?_
          exact ga_iret hx hb hr rfl hlk hI hw (Nat.le_trans (Nat.le_add_right _ _) hbc) (Nat.le_trans (Nat.le_add_right _ _) hbs) dX2_aisleOf_26
  exact hL_1 _ _ _ _ _ H locs cells slots ls (Nat.lt_succ_self _) h0_1 hI hbc hbs (lv_sub hl [1, 2, 0] rfl)
theorem hdG_X2_aisleOf : yX2_aisleOf.cls ≠ "java/lang/invoke/MethodHandle" ∧ yX2_aisleOf.cls ≠ "java/lang/invoke/VarHandle" ∧ (parseMethodDescriptor yX2_aisleOf.desc).map (fun d => d.parameters.length) = some 1 := by decide +kernel
def gw_X1_placeOf (K : ga_K) (p0 : Nat) (p1 : Option Nat) (p2 : Int32) (h : ga_H) (mc ms : Nat) (post : Int32 → ga_H → Prop) : Prop :=
  ∃ (fs_1 : List Value) (v_2 : Option Nat), h p0 = some (ga_O 0 fs_1) ∧ fs_1[0]? = some (va_rf v_2) ∧ (∃ a_3 : Nat, v_2 = some a_3 ∧ ∃ kc_4 ks_5 : Nat, kc_4 ≤ mc ∧ ks_5 ≤ ms ∧ ∃ fs_6 : List Value, ga_at K h a_3 (ga_O 1 fs_6) ∧ gw_X2_aisleOf K a_3 p1 h kc_4 ks_5 (fun (r_8 : Int32) (h_7 : ga_H) => (r_8 = (-1 : Int32) → (post r_8 h_7)) ∧ (¬ r_8 = (-1 : Int32) → ((¬ p2 = (4 : Int32) → (∃ (In_11 : Int32 → ga_H → Nat → Nat → Prop) (mu_11 : Int32 → ga_H → Nat → Nat → Nat), In_11 (0 : Int32) h_7 (mc - kc_4) (ms - ks_5) ∧ ∀ (x4_11 : Int32) (h_11 : ga_H) (bc_11 : Nat) (bs_11 : Nat), In_11 x4_11 h_11 bc_11 bs_11 → (((6 : Int32) ≤ x4_11 → (post (-1 : Int32) h_11)) ∧ (¬ (6 : Int32) ≤ x4_11 → (∃ (fs_13 : List Value) (v_14 : Option Nat), h_11 p0 = some (ga_O 0 fs_13) ∧ fs_13[0]? = some (va_rf v_14) ∧ (∃ a_15 : Nat, v_14 = some a_15 ∧ ∃ (fs_16 : List Value) (v_17 : Option Nat), h_11 a_15 = some (ga_O 1 fs_16) ∧ fs_16[0]? = some (va_rf v_17) ∧ (∃ a_18 : Nat, v_17 = some a_18 ∧ ∃ (n_19 : Nat) (f_20 : Nat → Option Nat), h_11 a_18 = some (ga_Aq 6 n_19 f_20) ∧ vp_in r_8 n_19 ∧ ∀ v_21 : Option Nat, v_21 = f_20 r_8.toNatClampNeg → (∃ a_22 : Nat, v_21 = some a_22 ∧ ∃ (fs_23 : List Value) (v_24 : Option Nat), h_11 a_22 = some (ga_O 2 fs_23) ∧ fs_23[0]? = some (va_rf v_24) ∧ (∃ a_25 : Nat, v_24 = some a_25 ∧ ∃ (n_26 : Nat) (f_27 : Nat → Option Nat), h_11 a_25 = some (ga_Aq 7 n_26 f_27) ∧ vp_in x4_11 n_26 ∧ ∀ v_28 : Option Nat, v_28 = f_27 x4_11.toNatClampNeg → (∃ a_29 : Nat, v_28 = some a_29 ∧ ∃ (fs_30 : List Value) (v_31 : Option Nat), h_11 a_29 = some (ga_O 3 fs_30) ∧ fs_30[0]? = some (va_rf v_31) ∧ (∃ a_32 : Nat, v_31 = some a_32 ∧ ∃ fs_33 : List Value, ga_at K h_11 a_32 (ga_O 13 fs_33) ∧ gw_J2_indexOf K a_32 p1 h_11 (fun (r_35 : Int32) (h_34 : ga_H) => (r_35 = (-1 : Int32) → (In_11 (x4_11 + (1 : Int32)) h_34 bc_11 bs_11 ∧ mu_11 (x4_11 + (1 : Int32)) h_34 bc_11 bs_11 < mu_11 x4_11 h_11 bc_11 bs_11)) ∧ (¬ r_35 = (-1 : Int32) → ((¬ p2 = (5 : Int32) → (post r_35 h_34)) ∧ (p2 = (5 : Int32) → (post x4_11 h_34)))))))))))))))) ∧ (p2 = (4 : Int32) → (post r_8 h_7))))))
set_option maxHeartbeats 4000000 in
theorem gm_X1_placeOf (l : Launch) (g : ga_G) (p0 : Nat) (p1 : Option Nat) (p2 : Int32) (h : ga_H) (mc ms : Nat) (post : Int32 → ga_H → Prop) (hw : gw_X1_placeOf g.2.2 p0 p1 p2 h mc ms post) : Met l yX1_placeOf (ws_ yX1_placeOf cX1_placeOf 6 (some .int)) ({ frames := 14, cells := mc, slots := ms, locals := 279 } : Room) (va_Pc [.ref p0, va_rf p1, .int p2] (ga_B g h)) (va_Qi post (ga_E g) (ga_A g)) mc ms (ga_A g) := by
  refine ga_met (own := "PaperStore") (nm := "placeOf") (by decide) rfl rfl (by cases p1 <;> exact Nat.le_of_ble_eq_true rfl) (fun p e s m below meth c ls hC hI hl => ?_)
  have hl : lv_has ls 6 [(0, .ref p0), (1, va_rf p1), (2, .int p2)] := (by cases p1 <;> exact hl)
  generalize ([.ref p0, va_rf p1, .int p2] : List Value).toArray = args at hC ⊢
  obtain ⟨hx, hb, hml, hown, hts, hr, hlk, hnm⟩ := hC
  unfold gw_X1_placeOf at hw
  obtain ⟨H, eH⟩ : ∃ z, z = s.heap := ⟨_, rfl⟩
  obtain ⟨locs, elo⟩ : ∃ z : List Loc, z = [] := ⟨_, rfl⟩
  rw [← eH, ← elo] at hI ⊢
  obtain ⟨cells, slots, hbc, hbs, e0, e1⟩ : ∃ a b : Nat, a + mc ≤ mc ∧ b + ms ≤ ms ∧ a = 0 ∧ b = 0 := ⟨0, 0, by omega, by omega, rfl, rfl⟩
  show W p l e ({ frames := 14, cells := mc, slots := ms, locals := 279 } : Room) s m args below meth c H locs 0 0 (MQ below (va_Qi post (ga_E g) (ga_A g)) args s mc ms (ga_A g)) (F0 m 0 ls [])
  suffices hgoal : W p l e ({ frames := 14, cells := mc, slots := ms, locals := 279 } : Room) s m args below meth c H locs cells slots (MQ below (va_Qi post (ga_E g) (ga_A g)) args s mc ms (ga_A g)) (F0 m 0 ls []) by rw [e0, e1] at hgoal; exact hgoal
  refine lv_aload_n hx hb dX1_placeOf_0 rfl (lv_at hl 0 rfl) ?_
  obtain ⟨fs_1, v_2, hq, hv, hw⟩ := hw
  refine ga_get (ci := 0) (T := TX1) (v := va_rf v_2) hx hb hts hown hI in_X1 rfl 0 (by decide) q387 (fun _ z => z) (ga_at.h hq) hv dX1_placeOf_1 ?_
  refine ga_aload_n hx hb dX1_placeOf_4 rfl (lv_at hl 1 rfl) ?_
  obtain ⟨a_3, ea_3, hw⟩ := hw
  rewrite [ea_3]
  obtain ⟨kc_4, ks_5, hk1, hk2, hw⟩ := hw
  obtain ⟨fs_6, hq, hw⟩ := hw
  refine ga_calli (va_runV (As := [va_rf p1]) (rest := []) ⟨hx, hb, hml, hown, hts⟩ (gm_X2_aisleOf l g a_3 p1 h kc_4 ks_5 _ hw) (cwV 1 hts (lw_V q2207 q2208 q2209 q101 q2210) rfl rfl rfl ⟨rfl, hdG_X2_aisleOf⟩ ⟨Nat.le_of_ble_eq_true rfl, Nat.le_of_ble_eq_true rfl⟩) (ga_preV hI hq rfl rfl) rfl rfl hl.1 rfl (ga_room (Nat.le_of_ble_eq_true rfl)) dX1_placeOf_5 ⟨Nat.le_trans (Nat.add_le_add_left hk1 _) hbc, Nat.le_trans (Nat.add_le_add_left hk2 _) hbs⟩) hI hbc hbs hk1 hk2 (fun r_8 h_7 H locs cells slots hw hI hbc hbs => ?_)
  refine lv_istore_n (i := 3) (lv' := [(3, .int r_8), (0, .ref p0), (1, va_rf p1), (2, .int p2)]) hx hb dX1_placeOf_8 rfl hl (by decide) rfl (fun ls hl => ?_)
  refine lv_iload_n hx hb dX1_placeOf_9 rfl (lv_at hl 0 rfl) ?_
  refine lv_iconst (v := -1) hx hb dX1_placeOf_10 (by decide) ?_
  refine lv_icmp_eq (tgt := 19) hx hb dX1_placeOf_11 (by decide) (fun hc_9 => ?_) (fun hc_9 => ?_)
  · have hw := hw.1 hc_9
    refine lv_iload_n hx hb dX1_placeOf_19 rfl (lv_at hl 0 rfl) ?_
    exact ga_iret hx hb hr rfl hlk hI hw (Nat.le_trans (Nat.le_add_right _ _) hbc) (Nat.le_trans (Nat.le_add_right _ _) hbs) dX1_placeOf_20
  · have hw := hw.2 hc_9
    refine lv_iload_n hx hb dX1_placeOf_14 rfl (lv_at hl 3 rfl) ?_
    refine lv_iconst (v := 4) hx hb dX1_placeOf_15 (by decide) ?_
    refine lv_icmp_ne (tgt := 21) hx hb dX1_placeOf_16 (by decide) (fun hc_10 => ?_) (fun hc_10 => ?_)
    · have hw := hw.1 hc_10
      refine lv_iconst (v := 0) hx hb dX1_placeOf_21 (by decide) ?_
      refine lv_istore (lv' := [(4, .int (0 : Int32)), (3, .int r_8), (0, .ref p0), (1, va_rf p1), (2, .int p2)]) hx hb dX1_placeOf_22 hl (by decide) rfl (fun ls hl => ?_)
      obtain ⟨In_11, mu_11, h0_11, hw⟩ := hw
      have hL_11 : ∀ (n : Nat) (x4_11 : Int32) (h_11 : ga_H) (bc_11 : Nat) (bs_11 : Nat) (H : Heap) (locs : List Loc) (cells slots : Nat) (ls : Array Slot), mu_11 x4_11 h_11 bc_11 bs_11 < n → In_11 x4_11 h_11 bc_11 bs_11 → ga_I g h_11 s H locs → cells + bc_11 ≤ mc → slots + bs_11 ≤ ms → lv_has ls 6 [(0, .ref p0), (1, va_rf p1), (2, .int p2), (3, .int r_8), (4, .int x4_11)] → W p l e ({ frames := 14, cells := mc, slots := ms, locals := 279 } : Room) s m args below meth c H locs cells slots (MQ below (va_Qi post (ga_E g) (ga_A g)) args s mc ms (ga_A g)) (F0 m 24 ls []) := by
        intro n
        induction n with
        | zero => intro x4_11 h_11 bc_11 bs_11 H locs cells slots ls hn _ _ _ _ _; exact absurd hn (Nat.not_lt_zero _)
        | succ n ih_11 =>
          intro x4_11 h_11 bc_11 bs_11 H locs cells slots ls hn_11 hi_11 hI hbc hbs hl
          have hw := hw x4_11 h_11 bc_11 bs_11 hi_11
          refine lv_iload hx hb dX1_placeOf_24 (lv_at hl 4 rfl) ?_
          refine lv_bipush (v := 6) hx hb dX1_placeOf_26 (by decide) ?_
          refine lv_icmp_ge (tgt := 80) hx hb dX1_placeOf_28 (by decide) (fun hc_12 => ?_) (fun hc_12 => ?_)
          · have hw := hw.1 hc_12
            refine lv_iconst (v := -1) hx hb dX1_placeOf_80 (by decide) ?_
            exact ga_iret hx hb hr rfl hlk hI hw (Nat.le_trans (Nat.le_add_right _ _) hbc) (Nat.le_trans (Nat.le_add_right _ _) hbs) dX1_placeOf_81
          · have hw := hw.2 hc_12
            refine lv_aload_n hx hb dX1_placeOf_31 rfl (lv_at hl 0 rfl) ?_
            obtain ⟨fs_13, v_14, hq, hv, hw⟩ := hw
            refine ga_get (ci := 0) (T := TX1) (v := va_rf v_14) hx hb hts hown hI in_X1 rfl 0 (by decide) q387 (fun _ z => z) (ga_at.h hq) hv dX1_placeOf_32 ?_
            obtain ⟨a_15, ea_15, hw⟩ := hw
            rewrite [ea_15]
            obtain ⟨fs_16, v_17, hq, hv, hw⟩ := hw
            refine ga_getN (ci := 1) (T := TX2) (v := va_rf v_17) hx hb hts hown hI in_X2 rfl 0 (by decide) q311 (fun _ z => z) (ga_at.h hq) hv dX1_placeOf_35 ?_
            refine lv_iload_n hx hb dX1_placeOf_38 rfl (lv_at hl 3 rfl) ?_
            obtain ⟨a_18, ea_18, hw⟩ := hw
            rewrite [ea_18]
            obtain ⟨n_19, f_20, hq, hi, hw⟩ := hw
            refine ga_ldq hx hb hI (ga_at.h hq) rfl hi dX1_placeOf_39 ?_
            obtain ⟨v_21, ev_21⟩ : ∃ z, z = f_20 r_8.toNatClampNeg := ⟨_, rfl⟩
            rw [← ev_21]
            have hw := hw v_21 ev_21
            obtain ⟨a_22, ea_22, hw⟩ := hw
            rewrite [ea_22]
            obtain ⟨fs_23, v_24, hq, hv, hw⟩ := hw
            refine ga_getN (ci := 2) (T := TX3) (v := va_rf v_24) hx hb hts hown hI in_X3 rfl 0 (by decide) q281 (fun _ z => z) (ga_at.h hq) hv dX1_placeOf_40 ?_
            refine lv_iload hx hb dX1_placeOf_43 (lv_at hl 4 rfl) ?_
            obtain ⟨a_25, ea_25, hw⟩ := hw
            rewrite [ea_25]
            obtain ⟨n_26, f_27, hq, hi, hw⟩ := hw
            refine ga_ldq hx hb hI (ga_at.h hq) rfl hi dX1_placeOf_45 ?_
            obtain ⟨v_28, ev_28⟩ : ∃ z, z = f_27 x4_11.toNatClampNeg := ⟨_, rfl⟩
            rw [← ev_28]
            have hw := hw v_28 ev_28
            obtain ⟨a_29, ea_29, hw⟩ := hw
            rewrite [ea_29]
            obtain ⟨fs_30, v_31, hq, hv, hw⟩ := hw
            refine ga_getN (ci := 3) (T := TX4) (v := va_rf v_31) hx hb hts hown hI in_X4 rfl 0 (by decide) q275 (fun _ z => z) (ga_at.h hq) hv dX1_placeOf_46 ?_
            refine ga_aload_n hx hb dX1_placeOf_49 rfl (lv_at hl 1 rfl) ?_
            obtain ⟨a_32, ea_32, hw⟩ := hw
            rewrite [ea_32]
            obtain ⟨fs_33, hq, hw⟩ := hw
            refine ga_calli (va_runV (As := [va_rf p1]) (rest := []) ⟨hx, hb, hml, hown, hts⟩ (gm_J2_indexOf l g a_32 p1 h_11 _ hw) (cwV 1 hts (lw_V q2252 q2221 q2222 q104 q2223) rfl rfl rfl ⟨rfl, hdG_J2_indexOf⟩ ⟨Nat.le_of_ble_eq_true rfl, Nat.le_of_ble_eq_true rfl⟩) (ga_preV hI hq rfl rfl) rfl rfl hl.1 rfl (ga_room (Nat.le_of_ble_eq_true rfl)) dX1_placeOf_50 ⟨Nat.le_trans (Nat.add_le_add_left (Nat.zero_le _) _) hbc, Nat.le_trans (Nat.add_le_add_left (Nat.zero_le _) _) hbs⟩) hI hbc hbs (Nat.zero_le _) (Nat.zero_le _) (fun r_35 h_34 H locs cells slots hw hI hbc hbs => ?_)
            refine lv_istore (lv' := [(5, .int r_35), (0, .ref p0), (1, va_rf p1), (2, .int p2), (3, .int r_8), (4, .int x4_11)]) hx hb dX1_placeOf_53 hl (by decide) rfl (fun ls hl => ?_)
            refine lv_iload hx hb dX1_placeOf_55 (lv_at hl 0 rfl) ?_
            refine lv_iconst (v := -1) hx hb dX1_placeOf_57 (by decide) ?_
            refine lv_icmp_eq (tgt := 74) hx hb dX1_placeOf_58 (by decide) (fun hc_36 => ?_) (fun hc_36 => ?_)
            · have hw := hw.1 hc_36
              refine lv_iinc (v := x4_11 + (1 : Int32)) (lv' := [(4, .int (x4_11 + (1 : Int32))), (5, .int r_35), (0, .ref p0), (1, va_rf p1), (2, .int p2), (3, .int r_8)]) hx hb dX1_placeOf_74 hl (k := 5) rfl rfl (by decide) rfl (fun ls hl => ?_)
              refine lv_goto (tgt := 24) hx hb dX1_placeOf_77 (by decide) ?_
              exact ih_11 _ _ _ _ H locs cells slots ls (Nat.lt_of_lt_of_le hw.2 (Nat.le_of_lt_succ hn_11)) hw.1 hI hbc hbs (lv_sub hl [2, 3, 4, 5, 0] rfl)
            · have hw := hw.2 hc_36
              refine lv_iload_n hx hb dX1_placeOf_61 rfl (lv_at hl 3 rfl) ?_
              refine lv_iconst (v := 5) hx hb dX1_placeOf_62 (by decide) ?_
              refine lv_icmp_ne (tgt := 71) hx hb dX1_placeOf_63 (by decide) (fun hc_37 => ?_) (fun hc_37 => ?_)
              · have hw := hw.1 hc_37
                refine lv_iload hx hb dX1_placeOf_71 (lv_at hl 0 rfl) ?_
                exact ga_iret hx hb hr rfl hlk hI hw (Nat.le_trans (Nat.le_add_right _ _) hbc) (Nat.le_trans (Nat.le_add_right _ _) hbs) dX1_placeOf_73
              · have hw := hw.2 hc_37
                refine lv_iload hx hb dX1_placeOf_66 (lv_at hl 5 rfl) ?_
                refine lv_goto (tgt := 73) hx hb dX1_placeOf_68 (by decide) ?_
                exact ga_iret hx hb hr rfl hlk hI hw (Nat.le_trans (Nat.le_add_right _ _) hbc) (Nat.le_trans (Nat.le_add_right _ _) hbs) dX1_placeOf_73
      exact hL_11 _ _ _ _ _ H locs cells slots ls (Nat.lt_succ_self _) h0_11 hI hbc hbs (lv_sub hl [2, 3, 4, 1, 0] rfl)
    · have hw := hw.2 hc_10
      refine lv_iload_n hx hb dX1_placeOf_19 rfl (lv_at hl 0 rfl) ?_
      exact ga_iret hx hb hr rfl hlk hI hw (Nat.le_trans (Nat.le_add_right _ _) hbc) (Nat.le_trans (Nat.le_add_right _ _) hbs) dX1_placeOf_20
theorem hdG_X1_placeOf : yX1_placeOf.cls ≠ "java/lang/invoke/MethodHandle" ∧ yX1_placeOf.cls ≠ "java/lang/invoke/VarHandle" ∧ (parseMethodDescriptor yX1_placeOf.desc).map (fun d => d.parameters.length) = some 2 := by decide +kernel
def gw_X1_reamOf_94 (K : ga_K) (post : Int32 → ga_H → Prop) (xp : String → Nat → ga_H → Prop) (p0 : Nat) (v2 : Int32) (v3 : Option Nat) (h : ga_H) (bc bs : Nat) : Prop :=
  ∃ kc_39 ks_40 : Nat, kc_39 ≤ bc ∧ ks_40 ≤ bs ∧ ∃ fs_41 : List Value, ga_at K h p0 (ga_O 0 fs_41) ∧ gw_X1_placeOf K p0 v3 v2 h kc_39 ks_40 (fun (r_43 : Int32) (h_42 : ga_H) => post r_43 h_42)
set_option maxHeartbeats 4000000 in
theorem gj_X1_reamOf_94 {p : Program} {l : Launch} {e : Env} {s : State} {m : MethodId} {args : Array Value} {below : List Frame} {meth : Method} {c : Code} {mc ms : Nat} {H : Heap} {locs : List Loc} {cells slots : Nat} {ls : Array Slot} (hst : l.stackTraces = false) (htab : c.exceptionTable.toList = []) (g : ga_G) (post : Int32 → ga_H → Prop) (xp : String → Nat → ga_H → Prop) (p0 : Nat) (v2 : Int32) (v3 : Option Nat) (h : ga_H) (bc bs : Nat) (hC : ga_Cx p s m args meth c cX1_reamOf 4 (some .int) "PaperStore" "reamOf") (hw : gw_X1_reamOf_94 g.2.2 post xp p0 v2 v3 h bc bs) (hI : ga_I g h s H locs) (hbc : cells + bc ≤ mc) (hbs : slots + bs ≤ ms) (hl : lv_has ls 4 [(0, .ref p0), (2, .int v2), (3, va_rf v3)]) : W p l e ({ frames := 15, cells := mc, slots := ms, locals := 304 } : Room) s m args below meth c H locs cells slots (vx_MQ below (va_Qi post (ga_E g) (ga_A g)) (ga_X g xp) args s mc ms (ga_A g)) (F0 m 94 ls []) := by
  obtain ⟨hx, hb, hml, hown, hts, hr, hlk, hnm⟩ := hC
  unfold gw_X1_reamOf_94 at hw
  refine lv_aload_n hx hb dX1_reamOf_94 rfl (lv_at hl 0 rfl) ?_
  refine ga_aload_n hx hb dX1_reamOf_95 rfl (lv_at hl 2 rfl) ?_
  refine lv_iload_n hx hb dX1_reamOf_96 rfl (lv_at hl 1 rfl) ?_
  obtain ⟨kc_39, ks_40, hk1, hk2, hw⟩ := hw
  obtain ⟨fs_41, hq, hw⟩ := hw
  refine ga_calli (va_runV (As := [va_rf v3, .int v2]) (rest := []) ⟨hx, hb, hml, hown, hts⟩ (gm_X1_placeOf l g p0 v3 v2 h kc_39 ks_40 _ hw) (cwV 2 hts (lw_V q2203 q2205 qs13 q100 q2206) rfl rfl rfl ⟨rfl, hdG_X1_placeOf⟩ ⟨Nat.le_of_ble_eq_true rfl, Nat.le_of_ble_eq_true rfl⟩) (ga_preV hI hq rfl rfl) rfl rfl hl.1 rfl (ga_room (Nat.le_of_ble_eq_true rfl)) dX1_reamOf_97 ⟨Nat.le_trans (Nat.add_le_add_left hk1 _) hbc, Nat.le_trans (Nat.add_le_add_left hk2 _) hbs⟩) hI hbc hbs hk1 hk2 (fun r_43 h_42 H locs cells slots hw hI hbc hbs => ?_)
  refine lv_goto (tgt := 107) hx hb dX1_reamOf_100 (by decide) ?_
  exact ga_iretx hx hb hr rfl hlk hI hw (Nat.le_trans (Nat.le_add_right _ _) hbc) (Nat.le_trans (Nat.le_add_right _ _) hbs) dX1_reamOf_107
def gw_X1_reamOf (K : ga_K) (p0 : Nat) (p1 : Int32) (p2 : Int32) (h : ga_H) (mc ms : Nat) (post : Int32 → ga_H → Prop) (xp : String → Nat → ga_H → Prop) : Prop :=
  ∃ kc_1 ks_2 : Nat, kc_1 ≤ mc ∧ ks_2 ≤ ms ∧ ∃ fs_3 : List Value, ga_at K h p0 (ga_O 0 fs_3) ∧ gw_X1_reamAt K p0 p1 h kc_1 ks_2 (fun (r_5 : Option Nat) (h_4 : ga_H) => gw_X1_isIn p2 (0 : Int32) (7 : Int32) (fun (r_9 : Int32) => ∃ kc_10 ks_11 : Nat, kc_10 ≤ (mc - kc_1) ∧ ks_11 ≤ (ms - ks_2) ∧ gw_X1_checkArgument K r_9 h_4 kc_10 ks_11 (fun (h_12 : ga_H) => (p2 = (0 : Int32) → (∃ a_17 : Nat, r_5 = some a_17 ∧ ∃ (fs_18 : List Value) (v_19 : Option Nat), h_12 a_17 = some (ga_O 4 fs_18) ∧ fs_18[1]? = some (va_rf v_19) ∧ (∃ a_20 : Nat, v_19 = some a_20 ∧ ∃ (fs_21 : List Value) (v_22 : Int32), h_12 a_20 = some (ga_O 9 fs_21) ∧ fs_21[0]? = some (.int v_22) ∧ (post v_22 h_12)))) ∧ (¬ p2 = (0 : Int32) → ((p2 = (1 : Int32) → (∃ a_24 : Nat, r_5 = some a_24 ∧ ∃ (fs_25 : List Value) (v_26 : Option Nat), h_12 a_24 = some (ga_O 4 fs_25) ∧ fs_25[1]? = some (va_rf v_26) ∧ (∃ a_27 : Nat, v_26 = some a_27 ∧ ∃ (fs_28 : List Value) (v_29 : Int32), h_12 a_27 = some (ga_O 9 fs_28) ∧ fs_28[1]? = some (.int v_29) ∧ (post v_29 h_12)))) ∧ (¬ p2 = (1 : Int32) → ((p2 = (2 : Int32) → (∃ a_31 : Nat, r_5 = some a_31 ∧ ∃ (fs_32 : List Value) (v_33 : Int32), h_12 a_31 = some (ga_O 4 fs_32) ∧ fs_32[2]? = some (.int v_33) ∧ (post v_33 h_12))) ∧ (¬ p2 = (2 : Int32) → ((p2 = (3 : Int32) → (∃ a_35 : Nat, r_5 = some a_35 ∧ ∃ (fs_36 : List Value) (v_37 : Int32), h_12 a_35 = some (ga_O 4 fs_36) ∧ fs_36[3]? = some (.int v_37) ∧ (post v_37 h_12))) ∧ (¬ p2 = (3 : Int32) → ((p2 = (4 : Int32) → (gw_X1_reamOf_94 K post xp p0 p2 r_5 h_12 ((mc - kc_1) - kc_10) ((ms - ks_2) - ks_11))) ∧ (¬ p2 = (4 : Int32) → ((p2 = (5 : Int32) → (gw_X1_reamOf_94 K post xp p0 p2 r_5 h_12 ((mc - kc_1) - kc_10) ((ms - ks_2) - ks_11))) ∧ (¬ p2 = (5 : Int32) → ((p2 = (6 : Int32) → (gw_X1_reamOf_94 K post xp p0 p2 r_5 h_12 ((mc - kc_1) - kc_10) ((ms - ks_2) - ks_11))) ∧ (¬ p2 = (6 : Int32) → (∃ a_46 : Nat, r_5 = some a_46 ∧ ∃ (fs_47 : List Value) (v_48 : Int32), h_12 a_46 = some (ga_O 4 fs_47) ∧ fs_47[4]? = some (.int v_48) ∧ (post v_48 h_12)))))))))))))))) (fun (E_13 : String) (q_14 : Nat) (h_15 : ga_H) => xp E_13 q_14 h_15))) (fun (E_6 : String) (q_7 : Nat) (h_8 : ga_H) => xp E_6 q_7 h_8)
set_option maxHeartbeats 4000000 in
theorem gm_X1_reamOf (l : Launch) (hst : l.stackTraces = false) (g : ga_G) (p0 : Nat) (p1 : Int32) (p2 : Int32) (h : ga_H) (mc ms : Nat) (post : Int32 → ga_H → Prop) (xp : String → Nat → ga_H → Prop) (hw : gw_X1_reamOf g.2.2 p0 p1 p2 h mc ms post xp) : vx_Met l yX1_reamOf (ws_ yX1_reamOf cX1_reamOf 4 (some .int)) ({ frames := 15, cells := mc, slots := ms, locals := 304 } : Room) (va_Pc [.ref p0, .int p1, .int p2] (ga_B g h)) (va_Qi post (ga_E g) (ga_A g)) (ga_X g xp) mc ms (ga_A g) := by
  refine ga_metx (own := "PaperStore") (nm := "reamOf") (by decide) rfl rfl (by exact Nat.le_of_ble_eq_true rfl) (fun p e s m below meth c ls hC htab hI hl => ?_)
  have hl : lv_has ls 4 [(0, .ref p0), (1, .int p1), (2, .int p2)] := hl
  generalize ([.ref p0, .int p1, .int p2] : List Value).toArray = args at hC ⊢
  obtain ⟨hx, hb, hml, hown, hts, hr, hlk, hnm⟩ := hC
  unfold gw_X1_reamOf at hw
  obtain ⟨H, eH⟩ : ∃ z, z = s.heap := ⟨_, rfl⟩
  obtain ⟨locs, elo⟩ : ∃ z : List Loc, z = [] := ⟨_, rfl⟩
  rw [← eH, ← elo] at hI ⊢
  obtain ⟨cells, slots, hbc, hbs, e0, e1⟩ : ∃ a b : Nat, a + mc ≤ mc ∧ b + ms ≤ ms ∧ a = 0 ∧ b = 0 := ⟨0, 0, by omega, by omega, rfl, rfl⟩
  show W p l e ({ frames := 15, cells := mc, slots := ms, locals := 304 } : Room) s m args below meth c H locs 0 0 (vx_MQ below (va_Qi post (ga_E g) (ga_A g)) (ga_X g xp) args s mc ms (ga_A g)) (F0 m 0 ls [])
  suffices hgoal : W p l e ({ frames := 15, cells := mc, slots := ms, locals := 304 } : Room) s m args below meth c H locs cells slots (vx_MQ below (va_Qi post (ga_E g) (ga_A g)) (ga_X g xp) args s mc ms (ga_A g)) (F0 m 0 ls []) by rw [e0, e1] at hgoal; exact hgoal
  refine lv_aload_n hx hb dX1_reamOf_0 rfl (lv_at hl 0 rfl) ?_
  refine lv_iload_n hx hb dX1_reamOf_1 rfl (lv_at hl 1 rfl) ?_
  obtain ⟨kc_1, ks_2, hk1, hk2, hw⟩ := hw
  obtain ⟨fs_3, hq, hw⟩ := hw
  refine ga_xcallq (vx_runV (As := [.int p1]) (rest := []) ⟨hx, hb, hml, hown, hts⟩ (gm_X1_reamAt l hst g p0 p1 h kc_1 ks_2 _ _ hw) (cwV 1 hts (lw_V q2199 q2201 qs12 q100 q2202) rfl rfl rfl ⟨rfl, hdG_X1_reamAt⟩ ⟨Nat.le_of_ble_eq_true rfl, Nat.le_of_ble_eq_true rfl⟩) (ga_preV hI hq rfl rfl) rfl rfl hl.1 rfl (ga_room (Nat.le_of_ble_eq_true rfl)) dX1_reamOf_2 ⟨Nat.le_trans (Nat.add_le_add_left hk1 _) hbc, Nat.le_trans (Nat.add_le_add_left hk2 _) hbs⟩) hI hbc hbs hk1 hk2 (fun E_6 q_7 h_8 ce H locs cells slots hw hI hce hbc hbs => ?_) (fun r_5 h_4 H locs cells slots hw hI hbc hbs => ?_)
  · exact ga_out hown hlk hI hw (by rw [htab]; intro z hz; cases hz) hce (Nat.le_trans (Nat.le_add_right _ _) hbc) (Nat.le_trans (Nat.le_add_right _ _) hbs)
  · skip
    refine ga_astore_n (i := 3) (x := r_5) (lv' := [(3, va_rf r_5), (0, .ref p0), (1, .int p1), (2, .int p2)]) hx hb dX1_reamOf_5 rfl hl (by decide) rfl (fun ls hl => ?_)
    refine lv_iload_n hx hb dX1_reamOf_6 rfl (lv_at hl 3 rfl) ?_
    refine lv_iconst (v := 0) hx hb dX1_reamOf_7 (by decide) ?_
    refine lv_bipush (v := 7) hx hb dX1_reamOf_8 (by decide) ?_
    refine ga_callS (As := [.int p2, .int (0 : Int32), .int (7 : Int32)]) (rest := []) ⟨hx, hb, hml, hown, hts⟩ (gm_X1_isIn l p2 (0 : Int32) (7 : Int32) _ hw) (va_cwS 3 hts (lw_S q2024 q2025 q100 q2026) rfl rfl rfl hdG_X1_isIn ⟨Nat.le_of_ble_eq_true rfl, Nat.le_of_ble_eq_true rfl⟩) rfl hl.1 rfl (ga_room (Nat.le_of_ble_eq_true rfl)) dX1_reamOf_10 hbc hbs (fun r_9 hw => ?_)
    obtain ⟨kc_10, ks_11, hk1, hk2, hw⟩ := hw
    refine ga_xcallv (vx_runS (As := [.int r_9]) (rest := []) ⟨hx, hb, hml, hown, hts⟩ (gm_X1_checkArgument l hst g r_9 h_4 kc_10 ks_11 _ _ hw) (va_cwS 1 hts (lw_S q2027 q2028 q100 q2029) rfl rfl rfl hdG_X1_checkArgument ⟨Nat.le_of_ble_eq_true rfl, Nat.le_of_ble_eq_true rfl⟩) (ga_preS hI rfl) rfl rfl hl.1 rfl (ga_room (Nat.le_of_ble_eq_true rfl)) dX1_reamOf_13 ⟨Nat.le_trans (Nat.add_le_add_left hk1 _) hbc, Nat.le_trans (Nat.add_le_add_left hk2 _) hbs⟩) hI hbc hbs hk1 hk2 (fun E_13 q_14 h_15 ce H locs cells slots hw hI hce hbc hbs => ?_) (fun h_12 H locs cells slots hw hI hbc hbs => ?_)
    · exact ga_out hown hlk hI hw (by rw [htab]; intro z hz; cases hz) hce (Nat.le_trans (Nat.le_add_right _ _) hbc) (Nat.le_trans (Nat.le_add_right _ _) hbs)
    · skip
      refine lv_iload_n hx hb dX1_reamOf_16 rfl (lv_at hl 3 rfl) ?_
      by_cases hc_16 : p2 = (0 : Int32)
      · have hw := hw.1 hc_16
        refine lv_tableIn (tgt := 60) hx hb dX1_reamOf_17 (by rw [hc_16]; decide) (by rw [hc_16]; decide) (off := 43) (by rw [hc_16]; rfl) (by decide) ?_
        refine ga_aload_n hx hb dX1_reamOf_60 rfl (lv_at hl 0 rfl) ?_
        obtain ⟨a_17, ea_17, hw⟩ := hw
        rewrite [ea_17]
        obtain ⟨fs_18, v_19, hq, hv, hw⟩ := hw
        refine ga_getN (ci := 4) (T := TX6) (v := va_rf v_19) hx hb hts hown hI in_X6 rfl 1 (by decide) q1298 (fun _ z => z) (ga_at.h hq) hv dX1_reamOf_61 ?_
        obtain ⟨a_20, ea_20, hw⟩ := hw
        rewrite [ea_20]
        obtain ⟨fs_21, v_22, hq, hv, hw⟩ := hw
        refine ga_getN (ci := 9) (T := TX11) (v := .int v_22) hx hb hts hown hI in_X11 rfl 0 (by decide) q2171 (fun _ z => z) (ga_at.h hq) hv dX1_reamOf_64 ?_
        refine lv_goto (tgt := 107) hx hb dX1_reamOf_67 (by decide) ?_
        exact ga_iretx hx hb hr rfl hlk hI hw (Nat.le_trans (Nat.le_add_right _ _) hbc) (Nat.le_trans (Nat.le_add_right _ _) hbs) dX1_reamOf_107
      have hw := hw.2 hc_16
      by_cases hc_23 : p2 = (1 : Int32)
      · have hw := hw.1 hc_23
        refine lv_tableIn (tgt := 70) hx hb dX1_reamOf_17 (by rw [hc_23]; decide) (by rw [hc_23]; decide) (off := 53) (by rw [hc_23]; rfl) (by decide) ?_
        refine ga_aload_n hx hb dX1_reamOf_70 rfl (lv_at hl 0 rfl) ?_
        obtain ⟨a_24, ea_24, hw⟩ := hw
        rewrite [ea_24]
        obtain ⟨fs_25, v_26, hq, hv, hw⟩ := hw
        refine ga_getN (ci := 4) (T := TX6) (v := va_rf v_26) hx hb hts hown hI in_X6 rfl 1 (by decide) q1298 (fun _ z => z) (ga_at.h hq) hv dX1_reamOf_71 ?_
        obtain ⟨a_27, ea_27, hw⟩ := hw
        rewrite [ea_27]
        obtain ⟨fs_28, v_29, hq, hv, hw⟩ := hw
        refine ga_getN (ci := 9) (T := TX11) (v := .int v_29) hx hb hts hown hI in_X11 rfl 1 (by decide) q2174 (fun _ z => z) (ga_at.h hq) hv dX1_reamOf_74 ?_
        refine lv_goto (tgt := 107) hx hb dX1_reamOf_77 (by decide) ?_
        exact ga_iretx hx hb hr rfl hlk hI hw (Nat.le_trans (Nat.le_add_right _ _) hbc) (Nat.le_trans (Nat.le_add_right _ _) hbs) dX1_reamOf_107
      have hw := hw.2 hc_23
      by_cases hc_30 : p2 = (2 : Int32)
      · have hw := hw.1 hc_30
        refine lv_tableIn (tgt := 80) hx hb dX1_reamOf_17 (by rw [hc_30]; decide) (by rw [hc_30]; decide) (off := 63) (by rw [hc_30]; rfl) (by decide) ?_
        refine ga_aload_n hx hb dX1_reamOf_80 rfl (lv_at hl 0 rfl) ?_
        obtain ⟨a_31, ea_31, hw⟩ := hw
        rewrite [ea_31]
        obtain ⟨fs_32, v_33, hq, hv, hw⟩ := hw
        refine ga_getN (ci := 4) (T := TX6) (v := .int v_33) hx hb hts hown hI in_X6 rfl 2 (by decide) q1303 (fun _ z => z) (ga_at.h hq) hv dX1_reamOf_81 ?_
        refine lv_goto (tgt := 107) hx hb dX1_reamOf_84 (by decide) ?_
        exact ga_iretx hx hb hr rfl hlk hI hw (Nat.le_trans (Nat.le_add_right _ _) hbc) (Nat.le_trans (Nat.le_add_right _ _) hbs) dX1_reamOf_107
      have hw := hw.2 hc_30
      by_cases hc_34 : p2 = (3 : Int32)
      · have hw := hw.1 hc_34
        refine lv_tableIn (tgt := 87) hx hb dX1_reamOf_17 (by rw [hc_34]; decide) (by rw [hc_34]; decide) (off := 70) (by rw [hc_34]; rfl) (by decide) ?_
        refine ga_aload_n hx hb dX1_reamOf_87 rfl (lv_at hl 0 rfl) ?_
        obtain ⟨a_35, ea_35, hw⟩ := hw
        rewrite [ea_35]
        obtain ⟨fs_36, v_37, hq, hv, hw⟩ := hw
        refine ga_getN (ci := 4) (T := TX6) (v := .int v_37) hx hb hts hown hI in_X6 rfl 3 (by decide) q1305 (fun _ z => z) (ga_at.h hq) hv dX1_reamOf_88 ?_
        refine lv_goto (tgt := 107) hx hb dX1_reamOf_91 (by decide) ?_
        exact ga_iretx hx hb hr rfl hlk hI hw (Nat.le_trans (Nat.le_add_right _ _) hbc) (Nat.le_trans (Nat.le_add_right _ _) hbs) dX1_reamOf_107
      have hw := hw.2 hc_34
      by_cases hc_38 : p2 = (4 : Int32)
      · have hw := hw.1 hc_38
        refine lv_tableIn (tgt := 94) hx hb dX1_reamOf_17 (by rw [hc_38]; decide) (by rw [hc_38]; decide) (off := 77) (by rw [hc_38]; rfl) (by decide) ?_
        exact gj_X1_reamOf_94 hst htab g post xp p0 p2 r_5 h_12 ((mc - kc_1) - kc_10) ((ms - ks_2) - ks_11) ⟨hx, hb, hml, hown, hts, hr, hlk, hnm⟩ hw hI hbc hbs (lv_sub hl [1, 3, 0] rfl)
      have hw := hw.2 hc_38
      by_cases hc_44 : p2 = (5 : Int32)
      · have hw := hw.1 hc_44
        refine lv_tableIn (tgt := 94) hx hb dX1_reamOf_17 (by rw [hc_44]; decide) (by rw [hc_44]; decide) (off := 77) (by rw [hc_44]; rfl) (by decide) ?_
        exact gj_X1_reamOf_94 hst htab g post xp p0 p2 r_5 h_12 ((mc - kc_1) - kc_10) ((ms - ks_2) - ks_11) ⟨hx, hb, hml, hown, hts, hr, hlk, hnm⟩ hw hI hbc hbs (lv_sub hl [1, 3, 0] rfl)
      have hw := hw.2 hc_44
      by_cases hc_45 : p2 = (6 : Int32)
      · have hw := hw.1 hc_45
        refine lv_tableIn (tgt := 94) hx hb dX1_reamOf_17 (by rw [hc_45]; decide) (by rw [hc_45]; decide) (off := 77) (by rw [hc_45]; rfl) (by decide) ?_
        exact gj_X1_reamOf_94 hst htab g post xp p0 p2 r_5 h_12 ((mc - kc_1) - kc_10) ((ms - ks_2) - ks_11) ⟨hx, hb, hml, hown, hts, hr, hlk, hnm⟩ hw hI hbc hbs (lv_sub hl [1, 3, 0] rfl)
      have hw := hw.2 hc_45
      refine lv_tableOut (tgt := 103) hx hb dX1_reamOf_17 (zs_out 0 6 7 [0, 1, 2, 3, 4, 5, 6] (by decide) (by decide) (List.forall_mem_cons.mpr ⟨hc_16, List.forall_mem_cons.mpr ⟨hc_23, List.forall_mem_cons.mpr ⟨hc_30, List.forall_mem_cons.mpr ⟨hc_34, List.forall_mem_cons.mpr ⟨hc_38, List.forall_mem_cons.mpr ⟨hc_44, List.forall_mem_cons.mpr ⟨hc_45, fun _ h => absurd h List.not_mem_nil⟩⟩⟩⟩⟩⟩⟩)) (by decide) ?_
      refine ga_aload_n hx hb dX1_reamOf_103 rfl (lv_at hl 0 rfl) ?_
      obtain ⟨a_46, ea_46, hw⟩ := hw
      rewrite [ea_46]
      obtain ⟨fs_47, v_48, hq, hv, hw⟩ := hw
      refine ga_getN (ci := 4) (T := TX6) (v := .int v_48) hx hb hts hown hI in_X6 rfl 4 (by decide) q1308 (fun _ z => z) (ga_at.h hq) hv dX1_reamOf_104 ?_
      exact ga_iretx hx hb hr rfl hlk hI hw (Nat.le_trans (Nat.le_add_right _ _) hbc) (Nat.le_trans (Nat.le_add_right _ _) hbs) dX1_reamOf_107
theorem hdG_X1_reamOf : yX1_reamOf.cls ≠ "java/lang/invoke/MethodHandle" ∧ yX1_reamOf.cls ≠ "java/lang/invoke/VarHandle" ∧ (parseMethodDescriptor yX1_reamOf.desc).map (fun d => d.parameters.length) = some 2 := by decide +kernel
def gw_X0_reamOf (K : ga_K) (p0 : Option Nat) (p1 : Int32) (p2 : Int32) (p3 : Option Nat) (h : ga_H) (mc ms : Nat) (post : Int32 → ga_H → Prop) (xp : String → Nat → ga_H → Prop) : Prop :=
  ∃ a_1 : Nat, p0 = some a_1 ∧ ∃ kc_2 ks_3 : Nat, kc_2 ≤ mc ∧ ks_3 ≤ ms ∧ ∃ fs_4 : List Value, ga_at K h a_1 (ga_O 0 fs_4) ∧ gw_X1_reamOf K a_1 p1 p2 h kc_2 ks_3 (fun (r_6 : Int32) (h_5 : ga_H) => ∃ a_10 : Nat, p3 = some a_10 ∧ ∃ (n_11 : Nat) (f_12 : Nat → Int64), h_5 a_10 = some (ga_Al n_11 f_12) ∧ vp_in (0 : Int32) n_11 ∧ ∀ h_13 : ga_H, h_13 = ga_set h_5 a_10 (ga_Al n_11 (vp_updL f_12 (0 : Int32).toNatClampNeg r_6.toInt64)) → (post (0 : Int32) h_13)) (fun (E_7 : String) (q_8 : Nat) (h_9 : ga_H) => (E_7 = "java/lang/IllegalArgumentException" ∧ (post (2 : Int32) h_9)) ∨ (E_7 = "java/lang/IndexOutOfBoundsException" ∧ (post (1 : Int32) h_9)))
set_option maxHeartbeats 4000000 in
theorem gm_X0_reamOf (l : Launch) (hst : l.stackTraces = false) (g : ga_G) (p0 : Option Nat) (p1 : Int32) (p2 : Int32) (p3 : Option Nat) (h : ga_H) (mc ms : Nat) (post : Int32 → ga_H → Prop) (xp : String → Nat → ga_H → Prop) (hw : gw_X0_reamOf g.2.2 p0 p1 p2 p3 h mc ms post xp) : vx_Met l yX0_reamOf (wsW_ yX0_reamOf cX0_reamOf 5 (some .int) [(0, 10, 13, 21), (0, 10, 17, 13)]) ({ frames := 16, cells := mc, slots := ms, locals := 327 } : Room) (va_Pc [va_rf p0, .int p1, .int p2, va_rf p3] (ga_B g h)) (va_Qi post (ga_E g) (ga_A g)) (ga_X g xp) mc ms (ga_A g) := by
  refine ga_metxW (own := "PaperStoreLaw") (nm := "reamOf") (by decide) rfl rfl (by cases p0 <;> cases p3 <;> exact Nat.le_of_ble_eq_true rfl) (fun p e s m below meth c ls hC htab hI hl => ?_)
  have hl : lv_has ls 5 [(0, va_rf p0), (1, .int p1), (2, .int p2), (3, va_rf p3)] := (by cases p0 <;> cases p3 <;> exact hl)
  generalize ([va_rf p0, .int p1, .int p2, va_rf p3] : List Value).toArray = args at hC ⊢
  obtain ⟨hx, hb, hml, hown, hts, hr, hlk, hnm⟩ := hC
  unfold gw_X0_reamOf at hw
  obtain ⟨H, eH⟩ : ∃ z, z = s.heap := ⟨_, rfl⟩
  obtain ⟨locs, elo⟩ : ∃ z : List Loc, z = [] := ⟨_, rfl⟩
  rw [← eH, ← elo] at hI ⊢
  obtain ⟨cells, slots, hbc, hbs, e0, e1⟩ : ∃ a b : Nat, a + mc ≤ mc ∧ b + ms ≤ ms ∧ a = 0 ∧ b = 0 := ⟨0, 0, by omega, by omega, rfl, rfl⟩
  show W p l e ({ frames := 16, cells := mc, slots := ms, locals := 327 } : Room) s m args below meth c H locs 0 0 (vx_MQ below (va_Qi post (ga_E g) (ga_A g)) (ga_X g xp) args s mc ms (ga_A g)) (F0 m 0 ls [])
  suffices hgoal : W p l e ({ frames := 16, cells := mc, slots := ms, locals := 327 } : Room) s m args below meth c H locs cells slots (vx_MQ below (va_Qi post (ga_E g) (ga_A g)) (ga_X g xp) args s mc ms (ga_A g)) (F0 m 0 ls []) by rw [e0, e1] at hgoal; exact hgoal
  refine ga_aload_n hx hb dX0_reamOf_0 rfl (lv_at hl 3 rfl) ?_
  refine lv_iconst (v := 0) hx hb dX0_reamOf_1 (by decide) ?_
  refine ga_aload_n hx hb dX0_reamOf_2 rfl (lv_at hl 0 rfl) ?_
  refine lv_iload_n hx hb dX0_reamOf_3 rfl (lv_at hl 1 rfl) ?_
  refine lv_iload_n hx hb dX0_reamOf_4 rfl (lv_at hl 2 rfl) ?_
  obtain ⟨a_1, ea_1, hw⟩ := hw
  rewrite [ea_1]
  obtain ⟨kc_2, ks_3, hk1, hk2, hw⟩ := hw
  obtain ⟨fs_4, hq, hw⟩ := hw
  refine ga_xcalli (vx_runV (As := [.int p1, .int p2]) (rest := [.int (0 : Int32), va_rf p3]) ⟨hx, hb, hml, hown, hts⟩ (gm_X1_reamOf l hst g a_1 p1 p2 h kc_2 ks_3 _ _ hw) (cwV 2 hts (lw_V q2195 q2196 q2197 q100 q2198) rfl rfl rfl ⟨rfl, hdG_X1_reamOf⟩ ⟨Nat.le_of_ble_eq_true rfl, Nat.le_of_ble_eq_true rfl⟩) (ga_preV hI hq rfl rfl) rfl rfl hl.1 rfl (ga_room (Nat.le_of_ble_eq_true rfl)) dX0_reamOf_5 ⟨Nat.le_trans (Nat.add_le_add_left hk1 _) hbc, Nat.le_trans (Nat.add_le_add_left hk2 _) hbs⟩) hI hbc hbs hk1 hk2 (fun E_7 q_8 h_9 ce H locs cells slots hw hI hce hbc hbs => ?_) (fun r_6 h_5 H locs cells slots hw hI hbc hbs => ?_)
  · rcases hw with ⟨rfl, hw⟩ | ⟨rfl, hw⟩
    · skip
      refine ga_catch hown hts hI ([⟨0, 10, 13, 21⟩]) (⟨0, 10, 17, 13⟩) ([]) (by rw [htab]; rfl) (List.forall_mem_cons.mpr ⟨Or.inr ⟨by decide, ga_ncs hts hI q2105 (List.mem_of_getElem? (i := 1) rfl)⟩, fun _ h => absurd h List.not_mem_nil⟩) rfl (by decide) q2017 q1054 hce ?_
      refine W.eq (g2 := F0 m 17 ls [.ref q_8]) rfl ?_
      refine lv_astore (lv' := [(4, .ref q_8), (0, va_rf p0), (1, .int p1), (2, .int p2), (3, va_rf p3)]) hx hb dX0_reamOf_17 hl (by decide) (by simp [ga_rcat, ga_cat_r, ga_cat_i, ga_cat_f, ga_cat_l, ga_cat_d]) (fun ls hl => ?_)
      refine lv_iconst (v := 2) hx hb dX0_reamOf_19 (by decide) ?_
      exact ga_iretx hx hb hr rfl hlk hI hw (Nat.le_trans (Nat.le_add_right _ _) hbc) (Nat.le_trans (Nat.le_add_right _ _) hbs) dX0_reamOf_20
    · skip
      refine ga_catch hown hts hI ([]) (⟨0, 10, 13, 21⟩) ([⟨0, 10, 17, 13⟩]) (by rw [htab]; rfl) (fun _ h => absurd h List.not_mem_nil) rfl (by decide) q2105 q866 hce ?_
      refine W.eq (g2 := F0 m 13 ls [.ref q_8]) rfl ?_
      refine lv_astore (lv' := [(4, .ref q_8), (0, va_rf p0), (1, .int p1), (2, .int p2), (3, va_rf p3)]) hx hb dX0_reamOf_13 hl (by decide) (by simp [ga_rcat, ga_cat_r, ga_cat_i, ga_cat_f, ga_cat_l, ga_cat_d]) (fun ls hl => ?_)
      refine lv_iconst (v := 1) hx hb dX0_reamOf_15 (by decide) ?_
      exact ga_iretx hx hb hr rfl hlk hI hw (Nat.le_trans (Nat.le_add_right _ _) hbc) (Nat.le_trans (Nat.le_add_right _ _) hbs) dX0_reamOf_16
  · skip
    refine lv_i2l (v := r_6.toInt64) hx hb dX0_reamOf_8 rfl ?_
    obtain ⟨a_10, ea_10, hw⟩ := hw
    rewrite [ea_10]
    obtain ⟨n_11, f_12, hq, hi, hw⟩ := hw
    refine ga_stl hx hb hI hq hi dX0_reamOf_9 (fun H locs hI => ?_)
    obtain ⟨h_13, eh_13⟩ : ∃ z, z = ga_set h_5 a_10 (ga_Al n_11 (vp_updL f_12 (0 : Int32).toNatClampNeg r_6.toInt64)) := ⟨_, rfl⟩
    rw [← eh_13] at hI
    have hw := hw h_13 eh_13
    refine lv_goto (tgt := 21) hx hb dX0_reamOf_10 (by decide) ?_
    refine lv_iconst (v := 0) hx hb dX0_reamOf_21 (by decide) ?_
    exact ga_iretx hx hb hr rfl hlk hI hw (Nat.le_trans (Nat.le_add_right _ _) hbc) (Nat.le_trans (Nat.le_add_right _ _) hbs) dX0_reamOf_22
theorem hdG_X0_reamOf : yX0_reamOf.cls ≠ "java/lang/invoke/MethodHandle" ∧ yX0_reamOf.cls ≠ "java/lang/invoke/VarHandle" ∧ (parseMethodDescriptor yX0_reamOf.desc).map (fun d => d.parameters.length) = some 4 := by decide +kernel
def gw_J2_isEmpty (K : ga_K) (p0 : Nat) (h : ga_H) (post : Int32 → ga_H → Prop) : Prop :=
  ∃ (fs_1 : List Value) (v_2 : Int32), h p0 = some (ga_O 13 fs_1) ∧ fs_1[2]? = some (.int v_2) ∧ ((¬ v_2 = (0 : Int32) → (post (0 : Int32) h)) ∧ (v_2 = (0 : Int32) → (post (1 : Int32) h)))
set_option maxHeartbeats 4000000 in
theorem gm_J2_isEmpty (l : Launch) (g : ga_G) (p0 : Nat) (h : ga_H) (post : Int32 → ga_H → Prop) (hw : gw_J2_isEmpty g.2.2 p0 h post) : Met l yJ2_isEmpty (ws_ yJ2_isEmpty cJ2_isEmpty 1 (some .boolean)) ({ frames := 8, cells := 0, slots := 0, locals := 140 } : Room) (va_Pc [.ref p0] (ga_B g h)) (va_Qi post (ga_E g) (ga_A g)) 0 0 (ga_A g) := by
  refine ga_met (own := "java/util/ArrayList") (nm := "isEmpty") (by decide) rfl rfl (by exact Nat.le_of_ble_eq_true rfl) (fun p e s m below meth c ls hC hI hl => ?_)
  have hl : lv_has ls 1 [(0, .ref p0)] := hl
  generalize ([.ref p0] : List Value).toArray = args at hC ⊢
  obtain ⟨hx, hb, hml, hown, hts, hr, hlk, hnm⟩ := hC
  unfold gw_J2_isEmpty at hw
  obtain ⟨H, eH⟩ : ∃ z, z = s.heap := ⟨_, rfl⟩
  obtain ⟨locs, elo⟩ : ∃ z : List Loc, z = [] := ⟨_, rfl⟩
  rw [← eH, ← elo] at hI ⊢
  obtain ⟨cells, slots, hbc, hbs, e0, e1⟩ : ∃ a b : Nat, a ≤ 0 ∧ b ≤ 0 ∧ a = 0 ∧ b = 0 := ⟨0, 0, by omega, by omega, rfl, rfl⟩
  show W p l e ({ frames := 8, cells := 0, slots := 0, locals := 140 } : Room) s m args below meth c H locs 0 0 (MQ below (va_Qi post (ga_E g) (ga_A g)) args s 0 0 (ga_A g)) (F0 m 0 ls [])
  suffices hgoal : W p l e ({ frames := 8, cells := 0, slots := 0, locals := 140 } : Room) s m args below meth c H locs cells slots (MQ below (va_Qi post (ga_E g) (ga_A g)) args s 0 0 (ga_A g)) (F0 m 0 ls []) by rw [e0, e1] at hgoal; exact hgoal
  refine lv_aload_n hx hb dJ2_isEmpty_0 rfl (lv_at hl 0 rfl) ?_
  obtain ⟨fs_1, v_2, hq, hv, hw⟩ := hw
  refine ga_get (ci := 13) (T := TJ2) (v := .int v_2) hx hb hts hown hI in_J2 rfl 2 (by decide) q206 (fun _ z => z) (ga_at.h hq) hv dJ2_isEmpty_1 ?_
  refine lv_if_ne (tgt := 11) hx hb dJ2_isEmpty_4 (by decide) (fun hc_3 => ?_) (fun hc_3 => ?_)
  · have hw := hw.1 hc_3
    refine lv_iconst (v := 0) hx hb dJ2_isEmpty_11 (by decide) ?_
    exact ga_iret hx hb hr rfl hlk hI hw hbc hbs dJ2_isEmpty_12
  · have hw := hw.2 hc_3
    refine lv_iconst (v := 1) hx hb dJ2_isEmpty_7 (by decide) ?_
    refine lv_goto (tgt := 12) hx hb dJ2_isEmpty_8 (by decide) ?_
    exact ga_iret hx hb hr rfl hlk hI hw hbc hbs dJ2_isEmpty_12
theorem hdG_J2_isEmpty : yJ2_isEmpty.cls ≠ "java/lang/invoke/MethodHandle" ∧ yJ2_isEmpty.cls ≠ "java/lang/invoke/VarHandle" ∧ (parseMethodDescriptor yJ2_isEmpty.desc).map (fun d => d.parameters.length) = some 0 := by decide +kernel
def gw_X4_top (K : ga_K) (p0 : Nat) (h : ga_H) (post : Option Nat → ga_H → Prop) : Prop :=
  ∃ (fs_1 : List Value) (v_2 : Option Nat), h p0 = some (ga_O 3 fs_1) ∧ fs_1[0]? = some (va_rf v_2) ∧ (∃ a_3 : Nat, v_2 = some a_3 ∧ ∃ fs_4 : List Value, ga_at K h a_3 (ga_O 13 fs_4) ∧ gw_J2_isEmpty K a_3 h (fun (r_6 : Int32) (h_5 : ga_H) => (r_6 = (0 : Int32) → (∃ (fs_8 : List Value) (v_9 : Option Nat), h_5 p0 = some (ga_O 3 fs_8) ∧ fs_8[0]? = some (va_rf v_9) ∧ (∃ (fs_10 : List Value) (v_11 : Option Nat), h_5 p0 = some (ga_O 3 fs_10) ∧ fs_10[0]? = some (va_rf v_11) ∧ (∃ a_12 : Nat, v_11 = some a_12 ∧ ∃ fs_13 : List Value, ga_at K h_5 a_12 (ga_O 13 fs_13) ∧ gw_J2_size K a_12 h_5 (fun (r_15 : Int32) (h_14 : ga_H) => ∃ a_16 : Nat, v_9 = some a_16 ∧ ∃ fs_17 : List Value, ga_at K h_14 a_16 (ga_O 13 fs_17) ∧ gw_J2_get K a_16 (r_15 - (1 : Int32)) h_14 (fun (r_19 : Option Nat) (h_18 : ga_H) => ga_ok K h_18 "PaperStore$Ream" r_19 ∧ (post r_19 h_18))))))) ∧ (¬ r_6 = (0 : Int32) → (post none h_5))))
set_option maxHeartbeats 4000000 in
theorem gm_X4_top (l : Launch) (g : ga_G) (p0 : Nat) (h : ga_H) (post : Option Nat → ga_H → Prop) (hw : gw_X4_top g.2.2 p0 h post) : Met l yX4_top (ws_ yX4_top cX4_top 1 (some (.object "PaperStore$Ream"))) ({ frames := 11, cells := 0, slots := 0, locals := 204 } : Room) (va_Pc [.ref p0] (ga_B g h)) (va_Qq post (ga_E g) (ga_A g)) 0 0 (ga_A g) := by
  refine ga_met (own := "PaperStore$Shelf") (nm := "top") (by decide) rfl rfl (by exact Nat.le_of_ble_eq_true rfl) (fun p e s m below meth c ls hC hI hl => ?_)
  have hl : lv_has ls 1 [(0, .ref p0)] := hl
  generalize ([.ref p0] : List Value).toArray = args at hC ⊢
  obtain ⟨hx, hb, hml, hown, hts, hr, hlk, hnm⟩ := hC
  unfold gw_X4_top at hw
  obtain ⟨H, eH⟩ : ∃ z, z = s.heap := ⟨_, rfl⟩
  obtain ⟨locs, elo⟩ : ∃ z : List Loc, z = [] := ⟨_, rfl⟩
  rw [← eH, ← elo] at hI ⊢
  obtain ⟨cells, slots, hbc, hbs, e0, e1⟩ : ∃ a b : Nat, a ≤ 0 ∧ b ≤ 0 ∧ a = 0 ∧ b = 0 := ⟨0, 0, by omega, by omega, rfl, rfl⟩
  show W p l e ({ frames := 11, cells := 0, slots := 0, locals := 204 } : Room) s m args below meth c H locs 0 0 (MQ below (va_Qq post (ga_E g) (ga_A g)) args s 0 0 (ga_A g)) (F0 m 0 ls [])
  suffices hgoal : W p l e ({ frames := 11, cells := 0, slots := 0, locals := 204 } : Room) s m args below meth c H locs cells slots (MQ below (va_Qq post (ga_E g) (ga_A g)) args s 0 0 (ga_A g)) (F0 m 0 ls []) by rw [e0, e1] at hgoal; exact hgoal
  refine lv_aload_n hx hb dX4_top_0 rfl (lv_at hl 0 rfl) ?_
  obtain ⟨fs_1, v_2, hq, hv, hw⟩ := hw
  refine ga_get (ci := 3) (T := TX4) (v := va_rf v_2) hx hb hts hown hI in_X4 rfl 0 (by decide) q272 (fun _ z => z) (ga_at.h hq) hv dX4_top_1 ?_
  obtain ⟨a_3, ea_3, hw⟩ := hw
  rewrite [ea_3]
  obtain ⟨fs_4, hq, hw⟩ := hw
  refine ga_calli (va_runV (As := []) (rest := []) ⟨hx, hb, hml, hown, hts⟩ (gm_J2_isEmpty l g a_3 h _ hw) (cwV 0 hts (lw_V q2265 q2266 q2267 q104 q2268) rfl rfl rfl ⟨rfl, hdG_J2_isEmpty⟩ ⟨Nat.le_of_ble_eq_true rfl, Nat.le_of_ble_eq_true rfl⟩) (ga_preV hI hq rfl rfl) rfl rfl hl.1 rfl (ga_room (Nat.le_of_ble_eq_true rfl)) dX4_top_4 ⟨hbc, hbs⟩) hI (bc := 0) (bs := 0) hbc hbs (Nat.zero_le _) (Nat.zero_le _) (fun r_6 h_5 H locs cells slots hw hI hbc hbs => ?_)
  refine lv_if_eq (tgt := 14) hx hb dX4_top_7 (by decide) (fun hc_7 => ?_) (fun hc_7 => ?_)
  · have hw := hw.1 hc_7
    refine lv_aload_n hx hb dX4_top_14 rfl (lv_at hl 0 rfl) ?_
    obtain ⟨fs_8, v_9, hq, hv, hw⟩ := hw
    refine ga_get (ci := 3) (T := TX4) (v := va_rf v_9) hx hb hts hown hI in_X4 rfl 0 (by decide) q272 (fun _ z => z) (ga_at.h hq) hv dX4_top_15 ?_
    refine lv_aload_n hx hb dX4_top_18 rfl (lv_at hl 0 rfl) ?_
    obtain ⟨fs_10, v_11, hq, hv, hw⟩ := hw
    refine ga_get (ci := 3) (T := TX4) (v := va_rf v_11) hx hb hts hown hI in_X4 rfl 0 (by decide) q272 (fun _ z => z) (ga_at.h hq) hv dX4_top_19 ?_
    obtain ⟨a_12, ea_12, hw⟩ := hw
    rewrite [ea_12]
    obtain ⟨fs_13, hq, hw⟩ := hw
    refine ga_calli (va_runV (As := []) (rest := [va_rf v_9]) ⟨hx, hb, hml, hown, hts⟩ (gm_J2_size l g a_12 h_5 _ hw) (cwV 0 hts (lw_V q2269 q536 q4117 q104 q537) rfl rfl rfl ⟨rfl, hdG_J2_size⟩ ⟨Nat.le_of_ble_eq_true rfl, Nat.le_of_ble_eq_true rfl⟩) (ga_preV hI hq rfl rfl) rfl rfl hl.1 rfl (ga_room (Nat.le_of_ble_eq_true rfl)) dX4_top_22 ⟨hbc, hbs⟩) hI (bc := 0) (bs := 0) hbc hbs (Nat.zero_le _) (Nat.zero_le _) (fun r_15 h_14 H locs cells slots hw hI hbc hbs => ?_)
    refine lv_iconst (v := 1) hx hb dX4_top_25 (by decide) ?_
    refine lv_isub hx hb dX4_top_26 ?_
    obtain ⟨a_16, ea_16, hw⟩ := hw
    rewrite [ea_16]
    obtain ⟨fs_17, hq, hw⟩ := hw
    refine ga_callq (va_runV (As := [.int (r_15 - (1 : Int32))]) (rest := []) ⟨hx, hb, hml, hown, hts⟩ (gm_J2_get l g a_16 (r_15 - (1 : Int32)) h_14 _ hw) (cwV 1 hts (lw_V q2270 q839 q4120 q104 q841) rfl rfl rfl ⟨rfl, hdG_J2_get⟩ ⟨Nat.le_of_ble_eq_true rfl, Nat.le_of_ble_eq_true rfl⟩) (ga_preV hI hq rfl rfl) rfl rfl hl.1 rfl (ga_room (Nat.le_of_ble_eq_true rfl)) dX4_top_27 ⟨hbc, hbs⟩) hI (bc := 0) (bs := 0) hbc hbs (Nat.zero_le _) (Nat.zero_le _) (fun r_19 h_18 H locs cells slots hw hI hbc hbs => ?_)
    refine ga_cast (x := r_19) hx hb hts hown hI q1282 hw.1 dX4_top_30 ?_
    have hw := hw.2
    exact ga_qret (v := r_19) hx hb hr (Or.inl ⟨_, rfl⟩) hlk hI hw hbc hbs dX4_top_33
  · have hw := hw.2 hc_7
    refine lv_null hx hb dX4_top_10 ?_
    refine lv_goto (tgt := 33) hx hb dX4_top_11 (by decide) ?_
    exact ga_qret (v := none) hx hb hr (Or.inl ⟨_, rfl⟩) hlk hI hw hbc hbs dX4_top_33
theorem hdG_X4_top : yX4_top.cls ≠ "java/lang/invoke/MethodHandle" ∧ yX4_top.cls ≠ "java/lang/invoke/VarHandle" ∧ (parseMethodDescriptor yX4_top.desc).map (fun d => d.parameters.length) = some 0 := by decide +kernel
def gw_X1_checkElement (K : ga_K) (p0 : Int32) (h : ga_H) (mc ms : Nat) (post : ga_H → Prop) (xp : String → Nat → ga_H → Prop) : Prop :=
  (¬ p0 = (0 : Int32) → (post h)) ∧ (p0 = (0 : Int32) → (1 ≤ mc ∧ 6 ≤ ms ∧ ∀ q_2 : Nat, xp "java/util/NoSuchElementException" q_2 h))
set_option maxHeartbeats 4000000 in
theorem gm_X1_checkElement (l : Launch) (hst : l.stackTraces = false) (g : ga_G) (p0 : Int32) (h : ga_H) (mc ms : Nat) (post : ga_H → Prop) (xp : String → Nat → ga_H → Prop) (hw : gw_X1_checkElement g.2.2 p0 h mc ms post xp) : vx_Met l yX1_checkElement (ws_ yX1_checkElement cX1_checkElement 1 none) ({ frames := 8, cells := mc, slots := ms, locals := 140 } : Room) (va_Pc [.int p0] (ga_B g h)) (va_Qv post (ga_E g) (ga_A g)) (ga_X g xp) mc ms (ga_A g) := by
  refine ga_metx (own := "PaperStore") (nm := "checkElement") (by decide) rfl rfl (by exact Nat.le_of_ble_eq_true rfl) (fun p e s m below meth c ls hC htab hI hl => ?_)
  have hl : lv_has ls 1 [(0, .int p0)] := hl
  generalize ([.int p0] : List Value).toArray = args at hC ⊢
  obtain ⟨hx, hb, hml, hown, hts, hr, hlk, hnm⟩ := hC
  unfold gw_X1_checkElement at hw
  obtain ⟨H, eH⟩ : ∃ z, z = s.heap := ⟨_, rfl⟩
  obtain ⟨locs, elo⟩ : ∃ z : List Loc, z = [] := ⟨_, rfl⟩
  rw [← eH, ← elo] at hI ⊢
  obtain ⟨cells, slots, hbc, hbs, e0, e1⟩ : ∃ a b : Nat, a + mc ≤ mc ∧ b + ms ≤ ms ∧ a = 0 ∧ b = 0 := ⟨0, 0, by omega, by omega, rfl, rfl⟩
  show W p l e ({ frames := 8, cells := mc, slots := ms, locals := 140 } : Room) s m args below meth c H locs 0 0 (vx_MQ below (va_Qv post (ga_E g) (ga_A g)) (ga_X g xp) args s mc ms (ga_A g)) (F0 m 0 ls [])
  suffices hgoal : W p l e ({ frames := 8, cells := mc, slots := ms, locals := 140 } : Room) s m args below meth c H locs cells slots (vx_MQ below (va_Qv post (ga_E g) (ga_A g)) (ga_X g xp) args s mc ms (ga_A g)) (F0 m 0 ls []) by rw [e0, e1] at hgoal; exact hgoal
  refine lv_iload_n hx hb dX1_checkElement_0 rfl (lv_at hl 0 rfl) ?_
  refine lv_if_ne (tgt := 12) hx hb dX1_checkElement_1 (by decide) (fun hc_1 => ?_) (fun hc_1 => ?_)
  · have hw := hw.1 hc_1
    exact ga_vretx hx hb hr hlk hI hw (Nat.le_trans (Nat.le_add_right _ _) hbc) (Nat.le_trans (Nat.le_add_right _ _) hbs) dX1_checkElement_12
  · have hw := hw.2 hc_1
    exact ga_thr_nsee (ik := 19) (ic := 21) hx hb hst hts hown q2274 q2275 hI (hl.1.trans hml.symm) dX1_checkElement_4 dX1_checkElement_7 dX1_checkElement_8 dX1_checkElement_11 (by rw [htab]; intro z hz; cases hz) (Nat.le_of_ble_eq_true rfl) (Nat.le_trans (Nat.add_le_add_right (ga_sum [] (Nat.le_of_ble_eq_true rfl)) 81) (Nat.le_of_ble_eq_true rfl)) hlk hbc hbs hw.1 hw.2.1 hw.2.2
theorem hdG_X1_checkElement : yX1_checkElement.cls ≠ "java/lang/invoke/MethodHandle" ∧ yX1_checkElement.cls ≠ "java/lang/invoke/VarHandle" ∧ (parseMethodDescriptor yX1_checkElement.desc).map (fun d => d.parameters.length) = some 1 := by decide +kernel
def gw_X1_top_49 (K : ga_K) (post : Int32 → ga_H → Prop) (xp : String → Nat → ga_H → Prop) (p0 : Nat) (t0 : Int32) (v3 : Option Nat) (h : ga_H) (bc bs : Nat) : Prop :=
  ∃ kc_30 ks_31 : Nat, kc_30 ≤ bc ∧ ks_31 ≤ bs ∧ gw_X1_checkElement K t0 h kc_30 ks_31 (fun (h_32 : ga_H) => ∃ a_36 : Nat, v3 = some a_36 ∧ ∃ (fs_37 : List Value) (v_38 : Int32), h_32 a_36 = some (ga_O 4 fs_37) ∧ fs_37[0]? = some (.int v_38) ∧ (post v_38 h_32)) (fun (E_33 : String) (q_34 : Nat) (h_35 : ga_H) => xp E_33 q_34 h_35)
set_option maxHeartbeats 4000000 in
theorem gj_X1_top_49 {p : Program} {l : Launch} {e : Env} {s : State} {m : MethodId} {args : Array Value} {below : List Frame} {meth : Method} {c : Code} {mc ms : Nat} {H : Heap} {locs : List Loc} {cells slots : Nat} {ls : Array Slot} (hst : l.stackTraces = false) (htab : c.exceptionTable.toList = []) (g : ga_G) (post : Int32 → ga_H → Prop) (xp : String → Nat → ga_H → Prop) (p0 : Nat) (t0 : Int32) (v3 : Option Nat) (h : ga_H) (bc bs : Nat) (hC : ga_Cx p s m args meth c cX1_top 4 (some .int) "PaperStore" "top") (hw : gw_X1_top_49 g.2.2 post xp p0 t0 v3 h bc bs) (hI : ga_I g h s H locs) (hbc : cells + bc ≤ mc) (hbs : slots + bs ≤ ms) (hl : lv_has ls 4 [(3, va_rf v3)]) : W p l e ({ frames := 12, cells := mc, slots := ms, locals := 224 } : Room) s m args below meth c H locs cells slots (vx_MQ below (va_Qi post (ga_E g) (ga_A g)) (ga_X g xp) args s mc ms (ga_A g)) (F0 m 49 ls [.int t0]) := by
  obtain ⟨hx, hb, hml, hown, hts, hr, hlk, hnm⟩ := hC
  unfold gw_X1_top_49 at hw
  obtain ⟨kc_30, ks_31, hk1, hk2, hw⟩ := hw
  refine ga_xcallv (vx_runS (As := [.int t0]) (rest := []) ⟨hx, hb, hml, hown, hts⟩ (gm_X1_checkElement l hst g t0 h kc_30 ks_31 _ _ hw) (va_cwS 1 hts (lw_S q2271 q2272 q100 q2273) rfl rfl rfl hdG_X1_checkElement ⟨Nat.le_of_ble_eq_true rfl, Nat.le_of_ble_eq_true rfl⟩) (ga_preS hI rfl) rfl rfl hl.1 rfl (ga_room (Nat.le_of_ble_eq_true rfl)) dX1_top_49 ⟨Nat.le_trans (Nat.add_le_add_left hk1 _) hbc, Nat.le_trans (Nat.add_le_add_left hk2 _) hbs⟩) hI hbc hbs hk1 hk2 (fun E_33 q_34 h_35 ce H locs cells slots hw hI hce hbc hbs => ?_) (fun h_32 H locs cells slots hw hI hbc hbs => ?_)
  · exact ga_out hown hlk hI hw (by rw [htab]; intro z hz; cases hz) hce (Nat.le_trans (Nat.le_add_right _ _) hbc) (Nat.le_trans (Nat.le_add_right _ _) hbs)
  · skip
    refine ga_aload_n hx hb dX1_top_52 rfl (lv_at hl 0 rfl) ?_
    obtain ⟨a_36, ea_36, hw⟩ := hw
    rewrite [ea_36]
    obtain ⟨fs_37, v_38, hq, hv, hw⟩ := hw
    refine ga_getN (ci := 4) (T := TX6) (v := .int v_38) hx hb hts hown hI in_X6 rfl 0 (by decide) q1295 (fun _ z => z) (ga_at.h hq) hv dX1_top_53 ?_
    exact ga_iretx hx hb hr rfl hlk hI hw (Nat.le_trans (Nat.le_add_right _ _) hbc) (Nat.le_trans (Nat.le_add_right _ _) hbs) dX1_top_56
def gw_X1_top_19 (K : ga_K) (post : Int32 → ga_H → Prop) (xp : String → Nat → ga_H → Prop) (p0 : Nat) (t0 : Int32) (v1 : Int32) (v2 : Int32) (h : ga_H) (bc bs : Nat) : Prop :=
  ∃ kc_3 ks_4 : Nat, kc_3 ≤ bc ∧ ks_4 ≤ bs ∧ gw_X1_checkArgument K t0 h kc_3 ks_4 (fun (h_5 : ga_H) => ∃ (fs_9 : List Value) (v_10 : Option Nat), h_5 p0 = some (ga_O 0 fs_9) ∧ fs_9[0]? = some (va_rf v_10) ∧ (∃ a_11 : Nat, v_10 = some a_11 ∧ ∃ (fs_12 : List Value) (v_13 : Option Nat), h_5 a_11 = some (ga_O 1 fs_12) ∧ fs_12[0]? = some (va_rf v_13) ∧ (∃ a_14 : Nat, v_13 = some a_14 ∧ ∃ (n_15 : Nat) (f_16 : Nat → Option Nat), h_5 a_14 = some (ga_Aq 6 n_15 f_16) ∧ vp_in v1 n_15 ∧ ∀ v_17 : Option Nat, v_17 = f_16 v1.toNatClampNeg → (∃ a_18 : Nat, v_17 = some a_18 ∧ ∃ (fs_19 : List Value) (v_20 : Option Nat), h_5 a_18 = some (ga_O 2 fs_19) ∧ fs_19[0]? = some (va_rf v_20) ∧ (∃ a_21 : Nat, v_20 = some a_21 ∧ ∃ (n_22 : Nat) (f_23 : Nat → Option Nat), h_5 a_21 = some (ga_Aq 7 n_22 f_23) ∧ vp_in v2 n_22 ∧ ∀ v_24 : Option Nat, v_24 = f_23 v2.toNatClampNeg → (∃ a_25 : Nat, v_24 = some a_25 ∧ ∃ fs_26 : List Value, ga_at K h_5 a_25 (ga_O 3 fs_26) ∧ gw_X4_top K a_25 h_5 (fun (r_28 : Option Nat) (h_27 : ga_H) => (r_28 = none → (gw_X1_top_49 K post xp p0 (0 : Int32) r_28 h_27 (bc - kc_3) (bs - ks_4))) ∧ (∀ a_29 : Nat, r_28 = some a_29 → (gw_X1_top_49 K post xp p0 (1 : Int32) r_28 h_27 (bc - kc_3) (bs - ks_4)))))))))) (fun (E_6 : String) (q_7 : Nat) (h_8 : ga_H) => xp E_6 q_7 h_8)
set_option maxHeartbeats 4000000 in
theorem gj_X1_top_19 {p : Program} {l : Launch} {e : Env} {s : State} {m : MethodId} {args : Array Value} {below : List Frame} {meth : Method} {c : Code} {mc ms : Nat} {H : Heap} {locs : List Loc} {cells slots : Nat} {ls : Array Slot} (hst : l.stackTraces = false) (htab : c.exceptionTable.toList = []) (g : ga_G) (post : Int32 → ga_H → Prop) (xp : String → Nat → ga_H → Prop) (p0 : Nat) (t0 : Int32) (v1 : Int32) (v2 : Int32) (h : ga_H) (bc bs : Nat) (hC : ga_Cx p s m args meth c cX1_top 4 (some .int) "PaperStore" "top") (hw : gw_X1_top_19 g.2.2 post xp p0 t0 v1 v2 h bc bs) (hI : ga_I g h s H locs) (hbc : cells + bc ≤ mc) (hbs : slots + bs ≤ ms) (hl : lv_has ls 4 [(0, .ref p0), (1, .int v1), (2, .int v2)]) : W p l e ({ frames := 12, cells := mc, slots := ms, locals := 224 } : Room) s m args below meth c H locs cells slots (vx_MQ below (va_Qi post (ga_E g) (ga_A g)) (ga_X g xp) args s mc ms (ga_A g)) (F0 m 19 ls [.int t0]) := by
  obtain ⟨hx, hb, hml, hown, hts, hr, hlk, hnm⟩ := hC
  unfold gw_X1_top_19 at hw
  obtain ⟨kc_3, ks_4, hk1, hk2, hw⟩ := hw
  refine ga_xcallv (vx_runS (As := [.int t0]) (rest := []) ⟨hx, hb, hml, hown, hts⟩ (gm_X1_checkArgument l hst g t0 h kc_3 ks_4 _ _ hw) (va_cwS 1 hts (lw_S q2027 q2028 q100 q2029) rfl rfl rfl hdG_X1_checkArgument ⟨Nat.le_of_ble_eq_true rfl, Nat.le_of_ble_eq_true rfl⟩) (ga_preS hI rfl) rfl rfl hl.1 rfl (ga_room (Nat.le_of_ble_eq_true rfl)) dX1_top_19 ⟨Nat.le_trans (Nat.add_le_add_left hk1 _) hbc, Nat.le_trans (Nat.add_le_add_left hk2 _) hbs⟩) hI hbc hbs hk1 hk2 (fun E_6 q_7 h_8 ce H locs cells slots hw hI hce hbc hbs => ?_) (fun h_5 H locs cells slots hw hI hbc hbs => ?_)
  · exact ga_out hown hlk hI hw (by rw [htab]; intro z hz; cases hz) hce (Nat.le_trans (Nat.le_add_right _ _) hbc) (Nat.le_trans (Nat.le_add_right _ _) hbs)
  · skip
    refine lv_aload_n hx hb dX1_top_22 rfl (lv_at hl 0 rfl) ?_
    obtain ⟨fs_9, v_10, hq, hv, hw⟩ := hw
    refine ga_get (ci := 0) (T := TX1) (v := va_rf v_10) hx hb hts hown hI in_X1 rfl 0 (by decide) q387 (fun _ z => z) (ga_at.h hq) hv dX1_top_23 ?_
    obtain ⟨a_11, ea_11, hw⟩ := hw
    rewrite [ea_11]
    obtain ⟨fs_12, v_13, hq, hv, hw⟩ := hw
    refine ga_getN (ci := 1) (T := TX2) (v := va_rf v_13) hx hb hts hown hI in_X2 rfl 0 (by decide) q311 (fun _ z => z) (ga_at.h hq) hv dX1_top_26 ?_
    refine lv_iload_n hx hb dX1_top_29 rfl (lv_at hl 1 rfl) ?_
    obtain ⟨a_14, ea_14, hw⟩ := hw
    rewrite [ea_14]
    obtain ⟨n_15, f_16, hq, hi, hw⟩ := hw
    refine ga_ldq hx hb hI (ga_at.h hq) rfl hi dX1_top_30 ?_
    obtain ⟨v_17, ev_17⟩ : ∃ z, z = f_16 v1.toNatClampNeg := ⟨_, rfl⟩
    rw [← ev_17]
    have hw := hw v_17 ev_17
    obtain ⟨a_18, ea_18, hw⟩ := hw
    rewrite [ea_18]
    obtain ⟨fs_19, v_20, hq, hv, hw⟩ := hw
    refine ga_getN (ci := 2) (T := TX3) (v := va_rf v_20) hx hb hts hown hI in_X3 rfl 0 (by decide) q281 (fun _ z => z) (ga_at.h hq) hv dX1_top_31 ?_
    refine lv_iload_n hx hb dX1_top_34 rfl (lv_at hl 2 rfl) ?_
    obtain ⟨a_21, ea_21, hw⟩ := hw
    rewrite [ea_21]
    obtain ⟨n_22, f_23, hq, hi, hw⟩ := hw
    refine ga_ldq hx hb hI (ga_at.h hq) rfl hi dX1_top_35 ?_
    obtain ⟨v_24, ev_24⟩ : ∃ z, z = f_23 v2.toNatClampNeg := ⟨_, rfl⟩
    rw [← ev_24]
    have hw := hw v_24 ev_24
    obtain ⟨a_25, ea_25, hw⟩ := hw
    rewrite [ea_25]
    obtain ⟨fs_26, hq, hw⟩ := hw
    refine ga_callq (va_runV (As := []) (rest := []) ⟨hx, hb, hml, hown, hts⟩ (gm_X4_top l g a_25 h_5 _ hw) (cwV 0 hts (lw_V q2261 q2262 q2263 q108 q2264) rfl rfl rfl ⟨rfl, hdG_X4_top⟩ ⟨Nat.le_of_ble_eq_true rfl, Nat.le_of_ble_eq_true rfl⟩) (ga_preV hI hq rfl rfl) rfl rfl hl.1 rfl (ga_room (Nat.le_of_ble_eq_true rfl)) dX1_top_36 ⟨Nat.le_trans (Nat.add_le_add_left (Nat.zero_le _) _) hbc, Nat.le_trans (Nat.add_le_add_left (Nat.zero_le _) _) hbs⟩) hI hbc hbs (Nat.zero_le _) (Nat.zero_le _) (fun r_28 h_27 H locs cells slots hw hI hbc hbs => ?_)
    refine ga_astore_n (i := 3) (x := r_28) (lv' := [(3, va_rf r_28), (0, .ref p0), (1, .int v1), (2, .int v2)]) hx hb dX1_top_39 rfl hl (by decide) rfl (fun ls hl => ?_)
    refine ga_aload_n hx hb dX1_top_40 rfl (lv_at hl 0 rfl) ?_
    refine ga_ifnull (tgt := 48) hx hb dX1_top_41 (by decide) (fun hc_a_29 => ?_) (fun a_29 hc_a_29 => ?_)
    · have hw := hw.1 hc_a_29
      refine lv_iconst (v := 0) hx hb dX1_top_48 (by decide) ?_
      exact gj_X1_top_49 hst htab g post xp p0 (0 : Int32) r_28 h_27 (bc - kc_3) (bs - ks_4) ⟨hx, hb, hml, hown, hts, hr, hlk, hnm⟩ hw hI hbc hbs (lv_sub hl [0] rfl)
    · have hw := hw.2 a_29 hc_a_29
      skip
      refine lv_iconst (v := 1) hx hb dX1_top_44 (by decide) ?_
      refine lv_goto (tgt := 49) hx hb dX1_top_45 (by decide) ?_
      exact gj_X1_top_49 hst htab g post xp p0 (1 : Int32) r_28 h_27 (bc - kc_3) (bs - ks_4) ⟨hx, hb, hml, hown, hts, hr, hlk, hnm⟩ hw hI hbc hbs (lv_sub hl [0] rfl)
def gw_X1_top_18 (K : ga_K) (post : Int32 → ga_H → Prop) (xp : String → Nat → ga_H → Prop) (p0 : Nat) (v1 : Int32) (v2 : Int32) (h : ga_H) (bc bs : Nat) : Prop :=
  gw_X1_top_19 K post xp p0 (0 : Int32) v1 v2 h bc bs
set_option maxHeartbeats 4000000 in
theorem gj_X1_top_18 {p : Program} {l : Launch} {e : Env} {s : State} {m : MethodId} {args : Array Value} {below : List Frame} {meth : Method} {c : Code} {mc ms : Nat} {H : Heap} {locs : List Loc} {cells slots : Nat} {ls : Array Slot} (hst : l.stackTraces = false) (htab : c.exceptionTable.toList = []) (g : ga_G) (post : Int32 → ga_H → Prop) (xp : String → Nat → ga_H → Prop) (p0 : Nat) (v1 : Int32) (v2 : Int32) (h : ga_H) (bc bs : Nat) (hC : ga_Cx p s m args meth c cX1_top 4 (some .int) "PaperStore" "top") (hw : gw_X1_top_18 g.2.2 post xp p0 v1 v2 h bc bs) (hI : ga_I g h s H locs) (hbc : cells + bc ≤ mc) (hbs : slots + bs ≤ ms) (hl : lv_has ls 4 [(0, .ref p0), (1, .int v1), (2, .int v2)]) : W p l e ({ frames := 12, cells := mc, slots := ms, locals := 224 } : Room) s m args below meth c H locs cells slots (vx_MQ below (va_Qi post (ga_E g) (ga_A g)) (ga_X g xp) args s mc ms (ga_A g)) (F0 m 18 ls []) := by
  obtain ⟨hx, hb, hml, hown, hts, hr, hlk, hnm⟩ := hC
  unfold gw_X1_top_18 at hw
  refine lv_iconst (v := 0) hx hb dX1_top_18 (by decide) ?_
  exact gj_X1_top_19 hst htab g post xp p0 (0 : Int32) v1 v2 h bc bs ⟨hx, hb, hml, hown, hts, hr, hlk, hnm⟩ hw hI hbc hbs (lv_sub hl [0, 1, 2] rfl)
def gw_X1_top (K : ga_K) (p0 : Nat) (p1 : Int32) (p2 : Int32) (h : ga_H) (mc ms : Nat) (post : Int32 → ga_H → Prop) (xp : String → Nat → ga_H → Prop) : Prop :=
  gw_X1_isAisle p1 (fun (r_1 : Int32) => (r_1 = (0 : Int32) → (gw_X1_top_18 K post xp p0 p1 p2 h mc ms)) ∧ (¬ r_1 = (0 : Int32) → (gw_X1_isShelf p2 (fun (r_39 : Int32) => (r_39 = (0 : Int32) → (gw_X1_top_18 K post xp p0 p1 p2 h mc ms)) ∧ (¬ r_39 = (0 : Int32) → (gw_X1_top_19 K post xp p0 (1 : Int32) p1 p2 h mc ms))))))
set_option maxHeartbeats 4000000 in
theorem gm_X1_top (l : Launch) (hst : l.stackTraces = false) (g : ga_G) (p0 : Nat) (p1 : Int32) (p2 : Int32) (h : ga_H) (mc ms : Nat) (post : Int32 → ga_H → Prop) (xp : String → Nat → ga_H → Prop) (hw : gw_X1_top g.2.2 p0 p1 p2 h mc ms post xp) : vx_Met l yX1_top (ws_ yX1_top cX1_top 4 (some .int)) ({ frames := 12, cells := mc, slots := ms, locals := 224 } : Room) (va_Pc [.ref p0, .int p1, .int p2] (ga_B g h)) (va_Qi post (ga_E g) (ga_A g)) (ga_X g xp) mc ms (ga_A g) := by
  refine ga_metx (own := "PaperStore") (nm := "top") (by decide) rfl rfl (by exact Nat.le_of_ble_eq_true rfl) (fun p e s m below meth c ls hC htab hI hl => ?_)
  have hl : lv_has ls 4 [(0, .ref p0), (1, .int p1), (2, .int p2)] := hl
  generalize ([.ref p0, .int p1, .int p2] : List Value).toArray = args at hC ⊢
  obtain ⟨hx, hb, hml, hown, hts, hr, hlk, hnm⟩ := hC
  unfold gw_X1_top at hw
  obtain ⟨H, eH⟩ : ∃ z, z = s.heap := ⟨_, rfl⟩
  obtain ⟨locs, elo⟩ : ∃ z : List Loc, z = [] := ⟨_, rfl⟩
  rw [← eH, ← elo] at hI ⊢
  obtain ⟨cells, slots, hbc, hbs, e0, e1⟩ : ∃ a b : Nat, a + mc ≤ mc ∧ b + ms ≤ ms ∧ a = 0 ∧ b = 0 := ⟨0, 0, by omega, by omega, rfl, rfl⟩
  show W p l e ({ frames := 12, cells := mc, slots := ms, locals := 224 } : Room) s m args below meth c H locs 0 0 (vx_MQ below (va_Qi post (ga_E g) (ga_A g)) (ga_X g xp) args s mc ms (ga_A g)) (F0 m 0 ls [])
  suffices hgoal : W p l e ({ frames := 12, cells := mc, slots := ms, locals := 224 } : Room) s m args below meth c H locs cells slots (vx_MQ below (va_Qi post (ga_E g) (ga_A g)) (ga_X g xp) args s mc ms (ga_A g)) (F0 m 0 ls []) by rw [e0, e1] at hgoal; exact hgoal
  refine lv_iload_n hx hb dX1_top_0 rfl (lv_at hl 1 rfl) ?_
  refine ga_callS (As := [.int p1]) (rest := []) ⟨hx, hb, hml, hown, hts⟩ (gm_X1_isAisle l p1 _ hw) (va_cwS 1 hts (lw_S q2144 q2145 q100 q2146) rfl rfl rfl hdG_X1_isAisle ⟨Nat.le_of_ble_eq_true rfl, Nat.le_of_ble_eq_true rfl⟩) rfl hl.1 rfl (ga_room (Nat.le_of_ble_eq_true rfl)) dX1_top_1 hbc hbs (fun r_1 hw => ?_)
  refine lv_if_eq (tgt := 18) hx hb dX1_top_4 (by decide) (fun hc_2 => ?_) (fun hc_2 => ?_)
  · have hw := hw.1 hc_2
    exact gj_X1_top_18 hst htab g post xp p0 p1 p2 h mc ms ⟨hx, hb, hml, hown, hts, hr, hlk, hnm⟩ hw hI hbc hbs (lv_sub hl [0, 1, 2] rfl)
  · have hw := hw.2 hc_2
    refine lv_iload_n hx hb dX1_top_7 rfl (lv_at hl 2 rfl) ?_
    refine ga_callS (As := [.int p2]) (rest := []) ⟨hx, hb, hml, hown, hts⟩ (gm_X1_isShelf l p2 _ hw) (va_cwS 1 hts (lw_S q2158 q2159 q100 q2160) rfl rfl rfl hdG_X1_isShelf ⟨Nat.le_of_ble_eq_true rfl, Nat.le_of_ble_eq_true rfl⟩) rfl hl.1 rfl (ga_room (Nat.le_of_ble_eq_true rfl)) dX1_top_8 hbc hbs (fun r_39 hw => ?_)
    refine lv_if_eq (tgt := 18) hx hb dX1_top_11 (by decide) (fun hc_40 => ?_) (fun hc_40 => ?_)
    · have hw := hw.1 hc_40
      exact gj_X1_top_18 hst htab g post xp p0 p1 p2 h mc ms ⟨hx, hb, hml, hown, hts, hr, hlk, hnm⟩ hw hI hbc hbs (lv_sub hl [0, 1, 2] rfl)
    · have hw := hw.2 hc_40
      refine lv_iconst (v := 1) hx hb dX1_top_14 (by decide) ?_
      refine lv_goto (tgt := 19) hx hb dX1_top_15 (by decide) ?_
      exact gj_X1_top_19 hst htab g post xp p0 (1 : Int32) p1 p2 h mc ms ⟨hx, hb, hml, hown, hts, hr, hlk, hnm⟩ hw hI hbc hbs (lv_sub hl [0, 1, 2] rfl)
theorem hdG_X1_top : yX1_top.cls ≠ "java/lang/invoke/MethodHandle" ∧ yX1_top.cls ≠ "java/lang/invoke/VarHandle" ∧ (parseMethodDescriptor yX1_top.desc).map (fun d => d.parameters.length) = some 2 := by decide +kernel
def gw_X0_top (K : ga_K) (p0 : Option Nat) (p1 : Int32) (p2 : Int32) (p3 : Option Nat) (h : ga_H) (mc ms : Nat) (post : Int32 → ga_H → Prop) (xp : String → Nat → ga_H → Prop) : Prop :=
  ∃ a_1 : Nat, p0 = some a_1 ∧ ∃ kc_2 ks_3 : Nat, kc_2 ≤ mc ∧ ks_3 ≤ ms ∧ ∃ fs_4 : List Value, ga_at K h a_1 (ga_O 0 fs_4) ∧ gw_X1_top K a_1 p1 p2 h kc_2 ks_3 (fun (r_6 : Int32) (h_5 : ga_H) => ∃ a_10 : Nat, p3 = some a_10 ∧ ∃ (n_11 : Nat) (f_12 : Nat → Int64), h_5 a_10 = some (ga_Al n_11 f_12) ∧ vp_in (0 : Int32) n_11 ∧ ∀ h_13 : ga_H, h_13 = ga_set h_5 a_10 (ga_Al n_11 (vp_updL f_12 (0 : Int32).toNatClampNeg r_6.toInt64)) → (post (0 : Int32) h_13)) (fun (E_7 : String) (q_8 : Nat) (h_9 : ga_H) => (E_7 = "java/lang/IllegalArgumentException" ∧ (post (1 : Int32) h_9)) ∨ (E_7 = "java/util/NoSuchElementException" ∧ (post (2 : Int32) h_9)))
set_option maxHeartbeats 4000000 in
theorem gm_X0_top (l : Launch) (hst : l.stackTraces = false) (g : ga_G) (p0 : Option Nat) (p1 : Int32) (p2 : Int32) (p3 : Option Nat) (h : ga_H) (mc ms : Nat) (post : Int32 → ga_H → Prop) (xp : String → Nat → ga_H → Prop) (hw : gw_X0_top g.2.2 p0 p1 p2 p3 h mc ms post xp) : vx_Met l yX0_top (wsW_ yX0_top cX0_top 5 (some .int) [(0, 10, 13, 13), (0, 10, 17, 37)]) ({ frames := 13, cells := mc, slots := ms, locals := 247 } : Room) (va_Pc [va_rf p0, .int p1, .int p2, va_rf p3] (ga_B g h)) (va_Qi post (ga_E g) (ga_A g)) (ga_X g xp) mc ms (ga_A g) := by
  refine ga_metxW (own := "PaperStoreLaw") (nm := "top") (by decide) rfl rfl (by cases p0 <;> cases p3 <;> exact Nat.le_of_ble_eq_true rfl) (fun p e s m below meth c ls hC htab hI hl => ?_)
  have hl : lv_has ls 5 [(0, va_rf p0), (1, .int p1), (2, .int p2), (3, va_rf p3)] := (by cases p0 <;> cases p3 <;> exact hl)
  generalize ([va_rf p0, .int p1, .int p2, va_rf p3] : List Value).toArray = args at hC ⊢
  obtain ⟨hx, hb, hml, hown, hts, hr, hlk, hnm⟩ := hC
  unfold gw_X0_top at hw
  obtain ⟨H, eH⟩ : ∃ z, z = s.heap := ⟨_, rfl⟩
  obtain ⟨locs, elo⟩ : ∃ z : List Loc, z = [] := ⟨_, rfl⟩
  rw [← eH, ← elo] at hI ⊢
  obtain ⟨cells, slots, hbc, hbs, e0, e1⟩ : ∃ a b : Nat, a + mc ≤ mc ∧ b + ms ≤ ms ∧ a = 0 ∧ b = 0 := ⟨0, 0, by omega, by omega, rfl, rfl⟩
  show W p l e ({ frames := 13, cells := mc, slots := ms, locals := 247 } : Room) s m args below meth c H locs 0 0 (vx_MQ below (va_Qi post (ga_E g) (ga_A g)) (ga_X g xp) args s mc ms (ga_A g)) (F0 m 0 ls [])
  suffices hgoal : W p l e ({ frames := 13, cells := mc, slots := ms, locals := 247 } : Room) s m args below meth c H locs cells slots (vx_MQ below (va_Qi post (ga_E g) (ga_A g)) (ga_X g xp) args s mc ms (ga_A g)) (F0 m 0 ls []) by rw [e0, e1] at hgoal; exact hgoal
  refine ga_aload_n hx hb dX0_top_0 rfl (lv_at hl 3 rfl) ?_
  refine lv_iconst (v := 0) hx hb dX0_top_1 (by decide) ?_
  refine ga_aload_n hx hb dX0_top_2 rfl (lv_at hl 0 rfl) ?_
  refine lv_iload_n hx hb dX0_top_3 rfl (lv_at hl 1 rfl) ?_
  refine lv_iload_n hx hb dX0_top_4 rfl (lv_at hl 2 rfl) ?_
  obtain ⟨a_1, ea_1, hw⟩ := hw
  rewrite [ea_1]
  obtain ⟨kc_2, ks_3, hk1, hk2, hw⟩ := hw
  obtain ⟨fs_4, hq, hw⟩ := hw
  refine ga_xcalli (vx_runV (As := [.int p1, .int p2]) (rest := [.int (0 : Int32), va_rf p3]) ⟨hx, hb, hml, hown, hts⟩ (gm_X1_top l hst g a_1 p1 p2 h kc_2 ks_3 _ _ hw) (cwV 2 hts (lw_V q2257 q2258 q2259 q100 q2260) rfl rfl rfl ⟨rfl, hdG_X1_top⟩ ⟨Nat.le_of_ble_eq_true rfl, Nat.le_of_ble_eq_true rfl⟩) (ga_preV hI hq rfl rfl) rfl rfl hl.1 rfl (ga_room (Nat.le_of_ble_eq_true rfl)) dX0_top_5 ⟨Nat.le_trans (Nat.add_le_add_left hk1 _) hbc, Nat.le_trans (Nat.add_le_add_left hk2 _) hbs⟩) hI hbc hbs hk1 hk2 (fun E_7 q_8 h_9 ce H locs cells slots hw hI hce hbc hbs => ?_) (fun r_6 h_5 H locs cells slots hw hI hbc hbs => ?_)
  · rcases hw with ⟨rfl, hw⟩ | ⟨rfl, hw⟩
    · skip
      refine ga_catch hown hts hI ([]) (⟨0, 10, 13, 13⟩) ([⟨0, 10, 17, 37⟩]) (by rw [htab]; rfl) (fun _ h => absurd h List.not_mem_nil) rfl (by decide) q2017 q1054 hce ?_
      refine W.eq (g2 := F0 m 13 ls [.ref q_8]) rfl ?_
      refine lv_astore (lv' := [(4, .ref q_8), (0, va_rf p0), (1, .int p1), (2, .int p2), (3, va_rf p3)]) hx hb dX0_top_13 hl (by decide) (by simp [ga_rcat, ga_cat_r, ga_cat_i, ga_cat_f, ga_cat_l, ga_cat_d]) (fun ls hl => ?_)
      refine lv_iconst (v := 1) hx hb dX0_top_15 (by decide) ?_
      exact ga_iretx hx hb hr rfl hlk hI hw (Nat.le_trans (Nat.le_add_right _ _) hbc) (Nat.le_trans (Nat.le_add_right _ _) hbs) dX0_top_16
    · skip
      refine ga_catch hown hts hI ([⟨0, 10, 13, 13⟩]) (⟨0, 10, 17, 37⟩) ([]) (by rw [htab]; rfl) (List.forall_mem_cons.mpr ⟨Or.inr ⟨by decide, ga_ncs hts hI q2017 (List.mem_of_getElem? (i := 4) rfl)⟩, fun _ h => absurd h List.not_mem_nil⟩) rfl (by decide) q2256 q732 hce ?_
      refine W.eq (g2 := F0 m 17 ls [.ref q_8]) rfl ?_
      refine lv_astore (lv' := [(4, .ref q_8), (0, va_rf p0), (1, .int p1), (2, .int p2), (3, va_rf p3)]) hx hb dX0_top_17 hl (by decide) (by simp [ga_rcat, ga_cat_r, ga_cat_i, ga_cat_f, ga_cat_l, ga_cat_d]) (fun ls hl => ?_)
      refine lv_iconst (v := 2) hx hb dX0_top_19 (by decide) ?_
      exact ga_iretx hx hb hr rfl hlk hI hw (Nat.le_trans (Nat.le_add_right _ _) hbc) (Nat.le_trans (Nat.le_add_right _ _) hbs) dX0_top_20
  · skip
    refine lv_i2l (v := r_6.toInt64) hx hb dX0_top_8 rfl ?_
    obtain ⟨a_10, ea_10, hw⟩ := hw
    rewrite [ea_10]
    obtain ⟨n_11, f_12, hq, hi, hw⟩ := hw
    refine ga_stl hx hb hI hq hi dX0_top_9 (fun H locs hI => ?_)
    obtain ⟨h_13, eh_13⟩ : ∃ z, z = ga_set h_5 a_10 (ga_Al n_11 (vp_updL f_12 (0 : Int32).toNatClampNeg r_6.toInt64)) := ⟨_, rfl⟩
    rw [← eh_13] at hI
    have hw := hw h_13 eh_13
    refine lv_goto (tgt := 21) hx hb dX0_top_10 (by decide) ?_
    refine lv_iconst (v := 0) hx hb dX0_top_21 (by decide) ?_
    exact ga_iretx hx hb hr rfl hlk hI hw (Nat.le_trans (Nat.le_add_right _ _) hbc) (Nat.le_trans (Nat.le_add_right _ _) hbs) dX0_top_22
theorem hdG_X0_top : yX0_top.cls ≠ "java/lang/invoke/MethodHandle" ∧ yX0_top.cls ≠ "java/lang/invoke/VarHandle" ∧ (parseMethodDescriptor yX0_top.desc).map (fun d => d.parameters.length) = some 4 := by decide +kernel
def gw_X1_wavyIn_59 (K : ga_K) (post : Int32 → ga_H → Prop) (xp : String → Nat → ga_H → Prop) (p0 : Nat) (t0 : Int32) (v2 : Option Nat) (h : ga_H) (bc bs : Nat) : Prop :=
  ∃ kc_45 ks_46 : Nat, kc_45 ≤ bc ∧ ks_46 ≤ bs ∧ gw_X1_checkElement K t0 h kc_45 ks_46 (fun (h_47 : ga_H) => ∃ a_51 : Nat, v2 = some a_51 ∧ ∃ (fs_52 : List Value) (v_53 : Int32), h_47 a_51 = some (ga_O 4 fs_52) ∧ fs_52[3]? = some (.int v_53) ∧ (∀ r_54 : Int32, r_54 = (if (0 : Int32) < ((7 : Int32) - v_53) then ((7 : Int32) - v_53) else (0 : Int32)) → (post r_54 h_47))) (fun (E_48 : String) (q_49 : Nat) (h_50 : ga_H) => xp E_48 q_49 h_50)
set_option maxHeartbeats 4000000 in
theorem gj_X1_wavyIn_59 {p : Program} {l : Launch} {e : Env} {s : State} {m : MethodId} {args : Array Value} {below : List Frame} {meth : Method} {c : Code} {mc ms : Nat} {H : Heap} {locs : List Loc} {cells slots : Nat} {ls : Array Slot} (hst : l.stackTraces = false) (htab : c.exceptionTable.toList = []) (g : ga_G) (post : Int32 → ga_H → Prop) (xp : String → Nat → ga_H → Prop) (p0 : Nat) (t0 : Int32) (v2 : Option Nat) (h : ga_H) (bc bs : Nat) (hC : ga_Cx p s m args meth c cX1_wavyIn 4 (some .int) "PaperStore" "wavyIn") (hw : gw_X1_wavyIn_59 g.2.2 post xp p0 t0 v2 h bc bs) (hI : ga_I g h s H locs) (hbc : cells + bc ≤ mc) (hbs : slots + bs ≤ ms) (hl : lv_has ls 4 [(2, va_rf v2)]) : W p l e ({ frames := 14, cells := mc, slots := ms, locals := 279 } : Room) s m args below meth c H locs cells slots (vx_MQ below (va_Qi post (ga_E g) (ga_A g)) (ga_X g xp) args s mc ms (ga_A g)) (F0 m 59 ls [.int t0]) := by
  obtain ⟨hx, hb, hml, hown, hts, hr, hlk, hnm⟩ := hC
  unfold gw_X1_wavyIn_59 at hw
  obtain ⟨kc_45, ks_46, hk1, hk2, hw⟩ := hw
  refine ga_xcallv (vx_runS (As := [.int t0]) (rest := []) ⟨hx, hb, hml, hown, hts⟩ (gm_X1_checkElement l hst g t0 h kc_45 ks_46 _ _ hw) (va_cwS 1 hts (lw_S q2271 q2272 q100 q2273) rfl rfl rfl hdG_X1_checkElement ⟨Nat.le_of_ble_eq_true rfl, Nat.le_of_ble_eq_true rfl⟩) (ga_preS hI rfl) rfl rfl hl.1 rfl (ga_room (Nat.le_of_ble_eq_true rfl)) dX1_wavyIn_59 ⟨Nat.le_trans (Nat.add_le_add_left hk1 _) hbc, Nat.le_trans (Nat.add_le_add_left hk2 _) hbs⟩) hI hbc hbs hk1 hk2 (fun E_48 q_49 h_50 ce H locs cells slots hw hI hce hbc hbs => ?_) (fun h_47 H locs cells slots hw hI hbc hbs => ?_)
  · exact ga_out hown hlk hI hw (by rw [htab]; intro z hz; cases hz) hce (Nat.le_trans (Nat.le_add_right _ _) hbc) (Nat.le_trans (Nat.le_add_right _ _) hbs)
  · skip
    refine lv_iconst (v := 0) hx hb dX1_wavyIn_62 (by decide) ?_
    refine lv_bipush (v := 7) hx hb dX1_wavyIn_63 (by decide) ?_
    refine ga_aload_n hx hb dX1_wavyIn_65 rfl (lv_at hl 0 rfl) ?_
    obtain ⟨a_51, ea_51, hw⟩ := hw
    rewrite [ea_51]
    obtain ⟨fs_52, v_53, hq, hv, hw⟩ := hw
    refine ga_getN (ci := 4) (T := TX6) (v := .int v_53) hx hb hts hown hI in_X6 rfl 3 (by decide) q1305 (fun _ z => z) (ga_at.h hq) hv dX1_wavyIn_66 ?_
    refine lv_isub hx hb dX1_wavyIn_69 ?_
    refine va_mmax hx hb (hml.trans hl.1.symm) hown (hts _ q2291) (hts _ q899) (hts _ q119) (hts _ q900) (Nat.le_of_ble_eq_true rfl) (Nat.le_trans (Nat.add_le_add_right (ga_sum [] (Nat.le_of_ble_eq_true rfl)) _) (Nat.le_of_ble_eq_true rfl)) (Nat.le_trans (Nat.le_add_right _ _) hbc) (Nat.le_trans (Nat.le_add_right _ _) hbs) dX1_wavyIn_70 ?_
    refine lv_topi (fun r_54 er_54 => ?_)
    have hw := hw r_54 er_54
    exact ga_iretx hx hb hr rfl hlk hI hw (Nat.le_trans (Nat.le_add_right _ _) hbc) (Nat.le_trans (Nat.le_add_right _ _) hbs) dX1_wavyIn_73
def gw_X1_wavyIn_54 (K : ga_K) (post : Int32 → ga_H → Prop) (xp : String → Nat → ga_H → Prop) (p0 : Nat) (v2 : Option Nat) (h : ga_H) (bc bs : Nat) : Prop :=
  gw_X1_wavyIn_59 K post xp p0 (1 : Int32) v2 h bc bs
set_option maxHeartbeats 4000000 in
theorem gj_X1_wavyIn_54 {p : Program} {l : Launch} {e : Env} {s : State} {m : MethodId} {args : Array Value} {below : List Frame} {meth : Method} {c : Code} {mc ms : Nat} {H : Heap} {locs : List Loc} {cells slots : Nat} {ls : Array Slot} (hst : l.stackTraces = false) (htab : c.exceptionTable.toList = []) (g : ga_G) (post : Int32 → ga_H → Prop) (xp : String → Nat → ga_H → Prop) (p0 : Nat) (v2 : Option Nat) (h : ga_H) (bc bs : Nat) (hC : ga_Cx p s m args meth c cX1_wavyIn 4 (some .int) "PaperStore" "wavyIn") (hw : gw_X1_wavyIn_54 g.2.2 post xp p0 v2 h bc bs) (hI : ga_I g h s H locs) (hbc : cells + bc ≤ mc) (hbs : slots + bs ≤ ms) (hl : lv_has ls 4 [(2, va_rf v2)]) : W p l e ({ frames := 14, cells := mc, slots := ms, locals := 279 } : Room) s m args below meth c H locs cells slots (vx_MQ below (va_Qi post (ga_E g) (ga_A g)) (ga_X g xp) args s mc ms (ga_A g)) (F0 m 54 ls []) := by
  obtain ⟨hx, hb, hml, hown, hts, hr, hlk, hnm⟩ := hC
  unfold gw_X1_wavyIn_54 at hw
  refine lv_iconst (v := 1) hx hb dX1_wavyIn_54 (by decide) ?_
  refine lv_goto (tgt := 59) hx hb dX1_wavyIn_55 (by decide) ?_
  exact gj_X1_wavyIn_59 hst htab g post xp p0 (1 : Int32) v2 h bc bs ⟨hx, hb, hml, hown, hts, hr, hlk, hnm⟩ hw hI hbc hbs (lv_sub hl [0] rfl)
def gw_X1_wavyIn_18 (K : ga_K) (post : Int32 → ga_H → Prop) (xp : String → Nat → ga_H → Prop) (p0 : Nat) (t0 : Int32) (v2 : Option Nat) (h : ga_H) (bc bs : Nat) : Prop :=
  ∃ kc_14 ks_15 : Nat, kc_14 ≤ bc ∧ ks_15 ≤ bs ∧ gw_X1_checkElement K t0 h kc_14 ks_15 (fun (h_16 : ga_H) => ∃ (fs_20 : List Value) (v_21 : Option Nat), h_16 p0 = some (ga_O 0 fs_20) ∧ fs_20[0]? = some (va_rf v_21) ∧ (∃ a_22 : Nat, v_21 = some a_22 ∧ ∃ (fs_23 : List Value) (v_24 : Option Nat), h_16 a_22 = some (ga_O 1 fs_23) ∧ fs_23[0]? = some (va_rf v_24) ∧ (∃ (fs_25 : List Value) (v_26 : Option Nat), h_16 p0 = some (ga_O 0 fs_25) ∧ fs_25[0]? = some (va_rf v_26) ∧ (∃ a_27 : Nat, v_26 = some a_27 ∧ ∃ kc_28 ks_29 : Nat, kc_28 ≤ (bc - kc_14) ∧ ks_29 ≤ (bs - ks_15) ∧ ∃ fs_30 : List Value, ga_at K h_16 a_27 (ga_O 1 fs_30) ∧ gw_X2_aisleOf K a_27 v2 h_16 kc_28 ks_29 (fun (r_32 : Int32) (h_31 : ga_H) => ∃ a_33 : Nat, v_24 = some a_33 ∧ ∃ (n_34 : Nat) (f_35 : Nat → Option Nat), h_31 a_33 = some (ga_Aq 6 n_34 f_35) ∧ vp_in r_32 n_34 ∧ ∀ v_36 : Option Nat, v_36 = f_35 r_32.toNatClampNeg → (∃ a_37 : Nat, v_36 = some a_37 ∧ ∃ (fs_38 : List Value) (v_39 : Int32), h_31 a_37 = some (ga_O 2 fs_38) ∧ fs_38[1]? = some (.int v_39) ∧ (∃ a_40 : Nat, v2 = some a_40 ∧ ∃ fs_41 : List Value, ga_at K h_31 a_40 (ga_O 4 fs_41) ∧ gw_X6_isWavy K a_40 h_31 (fun (r_43 : Int32) (h_42 : ga_H) => (¬ r_43 = (0 : Int32) → (gw_X1_wavyIn_54 K post xp p0 v2 h_42 ((bc - kc_14) - kc_28) ((bs - ks_15) - ks_29))) ∧ (r_43 = (0 : Int32) → ((v_39 < (7 : Int32) → (gw_X1_wavyIn_59 K post xp p0 (0 : Int32) v2 h_42 ((bc - kc_14) - kc_28) ((bs - ks_15) - ks_29))) ∧ (¬ v_39 < (7 : Int32) → (gw_X1_wavyIn_54 K post xp p0 v2 h_42 ((bc - kc_14) - kc_28) ((bs - ks_15) - ks_29))))))))))))) (fun (E_17 : String) (q_18 : Nat) (h_19 : ga_H) => xp E_17 q_18 h_19)
set_option maxHeartbeats 4000000 in
theorem gj_X1_wavyIn_18 {p : Program} {l : Launch} {e : Env} {s : State} {m : MethodId} {args : Array Value} {below : List Frame} {meth : Method} {c : Code} {mc ms : Nat} {H : Heap} {locs : List Loc} {cells slots : Nat} {ls : Array Slot} (hst : l.stackTraces = false) (htab : c.exceptionTable.toList = []) (g : ga_G) (post : Int32 → ga_H → Prop) (xp : String → Nat → ga_H → Prop) (p0 : Nat) (t0 : Int32) (v2 : Option Nat) (h : ga_H) (bc bs : Nat) (hC : ga_Cx p s m args meth c cX1_wavyIn 4 (some .int) "PaperStore" "wavyIn") (hw : gw_X1_wavyIn_18 g.2.2 post xp p0 t0 v2 h bc bs) (hI : ga_I g h s H locs) (hbc : cells + bc ≤ mc) (hbs : slots + bs ≤ ms) (hl : lv_has ls 4 [(0, .ref p0), (2, va_rf v2)]) : W p l e ({ frames := 14, cells := mc, slots := ms, locals := 279 } : Room) s m args below meth c H locs cells slots (vx_MQ below (va_Qi post (ga_E g) (ga_A g)) (ga_X g xp) args s mc ms (ga_A g)) (F0 m 18 ls [.int t0]) := by
  obtain ⟨hx, hb, hml, hown, hts, hr, hlk, hnm⟩ := hC
  unfold gw_X1_wavyIn_18 at hw
  obtain ⟨kc_14, ks_15, hk1, hk2, hw⟩ := hw
  refine ga_xcallv (vx_runS (As := [.int t0]) (rest := []) ⟨hx, hb, hml, hown, hts⟩ (gm_X1_checkElement l hst g t0 h kc_14 ks_15 _ _ hw) (va_cwS 1 hts (lw_S q2271 q2272 q100 q2273) rfl rfl rfl hdG_X1_checkElement ⟨Nat.le_of_ble_eq_true rfl, Nat.le_of_ble_eq_true rfl⟩) (ga_preS hI rfl) rfl rfl hl.1 rfl (ga_room (Nat.le_of_ble_eq_true rfl)) dX1_wavyIn_18 ⟨Nat.le_trans (Nat.add_le_add_left hk1 _) hbc, Nat.le_trans (Nat.add_le_add_left hk2 _) hbs⟩) hI hbc hbs hk1 hk2 (fun E_17 q_18 h_19 ce H locs cells slots hw hI hce hbc hbs => ?_) (fun h_16 H locs cells slots hw hI hbc hbs => ?_)
  · exact ga_out hown hlk hI hw (by rw [htab]; intro z hz; cases hz) hce (Nat.le_trans (Nat.le_add_right _ _) hbc) (Nat.le_trans (Nat.le_add_right _ _) hbs)
  · skip
    refine lv_aload_n hx hb dX1_wavyIn_21 rfl (lv_at hl 0 rfl) ?_
    obtain ⟨fs_20, v_21, hq, hv, hw⟩ := hw
    refine ga_get (ci := 0) (T := TX1) (v := va_rf v_21) hx hb hts hown hI in_X1 rfl 0 (by decide) q387 (fun _ z => z) (ga_at.h hq) hv dX1_wavyIn_22 ?_
    obtain ⟨a_22, ea_22, hw⟩ := hw
    rewrite [ea_22]
    obtain ⟨fs_23, v_24, hq, hv, hw⟩ := hw
    refine ga_getN (ci := 1) (T := TX2) (v := va_rf v_24) hx hb hts hown hI in_X2 rfl 0 (by decide) q311 (fun _ z => z) (ga_at.h hq) hv dX1_wavyIn_25 ?_
    refine lv_aload_n hx hb dX1_wavyIn_28 rfl (lv_at hl 0 rfl) ?_
    obtain ⟨fs_25, v_26, hq, hv, hw⟩ := hw
    refine ga_get (ci := 0) (T := TX1) (v := va_rf v_26) hx hb hts hown hI in_X1 rfl 0 (by decide) q387 (fun _ z => z) (ga_at.h hq) hv dX1_wavyIn_29 ?_
    refine ga_aload_n hx hb dX1_wavyIn_32 rfl (lv_at hl 1 rfl) ?_
    obtain ⟨a_27, ea_27, hw⟩ := hw
    rewrite [ea_27]
    obtain ⟨kc_28, ks_29, hk1, hk2, hw⟩ := hw
    obtain ⟨fs_30, hq, hw⟩ := hw
    refine ga_calli (va_runV (As := [va_rf v2]) (rest := [va_rf v_24]) ⟨hx, hb, hml, hown, hts⟩ (gm_X2_aisleOf l g a_27 v2 h_16 kc_28 ks_29 _ hw) (cwV 1 hts (lw_V q2207 q2208 q2209 q101 q2210) rfl rfl rfl ⟨rfl, hdG_X2_aisleOf⟩ ⟨Nat.le_of_ble_eq_true rfl, Nat.le_of_ble_eq_true rfl⟩) (ga_preV hI hq rfl rfl) rfl rfl hl.1 rfl (ga_room (Nat.le_of_ble_eq_true rfl)) dX1_wavyIn_33 ⟨Nat.le_trans (Nat.add_le_add_left hk1 _) hbc, Nat.le_trans (Nat.add_le_add_left hk2 _) hbs⟩) hI hbc hbs hk1 hk2 (fun r_32 h_31 H locs cells slots hw hI hbc hbs => ?_)
    obtain ⟨a_33, ea_33, hw⟩ := hw
    rewrite [ea_33]
    obtain ⟨n_34, f_35, hq, hi, hw⟩ := hw
    refine ga_ldq hx hb hI (ga_at.h hq) rfl hi dX1_wavyIn_36 ?_
    obtain ⟨v_36, ev_36⟩ : ∃ z, z = f_35 r_32.toNatClampNeg := ⟨_, rfl⟩
    rw [← ev_36]
    have hw := hw v_36 ev_36
    obtain ⟨a_37, ea_37, hw⟩ := hw
    rewrite [ea_37]
    obtain ⟨fs_38, v_39, hq, hv, hw⟩ := hw
    refine ga_getN (ci := 2) (T := TX3) (v := .int v_39) hx hb hts hown hI in_X3 rfl 1 (by decide) q284 (fun _ z => z) (ga_at.h hq) hv dX1_wavyIn_37 ?_
    refine lv_istore_n (i := 3) (lv' := [(3, .int v_39), (0, .ref p0), (2, va_rf v2)]) hx hb dX1_wavyIn_40 rfl hl (by decide) (by simp [ga_rcat, ga_cat_r, ga_cat_i, ga_cat_f, ga_cat_l, ga_cat_d]) (fun ls hl => ?_)
    refine ga_aload_n hx hb dX1_wavyIn_41 rfl (lv_at hl 2 rfl) ?_
    obtain ⟨a_40, ea_40, hw⟩ := hw
    rewrite [ea_40]
    obtain ⟨fs_41, hq, hw⟩ := hw
    refine ga_calli (va_runV (As := []) (rest := []) ⟨hx, hb, hml, hown, hts⟩ (gm_X6_isWavy l g a_40 h_31 _ hw) (cwV 0 hts (lw_V q2287 q2288 q2289 q137 q2290) rfl rfl rfl ⟨rfl, hdG_X6_isWavy⟩ ⟨Nat.le_of_ble_eq_true rfl, Nat.le_of_ble_eq_true rfl⟩) (ga_preV hI hq rfl rfl) rfl rfl hl.1 rfl (ga_room (Nat.le_of_ble_eq_true rfl)) dX1_wavyIn_42 ⟨Nat.le_trans (Nat.add_le_add_left (Nat.zero_le _) _) hbc, Nat.le_trans (Nat.add_le_add_left (Nat.zero_le _) _) hbs⟩) hI hbc hbs (Nat.zero_le _) (Nat.zero_le _) (fun r_43 h_42 H locs cells slots hw hI hbc hbs => ?_)
    refine lv_if_ne (tgt := 54) hx hb dX1_wavyIn_45 (by decide) (fun hc_44 => ?_) (fun hc_44 => ?_)
    · have hw := hw.1 hc_44
      exact gj_X1_wavyIn_54 hst htab g post xp p0 v2 h_42 ((bc - kc_14) - kc_28) ((bs - ks_15) - ks_29) ⟨hx, hb, hml, hown, hts, hr, hlk, hnm⟩ hw hI hbc hbs (lv_sub hl [2] rfl)
    · have hw := hw.2 hc_44
      refine lv_iload_n hx hb dX1_wavyIn_48 rfl (lv_at hl 0 rfl) ?_
      refine lv_bipush (v := 7) hx hb dX1_wavyIn_49 (by decide) ?_
      refine lv_icmp_lt (tgt := 58) hx hb dX1_wavyIn_51 (by decide) (fun hc_55 => ?_) (fun hc_55 => ?_)
      · have hw := hw.1 hc_55
        refine lv_iconst (v := 0) hx hb dX1_wavyIn_58 (by decide) ?_
        exact gj_X1_wavyIn_59 hst htab g post xp p0 (0 : Int32) v2 h_42 ((bc - kc_14) - kc_28) ((bs - ks_15) - ks_29) ⟨hx, hb, hml, hown, hts, hr, hlk, hnm⟩ hw hI hbc hbs (lv_sub hl [2] rfl)
      · have hw := hw.2 hc_55
        exact gj_X1_wavyIn_54 hst htab g post xp p0 v2 h_42 ((bc - kc_14) - kc_28) ((bs - ks_15) - ks_29) ⟨hx, hb, hml, hown, hts, hr, hlk, hnm⟩ hw hI hbc hbs (lv_sub hl [2] rfl)
def gw_X1_wavyIn (K : ga_K) (p0 : Nat) (p1 : Int32) (h : ga_H) (mc ms : Nat) (post : Int32 → ga_H → Prop) (xp : String → Nat → ga_H → Prop) : Prop :=
  ∃ kc_1 ks_2 : Nat, kc_1 ≤ mc ∧ ks_2 ≤ ms ∧ ∃ fs_3 : List Value, ga_at K h p0 (ga_O 0 fs_3) ∧ gw_X1_reamAt K p0 p1 h kc_1 ks_2 (fun (r_5 : Option Nat) (h_4 : ga_H) => ∃ a_9 : Nat, r_5 = some a_9 ∧ ∃ fs_10 : List Value, ga_at K h_4 a_9 (ga_O 4 fs_10) ∧ gw_X6_isGone K a_9 h_4 (fun (r_12 : Int32) (h_11 : ga_H) => (¬ r_12 = (0 : Int32) → (gw_X1_wavyIn_18 K post xp p0 (0 : Int32) r_5 h_11 (mc - kc_1) (ms - ks_2))) ∧ (r_12 = (0 : Int32) → (gw_X1_wavyIn_18 K post xp p0 (1 : Int32) r_5 h_11 (mc - kc_1) (ms - ks_2))))) (fun (E_6 : String) (q_7 : Nat) (h_8 : ga_H) => xp E_6 q_7 h_8)
set_option maxHeartbeats 4000000 in
theorem gm_X1_wavyIn (l : Launch) (hst : l.stackTraces = false) (g : ga_G) (p0 : Nat) (p1 : Int32) (h : ga_H) (mc ms : Nat) (post : Int32 → ga_H → Prop) (xp : String → Nat → ga_H → Prop) (hw : gw_X1_wavyIn g.2.2 p0 p1 h mc ms post xp) : vx_Met l yX1_wavyIn (ws_ yX1_wavyIn cX1_wavyIn 4 (some .int)) ({ frames := 14, cells := mc, slots := ms, locals := 279 } : Room) (va_Pc [.ref p0, .int p1] (ga_B g h)) (va_Qi post (ga_E g) (ga_A g)) (ga_X g xp) mc ms (ga_A g) := by
  refine ga_metx (own := "PaperStore") (nm := "wavyIn") (by decide) rfl rfl (by exact Nat.le_of_ble_eq_true rfl) (fun p e s m below meth c ls hC htab hI hl => ?_)
  have hl : lv_has ls 4 [(0, .ref p0), (1, .int p1)] := hl
  generalize ([.ref p0, .int p1] : List Value).toArray = args at hC ⊢
  obtain ⟨hx, hb, hml, hown, hts, hr, hlk, hnm⟩ := hC
  unfold gw_X1_wavyIn at hw
  obtain ⟨H, eH⟩ : ∃ z, z = s.heap := ⟨_, rfl⟩
  obtain ⟨locs, elo⟩ : ∃ z : List Loc, z = [] := ⟨_, rfl⟩
  rw [← eH, ← elo] at hI ⊢
  obtain ⟨cells, slots, hbc, hbs, e0, e1⟩ : ∃ a b : Nat, a + mc ≤ mc ∧ b + ms ≤ ms ∧ a = 0 ∧ b = 0 := ⟨0, 0, by omega, by omega, rfl, rfl⟩
  show W p l e ({ frames := 14, cells := mc, slots := ms, locals := 279 } : Room) s m args below meth c H locs 0 0 (vx_MQ below (va_Qi post (ga_E g) (ga_A g)) (ga_X g xp) args s mc ms (ga_A g)) (F0 m 0 ls [])
  suffices hgoal : W p l e ({ frames := 14, cells := mc, slots := ms, locals := 279 } : Room) s m args below meth c H locs cells slots (vx_MQ below (va_Qi post (ga_E g) (ga_A g)) (ga_X g xp) args s mc ms (ga_A g)) (F0 m 0 ls []) by rw [e0, e1] at hgoal; exact hgoal
  refine lv_aload_n hx hb dX1_wavyIn_0 rfl (lv_at hl 0 rfl) ?_
  refine lv_iload_n hx hb dX1_wavyIn_1 rfl (lv_at hl 1 rfl) ?_
  obtain ⟨kc_1, ks_2, hk1, hk2, hw⟩ := hw
  obtain ⟨fs_3, hq, hw⟩ := hw
  refine ga_xcallq (vx_runV (As := [.int p1]) (rest := []) ⟨hx, hb, hml, hown, hts⟩ (gm_X1_reamAt l hst g p0 p1 h kc_1 ks_2 _ _ hw) (cwV 1 hts (lw_V q2199 q2201 qs12 q100 q2202) rfl rfl rfl ⟨rfl, hdG_X1_reamAt⟩ ⟨Nat.le_of_ble_eq_true rfl, Nat.le_of_ble_eq_true rfl⟩) (ga_preV hI hq rfl rfl) rfl rfl hl.1 rfl (ga_room (Nat.le_of_ble_eq_true rfl)) dX1_wavyIn_2 ⟨Nat.le_trans (Nat.add_le_add_left hk1 _) hbc, Nat.le_trans (Nat.add_le_add_left hk2 _) hbs⟩) hI hbc hbs hk1 hk2 (fun E_6 q_7 h_8 ce H locs cells slots hw hI hce hbc hbs => ?_) (fun r_5 h_4 H locs cells slots hw hI hbc hbs => ?_)
  · exact ga_out hown hlk hI hw (by rw [htab]; intro z hz; cases hz) hce (Nat.le_trans (Nat.le_add_right _ _) hbc) (Nat.le_trans (Nat.le_add_right _ _) hbs)
  · skip
    refine ga_astore_n (i := 2) (x := r_5) (lv' := [(2, va_rf r_5), (0, .ref p0), (1, .int p1)]) hx hb dX1_wavyIn_5 rfl hl (by decide) rfl (fun ls hl => ?_)
    refine ga_aload_n hx hb dX1_wavyIn_6 rfl (lv_at hl 0 rfl) ?_
    obtain ⟨a_9, ea_9, hw⟩ := hw
    rewrite [ea_9]
    obtain ⟨fs_10, hq, hw⟩ := hw
    refine ga_calli (va_runV (As := []) (rest := []) ⟨hx, hb, hml, hown, hts⟩ (gm_X6_isGone l g a_9 h_4 _ hw) (cwV 0 hts (lw_V q2283 q2284 q2285 q137 q2286) rfl rfl rfl ⟨rfl, hdG_X6_isGone⟩ ⟨Nat.le_of_ble_eq_true rfl, Nat.le_of_ble_eq_true rfl⟩) (ga_preV hI hq rfl rfl) rfl rfl hl.1 rfl (ga_room (Nat.le_of_ble_eq_true rfl)) dX1_wavyIn_7 ⟨Nat.le_trans (Nat.add_le_add_left (Nat.zero_le _) _) hbc, Nat.le_trans (Nat.add_le_add_left (Nat.zero_le _) _) hbs⟩) hI hbc hbs (Nat.zero_le _) (Nat.zero_le _) (fun r_12 h_11 H locs cells slots hw hI hbc hbs => ?_)
    refine lv_if_ne (tgt := 17) hx hb dX1_wavyIn_10 (by decide) (fun hc_13 => ?_) (fun hc_13 => ?_)
    · have hw := hw.1 hc_13
      refine lv_iconst (v := 0) hx hb dX1_wavyIn_17 (by decide) ?_
      exact gj_X1_wavyIn_18 hst htab g post xp p0 (0 : Int32) r_5 h_11 (mc - kc_1) (ms - ks_2) ⟨hx, hb, hml, hown, hts, hr, hlk, hnm⟩ hw hI hbc hbs (lv_sub hl [1, 0] rfl)
    · have hw := hw.2 hc_13
      refine lv_iconst (v := 1) hx hb dX1_wavyIn_13 (by decide) ?_
      refine lv_goto (tgt := 18) hx hb dX1_wavyIn_14 (by decide) ?_
      exact gj_X1_wavyIn_18 hst htab g post xp p0 (1 : Int32) r_5 h_11 (mc - kc_1) (ms - ks_2) ⟨hx, hb, hml, hown, hts, hr, hlk, hnm⟩ hw hI hbc hbs (lv_sub hl [1, 0] rfl)
theorem hdG_X1_wavyIn : yX1_wavyIn.cls ≠ "java/lang/invoke/MethodHandle" ∧ yX1_wavyIn.cls ≠ "java/lang/invoke/VarHandle" ∧ (parseMethodDescriptor yX1_wavyIn.desc).map (fun d => d.parameters.length) = some 1 := by decide +kernel
def gw_X0_wavyIn (K : ga_K) (p0 : Option Nat) (p1 : Int32) (p2 : Option Nat) (h : ga_H) (mc ms : Nat) (post : Int32 → ga_H → Prop) (xp : String → Nat → ga_H → Prop) : Prop :=
  ∃ a_1 : Nat, p0 = some a_1 ∧ ∃ kc_2 ks_3 : Nat, kc_2 ≤ mc ∧ ks_3 ≤ ms ∧ ∃ fs_4 : List Value, ga_at K h a_1 (ga_O 0 fs_4) ∧ gw_X1_wavyIn K a_1 p1 h kc_2 ks_3 (fun (r_6 : Int32) (h_5 : ga_H) => ∃ a_10 : Nat, p2 = some a_10 ∧ ∃ (n_11 : Nat) (f_12 : Nat → Int64), h_5 a_10 = some (ga_Al n_11 f_12) ∧ vp_in (0 : Int32) n_11 ∧ ∀ h_13 : ga_H, h_13 = ga_set h_5 a_10 (ga_Al n_11 (vp_updL f_12 (0 : Int32).toNatClampNeg r_6.toInt64)) → (post (0 : Int32) h_13)) (fun (E_7 : String) (q_8 : Nat) (h_9 : ga_H) => (E_7 = "java/lang/IndexOutOfBoundsException" ∧ (post (1 : Int32) h_9)) ∨ (E_7 = "java/util/NoSuchElementException" ∧ (post (2 : Int32) h_9)))
set_option maxHeartbeats 4000000 in
theorem gm_X0_wavyIn (l : Launch) (hst : l.stackTraces = false) (g : ga_G) (p0 : Option Nat) (p1 : Int32) (p2 : Option Nat) (h : ga_H) (mc ms : Nat) (post : Int32 → ga_H → Prop) (xp : String → Nat → ga_H → Prop) (hw : gw_X0_wavyIn g.2.2 p0 p1 p2 h mc ms post xp) : vx_Met l yX0_wavyIn (wsW_ yX0_wavyIn cX0_wavyIn 4 (some .int) [(0, 9, 12, 21), (0, 9, 15, 37)]) ({ frames := 15, cells := mc, slots := ms, locals := 302 } : Room) (va_Pc [va_rf p0, .int p1, va_rf p2] (ga_B g h)) (va_Qi post (ga_E g) (ga_A g)) (ga_X g xp) mc ms (ga_A g) := by
  refine ga_metxW (own := "PaperStoreLaw") (nm := "wavyIn") (by decide) rfl rfl (by cases p0 <;> cases p2 <;> exact Nat.le_of_ble_eq_true rfl) (fun p e s m below meth c ls hC htab hI hl => ?_)
  have hl : lv_has ls 4 [(0, va_rf p0), (1, .int p1), (2, va_rf p2)] := (by cases p0 <;> cases p2 <;> exact hl)
  generalize ([va_rf p0, .int p1, va_rf p2] : List Value).toArray = args at hC ⊢
  obtain ⟨hx, hb, hml, hown, hts, hr, hlk, hnm⟩ := hC
  unfold gw_X0_wavyIn at hw
  obtain ⟨H, eH⟩ : ∃ z, z = s.heap := ⟨_, rfl⟩
  obtain ⟨locs, elo⟩ : ∃ z : List Loc, z = [] := ⟨_, rfl⟩
  rw [← eH, ← elo] at hI ⊢
  obtain ⟨cells, slots, hbc, hbs, e0, e1⟩ : ∃ a b : Nat, a + mc ≤ mc ∧ b + ms ≤ ms ∧ a = 0 ∧ b = 0 := ⟨0, 0, by omega, by omega, rfl, rfl⟩
  show W p l e ({ frames := 15, cells := mc, slots := ms, locals := 302 } : Room) s m args below meth c H locs 0 0 (vx_MQ below (va_Qi post (ga_E g) (ga_A g)) (ga_X g xp) args s mc ms (ga_A g)) (F0 m 0 ls [])
  suffices hgoal : W p l e ({ frames := 15, cells := mc, slots := ms, locals := 302 } : Room) s m args below meth c H locs cells slots (vx_MQ below (va_Qi post (ga_E g) (ga_A g)) (ga_X g xp) args s mc ms (ga_A g)) (F0 m 0 ls []) by rw [e0, e1] at hgoal; exact hgoal
  refine ga_aload_n hx hb dX0_wavyIn_0 rfl (lv_at hl 2 rfl) ?_
  refine lv_iconst (v := 0) hx hb dX0_wavyIn_1 (by decide) ?_
  refine ga_aload_n hx hb dX0_wavyIn_2 rfl (lv_at hl 0 rfl) ?_
  refine lv_iload_n hx hb dX0_wavyIn_3 rfl (lv_at hl 1 rfl) ?_
  obtain ⟨a_1, ea_1, hw⟩ := hw
  rewrite [ea_1]
  obtain ⟨kc_2, ks_3, hk1, hk2, hw⟩ := hw
  obtain ⟨fs_4, hq, hw⟩ := hw
  refine ga_xcalli (vx_runV (As := [.int p1]) (rest := [.int (0 : Int32), va_rf p2]) ⟨hx, hb, hml, hown, hts⟩ (gm_X1_wavyIn l hst g a_1 p1 h kc_2 ks_3 _ _ hw) (cwV 1 hts (lw_V q2279 q2280 q2281 q100 q2282) rfl rfl rfl ⟨rfl, hdG_X1_wavyIn⟩ ⟨Nat.le_of_ble_eq_true rfl, Nat.le_of_ble_eq_true rfl⟩) (ga_preV hI hq rfl rfl) rfl rfl hl.1 rfl (ga_room (Nat.le_of_ble_eq_true rfl)) dX0_wavyIn_4 ⟨Nat.le_trans (Nat.add_le_add_left hk1 _) hbc, Nat.le_trans (Nat.add_le_add_left hk2 _) hbs⟩) hI hbc hbs hk1 hk2 (fun E_7 q_8 h_9 ce H locs cells slots hw hI hce hbc hbs => ?_) (fun r_6 h_5 H locs cells slots hw hI hbc hbs => ?_)
  · rcases hw with ⟨rfl, hw⟩ | ⟨rfl, hw⟩
    · skip
      refine ga_catch hown hts hI ([]) (⟨0, 9, 12, 21⟩) ([⟨0, 9, 15, 37⟩]) (by rw [htab]; rfl) (fun _ h => absurd h List.not_mem_nil) rfl (by decide) q2105 q866 hce ?_
      refine W.eq (g2 := F0 m 12 ls [.ref q_8]) rfl ?_
      refine lv_astore_n (i := 3) (lv' := [(3, .ref q_8), (0, va_rf p0), (1, .int p1), (2, va_rf p2)]) hx hb dX0_wavyIn_12 rfl hl (by decide) (by simp [ga_rcat, ga_cat_r, ga_cat_i, ga_cat_f, ga_cat_l, ga_cat_d]) (fun ls hl => ?_)
      refine lv_iconst (v := 1) hx hb dX0_wavyIn_13 (by decide) ?_
      exact ga_iretx hx hb hr rfl hlk hI hw (Nat.le_trans (Nat.le_add_right _ _) hbc) (Nat.le_trans (Nat.le_add_right _ _) hbs) dX0_wavyIn_14
    · skip
      refine ga_catch hown hts hI ([⟨0, 9, 12, 21⟩]) (⟨0, 9, 15, 37⟩) ([]) (by rw [htab]; rfl) (List.forall_mem_cons.mpr ⟨Or.inr ⟨by decide, ga_ncs hts hI q2105 (List.mem_of_getElem? (i := 5) rfl)⟩, fun _ h => absurd h List.not_mem_nil⟩) rfl (by decide) q2256 q732 hce ?_
      refine W.eq (g2 := F0 m 15 ls [.ref q_8]) rfl ?_
      refine lv_astore_n (i := 3) (lv' := [(3, .ref q_8), (0, va_rf p0), (1, .int p1), (2, va_rf p2)]) hx hb dX0_wavyIn_15 rfl hl (by decide) (by simp [ga_rcat, ga_cat_r, ga_cat_i, ga_cat_f, ga_cat_l, ga_cat_d]) (fun ls hl => ?_)
      refine lv_iconst (v := 2) hx hb dX0_wavyIn_16 (by decide) ?_
      exact ga_iretx hx hb hr rfl hlk hI hw (Nat.le_trans (Nat.le_add_right _ _) hbc) (Nat.le_trans (Nat.le_add_right _ _) hbs) dX0_wavyIn_17
  · skip
    refine lv_i2l (v := r_6.toInt64) hx hb dX0_wavyIn_7 rfl ?_
    obtain ⟨a_10, ea_10, hw⟩ := hw
    rewrite [ea_10]
    obtain ⟨n_11, f_12, hq, hi, hw⟩ := hw
    refine ga_stl hx hb hI hq hi dX0_wavyIn_8 (fun H locs hI => ?_)
    obtain ⟨h_13, eh_13⟩ : ∃ z, z = ga_set h_5 a_10 (ga_Al n_11 (vp_updL f_12 (0 : Int32).toNatClampNeg r_6.toInt64)) := ⟨_, rfl⟩
    rw [← eh_13] at hI
    have hw := hw h_13 eh_13
    refine lv_goto (tgt := 18) hx hb dX0_wavyIn_9 (by decide) ?_
    refine lv_iconst (v := 0) hx hb dX0_wavyIn_18 (by decide) ?_
    exact ga_iretx hx hb hr rfl hlk hI hw (Nat.le_trans (Nat.le_add_right _ _) hbc) (Nat.le_trans (Nat.le_add_right _ _) hbs) dX0_wavyIn_19
theorem hdG_X0_wavyIn : yX0_wavyIn.cls ≠ "java/lang/invoke/MethodHandle" ∧ yX0_wavyIn.cls ≠ "java/lang/invoke/VarHandle" ∧ (parseMethodDescriptor yX0_wavyIn.desc).map (fun d => d.parameters.length) = some 3 := by decide +kernel
def gw_X2_air (K : ga_K) (p0 : Nat) (p1 : Int32) (p2 : Int32) (h : ga_H) (post : Int32 → ga_H → Prop) : Prop :=
  ∃ (fs_1 : List Value) (v_2 : Option Nat), h p0 = some (ga_O 1 fs_1) ∧ fs_1[0]? = some (va_rf v_2) ∧ (∃ a_3 : Nat, v_2 = some a_3 ∧ ∃ (n_4 : Nat) (f_5 : Nat → Option Nat), h a_3 = some (ga_Aq 6 n_4 f_5) ∧ vp_in p1 n_4 ∧ ∀ v_6 : Option Nat, v_6 = f_5 p1.toNatClampNeg → (∃ a_7 : Nat, v_6 = some a_7 ∧ ∃ (fs_8 : List Value) (v_9 : Int32), h a_7 = some (ga_O 2 fs_8) ∧ fs_8[1]? = some (.int v_9) ∧ (∃ (fs_10 : List Value) (v_11 : Option Nat), h p0 = some (ga_O 1 fs_10) ∧ fs_10[0]? = some (va_rf v_11) ∧ (∃ a_12 : Nat, v_11 = some a_12 ∧ ∃ (n_13 : Nat) (f_14 : Nat → Option Nat), h a_12 = some (ga_Aq 6 n_13 f_14) ∧ vp_in p1 n_13 ∧ ∀ v_15 : Option Nat, v_15 = f_14 p1.toNatClampNeg → (∃ a_16 : Nat, v_15 = some a_16 ∧ ∃ fs_17 : List Value, h a_16 = some (ga_O 2 fs_17) ∧ 1 < fs_17.length ∧ ∀ h_18 : ga_H, h_18 = ga_set h a_16 (ga_O 2 (fs_17.set 1 (.int p2))) → (post v_9 h_18))))))
set_option maxHeartbeats 4000000 in
theorem gm_X2_air (l : Launch) (g : ga_G) (p0 : Nat) (p1 : Int32) (p2 : Int32) (h : ga_H) (post : Int32 → ga_H → Prop) (hw : gw_X2_air g.2.2 p0 p1 p2 h post) : Met l yX2_air (ws_ yX2_air cX2_air 4 (some .int)) ({ frames := 8, cells := 0, slots := 0, locals := 140 } : Room) (va_Pc [.ref p0, .int p1, .int p2] (ga_B g h)) (va_Qi post (ga_E g) (ga_A g)) 0 0 (ga_A g) := by
  refine ga_met (own := "PaperStore$Store") (nm := "air") (by decide) rfl rfl (by exact Nat.le_of_ble_eq_true rfl) (fun p e s m below meth c ls hC hI hl => ?_)
  have hl : lv_has ls 4 [(0, .ref p0), (1, .int p1), (2, .int p2)] := hl
  generalize ([.ref p0, .int p1, .int p2] : List Value).toArray = args at hC ⊢
  obtain ⟨hx, hb, hml, hown, hts, hr, hlk, hnm⟩ := hC
  unfold gw_X2_air at hw
  obtain ⟨H, eH⟩ : ∃ z, z = s.heap := ⟨_, rfl⟩
  obtain ⟨locs, elo⟩ : ∃ z : List Loc, z = [] := ⟨_, rfl⟩
  rw [← eH, ← elo] at hI ⊢
  obtain ⟨cells, slots, hbc, hbs, e0, e1⟩ : ∃ a b : Nat, a ≤ 0 ∧ b ≤ 0 ∧ a = 0 ∧ b = 0 := ⟨0, 0, by omega, by omega, rfl, rfl⟩
  show W p l e ({ frames := 8, cells := 0, slots := 0, locals := 140 } : Room) s m args below meth c H locs 0 0 (MQ below (va_Qi post (ga_E g) (ga_A g)) args s 0 0 (ga_A g)) (F0 m 0 ls [])
  suffices hgoal : W p l e ({ frames := 8, cells := 0, slots := 0, locals := 140 } : Room) s m args below meth c H locs cells slots (MQ below (va_Qi post (ga_E g) (ga_A g)) args s 0 0 (ga_A g)) (F0 m 0 ls []) by rw [e0, e1] at hgoal; exact hgoal
  refine lv_aload_n hx hb dX2_air_0 rfl (lv_at hl 0 rfl) ?_
  obtain ⟨fs_1, v_2, hq, hv, hw⟩ := hw
  refine ga_get (ci := 1) (T := TX2) (v := va_rf v_2) hx hb hts hown hI in_X2 rfl 0 (by decide) q310 (fun _ z => z) (ga_at.h hq) hv dX2_air_1 ?_
  refine lv_iload_n hx hb dX2_air_4 rfl (lv_at hl 1 rfl) ?_
  obtain ⟨a_3, ea_3, hw⟩ := hw
  rewrite [ea_3]
  obtain ⟨n_4, f_5, hq, hi, hw⟩ := hw
  refine ga_ldq hx hb hI (ga_at.h hq) rfl hi dX2_air_5 ?_
  obtain ⟨v_6, ev_6⟩ : ∃ z, z = f_5 p1.toNatClampNeg := ⟨_, rfl⟩
  rw [← ev_6]
  have hw := hw v_6 ev_6
  obtain ⟨a_7, ea_7, hw⟩ := hw
  rewrite [ea_7]
  obtain ⟨fs_8, v_9, hq, hv, hw⟩ := hw
  refine ga_getN (ci := 2) (T := TX3) (v := .int v_9) hx hb hts hown hI in_X3 rfl 1 (by decide) q283 (fun _ z => z) (ga_at.h hq) hv dX2_air_6 ?_
  refine lv_istore_n (i := 3) (lv' := [(3, .int v_9), (0, .ref p0), (1, .int p1), (2, .int p2)]) hx hb dX2_air_9 rfl hl (by decide) rfl (fun ls hl => ?_)
  refine lv_aload_n hx hb dX2_air_10 rfl (lv_at hl 1 rfl) ?_
  obtain ⟨fs_10, v_11, hq, hv, hw⟩ := hw
  refine ga_get (ci := 1) (T := TX2) (v := va_rf v_11) hx hb hts hown hI in_X2 rfl 0 (by decide) q310 (fun _ z => z) (ga_at.h hq) hv dX2_air_11 ?_
  refine lv_iload_n hx hb dX2_air_14 rfl (lv_at hl 2 rfl) ?_
  obtain ⟨a_12, ea_12, hw⟩ := hw
  rewrite [ea_12]
  obtain ⟨n_13, f_14, hq, hi, hw⟩ := hw
  refine ga_ldq hx hb hI (ga_at.h hq) rfl hi dX2_air_15 ?_
  obtain ⟨v_15, ev_15⟩ : ∃ z, z = f_14 p1.toNatClampNeg := ⟨_, rfl⟩
  rw [← ev_15]
  have hw := hw v_15 ev_15
  refine lv_iload_n hx hb dX2_air_16 rfl (lv_at hl 3 rfl) ?_
  obtain ⟨a_16, ea_16, hw⟩ := hw
  rewrite [ea_16]
  obtain ⟨fs_17, hq, hk, hw⟩ := hw
  refine ga_putN (ci := 2) (T := TX3) (v := .int p2) (ty := tyX3 1) hx hb hts hown hI in_X3 rfl tyX3 tyX3_ok nmX3 1 (by decide) q283 (fun _ z => z) rfl (tyX3_ok 1 (by decide)) rfl rfl hq hk dX2_air_17 (fun H locs hI => ?_)
  obtain ⟨h_18, eh_18⟩ : ∃ z, z = ga_set h a_16 (ga_O 2 (fs_17.set 1 (.int p2))) := ⟨_, rfl⟩
  rw [← eh_18] at hI
  have hw := hw h_18 eh_18
  refine lv_iload_n hx hb dX2_air_20 rfl (lv_at hl 0 rfl) ?_
  exact ga_iret hx hb hr rfl hlk hI hw hbc hbs dX2_air_21
theorem hdG_X2_air : yX2_air.cls ≠ "java/lang/invoke/MethodHandle" ∧ yX2_air.cls ≠ "java/lang/invoke/VarHandle" ∧ (parseMethodDescriptor yX2_air.desc).map (fun d => d.parameters.length) = some 2 := by decide +kernel
def gw_X1_air_22 (K : ga_K) (post : Int32 → ga_H → Prop) (xp : String → Nat → ga_H → Prop) (p0 : Nat) (t0 : Int32) (v1 : Int32) (v2 : Int32) (h : ga_H) (bc bs : Nat) : Prop :=
  ∃ kc_3 ks_4 : Nat, kc_3 ≤ bc ∧ ks_4 ≤ bs ∧ gw_X1_checkArgument K t0 h kc_3 ks_4 (fun (h_5 : ga_H) => ∃ (fs_9 : List Value) (v_10 : Option Nat), h_5 p0 = some (ga_O 0 fs_9) ∧ fs_9[0]? = some (va_rf v_10) ∧ (∃ a_11 : Nat, v_10 = some a_11 ∧ ∃ kc_12 ks_13 : Nat, kc_12 ≤ (bc - kc_3) ∧ ks_13 ≤ (bs - ks_4) ∧ ∃ fs_14 : List Value, ga_at K h_5 a_11 (ga_O 1 fs_14) ∧ gw_X2_copy K a_11 h_5 kc_12 ks_13 (fun (r_16 : Option Nat) (h_15 : ga_H) => ∃ a_17 : Nat, r_16 = some a_17 ∧ ∃ fs_18 : List Value, ga_at K h_15 a_17 (ga_O 1 fs_18) ∧ gw_X2_air K a_17 v1 v2 h_15 (fun (r_20 : Int32) (h_19 : ga_H) => ∃ kc_21 ks_22 : Nat, kc_21 ≤ ((bc - kc_3) - kc_12) ∧ ks_22 ≤ ((bs - ks_4) - ks_13) ∧ ∃ fs_23 : List Value, ga_at K h_19 p0 (ga_O 0 fs_23) ∧ gw_X1_become K p0 (some a_17) r_20 h_19 kc_21 ks_22 (fun (r_25 : Int32) (h_24 : ga_H) => post r_25 h_24))))) (fun (E_6 : String) (q_7 : Nat) (h_8 : ga_H) => xp E_6 q_7 h_8)
set_option maxHeartbeats 4000000 in
theorem gj_X1_air_22 {p : Program} {l : Launch} {e : Env} {s : State} {m : MethodId} {args : Array Value} {below : List Frame} {meth : Method} {c : Code} {mc ms : Nat} {H : Heap} {locs : List Loc} {cells slots : Nat} {ls : Array Slot} (hst : l.stackTraces = false) (htab : c.exceptionTable.toList = []) (g : ga_G) (post : Int32 → ga_H → Prop) (xp : String → Nat → ga_H → Prop) (p0 : Nat) (t0 : Int32) (v1 : Int32) (v2 : Int32) (h : ga_H) (bc bs : Nat) (hC : ga_Cx p s m args meth c cX1_air 4 (some .int) "PaperStore" "air") (hw : gw_X1_air_22 g.2.2 post xp p0 t0 v1 v2 h bc bs) (hI : ga_I g h s H locs) (hbc : cells + bc ≤ mc) (hbs : slots + bs ≤ ms) (hl : lv_has ls 4 [(0, .ref p0), (1, .int v1), (2, .int v2)]) : W p l e ({ frames := 17, cells := mc, slots := ms, locals := 1389 } : Room) s m args below meth c H locs cells slots (vx_MQ below (va_Qi post (ga_E g) (ga_A g)) (ga_X g xp) args s mc ms (ga_A g)) (F0 m 22 ls [.int t0]) := by
  obtain ⟨hx, hb, hml, hown, hts, hr, hlk, hnm⟩ := hC
  unfold gw_X1_air_22 at hw
  obtain ⟨kc_3, ks_4, hk1, hk2, hw⟩ := hw
  refine ga_xcallv (vx_runS (As := [.int t0]) (rest := []) ⟨hx, hb, hml, hown, hts⟩ (gm_X1_checkArgument l hst g t0 h kc_3 ks_4 _ _ hw) (va_cwS 1 hts (lw_S q2027 q2028 q100 q2029) rfl rfl rfl hdG_X1_checkArgument ⟨Nat.le_of_ble_eq_true rfl, Nat.le_of_ble_eq_true rfl⟩) (ga_preS hI rfl) rfl rfl hl.1 rfl (ga_room (Nat.le_of_ble_eq_true rfl)) dX1_air_22 ⟨Nat.le_trans (Nat.add_le_add_left hk1 _) hbc, Nat.le_trans (Nat.add_le_add_left hk2 _) hbs⟩) hI hbc hbs hk1 hk2 (fun E_6 q_7 h_8 ce H locs cells slots hw hI hce hbc hbs => ?_) (fun h_5 H locs cells slots hw hI hbc hbs => ?_)
  · exact ga_out hown hlk hI hw (by rw [htab]; intro z hz; cases hz) hce (Nat.le_trans (Nat.le_add_right _ _) hbc) (Nat.le_trans (Nat.le_add_right _ _) hbs)
  · skip
    refine lv_aload_n hx hb dX1_air_25 rfl (lv_at hl 0 rfl) ?_
    obtain ⟨fs_9, v_10, hq, hv, hw⟩ := hw
    refine ga_get (ci := 0) (T := TX1) (v := va_rf v_10) hx hb hts hown hI in_X1 rfl 0 (by decide) q387 (fun _ z => z) (ga_at.h hq) hv dX1_air_26 ?_
    obtain ⟨a_11, ea_11, hw⟩ := hw
    rewrite [ea_11]
    obtain ⟨kc_12, ks_13, hk1, hk2, hw⟩ := hw
    obtain ⟨fs_14, hq, hw⟩ := hw
    refine ga_callq (va_runV (As := []) (rest := []) ⟨hx, hb, hml, hown, hts⟩ (gm_X2_copy l g a_11 h_5 kc_12 ks_13 _ hw) (cwV 0 hts (lw_V q1259 q1260 q1261 q101 q1262) rfl rfl rfl ⟨rfl, hdG_X2_copy⟩ ⟨Nat.le_of_ble_eq_true rfl, Nat.le_of_ble_eq_true rfl⟩) (ga_preV hI hq rfl rfl) rfl rfl hl.1 rfl (ga_room (Nat.le_of_ble_eq_true rfl)) dX1_air_29 ⟨Nat.le_trans (Nat.add_le_add_left hk1 _) hbc, Nat.le_trans (Nat.add_le_add_left hk2 _) hbs⟩) hI hbc hbs hk1 hk2 (fun r_16 h_15 H locs cells slots hw hI hbc hbs => ?_)
    refine ga_astore_n (i := 3) (x := r_16) (lv' := [(3, va_rf r_16), (0, .ref p0), (1, .int v1), (2, .int v2)]) hx hb dX1_air_32 rfl hl (by decide) rfl (fun ls hl => ?_)
    refine lv_aload_n hx hb dX1_air_33 rfl (lv_at hl 1 rfl) ?_
    refine ga_aload_n hx hb dX1_air_34 rfl (lv_at hl 0 rfl) ?_
    refine ga_aload_n hx hb dX1_air_35 rfl (lv_at hl 0 rfl) ?_
    refine lv_iload_n hx hb dX1_air_36 rfl (lv_at hl 2 rfl) ?_
    refine lv_iload_n hx hb dX1_air_37 rfl (lv_at hl 3 rfl) ?_
    obtain ⟨a_17, ea_17, hw⟩ := hw
    rewrite [ea_17]
    obtain ⟨fs_18, hq, hw⟩ := hw
    refine ga_calli (va_runV (As := [.int v1, .int v2]) (rest := [.ref a_17, .ref p0]) ⟨hx, hb, hml, hown, hts⟩ (gm_X2_air l g a_17 v1 v2 h_15 _ hw) (cwV 2 hts (lw_V q2299 q2300 q2301 q101 q2302) rfl rfl rfl ⟨rfl, hdG_X2_air⟩ ⟨Nat.le_of_ble_eq_true rfl, Nat.le_of_ble_eq_true rfl⟩) (ga_preV hI hq rfl rfl) rfl rfl hl.1 rfl (ga_room (Nat.le_of_ble_eq_true rfl)) dX1_air_38 ⟨Nat.le_trans (Nat.add_le_add_left (Nat.zero_le _) _) hbc, Nat.le_trans (Nat.add_le_add_left (Nat.zero_le _) _) hbs⟩) hI hbc hbs (Nat.zero_le _) (Nat.zero_le _) (fun r_20 h_19 H locs cells slots hw hI hbc hbs => ?_)
    obtain ⟨kc_21, ks_22, hk1, hk2, hw⟩ := hw
    obtain ⟨fs_23, hq, hw⟩ := hw
    refine ga_calli (va_runV (As := [va_rf (some a_17), .int r_20]) (rest := []) ⟨hx, hb, hml, hown, hts⟩ (gm_X1_become l g p0 (some a_17) r_20 h_19 kc_21 ks_22 _ hw) (cwV 2 hts (lw_V q2070 q2072 qs8 q100 q2073) rfl rfl rfl ⟨rfl, hdG_X1_become⟩ ⟨Nat.le_of_ble_eq_true rfl, Nat.le_of_ble_eq_true rfl⟩) (ga_preV hI hq rfl rfl) rfl rfl hl.1 rfl (ga_room (Nat.le_of_ble_eq_true rfl)) dX1_air_41 ⟨Nat.le_trans (Nat.add_le_add_left hk1 _) hbc, Nat.le_trans (Nat.add_le_add_left hk2 _) hbs⟩) hI hbc hbs hk1 hk2 (fun r_25 h_24 H locs cells slots hw hI hbc hbs => ?_)
    exact ga_iretx hx hb hr rfl hlk hI hw (Nat.le_trans (Nat.le_add_right _ _) hbc) (Nat.le_trans (Nat.le_add_right _ _) hbs) dX1_air_44
def gw_X1_air_21 (K : ga_K) (post : Int32 → ga_H → Prop) (xp : String → Nat → ga_H → Prop) (p0 : Nat) (v1 : Int32) (v2 : Int32) (h : ga_H) (bc bs : Nat) : Prop :=
  gw_X1_air_22 K post xp p0 (0 : Int32) v1 v2 h bc bs
set_option maxHeartbeats 4000000 in
theorem gj_X1_air_21 {p : Program} {l : Launch} {e : Env} {s : State} {m : MethodId} {args : Array Value} {below : List Frame} {meth : Method} {c : Code} {mc ms : Nat} {H : Heap} {locs : List Loc} {cells slots : Nat} {ls : Array Slot} (hst : l.stackTraces = false) (htab : c.exceptionTable.toList = []) (g : ga_G) (post : Int32 → ga_H → Prop) (xp : String → Nat → ga_H → Prop) (p0 : Nat) (v1 : Int32) (v2 : Int32) (h : ga_H) (bc bs : Nat) (hC : ga_Cx p s m args meth c cX1_air 4 (some .int) "PaperStore" "air") (hw : gw_X1_air_21 g.2.2 post xp p0 v1 v2 h bc bs) (hI : ga_I g h s H locs) (hbc : cells + bc ≤ mc) (hbs : slots + bs ≤ ms) (hl : lv_has ls 4 [(0, .ref p0), (1, .int v1), (2, .int v2)]) : W p l e ({ frames := 17, cells := mc, slots := ms, locals := 1389 } : Room) s m args below meth c H locs cells slots (vx_MQ below (va_Qi post (ga_E g) (ga_A g)) (ga_X g xp) args s mc ms (ga_A g)) (F0 m 21 ls []) := by
  obtain ⟨hx, hb, hml, hown, hts, hr, hlk, hnm⟩ := hC
  unfold gw_X1_air_21 at hw
  refine lv_iconst (v := 0) hx hb dX1_air_21 (by decide) ?_
  exact gj_X1_air_22 hst htab g post xp p0 (0 : Int32) v1 v2 h bc bs ⟨hx, hb, hml, hown, hts, hr, hlk, hnm⟩ hw hI hbc hbs (lv_sub hl [0, 1, 2] rfl)
def gw_X1_air (K : ga_K) (p0 : Nat) (p1 : Int32) (p2 : Int32) (h : ga_H) (mc ms : Nat) (post : Int32 → ga_H → Prop) (xp : String → Nat → ga_H → Prop) : Prop :=
  gw_X1_isAisle p1 (fun (r_1 : Int32) => (r_1 = (0 : Int32) → (gw_X1_air_21 K post xp p0 p1 p2 h mc ms)) ∧ (¬ r_1 = (0 : Int32) → (gw_X1_isIn p2 (0 : Int32) (9 : Int32) (fun (r_26 : Int32) => (r_26 = (0 : Int32) → (gw_X1_air_21 K post xp p0 p1 p2 h mc ms)) ∧ (¬ r_26 = (0 : Int32) → (gw_X1_air_22 K post xp p0 (1 : Int32) p1 p2 h mc ms))))))
set_option maxHeartbeats 4000000 in
theorem gm_X1_air (l : Launch) (hst : l.stackTraces = false) (g : ga_G) (p0 : Nat) (p1 : Int32) (p2 : Int32) (h : ga_H) (mc ms : Nat) (post : Int32 → ga_H → Prop) (xp : String → Nat → ga_H → Prop) (hw : gw_X1_air g.2.2 p0 p1 p2 h mc ms post xp) : vx_Met l yX1_air (ws_ yX1_air cX1_air 4 (some .int)) ({ frames := 17, cells := mc, slots := ms, locals := 1389 } : Room) (va_Pc [.ref p0, .int p1, .int p2] (ga_B g h)) (va_Qi post (ga_E g) (ga_A g)) (ga_X g xp) mc ms (ga_A g) := by
  refine ga_metx (own := "PaperStore") (nm := "air") (by decide) rfl rfl (by exact Nat.le_of_ble_eq_true rfl) (fun p e s m below meth c ls hC htab hI hl => ?_)
  have hl : lv_has ls 4 [(0, .ref p0), (1, .int p1), (2, .int p2)] := hl
  generalize ([.ref p0, .int p1, .int p2] : List Value).toArray = args at hC ⊢
  obtain ⟨hx, hb, hml, hown, hts, hr, hlk, hnm⟩ := hC
  unfold gw_X1_air at hw
  obtain ⟨H, eH⟩ : ∃ z, z = s.heap := ⟨_, rfl⟩
  obtain ⟨locs, elo⟩ : ∃ z : List Loc, z = [] := ⟨_, rfl⟩
  rw [← eH, ← elo] at hI ⊢
  obtain ⟨cells, slots, hbc, hbs, e0, e1⟩ : ∃ a b : Nat, a + mc ≤ mc ∧ b + ms ≤ ms ∧ a = 0 ∧ b = 0 := ⟨0, 0, by omega, by omega, rfl, rfl⟩
  show W p l e ({ frames := 17, cells := mc, slots := ms, locals := 1389 } : Room) s m args below meth c H locs 0 0 (vx_MQ below (va_Qi post (ga_E g) (ga_A g)) (ga_X g xp) args s mc ms (ga_A g)) (F0 m 0 ls [])
  suffices hgoal : W p l e ({ frames := 17, cells := mc, slots := ms, locals := 1389 } : Room) s m args below meth c H locs cells slots (vx_MQ below (va_Qi post (ga_E g) (ga_A g)) (ga_X g xp) args s mc ms (ga_A g)) (F0 m 0 ls []) by rw [e0, e1] at hgoal; exact hgoal
  refine lv_iload_n hx hb dX1_air_0 rfl (lv_at hl 1 rfl) ?_
  refine ga_callS (As := [.int p1]) (rest := []) ⟨hx, hb, hml, hown, hts⟩ (gm_X1_isAisle l p1 _ hw) (va_cwS 1 hts (lw_S q2144 q2145 q100 q2146) rfl rfl rfl hdG_X1_isAisle ⟨Nat.le_of_ble_eq_true rfl, Nat.le_of_ble_eq_true rfl⟩) rfl hl.1 rfl (ga_room (Nat.le_of_ble_eq_true rfl)) dX1_air_1 hbc hbs (fun r_1 hw => ?_)
  refine lv_if_eq (tgt := 21) hx hb dX1_air_4 (by decide) (fun hc_2 => ?_) (fun hc_2 => ?_)
  · have hw := hw.1 hc_2
    exact gj_X1_air_21 hst htab g post xp p0 p1 p2 h mc ms ⟨hx, hb, hml, hown, hts, hr, hlk, hnm⟩ hw hI hbc hbs (lv_sub hl [0, 1, 2] rfl)
  · have hw := hw.2 hc_2
    refine lv_iload_n hx hb dX1_air_7 rfl (lv_at hl 2 rfl) ?_
    refine lv_iconst (v := 0) hx hb dX1_air_8 (by decide) ?_
    refine lv_bipush (v := 9) hx hb dX1_air_9 (by decide) ?_
    refine ga_callS (As := [.int p2, .int (0 : Int32), .int (9 : Int32)]) (rest := []) ⟨hx, hb, hml, hown, hts⟩ (gm_X1_isIn l p2 (0 : Int32) (9 : Int32) _ hw) (va_cwS 3 hts (lw_S q2024 q2025 q100 q2026) rfl rfl rfl hdG_X1_isIn ⟨Nat.le_of_ble_eq_true rfl, Nat.le_of_ble_eq_true rfl⟩) rfl hl.1 rfl (ga_room (Nat.le_of_ble_eq_true rfl)) dX1_air_11 hbc hbs (fun r_26 hw => ?_)
    refine lv_if_eq (tgt := 21) hx hb dX1_air_14 (by decide) (fun hc_27 => ?_) (fun hc_27 => ?_)
    · have hw := hw.1 hc_27
      exact gj_X1_air_21 hst htab g post xp p0 p1 p2 h mc ms ⟨hx, hb, hml, hown, hts, hr, hlk, hnm⟩ hw hI hbc hbs (lv_sub hl [0, 1, 2] rfl)
    · have hw := hw.2 hc_27
      refine lv_iconst (v := 1) hx hb dX1_air_17 (by decide) ?_
      refine lv_goto (tgt := 22) hx hb dX1_air_18 (by decide) ?_
      exact gj_X1_air_22 hst htab g post xp p0 (1 : Int32) p1 p2 h mc ms ⟨hx, hb, hml, hown, hts, hr, hlk, hnm⟩ hw hI hbc hbs (lv_sub hl [0, 1, 2] rfl)
theorem hdG_X1_air : yX1_air.cls ≠ "java/lang/invoke/MethodHandle" ∧ yX1_air.cls ≠ "java/lang/invoke/VarHandle" ∧ (parseMethodDescriptor yX1_air.desc).map (fun d => d.parameters.length) = some 2 := by decide +kernel
def gw_X0_air (K : ga_K) (p0 : Option Nat) (p1 : Int32) (p2 : Int32) (p3 : Option Nat) (h : ga_H) (mc ms : Nat) (post : Int32 → ga_H → Prop) (xp : String → Nat → ga_H → Prop) : Prop :=
  ∃ a_1 : Nat, p0 = some a_1 ∧ ∃ kc_2 ks_3 : Nat, kc_2 ≤ mc ∧ ks_3 ≤ ms ∧ ∃ fs_4 : List Value, ga_at K h a_1 (ga_O 0 fs_4) ∧ gw_X1_air K a_1 p1 p2 h kc_2 ks_3 (fun (r_6 : Int32) (h_5 : ga_H) => ∃ a_10 : Nat, p3 = some a_10 ∧ ∃ (n_11 : Nat) (f_12 : Nat → Int64), h_5 a_10 = some (ga_Al n_11 f_12) ∧ vp_in (0 : Int32) n_11 ∧ ∀ h_13 : ga_H, h_13 = ga_set h_5 a_10 (ga_Al n_11 (vp_updL f_12 (0 : Int32).toNatClampNeg r_6.toInt64)) → (post (0 : Int32) h_13)) (fun (E_7 : String) (q_8 : Nat) (h_9 : ga_H) => (E_7 = "java/lang/IllegalArgumentException" ∧ (post (1 : Int32) h_9)))
set_option maxHeartbeats 4000000 in
theorem gm_X0_air (l : Launch) (hst : l.stackTraces = false) (g : ga_G) (p0 : Option Nat) (p1 : Int32) (p2 : Int32) (p3 : Option Nat) (h : ga_H) (mc ms : Nat) (post : Int32 → ga_H → Prop) (xp : String → Nat → ga_H → Prop) (hw : gw_X0_air g.2.2 p0 p1 p2 p3 h mc ms post xp) : vx_Met l yX0_air (wsW_ yX0_air cX0_air 5 (some .int) [(0, 10, 13, 13)]) ({ frames := 18, cells := mc, slots := ms, locals := 1412 } : Room) (va_Pc [va_rf p0, .int p1, .int p2, va_rf p3] (ga_B g h)) (va_Qi post (ga_E g) (ga_A g)) (ga_X g xp) mc ms (ga_A g) := by
  refine ga_metxW (own := "PaperStoreLaw") (nm := "air") (by decide) rfl rfl (by cases p0 <;> cases p3 <;> exact Nat.le_of_ble_eq_true rfl) (fun p e s m below meth c ls hC htab hI hl => ?_)
  have hl : lv_has ls 5 [(0, va_rf p0), (1, .int p1), (2, .int p2), (3, va_rf p3)] := (by cases p0 <;> cases p3 <;> exact hl)
  generalize ([va_rf p0, .int p1, .int p2, va_rf p3] : List Value).toArray = args at hC ⊢
  obtain ⟨hx, hb, hml, hown, hts, hr, hlk, hnm⟩ := hC
  unfold gw_X0_air at hw
  obtain ⟨H, eH⟩ : ∃ z, z = s.heap := ⟨_, rfl⟩
  obtain ⟨locs, elo⟩ : ∃ z : List Loc, z = [] := ⟨_, rfl⟩
  rw [← eH, ← elo] at hI ⊢
  obtain ⟨cells, slots, hbc, hbs, e0, e1⟩ : ∃ a b : Nat, a + mc ≤ mc ∧ b + ms ≤ ms ∧ a = 0 ∧ b = 0 := ⟨0, 0, by omega, by omega, rfl, rfl⟩
  show W p l e ({ frames := 18, cells := mc, slots := ms, locals := 1412 } : Room) s m args below meth c H locs 0 0 (vx_MQ below (va_Qi post (ga_E g) (ga_A g)) (ga_X g xp) args s mc ms (ga_A g)) (F0 m 0 ls [])
  suffices hgoal : W p l e ({ frames := 18, cells := mc, slots := ms, locals := 1412 } : Room) s m args below meth c H locs cells slots (vx_MQ below (va_Qi post (ga_E g) (ga_A g)) (ga_X g xp) args s mc ms (ga_A g)) (F0 m 0 ls []) by rw [e0, e1] at hgoal; exact hgoal
  refine ga_aload_n hx hb dX0_air_0 rfl (lv_at hl 3 rfl) ?_
  refine lv_iconst (v := 0) hx hb dX0_air_1 (by decide) ?_
  refine ga_aload_n hx hb dX0_air_2 rfl (lv_at hl 0 rfl) ?_
  refine lv_iload_n hx hb dX0_air_3 rfl (lv_at hl 1 rfl) ?_
  refine lv_iload_n hx hb dX0_air_4 rfl (lv_at hl 2 rfl) ?_
  obtain ⟨a_1, ea_1, hw⟩ := hw
  rewrite [ea_1]
  obtain ⟨kc_2, ks_3, hk1, hk2, hw⟩ := hw
  obtain ⟨fs_4, hq, hw⟩ := hw
  refine ga_xcalli (vx_runV (As := [.int p1, .int p2]) (rest := [.int (0 : Int32), va_rf p3]) ⟨hx, hb, hml, hown, hts⟩ (gm_X1_air l hst g a_1 p1 p2 h kc_2 ks_3 _ _ hw) (cwV 2 hts (lw_V q2295 q2296 q2297 q100 q2298) rfl rfl rfl ⟨rfl, hdG_X1_air⟩ ⟨Nat.le_of_ble_eq_true rfl, Nat.le_of_ble_eq_true rfl⟩) (ga_preV hI hq rfl rfl) rfl rfl hl.1 rfl (ga_room (Nat.le_of_ble_eq_true rfl)) dX0_air_5 ⟨Nat.le_trans (Nat.add_le_add_left hk1 _) hbc, Nat.le_trans (Nat.add_le_add_left hk2 _) hbs⟩) hI hbc hbs hk1 hk2 (fun E_7 q_8 h_9 ce H locs cells slots hw hI hce hbc hbs => ?_) (fun r_6 h_5 H locs cells slots hw hI hbc hbs => ?_)
  · obtain ⟨rfl, hw⟩ := hw
    refine ga_catch hown hts hI ([]) (⟨0, 10, 13, 13⟩) ([]) (by rw [htab]; rfl) (fun _ h => absurd h List.not_mem_nil) rfl (by decide) q2017 q1054 hce ?_
    refine W.eq (g2 := F0 m 13 ls [.ref q_8]) rfl ?_
    refine lv_astore (lv' := [(4, .ref q_8), (0, va_rf p0), (1, .int p1), (2, .int p2), (3, va_rf p3)]) hx hb dX0_air_13 hl (by decide) (by simp [ga_rcat, ga_cat_r, ga_cat_i, ga_cat_f, ga_cat_l, ga_cat_d]) (fun ls hl => ?_)
    refine lv_iconst (v := 1) hx hb dX0_air_15 (by decide) ?_
    exact ga_iretx hx hb hr rfl hlk hI hw (Nat.le_trans (Nat.le_add_right _ _) hbc) (Nat.le_trans (Nat.le_add_right _ _) hbs) dX0_air_16
  · skip
    refine lv_i2l (v := r_6.toInt64) hx hb dX0_air_8 rfl ?_
    obtain ⟨a_10, ea_10, hw⟩ := hw
    rewrite [ea_10]
    obtain ⟨n_11, f_12, hq, hi, hw⟩ := hw
    refine ga_stl hx hb hI hq hi dX0_air_9 (fun H locs hI => ?_)
    obtain ⟨h_13, eh_13⟩ : ∃ z, z = ga_set h_5 a_10 (ga_Al n_11 (vp_updL f_12 (0 : Int32).toNatClampNeg r_6.toInt64)) := ⟨_, rfl⟩
    rw [← eh_13] at hI
    have hw := hw h_13 eh_13
    refine lv_goto (tgt := 17) hx hb dX0_air_10 (by decide) ?_
    refine lv_iconst (v := 0) hx hb dX0_air_17 (by decide) ?_
    exact ga_iretx hx hb hr rfl hlk hI hw (Nat.le_trans (Nat.le_add_right _ _) hbc) (Nat.le_trans (Nat.le_add_right _ _) hbs) dX0_air_18
theorem hdG_X0_air : yX0_air.cls ≠ "java/lang/invoke/MethodHandle" ∧ yX0_air.cls ≠ "java/lang/invoke/VarHandle" ∧ (parseMethodDescriptor yX0_air.desc).map (fun d => d.parameters.length) = some 4 := by decide +kernel
def gw_X2_mice (K : ga_K) (p0 : Nat) (p1 : Int32) (p2 : Int32) (h : ga_H) (post : Int32 → ga_H → Prop) : Prop :=
  ∃ (fs_1 : List Value) (v_2 : Option Nat), h p0 = some (ga_O 1 fs_1) ∧ fs_1[0]? = some (va_rf v_2) ∧ (∃ a_3 : Nat, v_2 = some a_3 ∧ ∃ (n_4 : Nat) (f_5 : Nat → Option Nat), h a_3 = some (ga_Aq 6 n_4 f_5) ∧ vp_in p1 n_4 ∧ ∀ v_6 : Option Nat, v_6 = f_5 p1.toNatClampNeg → (∃ (fs_7 : List Value) (v_8 : Option Nat), h p0 = some (ga_O 1 fs_7) ∧ fs_7[0]? = some (va_rf v_8) ∧ (∃ a_9 : Nat, v_8 = some a_9 ∧ ∃ (n_10 : Nat) (f_11 : Nat → Option Nat), h a_9 = some (ga_Aq 6 n_10 f_11) ∧ vp_in p1 n_10 ∧ ∀ v_12 : Option Nat, v_12 = f_11 p1.toNatClampNeg → (∃ a_13 : Nat, v_12 = some a_13 ∧ ∃ (fs_14 : List Value) (v_15 : Int32), h a_13 = some (ga_O 2 fs_14) ∧ fs_14[2]? = some (.int v_15) ∧ (∀ r_16 : Int32, r_16 = (if (v_15 + p2) < (40 : Int32) then (v_15 + p2) else (40 : Int32)) → (∃ a_17 : Nat, v_6 = some a_17 ∧ ∃ fs_18 : List Value, h a_17 = some (ga_O 2 fs_18) ∧ 2 < fs_18.length ∧ ∀ h_19 : ga_H, h_19 = ga_set h a_17 (ga_O 2 (fs_18.set 2 (.int r_16))) → (∃ (fs_20 : List Value) (v_21 : Option Nat), h_19 p0 = some (ga_O 1 fs_20) ∧ fs_20[0]? = some (va_rf v_21) ∧ (∃ a_22 : Nat, v_21 = some a_22 ∧ ∃ (n_23 : Nat) (f_24 : Nat → Option Nat), h_19 a_22 = some (ga_Aq 6 n_23 f_24) ∧ vp_in p1 n_23 ∧ ∀ v_25 : Option Nat, v_25 = f_24 p1.toNatClampNeg → (∃ a_26 : Nat, v_25 = some a_26 ∧ ∃ (fs_27 : List Value) (v_28 : Int32), h_19 a_26 = some (ga_O 2 fs_27) ∧ fs_27[2]? = some (.int v_28) ∧ (post v_28 h_19))))))))))
set_option maxHeartbeats 4000000 in
theorem gm_X2_mice (l : Launch) (g : ga_G) (p0 : Nat) (p1 : Int32) (p2 : Int32) (h : ga_H) (post : Int32 → ga_H → Prop) (hw : gw_X2_mice g.2.2 p0 p1 p2 h post) : Met l yX2_mice (ws_ yX2_mice cX2_mice 3 (some .int)) ({ frames := 8, cells := 0, slots := 0, locals := 140 } : Room) (va_Pc [.ref p0, .int p1, .int p2] (ga_B g h)) (va_Qi post (ga_E g) (ga_A g)) 0 0 (ga_A g) := by
  refine ga_met (own := "PaperStore$Store") (nm := "mice") (by decide) rfl rfl (by exact Nat.le_of_ble_eq_true rfl) (fun p e s m below meth c ls hC hI hl => ?_)
  have hl : lv_has ls 3 [(0, .ref p0), (1, .int p1), (2, .int p2)] := hl
  generalize ([.ref p0, .int p1, .int p2] : List Value).toArray = args at hC ⊢
  obtain ⟨hx, hb, hml, hown, hts, hr, hlk, hnm⟩ := hC
  unfold gw_X2_mice at hw
  obtain ⟨H, eH⟩ : ∃ z, z = s.heap := ⟨_, rfl⟩
  obtain ⟨locs, elo⟩ : ∃ z : List Loc, z = [] := ⟨_, rfl⟩
  rw [← eH, ← elo] at hI ⊢
  obtain ⟨cells, slots, hbc, hbs, e0, e1⟩ : ∃ a b : Nat, a ≤ 0 ∧ b ≤ 0 ∧ a = 0 ∧ b = 0 := ⟨0, 0, by omega, by omega, rfl, rfl⟩
  show W p l e ({ frames := 8, cells := 0, slots := 0, locals := 140 } : Room) s m args below meth c H locs 0 0 (MQ below (va_Qi post (ga_E g) (ga_A g)) args s 0 0 (ga_A g)) (F0 m 0 ls [])
  suffices hgoal : W p l e ({ frames := 8, cells := 0, slots := 0, locals := 140 } : Room) s m args below meth c H locs cells slots (MQ below (va_Qi post (ga_E g) (ga_A g)) args s 0 0 (ga_A g)) (F0 m 0 ls []) by rw [e0, e1] at hgoal; exact hgoal
  refine lv_aload_n hx hb dX2_mice_0 rfl (lv_at hl 0 rfl) ?_
  obtain ⟨fs_1, v_2, hq, hv, hw⟩ := hw
  refine ga_get (ci := 1) (T := TX2) (v := va_rf v_2) hx hb hts hown hI in_X2 rfl 0 (by decide) q310 (fun _ z => z) (ga_at.h hq) hv dX2_mice_1 ?_
  refine lv_iload_n hx hb dX2_mice_4 rfl (lv_at hl 1 rfl) ?_
  obtain ⟨a_3, ea_3, hw⟩ := hw
  rewrite [ea_3]
  obtain ⟨n_4, f_5, hq, hi, hw⟩ := hw
  refine ga_ldq hx hb hI (ga_at.h hq) rfl hi dX2_mice_5 ?_
  obtain ⟨v_6, ev_6⟩ : ∃ z, z = f_5 p1.toNatClampNeg := ⟨_, rfl⟩
  rw [← ev_6]
  have hw := hw v_6 ev_6
  refine lv_bipush (v := 40) hx hb dX2_mice_6 (by decide) ?_
  refine lv_aload_n hx hb dX2_mice_8 rfl (lv_at hl 0 rfl) ?_
  obtain ⟨fs_7, v_8, hq, hv, hw⟩ := hw
  refine ga_get (ci := 1) (T := TX2) (v := va_rf v_8) hx hb hts hown hI in_X2 rfl 0 (by decide) q310 (fun _ z => z) (ga_at.h hq) hv dX2_mice_9 ?_
  refine lv_iload_n hx hb dX2_mice_12 rfl (lv_at hl 1 rfl) ?_
  obtain ⟨a_9, ea_9, hw⟩ := hw
  rewrite [ea_9]
  obtain ⟨n_10, f_11, hq, hi, hw⟩ := hw
  refine ga_ldq hx hb hI (ga_at.h hq) rfl hi dX2_mice_13 ?_
  obtain ⟨v_12, ev_12⟩ : ∃ z, z = f_11 p1.toNatClampNeg := ⟨_, rfl⟩
  rw [← ev_12]
  have hw := hw v_12 ev_12
  obtain ⟨a_13, ea_13, hw⟩ := hw
  rewrite [ea_13]
  obtain ⟨fs_14, v_15, hq, hv, hw⟩ := hw
  refine ga_getN (ci := 2) (T := TX3) (v := .int v_15) hx hb hts hown hI in_X3 rfl 2 (by decide) q286 (fun _ z => z) (ga_at.h hq) hv dX2_mice_14 ?_
  refine lv_iload_n hx hb dX2_mice_17 rfl (lv_at hl 2 rfl) ?_
  refine lv_iadd hx hb dX2_mice_18 ?_
  refine va_mmin hx hb (hml.trans hl.1.symm) hown (hts _ q2314) (hts _ q521) (hts _ q119) (hts _ q522) (Nat.le_of_ble_eq_true rfl) (Nat.le_trans (Nat.add_le_add_right (ga_sum [va_rf v_6] (Nat.le_of_ble_eq_true rfl)) _) (Nat.le_of_ble_eq_true rfl)) hbc hbs dX2_mice_19 ?_
  refine lv_topi (fun r_16 er_16 => ?_)
  have hw := hw r_16 er_16
  obtain ⟨a_17, ea_17, hw⟩ := hw
  rewrite [ea_17]
  obtain ⟨fs_18, hq, hk, hw⟩ := hw
  refine ga_putN (ci := 2) (T := TX3) (v := .int r_16) (ty := tyX3 2) hx hb hts hown hI in_X3 rfl tyX3 tyX3_ok nmX3 2 (by decide) q286 (fun _ z => z) rfl (tyX3_ok 2 (by decide)) rfl rfl hq hk dX2_mice_22 (fun H locs hI => ?_)
  obtain ⟨h_19, eh_19⟩ : ∃ z, z = ga_set h a_17 (ga_O 2 (fs_18.set 2 (.int r_16))) := ⟨_, rfl⟩
  rw [← eh_19] at hI
  have hw := hw h_19 eh_19
  refine lv_aload_n hx hb dX2_mice_25 rfl (lv_at hl 0 rfl) ?_
  obtain ⟨fs_20, v_21, hq, hv, hw⟩ := hw
  refine ga_get (ci := 1) (T := TX2) (v := va_rf v_21) hx hb hts hown hI in_X2 rfl 0 (by decide) q310 (fun _ z => z) (ga_at.h hq) hv dX2_mice_26 ?_
  refine lv_iload_n hx hb dX2_mice_29 rfl (lv_at hl 1 rfl) ?_
  obtain ⟨a_22, ea_22, hw⟩ := hw
  rewrite [ea_22]
  obtain ⟨n_23, f_24, hq, hi, hw⟩ := hw
  refine ga_ldq hx hb hI (ga_at.h hq) rfl hi dX2_mice_30 ?_
  obtain ⟨v_25, ev_25⟩ : ∃ z, z = f_24 p1.toNatClampNeg := ⟨_, rfl⟩
  rw [← ev_25]
  have hw := hw v_25 ev_25
  obtain ⟨a_26, ea_26, hw⟩ := hw
  rewrite [ea_26]
  obtain ⟨fs_27, v_28, hq, hv, hw⟩ := hw
  refine ga_getN (ci := 2) (T := TX3) (v := .int v_28) hx hb hts hown hI in_X3 rfl 2 (by decide) q286 (fun _ z => z) (ga_at.h hq) hv dX2_mice_31 ?_
  exact ga_iret hx hb hr rfl hlk hI hw hbc hbs dX2_mice_34
theorem hdG_X2_mice : yX2_mice.cls ≠ "java/lang/invoke/MethodHandle" ∧ yX2_mice.cls ≠ "java/lang/invoke/VarHandle" ∧ (parseMethodDescriptor yX2_mice.desc).map (fun d => d.parameters.length) = some 2 := by decide +kernel
def gw_X1_mice_22 (K : ga_K) (post : Int32 → ga_H → Prop) (xp : String → Nat → ga_H → Prop) (p0 : Nat) (t0 : Int32) (v1 : Int32) (v2 : Int32) (h : ga_H) (bc bs : Nat) : Prop :=
  ∃ kc_3 ks_4 : Nat, kc_3 ≤ bc ∧ ks_4 ≤ bs ∧ gw_X1_checkArgument K t0 h kc_3 ks_4 (fun (h_5 : ga_H) => ∃ (fs_9 : List Value) (v_10 : Option Nat), h_5 p0 = some (ga_O 0 fs_9) ∧ fs_9[0]? = some (va_rf v_10) ∧ (∃ a_11 : Nat, v_10 = some a_11 ∧ ∃ kc_12 ks_13 : Nat, kc_12 ≤ (bc - kc_3) ∧ ks_13 ≤ (bs - ks_4) ∧ ∃ fs_14 : List Value, ga_at K h_5 a_11 (ga_O 1 fs_14) ∧ gw_X2_copy K a_11 h_5 kc_12 ks_13 (fun (r_16 : Option Nat) (h_15 : ga_H) => ∃ a_17 : Nat, r_16 = some a_17 ∧ ∃ fs_18 : List Value, ga_at K h_15 a_17 (ga_O 1 fs_18) ∧ gw_X2_mice K a_17 v1 v2 h_15 (fun (r_20 : Int32) (h_19 : ga_H) => ∃ kc_21 ks_22 : Nat, kc_21 ≤ ((bc - kc_3) - kc_12) ∧ ks_22 ≤ ((bs - ks_4) - ks_13) ∧ ∃ fs_23 : List Value, ga_at K h_19 p0 (ga_O 0 fs_23) ∧ gw_X1_become K p0 (some a_17) r_20 h_19 kc_21 ks_22 (fun (r_25 : Int32) (h_24 : ga_H) => post r_25 h_24))))) (fun (E_6 : String) (q_7 : Nat) (h_8 : ga_H) => xp E_6 q_7 h_8)
set_option maxHeartbeats 4000000 in
theorem gj_X1_mice_22 {p : Program} {l : Launch} {e : Env} {s : State} {m : MethodId} {args : Array Value} {below : List Frame} {meth : Method} {c : Code} {mc ms : Nat} {H : Heap} {locs : List Loc} {cells slots : Nat} {ls : Array Slot} (hst : l.stackTraces = false) (htab : c.exceptionTable.toList = []) (g : ga_G) (post : Int32 → ga_H → Prop) (xp : String → Nat → ga_H → Prop) (p0 : Nat) (t0 : Int32) (v1 : Int32) (v2 : Int32) (h : ga_H) (bc bs : Nat) (hC : ga_Cx p s m args meth c cX1_mice 4 (some .int) "PaperStore" "mice") (hw : gw_X1_mice_22 g.2.2 post xp p0 t0 v1 v2 h bc bs) (hI : ga_I g h s H locs) (hbc : cells + bc ≤ mc) (hbs : slots + bs ≤ ms) (hl : lv_has ls 4 [(0, .ref p0), (1, .int v1), (2, .int v2)]) : W p l e ({ frames := 17, cells := mc, slots := ms, locals := 1389 } : Room) s m args below meth c H locs cells slots (vx_MQ below (va_Qi post (ga_E g) (ga_A g)) (ga_X g xp) args s mc ms (ga_A g)) (F0 m 22 ls [.int t0]) := by
  obtain ⟨hx, hb, hml, hown, hts, hr, hlk, hnm⟩ := hC
  unfold gw_X1_mice_22 at hw
  obtain ⟨kc_3, ks_4, hk1, hk2, hw⟩ := hw
  refine ga_xcallv (vx_runS (As := [.int t0]) (rest := []) ⟨hx, hb, hml, hown, hts⟩ (gm_X1_checkArgument l hst g t0 h kc_3 ks_4 _ _ hw) (va_cwS 1 hts (lw_S q2027 q2028 q100 q2029) rfl rfl rfl hdG_X1_checkArgument ⟨Nat.le_of_ble_eq_true rfl, Nat.le_of_ble_eq_true rfl⟩) (ga_preS hI rfl) rfl rfl hl.1 rfl (ga_room (Nat.le_of_ble_eq_true rfl)) dX1_mice_22 ⟨Nat.le_trans (Nat.add_le_add_left hk1 _) hbc, Nat.le_trans (Nat.add_le_add_left hk2 _) hbs⟩) hI hbc hbs hk1 hk2 (fun E_6 q_7 h_8 ce H locs cells slots hw hI hce hbc hbs => ?_) (fun h_5 H locs cells slots hw hI hbc hbs => ?_)
  · exact ga_out hown hlk hI hw (by rw [htab]; intro z hz; cases hz) hce (Nat.le_trans (Nat.le_add_right _ _) hbc) (Nat.le_trans (Nat.le_add_right _ _) hbs)
  · skip
    refine lv_aload_n hx hb dX1_mice_25 rfl (lv_at hl 0 rfl) ?_
    obtain ⟨fs_9, v_10, hq, hv, hw⟩ := hw
    refine ga_get (ci := 0) (T := TX1) (v := va_rf v_10) hx hb hts hown hI in_X1 rfl 0 (by decide) q387 (fun _ z => z) (ga_at.h hq) hv dX1_mice_26 ?_
    obtain ⟨a_11, ea_11, hw⟩ := hw
    rewrite [ea_11]
    obtain ⟨kc_12, ks_13, hk1, hk2, hw⟩ := hw
    obtain ⟨fs_14, hq, hw⟩ := hw
    refine ga_callq (va_runV (As := []) (rest := []) ⟨hx, hb, hml, hown, hts⟩ (gm_X2_copy l g a_11 h_5 kc_12 ks_13 _ hw) (cwV 0 hts (lw_V q1259 q1260 q1261 q101 q1262) rfl rfl rfl ⟨rfl, hdG_X2_copy⟩ ⟨Nat.le_of_ble_eq_true rfl, Nat.le_of_ble_eq_true rfl⟩) (ga_preV hI hq rfl rfl) rfl rfl hl.1 rfl (ga_room (Nat.le_of_ble_eq_true rfl)) dX1_mice_29 ⟨Nat.le_trans (Nat.add_le_add_left hk1 _) hbc, Nat.le_trans (Nat.add_le_add_left hk2 _) hbs⟩) hI hbc hbs hk1 hk2 (fun r_16 h_15 H locs cells slots hw hI hbc hbs => ?_)
    refine ga_astore_n (i := 3) (x := r_16) (lv' := [(3, va_rf r_16), (0, .ref p0), (1, .int v1), (2, .int v2)]) hx hb dX1_mice_32 rfl hl (by decide) rfl (fun ls hl => ?_)
    refine lv_aload_n hx hb dX1_mice_33 rfl (lv_at hl 1 rfl) ?_
    refine ga_aload_n hx hb dX1_mice_34 rfl (lv_at hl 0 rfl) ?_
    refine ga_aload_n hx hb dX1_mice_35 rfl (lv_at hl 0 rfl) ?_
    refine lv_iload_n hx hb dX1_mice_36 rfl (lv_at hl 2 rfl) ?_
    refine lv_iload_n hx hb dX1_mice_37 rfl (lv_at hl 3 rfl) ?_
    obtain ⟨a_17, ea_17, hw⟩ := hw
    rewrite [ea_17]
    obtain ⟨fs_18, hq, hw⟩ := hw
    refine ga_calli (va_runV (As := [.int v1, .int v2]) (rest := [.ref a_17, .ref p0]) ⟨hx, hb, hml, hown, hts⟩ (gm_X2_mice l g a_17 v1 v2 h_15 _ hw) (cwV 2 hts (lw_V q2310 q2311 q2312 q101 q2313) rfl rfl rfl ⟨rfl, hdG_X2_mice⟩ ⟨Nat.le_of_ble_eq_true rfl, Nat.le_of_ble_eq_true rfl⟩) (ga_preV hI hq rfl rfl) rfl rfl hl.1 rfl (ga_room (Nat.le_of_ble_eq_true rfl)) dX1_mice_38 ⟨Nat.le_trans (Nat.add_le_add_left (Nat.zero_le _) _) hbc, Nat.le_trans (Nat.add_le_add_left (Nat.zero_le _) _) hbs⟩) hI hbc hbs (Nat.zero_le _) (Nat.zero_le _) (fun r_20 h_19 H locs cells slots hw hI hbc hbs => ?_)
    obtain ⟨kc_21, ks_22, hk1, hk2, hw⟩ := hw
    obtain ⟨fs_23, hq, hw⟩ := hw
    refine ga_calli (va_runV (As := [va_rf (some a_17), .int r_20]) (rest := []) ⟨hx, hb, hml, hown, hts⟩ (gm_X1_become l g p0 (some a_17) r_20 h_19 kc_21 ks_22 _ hw) (cwV 2 hts (lw_V q2070 q2072 qs8 q100 q2073) rfl rfl rfl ⟨rfl, hdG_X1_become⟩ ⟨Nat.le_of_ble_eq_true rfl, Nat.le_of_ble_eq_true rfl⟩) (ga_preV hI hq rfl rfl) rfl rfl hl.1 rfl (ga_room (Nat.le_of_ble_eq_true rfl)) dX1_mice_41 ⟨Nat.le_trans (Nat.add_le_add_left hk1 _) hbc, Nat.le_trans (Nat.add_le_add_left hk2 _) hbs⟩) hI hbc hbs hk1 hk2 (fun r_25 h_24 H locs cells slots hw hI hbc hbs => ?_)
    exact ga_iretx hx hb hr rfl hlk hI hw (Nat.le_trans (Nat.le_add_right _ _) hbc) (Nat.le_trans (Nat.le_add_right _ _) hbs) dX1_mice_44
def gw_X1_mice_21 (K : ga_K) (post : Int32 → ga_H → Prop) (xp : String → Nat → ga_H → Prop) (p0 : Nat) (v1 : Int32) (v2 : Int32) (h : ga_H) (bc bs : Nat) : Prop :=
  gw_X1_mice_22 K post xp p0 (0 : Int32) v1 v2 h bc bs
set_option maxHeartbeats 4000000 in
theorem gj_X1_mice_21 {p : Program} {l : Launch} {e : Env} {s : State} {m : MethodId} {args : Array Value} {below : List Frame} {meth : Method} {c : Code} {mc ms : Nat} {H : Heap} {locs : List Loc} {cells slots : Nat} {ls : Array Slot} (hst : l.stackTraces = false) (htab : c.exceptionTable.toList = []) (g : ga_G) (post : Int32 → ga_H → Prop) (xp : String → Nat → ga_H → Prop) (p0 : Nat) (v1 : Int32) (v2 : Int32) (h : ga_H) (bc bs : Nat) (hC : ga_Cx p s m args meth c cX1_mice 4 (some .int) "PaperStore" "mice") (hw : gw_X1_mice_21 g.2.2 post xp p0 v1 v2 h bc bs) (hI : ga_I g h s H locs) (hbc : cells + bc ≤ mc) (hbs : slots + bs ≤ ms) (hl : lv_has ls 4 [(0, .ref p0), (1, .int v1), (2, .int v2)]) : W p l e ({ frames := 17, cells := mc, slots := ms, locals := 1389 } : Room) s m args below meth c H locs cells slots (vx_MQ below (va_Qi post (ga_E g) (ga_A g)) (ga_X g xp) args s mc ms (ga_A g)) (F0 m 21 ls []) := by
  obtain ⟨hx, hb, hml, hown, hts, hr, hlk, hnm⟩ := hC
  unfold gw_X1_mice_21 at hw
  refine lv_iconst (v := 0) hx hb dX1_mice_21 (by decide) ?_
  exact gj_X1_mice_22 hst htab g post xp p0 (0 : Int32) v1 v2 h bc bs ⟨hx, hb, hml, hown, hts, hr, hlk, hnm⟩ hw hI hbc hbs (lv_sub hl [0, 1, 2] rfl)
def gw_X1_mice (K : ga_K) (p0 : Nat) (p1 : Int32) (p2 : Int32) (h : ga_H) (mc ms : Nat) (post : Int32 → ga_H → Prop) (xp : String → Nat → ga_H → Prop) : Prop :=
  gw_X1_isAisle p1 (fun (r_1 : Int32) => (r_1 = (0 : Int32) → (gw_X1_mice_21 K post xp p0 p1 p2 h mc ms)) ∧ (¬ r_1 = (0 : Int32) → (gw_X1_isIn p2 (1 : Int32) (40 : Int32) (fun (r_26 : Int32) => (r_26 = (0 : Int32) → (gw_X1_mice_21 K post xp p0 p1 p2 h mc ms)) ∧ (¬ r_26 = (0 : Int32) → (gw_X1_mice_22 K post xp p0 (1 : Int32) p1 p2 h mc ms))))))
set_option maxHeartbeats 4000000 in
theorem gm_X1_mice (l : Launch) (hst : l.stackTraces = false) (g : ga_G) (p0 : Nat) (p1 : Int32) (p2 : Int32) (h : ga_H) (mc ms : Nat) (post : Int32 → ga_H → Prop) (xp : String → Nat → ga_H → Prop) (hw : gw_X1_mice g.2.2 p0 p1 p2 h mc ms post xp) : vx_Met l yX1_mice (ws_ yX1_mice cX1_mice 4 (some .int)) ({ frames := 17, cells := mc, slots := ms, locals := 1389 } : Room) (va_Pc [.ref p0, .int p1, .int p2] (ga_B g h)) (va_Qi post (ga_E g) (ga_A g)) (ga_X g xp) mc ms (ga_A g) := by
  refine ga_metx (own := "PaperStore") (nm := "mice") (by decide) rfl rfl (by exact Nat.le_of_ble_eq_true rfl) (fun p e s m below meth c ls hC htab hI hl => ?_)
  have hl : lv_has ls 4 [(0, .ref p0), (1, .int p1), (2, .int p2)] := hl
  generalize ([.ref p0, .int p1, .int p2] : List Value).toArray = args at hC ⊢
  obtain ⟨hx, hb, hml, hown, hts, hr, hlk, hnm⟩ := hC
  unfold gw_X1_mice at hw
  obtain ⟨H, eH⟩ : ∃ z, z = s.heap := ⟨_, rfl⟩
  obtain ⟨locs, elo⟩ : ∃ z : List Loc, z = [] := ⟨_, rfl⟩
  rw [← eH, ← elo] at hI ⊢
  obtain ⟨cells, slots, hbc, hbs, e0, e1⟩ : ∃ a b : Nat, a + mc ≤ mc ∧ b + ms ≤ ms ∧ a = 0 ∧ b = 0 := ⟨0, 0, by omega, by omega, rfl, rfl⟩
  show W p l e ({ frames := 17, cells := mc, slots := ms, locals := 1389 } : Room) s m args below meth c H locs 0 0 (vx_MQ below (va_Qi post (ga_E g) (ga_A g)) (ga_X g xp) args s mc ms (ga_A g)) (F0 m 0 ls [])
  suffices hgoal : W p l e ({ frames := 17, cells := mc, slots := ms, locals := 1389 } : Room) s m args below meth c H locs cells slots (vx_MQ below (va_Qi post (ga_E g) (ga_A g)) (ga_X g xp) args s mc ms (ga_A g)) (F0 m 0 ls []) by rw [e0, e1] at hgoal; exact hgoal
  refine lv_iload_n hx hb dX1_mice_0 rfl (lv_at hl 1 rfl) ?_
  refine ga_callS (As := [.int p1]) (rest := []) ⟨hx, hb, hml, hown, hts⟩ (gm_X1_isAisle l p1 _ hw) (va_cwS 1 hts (lw_S q2144 q2145 q100 q2146) rfl rfl rfl hdG_X1_isAisle ⟨Nat.le_of_ble_eq_true rfl, Nat.le_of_ble_eq_true rfl⟩) rfl hl.1 rfl (ga_room (Nat.le_of_ble_eq_true rfl)) dX1_mice_1 hbc hbs (fun r_1 hw => ?_)
  refine lv_if_eq (tgt := 21) hx hb dX1_mice_4 (by decide) (fun hc_2 => ?_) (fun hc_2 => ?_)
  · have hw := hw.1 hc_2
    exact gj_X1_mice_21 hst htab g post xp p0 p1 p2 h mc ms ⟨hx, hb, hml, hown, hts, hr, hlk, hnm⟩ hw hI hbc hbs (lv_sub hl [0, 1, 2] rfl)
  · have hw := hw.2 hc_2
    refine lv_iload_n hx hb dX1_mice_7 rfl (lv_at hl 2 rfl) ?_
    refine lv_iconst (v := 1) hx hb dX1_mice_8 (by decide) ?_
    refine lv_bipush (v := 40) hx hb dX1_mice_9 (by decide) ?_
    refine ga_callS (As := [.int p2, .int (1 : Int32), .int (40 : Int32)]) (rest := []) ⟨hx, hb, hml, hown, hts⟩ (gm_X1_isIn l p2 (1 : Int32) (40 : Int32) _ hw) (va_cwS 3 hts (lw_S q2024 q2025 q100 q2026) rfl rfl rfl hdG_X1_isIn ⟨Nat.le_of_ble_eq_true rfl, Nat.le_of_ble_eq_true rfl⟩) rfl hl.1 rfl (ga_room (Nat.le_of_ble_eq_true rfl)) dX1_mice_11 hbc hbs (fun r_26 hw => ?_)
    refine lv_if_eq (tgt := 21) hx hb dX1_mice_14 (by decide) (fun hc_27 => ?_) (fun hc_27 => ?_)
    · have hw := hw.1 hc_27
      exact gj_X1_mice_21 hst htab g post xp p0 p1 p2 h mc ms ⟨hx, hb, hml, hown, hts, hr, hlk, hnm⟩ hw hI hbc hbs (lv_sub hl [0, 1, 2] rfl)
    · have hw := hw.2 hc_27
      refine lv_iconst (v := 1) hx hb dX1_mice_17 (by decide) ?_
      refine lv_goto (tgt := 22) hx hb dX1_mice_18 (by decide) ?_
      exact gj_X1_mice_22 hst htab g post xp p0 (1 : Int32) p1 p2 h mc ms ⟨hx, hb, hml, hown, hts, hr, hlk, hnm⟩ hw hI hbc hbs (lv_sub hl [0, 1, 2] rfl)
theorem hdG_X1_mice : yX1_mice.cls ≠ "java/lang/invoke/MethodHandle" ∧ yX1_mice.cls ≠ "java/lang/invoke/VarHandle" ∧ (parseMethodDescriptor yX1_mice.desc).map (fun d => d.parameters.length) = some 2 := by decide +kernel
def gw_X0_mice (K : ga_K) (p0 : Option Nat) (p1 : Int32) (p2 : Int32) (p3 : Option Nat) (h : ga_H) (mc ms : Nat) (post : Int32 → ga_H → Prop) (xp : String → Nat → ga_H → Prop) : Prop :=
  ∃ a_1 : Nat, p0 = some a_1 ∧ ∃ kc_2 ks_3 : Nat, kc_2 ≤ mc ∧ ks_3 ≤ ms ∧ ∃ fs_4 : List Value, ga_at K h a_1 (ga_O 0 fs_4) ∧ gw_X1_mice K a_1 p1 p2 h kc_2 ks_3 (fun (r_6 : Int32) (h_5 : ga_H) => ∃ a_10 : Nat, p3 = some a_10 ∧ ∃ (n_11 : Nat) (f_12 : Nat → Int64), h_5 a_10 = some (ga_Al n_11 f_12) ∧ vp_in (0 : Int32) n_11 ∧ ∀ h_13 : ga_H, h_13 = ga_set h_5 a_10 (ga_Al n_11 (vp_updL f_12 (0 : Int32).toNatClampNeg r_6.toInt64)) → (post (0 : Int32) h_13)) (fun (E_7 : String) (q_8 : Nat) (h_9 : ga_H) => (E_7 = "java/lang/IllegalArgumentException" ∧ (post (1 : Int32) h_9)))
set_option maxHeartbeats 4000000 in
theorem gm_X0_mice (l : Launch) (hst : l.stackTraces = false) (g : ga_G) (p0 : Option Nat) (p1 : Int32) (p2 : Int32) (p3 : Option Nat) (h : ga_H) (mc ms : Nat) (post : Int32 → ga_H → Prop) (xp : String → Nat → ga_H → Prop) (hw : gw_X0_mice g.2.2 p0 p1 p2 p3 h mc ms post xp) : vx_Met l yX0_mice (wsW_ yX0_mice cX0_mice 5 (some .int) [(0, 10, 13, 13)]) ({ frames := 18, cells := mc, slots := ms, locals := 1412 } : Room) (va_Pc [va_rf p0, .int p1, .int p2, va_rf p3] (ga_B g h)) (va_Qi post (ga_E g) (ga_A g)) (ga_X g xp) mc ms (ga_A g) := by
  refine ga_metxW (own := "PaperStoreLaw") (nm := "mice") (by decide) rfl rfl (by cases p0 <;> cases p3 <;> exact Nat.le_of_ble_eq_true rfl) (fun p e s m below meth c ls hC htab hI hl => ?_)
  have hl : lv_has ls 5 [(0, va_rf p0), (1, .int p1), (2, .int p2), (3, va_rf p3)] := (by cases p0 <;> cases p3 <;> exact hl)
  generalize ([va_rf p0, .int p1, .int p2, va_rf p3] : List Value).toArray = args at hC ⊢
  obtain ⟨hx, hb, hml, hown, hts, hr, hlk, hnm⟩ := hC
  unfold gw_X0_mice at hw
  obtain ⟨H, eH⟩ : ∃ z, z = s.heap := ⟨_, rfl⟩
  obtain ⟨locs, elo⟩ : ∃ z : List Loc, z = [] := ⟨_, rfl⟩
  rw [← eH, ← elo] at hI ⊢
  obtain ⟨cells, slots, hbc, hbs, e0, e1⟩ : ∃ a b : Nat, a + mc ≤ mc ∧ b + ms ≤ ms ∧ a = 0 ∧ b = 0 := ⟨0, 0, by omega, by omega, rfl, rfl⟩
  show W p l e ({ frames := 18, cells := mc, slots := ms, locals := 1412 } : Room) s m args below meth c H locs 0 0 (vx_MQ below (va_Qi post (ga_E g) (ga_A g)) (ga_X g xp) args s mc ms (ga_A g)) (F0 m 0 ls [])
  suffices hgoal : W p l e ({ frames := 18, cells := mc, slots := ms, locals := 1412 } : Room) s m args below meth c H locs cells slots (vx_MQ below (va_Qi post (ga_E g) (ga_A g)) (ga_X g xp) args s mc ms (ga_A g)) (F0 m 0 ls []) by rw [e0, e1] at hgoal; exact hgoal
  refine ga_aload_n hx hb dX0_mice_0 rfl (lv_at hl 3 rfl) ?_
  refine lv_iconst (v := 0) hx hb dX0_mice_1 (by decide) ?_
  refine ga_aload_n hx hb dX0_mice_2 rfl (lv_at hl 0 rfl) ?_
  refine lv_iload_n hx hb dX0_mice_3 rfl (lv_at hl 1 rfl) ?_
  refine lv_iload_n hx hb dX0_mice_4 rfl (lv_at hl 2 rfl) ?_
  obtain ⟨a_1, ea_1, hw⟩ := hw
  rewrite [ea_1]
  obtain ⟨kc_2, ks_3, hk1, hk2, hw⟩ := hw
  obtain ⟨fs_4, hq, hw⟩ := hw
  refine ga_xcalli (vx_runV (As := [.int p1, .int p2]) (rest := [.int (0 : Int32), va_rf p3]) ⟨hx, hb, hml, hown, hts⟩ (gm_X1_mice l hst g a_1 p1 p2 h kc_2 ks_3 _ _ hw) (cwV 2 hts (lw_V q2306 q2307 q2308 q100 q2309) rfl rfl rfl ⟨rfl, hdG_X1_mice⟩ ⟨Nat.le_of_ble_eq_true rfl, Nat.le_of_ble_eq_true rfl⟩) (ga_preV hI hq rfl rfl) rfl rfl hl.1 rfl (ga_room (Nat.le_of_ble_eq_true rfl)) dX0_mice_5 ⟨Nat.le_trans (Nat.add_le_add_left hk1 _) hbc, Nat.le_trans (Nat.add_le_add_left hk2 _) hbs⟩) hI hbc hbs hk1 hk2 (fun E_7 q_8 h_9 ce H locs cells slots hw hI hce hbc hbs => ?_) (fun r_6 h_5 H locs cells slots hw hI hbc hbs => ?_)
  · obtain ⟨rfl, hw⟩ := hw
    refine ga_catch hown hts hI ([]) (⟨0, 10, 13, 13⟩) ([]) (by rw [htab]; rfl) (fun _ h => absurd h List.not_mem_nil) rfl (by decide) q2017 q1054 hce ?_
    refine W.eq (g2 := F0 m 13 ls [.ref q_8]) rfl ?_
    refine lv_astore (lv' := [(4, .ref q_8), (0, va_rf p0), (1, .int p1), (2, .int p2), (3, va_rf p3)]) hx hb dX0_mice_13 hl (by decide) (by simp [ga_rcat, ga_cat_r, ga_cat_i, ga_cat_f, ga_cat_l, ga_cat_d]) (fun ls hl => ?_)
    refine lv_iconst (v := 1) hx hb dX0_mice_15 (by decide) ?_
    exact ga_iretx hx hb hr rfl hlk hI hw (Nat.le_trans (Nat.le_add_right _ _) hbc) (Nat.le_trans (Nat.le_add_right _ _) hbs) dX0_mice_16
  · skip
    refine lv_i2l (v := r_6.toInt64) hx hb dX0_mice_8 rfl ?_
    obtain ⟨a_10, ea_10, hw⟩ := hw
    rewrite [ea_10]
    obtain ⟨n_11, f_12, hq, hi, hw⟩ := hw
    refine ga_stl hx hb hI hq hi dX0_mice_9 (fun H locs hI => ?_)
    obtain ⟨h_13, eh_13⟩ : ∃ z, z = ga_set h_5 a_10 (ga_Al n_11 (vp_updL f_12 (0 : Int32).toNatClampNeg r_6.toInt64)) := ⟨_, rfl⟩
    rw [← eh_13] at hI
    have hw := hw h_13 eh_13
    refine lv_goto (tgt := 17) hx hb dX0_mice_10 (by decide) ?_
    refine lv_iconst (v := 0) hx hb dX0_mice_17 (by decide) ?_
    exact ga_iretx hx hb hr rfl hlk hI hw (Nat.le_trans (Nat.le_add_right _ _) hbc) (Nat.le_trans (Nat.le_add_right _ _) hbs) dX0_mice_18
theorem hdG_X0_mice : yX0_mice.cls ≠ "java/lang/invoke/MethodHandle" ∧ yX0_mice.cls ≠ "java/lang/invoke/VarHandle" ∧ (parseMethodDescriptor yX0_mice.desc).map (fun d => d.parameters.length) = some 4 := by decide +kernel
def gw_X2_trap (K : ga_K) (p0 : Nat) (p1 : Int32) (p2 : Int32) (h : ga_H) (post : Int32 → ga_H → Prop) : Prop :=
  ∃ (fs_1 : List Value) (v_2 : Option Nat), h p0 = some (ga_O 1 fs_1) ∧ fs_1[0]? = some (va_rf v_2) ∧ (∃ a_3 : Nat, v_2 = some a_3 ∧ ∃ (n_4 : Nat) (f_5 : Nat → Option Nat), h a_3 = some (ga_Aq 6 n_4 f_5) ∧ vp_in p1 n_4 ∧ ∀ v_6 : Option Nat, v_6 = f_5 p1.toNatClampNeg → (∃ a_7 : Nat, v_6 = some a_7 ∧ ∃ (fs_8 : List Value) (v_9 : Int32), h a_7 = some (ga_O 2 fs_8) ∧ fs_8[3]? = some (.int v_9) ∧ (∃ (fs_10 : List Value) (v_11 : Option Nat), h p0 = some (ga_O 1 fs_10) ∧ fs_10[0]? = some (va_rf v_11) ∧ (∃ a_12 : Nat, v_11 = some a_12 ∧ ∃ (n_13 : Nat) (f_14 : Nat → Option Nat), h a_12 = some (ga_Aq 6 n_13 f_14) ∧ vp_in p1 n_13 ∧ ∀ v_15 : Option Nat, v_15 = f_14 p1.toNatClampNeg → (∃ a_16 : Nat, v_15 = some a_16 ∧ ∃ fs_17 : List Value, h a_16 = some (ga_O 2 fs_17) ∧ 3 < fs_17.length ∧ ∀ h_18 : ga_H, h_18 = ga_set h a_16 (ga_O 2 (fs_17.set 3 (.int p2))) → (post v_9 h_18))))))
set_option maxHeartbeats 4000000 in
theorem gm_X2_trap (l : Launch) (g : ga_G) (p0 : Nat) (p1 : Int32) (p2 : Int32) (h : ga_H) (post : Int32 → ga_H → Prop) (hw : gw_X2_trap g.2.2 p0 p1 p2 h post) : Met l yX2_trap (ws_ yX2_trap cX2_trap 4 (some .int)) ({ frames := 8, cells := 0, slots := 0, locals := 140 } : Room) (va_Pc [.ref p0, .int p1, .int p2] (ga_B g h)) (va_Qi post (ga_E g) (ga_A g)) 0 0 (ga_A g) := by
  refine ga_met (own := "PaperStore$Store") (nm := "trap") (by decide) rfl rfl (by exact Nat.le_of_ble_eq_true rfl) (fun p e s m below meth c ls hC hI hl => ?_)
  have hl : lv_has ls 4 [(0, .ref p0), (1, .int p1), (2, .int p2)] := hl
  generalize ([.ref p0, .int p1, .int p2] : List Value).toArray = args at hC ⊢
  obtain ⟨hx, hb, hml, hown, hts, hr, hlk, hnm⟩ := hC
  unfold gw_X2_trap at hw
  obtain ⟨H, eH⟩ : ∃ z, z = s.heap := ⟨_, rfl⟩
  obtain ⟨locs, elo⟩ : ∃ z : List Loc, z = [] := ⟨_, rfl⟩
  rw [← eH, ← elo] at hI ⊢
  obtain ⟨cells, slots, hbc, hbs, e0, e1⟩ : ∃ a b : Nat, a ≤ 0 ∧ b ≤ 0 ∧ a = 0 ∧ b = 0 := ⟨0, 0, by omega, by omega, rfl, rfl⟩
  show W p l e ({ frames := 8, cells := 0, slots := 0, locals := 140 } : Room) s m args below meth c H locs 0 0 (MQ below (va_Qi post (ga_E g) (ga_A g)) args s 0 0 (ga_A g)) (F0 m 0 ls [])
  suffices hgoal : W p l e ({ frames := 8, cells := 0, slots := 0, locals := 140 } : Room) s m args below meth c H locs cells slots (MQ below (va_Qi post (ga_E g) (ga_A g)) args s 0 0 (ga_A g)) (F0 m 0 ls []) by rw [e0, e1] at hgoal; exact hgoal
  refine lv_aload_n hx hb dX2_trap_0 rfl (lv_at hl 0 rfl) ?_
  obtain ⟨fs_1, v_2, hq, hv, hw⟩ := hw
  refine ga_get (ci := 1) (T := TX2) (v := va_rf v_2) hx hb hts hown hI in_X2 rfl 0 (by decide) q310 (fun _ z => z) (ga_at.h hq) hv dX2_trap_1 ?_
  refine lv_iload_n hx hb dX2_trap_4 rfl (lv_at hl 1 rfl) ?_
  obtain ⟨a_3, ea_3, hw⟩ := hw
  rewrite [ea_3]
  obtain ⟨n_4, f_5, hq, hi, hw⟩ := hw
  refine ga_ldq hx hb hI (ga_at.h hq) rfl hi dX2_trap_5 ?_
  obtain ⟨v_6, ev_6⟩ : ∃ z, z = f_5 p1.toNatClampNeg := ⟨_, rfl⟩
  rw [← ev_6]
  have hw := hw v_6 ev_6
  obtain ⟨a_7, ea_7, hw⟩ := hw
  rewrite [ea_7]
  obtain ⟨fs_8, v_9, hq, hv, hw⟩ := hw
  refine ga_getN (ci := 2) (T := TX3) (v := .int v_9) hx hb hts hown hI in_X3 rfl 3 (by decide) q289 (fun _ z => z) (ga_at.h hq) hv dX2_trap_6 ?_
  refine lv_istore_n (i := 3) (lv' := [(3, .int v_9), (0, .ref p0), (1, .int p1), (2, .int p2)]) hx hb dX2_trap_9 rfl hl (by decide) rfl (fun ls hl => ?_)
  refine lv_aload_n hx hb dX2_trap_10 rfl (lv_at hl 1 rfl) ?_
  obtain ⟨fs_10, v_11, hq, hv, hw⟩ := hw
  refine ga_get (ci := 1) (T := TX2) (v := va_rf v_11) hx hb hts hown hI in_X2 rfl 0 (by decide) q310 (fun _ z => z) (ga_at.h hq) hv dX2_trap_11 ?_
  refine lv_iload_n hx hb dX2_trap_14 rfl (lv_at hl 2 rfl) ?_
  obtain ⟨a_12, ea_12, hw⟩ := hw
  rewrite [ea_12]
  obtain ⟨n_13, f_14, hq, hi, hw⟩ := hw
  refine ga_ldq hx hb hI (ga_at.h hq) rfl hi dX2_trap_15 ?_
  obtain ⟨v_15, ev_15⟩ : ∃ z, z = f_14 p1.toNatClampNeg := ⟨_, rfl⟩
  rw [← ev_15]
  have hw := hw v_15 ev_15
  refine lv_iload_n hx hb dX2_trap_16 rfl (lv_at hl 3 rfl) ?_
  obtain ⟨a_16, ea_16, hw⟩ := hw
  rewrite [ea_16]
  obtain ⟨fs_17, hq, hk, hw⟩ := hw
  refine ga_putN (ci := 2) (T := TX3) (v := .int p2) (ty := tyX3 3) hx hb hts hown hI in_X3 rfl tyX3 tyX3_ok nmX3 3 (by decide) q289 (fun _ z => z) rfl (tyX3_ok 3 (by decide)) rfl rfl hq hk dX2_trap_17 (fun H locs hI => ?_)
  obtain ⟨h_18, eh_18⟩ : ∃ z, z = ga_set h a_16 (ga_O 2 (fs_17.set 3 (.int p2))) := ⟨_, rfl⟩
  rw [← eh_18] at hI
  have hw := hw h_18 eh_18
  refine lv_iload_n hx hb dX2_trap_20 rfl (lv_at hl 0 rfl) ?_
  exact ga_iret hx hb hr rfl hlk hI hw hbc hbs dX2_trap_21
theorem hdG_X2_trap : yX2_trap.cls ≠ "java/lang/invoke/MethodHandle" ∧ yX2_trap.cls ≠ "java/lang/invoke/VarHandle" ∧ (parseMethodDescriptor yX2_trap.desc).map (fun d => d.parameters.length) = some 2 := by decide +kernel
def gw_X1_trap_21 (K : ga_K) (post : Int32 → ga_H → Prop) (xp : String → Nat → ga_H → Prop) (p0 : Nat) (t0 : Int32) (v1 : Int32) (v2 : Int32) (h : ga_H) (bc bs : Nat) : Prop :=
  ∃ kc_3 ks_4 : Nat, kc_3 ≤ bc ∧ ks_4 ≤ bs ∧ gw_X1_checkArgument K t0 h kc_3 ks_4 (fun (h_5 : ga_H) => ∃ (fs_9 : List Value) (v_10 : Option Nat), h_5 p0 = some (ga_O 0 fs_9) ∧ fs_9[0]? = some (va_rf v_10) ∧ (∃ a_11 : Nat, v_10 = some a_11 ∧ ∃ kc_12 ks_13 : Nat, kc_12 ≤ (bc - kc_3) ∧ ks_13 ≤ (bs - ks_4) ∧ ∃ fs_14 : List Value, ga_at K h_5 a_11 (ga_O 1 fs_14) ∧ gw_X2_copy K a_11 h_5 kc_12 ks_13 (fun (r_16 : Option Nat) (h_15 : ga_H) => ∃ a_17 : Nat, r_16 = some a_17 ∧ ∃ fs_18 : List Value, ga_at K h_15 a_17 (ga_O 1 fs_18) ∧ gw_X2_trap K a_17 v1 v2 h_15 (fun (r_20 : Int32) (h_19 : ga_H) => ∃ kc_21 ks_22 : Nat, kc_21 ≤ ((bc - kc_3) - kc_12) ∧ ks_22 ≤ ((bs - ks_4) - ks_13) ∧ ∃ fs_23 : List Value, ga_at K h_19 p0 (ga_O 0 fs_23) ∧ gw_X1_become K p0 (some a_17) r_20 h_19 kc_21 ks_22 (fun (r_25 : Int32) (h_24 : ga_H) => post r_25 h_24))))) (fun (E_6 : String) (q_7 : Nat) (h_8 : ga_H) => xp E_6 q_7 h_8)
set_option maxHeartbeats 4000000 in
theorem gj_X1_trap_21 {p : Program} {l : Launch} {e : Env} {s : State} {m : MethodId} {args : Array Value} {below : List Frame} {meth : Method} {c : Code} {mc ms : Nat} {H : Heap} {locs : List Loc} {cells slots : Nat} {ls : Array Slot} (hst : l.stackTraces = false) (htab : c.exceptionTable.toList = []) (g : ga_G) (post : Int32 → ga_H → Prop) (xp : String → Nat → ga_H → Prop) (p0 : Nat) (t0 : Int32) (v1 : Int32) (v2 : Int32) (h : ga_H) (bc bs : Nat) (hC : ga_Cx p s m args meth c cX1_trap 4 (some .int) "PaperStore" "trap") (hw : gw_X1_trap_21 g.2.2 post xp p0 t0 v1 v2 h bc bs) (hI : ga_I g h s H locs) (hbc : cells + bc ≤ mc) (hbs : slots + bs ≤ ms) (hl : lv_has ls 4 [(0, .ref p0), (1, .int v1), (2, .int v2)]) : W p l e ({ frames := 17, cells := mc, slots := ms, locals := 1389 } : Room) s m args below meth c H locs cells slots (vx_MQ below (va_Qi post (ga_E g) (ga_A g)) (ga_X g xp) args s mc ms (ga_A g)) (F0 m 21 ls [.int t0]) := by
  obtain ⟨hx, hb, hml, hown, hts, hr, hlk, hnm⟩ := hC
  unfold gw_X1_trap_21 at hw
  obtain ⟨kc_3, ks_4, hk1, hk2, hw⟩ := hw
  refine ga_xcallv (vx_runS (As := [.int t0]) (rest := []) ⟨hx, hb, hml, hown, hts⟩ (gm_X1_checkArgument l hst g t0 h kc_3 ks_4 _ _ hw) (va_cwS 1 hts (lw_S q2027 q2028 q100 q2029) rfl rfl rfl hdG_X1_checkArgument ⟨Nat.le_of_ble_eq_true rfl, Nat.le_of_ble_eq_true rfl⟩) (ga_preS hI rfl) rfl rfl hl.1 rfl (ga_room (Nat.le_of_ble_eq_true rfl)) dX1_trap_21 ⟨Nat.le_trans (Nat.add_le_add_left hk1 _) hbc, Nat.le_trans (Nat.add_le_add_left hk2 _) hbs⟩) hI hbc hbs hk1 hk2 (fun E_6 q_7 h_8 ce H locs cells slots hw hI hce hbc hbs => ?_) (fun h_5 H locs cells slots hw hI hbc hbs => ?_)
  · exact ga_out hown hlk hI hw (by rw [htab]; intro z hz; cases hz) hce (Nat.le_trans (Nat.le_add_right _ _) hbc) (Nat.le_trans (Nat.le_add_right _ _) hbs)
  · skip
    refine lv_aload_n hx hb dX1_trap_24 rfl (lv_at hl 0 rfl) ?_
    obtain ⟨fs_9, v_10, hq, hv, hw⟩ := hw
    refine ga_get (ci := 0) (T := TX1) (v := va_rf v_10) hx hb hts hown hI in_X1 rfl 0 (by decide) q387 (fun _ z => z) (ga_at.h hq) hv dX1_trap_25 ?_
    obtain ⟨a_11, ea_11, hw⟩ := hw
    rewrite [ea_11]
    obtain ⟨kc_12, ks_13, hk1, hk2, hw⟩ := hw
    obtain ⟨fs_14, hq, hw⟩ := hw
    refine ga_callq (va_runV (As := []) (rest := []) ⟨hx, hb, hml, hown, hts⟩ (gm_X2_copy l g a_11 h_5 kc_12 ks_13 _ hw) (cwV 0 hts (lw_V q1259 q1260 q1261 q101 q1262) rfl rfl rfl ⟨rfl, hdG_X2_copy⟩ ⟨Nat.le_of_ble_eq_true rfl, Nat.le_of_ble_eq_true rfl⟩) (ga_preV hI hq rfl rfl) rfl rfl hl.1 rfl (ga_room (Nat.le_of_ble_eq_true rfl)) dX1_trap_28 ⟨Nat.le_trans (Nat.add_le_add_left hk1 _) hbc, Nat.le_trans (Nat.add_le_add_left hk2 _) hbs⟩) hI hbc hbs hk1 hk2 (fun r_16 h_15 H locs cells slots hw hI hbc hbs => ?_)
    refine ga_astore_n (i := 3) (x := r_16) (lv' := [(3, va_rf r_16), (0, .ref p0), (1, .int v1), (2, .int v2)]) hx hb dX1_trap_31 rfl hl (by decide) rfl (fun ls hl => ?_)
    refine lv_aload_n hx hb dX1_trap_32 rfl (lv_at hl 1 rfl) ?_
    refine ga_aload_n hx hb dX1_trap_33 rfl (lv_at hl 0 rfl) ?_
    refine ga_aload_n hx hb dX1_trap_34 rfl (lv_at hl 0 rfl) ?_
    refine lv_iload_n hx hb dX1_trap_35 rfl (lv_at hl 2 rfl) ?_
    refine lv_iload_n hx hb dX1_trap_36 rfl (lv_at hl 3 rfl) ?_
    obtain ⟨a_17, ea_17, hw⟩ := hw
    rewrite [ea_17]
    obtain ⟨fs_18, hq, hw⟩ := hw
    refine ga_calli (va_runV (As := [.int v1, .int v2]) (rest := [.ref a_17, .ref p0]) ⟨hx, hb, hml, hown, hts⟩ (gm_X2_trap l g a_17 v1 v2 h_15 _ hw) (cwV 2 hts (lw_V q2322 q2323 q2324 q101 q2325) rfl rfl rfl ⟨rfl, hdG_X2_trap⟩ ⟨Nat.le_of_ble_eq_true rfl, Nat.le_of_ble_eq_true rfl⟩) (ga_preV hI hq rfl rfl) rfl rfl hl.1 rfl (ga_room (Nat.le_of_ble_eq_true rfl)) dX1_trap_37 ⟨Nat.le_trans (Nat.add_le_add_left (Nat.zero_le _) _) hbc, Nat.le_trans (Nat.add_le_add_left (Nat.zero_le _) _) hbs⟩) hI hbc hbs (Nat.zero_le _) (Nat.zero_le _) (fun r_20 h_19 H locs cells slots hw hI hbc hbs => ?_)
    obtain ⟨kc_21, ks_22, hk1, hk2, hw⟩ := hw
    obtain ⟨fs_23, hq, hw⟩ := hw
    refine ga_calli (va_runV (As := [va_rf (some a_17), .int r_20]) (rest := []) ⟨hx, hb, hml, hown, hts⟩ (gm_X1_become l g p0 (some a_17) r_20 h_19 kc_21 ks_22 _ hw) (cwV 2 hts (lw_V q2070 q2072 qs8 q100 q2073) rfl rfl rfl ⟨rfl, hdG_X1_become⟩ ⟨Nat.le_of_ble_eq_true rfl, Nat.le_of_ble_eq_true rfl⟩) (ga_preV hI hq rfl rfl) rfl rfl hl.1 rfl (ga_room (Nat.le_of_ble_eq_true rfl)) dX1_trap_40 ⟨Nat.le_trans (Nat.add_le_add_left hk1 _) hbc, Nat.le_trans (Nat.add_le_add_left hk2 _) hbs⟩) hI hbc hbs hk1 hk2 (fun r_25 h_24 H locs cells slots hw hI hbc hbs => ?_)
    exact ga_iretx hx hb hr rfl hlk hI hw (Nat.le_trans (Nat.le_add_right _ _) hbc) (Nat.le_trans (Nat.le_add_right _ _) hbs) dX1_trap_43
def gw_X1_trap_20 (K : ga_K) (post : Int32 → ga_H → Prop) (xp : String → Nat → ga_H → Prop) (p0 : Nat) (v1 : Int32) (v2 : Int32) (h : ga_H) (bc bs : Nat) : Prop :=
  gw_X1_trap_21 K post xp p0 (0 : Int32) v1 v2 h bc bs
set_option maxHeartbeats 4000000 in
theorem gj_X1_trap_20 {p : Program} {l : Launch} {e : Env} {s : State} {m : MethodId} {args : Array Value} {below : List Frame} {meth : Method} {c : Code} {mc ms : Nat} {H : Heap} {locs : List Loc} {cells slots : Nat} {ls : Array Slot} (hst : l.stackTraces = false) (htab : c.exceptionTable.toList = []) (g : ga_G) (post : Int32 → ga_H → Prop) (xp : String → Nat → ga_H → Prop) (p0 : Nat) (v1 : Int32) (v2 : Int32) (h : ga_H) (bc bs : Nat) (hC : ga_Cx p s m args meth c cX1_trap 4 (some .int) "PaperStore" "trap") (hw : gw_X1_trap_20 g.2.2 post xp p0 v1 v2 h bc bs) (hI : ga_I g h s H locs) (hbc : cells + bc ≤ mc) (hbs : slots + bs ≤ ms) (hl : lv_has ls 4 [(0, .ref p0), (1, .int v1), (2, .int v2)]) : W p l e ({ frames := 17, cells := mc, slots := ms, locals := 1389 } : Room) s m args below meth c H locs cells slots (vx_MQ below (va_Qi post (ga_E g) (ga_A g)) (ga_X g xp) args s mc ms (ga_A g)) (F0 m 20 ls []) := by
  obtain ⟨hx, hb, hml, hown, hts, hr, hlk, hnm⟩ := hC
  unfold gw_X1_trap_20 at hw
  refine lv_iconst (v := 0) hx hb dX1_trap_20 (by decide) ?_
  exact gj_X1_trap_21 hst htab g post xp p0 (0 : Int32) v1 v2 h bc bs ⟨hx, hb, hml, hown, hts, hr, hlk, hnm⟩ hw hI hbc hbs (lv_sub hl [0, 1, 2] rfl)
def gw_X1_trap (K : ga_K) (p0 : Nat) (p1 : Int32) (p2 : Int32) (h : ga_H) (mc ms : Nat) (post : Int32 → ga_H → Prop) (xp : String → Nat → ga_H → Prop) : Prop :=
  gw_X1_isAisle p1 (fun (r_1 : Int32) => (r_1 = (0 : Int32) → (gw_X1_trap_20 K post xp p0 p1 p2 h mc ms)) ∧ (¬ r_1 = (0 : Int32) → (gw_X1_isIn p2 (0 : Int32) (5 : Int32) (fun (r_26 : Int32) => (r_26 = (0 : Int32) → (gw_X1_trap_20 K post xp p0 p1 p2 h mc ms)) ∧ (¬ r_26 = (0 : Int32) → (gw_X1_trap_21 K post xp p0 (1 : Int32) p1 p2 h mc ms))))))
set_option maxHeartbeats 4000000 in
theorem gm_X1_trap (l : Launch) (hst : l.stackTraces = false) (g : ga_G) (p0 : Nat) (p1 : Int32) (p2 : Int32) (h : ga_H) (mc ms : Nat) (post : Int32 → ga_H → Prop) (xp : String → Nat → ga_H → Prop) (hw : gw_X1_trap g.2.2 p0 p1 p2 h mc ms post xp) : vx_Met l yX1_trap (ws_ yX1_trap cX1_trap 4 (some .int)) ({ frames := 17, cells := mc, slots := ms, locals := 1389 } : Room) (va_Pc [.ref p0, .int p1, .int p2] (ga_B g h)) (va_Qi post (ga_E g) (ga_A g)) (ga_X g xp) mc ms (ga_A g) := by
  refine ga_metx (own := "PaperStore") (nm := "trap") (by decide) rfl rfl (by exact Nat.le_of_ble_eq_true rfl) (fun p e s m below meth c ls hC htab hI hl => ?_)
  have hl : lv_has ls 4 [(0, .ref p0), (1, .int p1), (2, .int p2)] := hl
  generalize ([.ref p0, .int p1, .int p2] : List Value).toArray = args at hC ⊢
  obtain ⟨hx, hb, hml, hown, hts, hr, hlk, hnm⟩ := hC
  unfold gw_X1_trap at hw
  obtain ⟨H, eH⟩ : ∃ z, z = s.heap := ⟨_, rfl⟩
  obtain ⟨locs, elo⟩ : ∃ z : List Loc, z = [] := ⟨_, rfl⟩
  rw [← eH, ← elo] at hI ⊢
  obtain ⟨cells, slots, hbc, hbs, e0, e1⟩ : ∃ a b : Nat, a + mc ≤ mc ∧ b + ms ≤ ms ∧ a = 0 ∧ b = 0 := ⟨0, 0, by omega, by omega, rfl, rfl⟩
  show W p l e ({ frames := 17, cells := mc, slots := ms, locals := 1389 } : Room) s m args below meth c H locs 0 0 (vx_MQ below (va_Qi post (ga_E g) (ga_A g)) (ga_X g xp) args s mc ms (ga_A g)) (F0 m 0 ls [])
  suffices hgoal : W p l e ({ frames := 17, cells := mc, slots := ms, locals := 1389 } : Room) s m args below meth c H locs cells slots (vx_MQ below (va_Qi post (ga_E g) (ga_A g)) (ga_X g xp) args s mc ms (ga_A g)) (F0 m 0 ls []) by rw [e0, e1] at hgoal; exact hgoal
  refine lv_iload_n hx hb dX1_trap_0 rfl (lv_at hl 1 rfl) ?_
  refine ga_callS (As := [.int p1]) (rest := []) ⟨hx, hb, hml, hown, hts⟩ (gm_X1_isAisle l p1 _ hw) (va_cwS 1 hts (lw_S q2144 q2145 q100 q2146) rfl rfl rfl hdG_X1_isAisle ⟨Nat.le_of_ble_eq_true rfl, Nat.le_of_ble_eq_true rfl⟩) rfl hl.1 rfl (ga_room (Nat.le_of_ble_eq_true rfl)) dX1_trap_1 hbc hbs (fun r_1 hw => ?_)
  refine lv_if_eq (tgt := 20) hx hb dX1_trap_4 (by decide) (fun hc_2 => ?_) (fun hc_2 => ?_)
  · have hw := hw.1 hc_2
    exact gj_X1_trap_20 hst htab g post xp p0 p1 p2 h mc ms ⟨hx, hb, hml, hown, hts, hr, hlk, hnm⟩ hw hI hbc hbs (lv_sub hl [0, 1, 2] rfl)
  · have hw := hw.2 hc_2
    refine lv_iload_n hx hb dX1_trap_7 rfl (lv_at hl 2 rfl) ?_
    refine lv_iconst (v := 0) hx hb dX1_trap_8 (by decide) ?_
    refine lv_iconst (v := 5) hx hb dX1_trap_9 (by decide) ?_
    refine ga_callS (As := [.int p2, .int (0 : Int32), .int (5 : Int32)]) (rest := []) ⟨hx, hb, hml, hown, hts⟩ (gm_X1_isIn l p2 (0 : Int32) (5 : Int32) _ hw) (va_cwS 3 hts (lw_S q2024 q2025 q100 q2026) rfl rfl rfl hdG_X1_isIn ⟨Nat.le_of_ble_eq_true rfl, Nat.le_of_ble_eq_true rfl⟩) rfl hl.1 rfl (ga_room (Nat.le_of_ble_eq_true rfl)) dX1_trap_10 hbc hbs (fun r_26 hw => ?_)
    refine lv_if_eq (tgt := 20) hx hb dX1_trap_13 (by decide) (fun hc_27 => ?_) (fun hc_27 => ?_)
    · have hw := hw.1 hc_27
      exact gj_X1_trap_20 hst htab g post xp p0 p1 p2 h mc ms ⟨hx, hb, hml, hown, hts, hr, hlk, hnm⟩ hw hI hbc hbs (lv_sub hl [0, 1, 2] rfl)
    · have hw := hw.2 hc_27
      refine lv_iconst (v := 1) hx hb dX1_trap_16 (by decide) ?_
      refine lv_goto (tgt := 21) hx hb dX1_trap_17 (by decide) ?_
      exact gj_X1_trap_21 hst htab g post xp p0 (1 : Int32) p1 p2 h mc ms ⟨hx, hb, hml, hown, hts, hr, hlk, hnm⟩ hw hI hbc hbs (lv_sub hl [0, 1, 2] rfl)
theorem hdG_X1_trap : yX1_trap.cls ≠ "java/lang/invoke/MethodHandle" ∧ yX1_trap.cls ≠ "java/lang/invoke/VarHandle" ∧ (parseMethodDescriptor yX1_trap.desc).map (fun d => d.parameters.length) = some 2 := by decide +kernel
def gw_X0_trap (K : ga_K) (p0 : Option Nat) (p1 : Int32) (p2 : Int32) (p3 : Option Nat) (h : ga_H) (mc ms : Nat) (post : Int32 → ga_H → Prop) (xp : String → Nat → ga_H → Prop) : Prop :=
  ∃ a_1 : Nat, p0 = some a_1 ∧ ∃ kc_2 ks_3 : Nat, kc_2 ≤ mc ∧ ks_3 ≤ ms ∧ ∃ fs_4 : List Value, ga_at K h a_1 (ga_O 0 fs_4) ∧ gw_X1_trap K a_1 p1 p2 h kc_2 ks_3 (fun (r_6 : Int32) (h_5 : ga_H) => ∃ a_10 : Nat, p3 = some a_10 ∧ ∃ (n_11 : Nat) (f_12 : Nat → Int64), h_5 a_10 = some (ga_Al n_11 f_12) ∧ vp_in (0 : Int32) n_11 ∧ ∀ h_13 : ga_H, h_13 = ga_set h_5 a_10 (ga_Al n_11 (vp_updL f_12 (0 : Int32).toNatClampNeg r_6.toInt64)) → (post (0 : Int32) h_13)) (fun (E_7 : String) (q_8 : Nat) (h_9 : ga_H) => (E_7 = "java/lang/IllegalArgumentException" ∧ (post (1 : Int32) h_9)))
set_option maxHeartbeats 4000000 in
theorem gm_X0_trap (l : Launch) (hst : l.stackTraces = false) (g : ga_G) (p0 : Option Nat) (p1 : Int32) (p2 : Int32) (p3 : Option Nat) (h : ga_H) (mc ms : Nat) (post : Int32 → ga_H → Prop) (xp : String → Nat → ga_H → Prop) (hw : gw_X0_trap g.2.2 p0 p1 p2 p3 h mc ms post xp) : vx_Met l yX0_trap (wsW_ yX0_trap cX0_trap 5 (some .int) [(0, 10, 13, 13)]) ({ frames := 18, cells := mc, slots := ms, locals := 1412 } : Room) (va_Pc [va_rf p0, .int p1, .int p2, va_rf p3] (ga_B g h)) (va_Qi post (ga_E g) (ga_A g)) (ga_X g xp) mc ms (ga_A g) := by
  refine ga_metxW (own := "PaperStoreLaw") (nm := "trap") (by decide) rfl rfl (by cases p0 <;> cases p3 <;> exact Nat.le_of_ble_eq_true rfl) (fun p e s m below meth c ls hC htab hI hl => ?_)
  have hl : lv_has ls 5 [(0, va_rf p0), (1, .int p1), (2, .int p2), (3, va_rf p3)] := (by cases p0 <;> cases p3 <;> exact hl)
  generalize ([va_rf p0, .int p1, .int p2, va_rf p3] : List Value).toArray = args at hC ⊢
  obtain ⟨hx, hb, hml, hown, hts, hr, hlk, hnm⟩ := hC
  unfold gw_X0_trap at hw
  obtain ⟨H, eH⟩ : ∃ z, z = s.heap := ⟨_, rfl⟩
  obtain ⟨locs, elo⟩ : ∃ z : List Loc, z = [] := ⟨_, rfl⟩
  rw [← eH, ← elo] at hI ⊢
  obtain ⟨cells, slots, hbc, hbs, e0, e1⟩ : ∃ a b : Nat, a + mc ≤ mc ∧ b + ms ≤ ms ∧ a = 0 ∧ b = 0 := ⟨0, 0, by omega, by omega, rfl, rfl⟩
  show W p l e ({ frames := 18, cells := mc, slots := ms, locals := 1412 } : Room) s m args below meth c H locs 0 0 (vx_MQ below (va_Qi post (ga_E g) (ga_A g)) (ga_X g xp) args s mc ms (ga_A g)) (F0 m 0 ls [])
  suffices hgoal : W p l e ({ frames := 18, cells := mc, slots := ms, locals := 1412 } : Room) s m args below meth c H locs cells slots (vx_MQ below (va_Qi post (ga_E g) (ga_A g)) (ga_X g xp) args s mc ms (ga_A g)) (F0 m 0 ls []) by rw [e0, e1] at hgoal; exact hgoal
  refine ga_aload_n hx hb dX0_trap_0 rfl (lv_at hl 3 rfl) ?_
  refine lv_iconst (v := 0) hx hb dX0_trap_1 (by decide) ?_
  refine ga_aload_n hx hb dX0_trap_2 rfl (lv_at hl 0 rfl) ?_
  refine lv_iload_n hx hb dX0_trap_3 rfl (lv_at hl 1 rfl) ?_
  refine lv_iload_n hx hb dX0_trap_4 rfl (lv_at hl 2 rfl) ?_
  obtain ⟨a_1, ea_1, hw⟩ := hw
  rewrite [ea_1]
  obtain ⟨kc_2, ks_3, hk1, hk2, hw⟩ := hw
  obtain ⟨fs_4, hq, hw⟩ := hw
  refine ga_xcalli (vx_runV (As := [.int p1, .int p2]) (rest := [.int (0 : Int32), va_rf p3]) ⟨hx, hb, hml, hown, hts⟩ (gm_X1_trap l hst g a_1 p1 p2 h kc_2 ks_3 _ _ hw) (cwV 2 hts (lw_V q2318 q2319 q2320 q100 q2321) rfl rfl rfl ⟨rfl, hdG_X1_trap⟩ ⟨Nat.le_of_ble_eq_true rfl, Nat.le_of_ble_eq_true rfl⟩) (ga_preV hI hq rfl rfl) rfl rfl hl.1 rfl (ga_room (Nat.le_of_ble_eq_true rfl)) dX0_trap_5 ⟨Nat.le_trans (Nat.add_le_add_left hk1 _) hbc, Nat.le_trans (Nat.add_le_add_left hk2 _) hbs⟩) hI hbc hbs hk1 hk2 (fun E_7 q_8 h_9 ce H locs cells slots hw hI hce hbc hbs => ?_) (fun r_6 h_5 H locs cells slots hw hI hbc hbs => ?_)
  · obtain ⟨rfl, hw⟩ := hw
    refine ga_catch hown hts hI ([]) (⟨0, 10, 13, 13⟩) ([]) (by rw [htab]; rfl) (fun _ h => absurd h List.not_mem_nil) rfl (by decide) q2017 q1054 hce ?_
    refine W.eq (g2 := F0 m 13 ls [.ref q_8]) rfl ?_
    refine lv_astore (lv' := [(4, .ref q_8), (0, va_rf p0), (1, .int p1), (2, .int p2), (3, va_rf p3)]) hx hb dX0_trap_13 hl (by decide) (by simp [ga_rcat, ga_cat_r, ga_cat_i, ga_cat_f, ga_cat_l, ga_cat_d]) (fun ls hl => ?_)
    refine lv_iconst (v := 1) hx hb dX0_trap_15 (by decide) ?_
    exact ga_iretx hx hb hr rfl hlk hI hw (Nat.le_trans (Nat.le_add_right _ _) hbc) (Nat.le_trans (Nat.le_add_right _ _) hbs) dX0_trap_16
  · skip
    refine lv_i2l (v := r_6.toInt64) hx hb dX0_trap_8 rfl ?_
    obtain ⟨a_10, ea_10, hw⟩ := hw
    rewrite [ea_10]
    obtain ⟨n_11, f_12, hq, hi, hw⟩ := hw
    refine ga_stl hx hb hI hq hi dX0_trap_9 (fun H locs hI => ?_)
    obtain ⟨h_13, eh_13⟩ : ∃ z, z = ga_set h_5 a_10 (ga_Al n_11 (vp_updL f_12 (0 : Int32).toNatClampNeg r_6.toInt64)) := ⟨_, rfl⟩
    rw [← eh_13] at hI
    have hw := hw h_13 eh_13
    refine lv_goto (tgt := 17) hx hb dX0_trap_10 (by decide) ?_
    refine lv_iconst (v := 0) hx hb dX0_trap_17 (by decide) ?_
    exact ga_iretx hx hb hr rfl hlk hI hw (Nat.le_trans (Nat.le_add_right _ _) hbc) (Nat.le_trans (Nat.le_add_right _ _) hbs) dX0_trap_18
theorem hdG_X0_trap : yX0_trap.cls ≠ "java/lang/invoke/MethodHandle" ∧ yX0_trap.cls ≠ "java/lang/invoke/VarHandle" ∧ (parseMethodDescriptor yX0_trap.desc).map (fun d => d.parameters.length) = some 4 := by decide +kernel
def gw_X3_quires (K : ga_K) (p0 : Nat) (h : ga_H) (mc ms : Nat) (post : Int32 → ga_H → Prop) : Prop :=
  ∃ kc_1 ks_2 : Nat, kc_1 ≤ mc ∧ ks_2 ≤ ms ∧ ∃ fs_3 : List Value, ga_at K h p0 (ga_O 2 fs_3) ∧ gw_X3_reams K p0 h kc_1 ks_2 (fun (r_5 : Option Nat) (h_4 : ga_H) => ∃ a_6 : Nat, r_5 = some a_6 ∧ ∃ kc_7 ks_8 : Nat, kc_7 ≤ (mc - kc_1) ∧ ks_8 ≤ (ms - ks_2) ∧ ∃ fs_9 : List Value, ga_at K h_4 a_6 (ga_O 13 fs_9) ∧ gw_J2_iterator K a_6 h_4 kc_7 ks_8 (fun (r_11 : Option Nat) (h_10 : ga_H) => ∃ (In_12 : Int32 → ga_H → Nat → Nat → Prop) (mu_12 : Int32 → ga_H → Nat → Nat → Nat), In_12 (0 : Int32) h_10 ((mc - kc_1) - kc_7) ((ms - ks_2) - ks_8) ∧ ∀ (x1_12 : Int32) (h_12 : ga_H) (bc_12 : Nat) (bs_12 : Nat), In_12 x1_12 h_12 bc_12 bs_12 → (∃ a_13 : Nat, r_11 = some a_13 ∧ ∃ fs_14 : List Value, ga_at K h_12 a_13 (ga_O 14 fs_14) ∧ gw_J16_hasNext K a_13 h_12 (fun (r_16 : Int32) (h_15 : ga_H) => (r_16 = (0 : Int32) → (post x1_12 h_15)) ∧ (¬ r_16 = (0 : Int32) → (∃ a_18 : Nat, r_11 = some a_18 ∧ ∃ kc_19 ks_20 : Nat, kc_19 ≤ bc_12 ∧ ks_20 ≤ bs_12 ∧ ∃ fs_21 : List Value, ga_at K h_15 a_18 (ga_O 14 fs_21) ∧ gw_J16_next K a_18 h_15 kc_19 ks_20 (fun (r_23 : Option Nat) (h_22 : ga_H) => ga_ok K h_22 "PaperStore$Ream" r_23 ∧ (∃ a_24 : Nat, r_23 = some a_24 ∧ ∃ (fs_25 : List Value) (v_26 : Int32), h_22 a_24 = some (ga_O 4 fs_25) ∧ fs_25[2]? = some (.int v_26) ∧ (In_12 (x1_12 + v_26) h_22 (bc_12 - kc_19) (bs_12 - ks_20) ∧ mu_12 (x1_12 + v_26) h_22 (bc_12 - kc_19) (bs_12 - ks_20) < mu_12 x1_12 h_12 bc_12 bs_12)))))))))
set_option maxHeartbeats 4000000 in
theorem gm_X3_quires (l : Launch) (g : ga_G) (p0 : Nat) (h : ga_H) (mc ms : Nat) (post : Int32 → ga_H → Prop) (hw : gw_X3_quires g.2.2 p0 h mc ms post) : Met l yX3_quires (ws_ yX3_quires cX3_quires 4 (some .int)) ({ frames := 13, cells := mc, slots := ms, locals := 257 } : Room) (va_Pc [.ref p0] (ga_B g h)) (va_Qi post (ga_E g) (ga_A g)) mc ms (ga_A g) := by
  refine ga_met (own := "PaperStore$Aisle") (nm := "quires") (by decide) rfl rfl (by exact Nat.le_of_ble_eq_true rfl) (fun p e s m below meth c ls hC hI hl => ?_)
  have hl : lv_has ls 4 [(0, .ref p0)] := hl
  generalize ([.ref p0] : List Value).toArray = args at hC ⊢
  obtain ⟨hx, hb, hml, hown, hts, hr, hlk, hnm⟩ := hC
  unfold gw_X3_quires at hw
  obtain ⟨H, eH⟩ : ∃ z, z = s.heap := ⟨_, rfl⟩
  obtain ⟨locs, elo⟩ : ∃ z : List Loc, z = [] := ⟨_, rfl⟩
  rw [← eH, ← elo] at hI ⊢
  obtain ⟨cells, slots, hbc, hbs, e0, e1⟩ : ∃ a b : Nat, a + mc ≤ mc ∧ b + ms ≤ ms ∧ a = 0 ∧ b = 0 := ⟨0, 0, by omega, by omega, rfl, rfl⟩
  show W p l e ({ frames := 13, cells := mc, slots := ms, locals := 257 } : Room) s m args below meth c H locs 0 0 (MQ below (va_Qi post (ga_E g) (ga_A g)) args s mc ms (ga_A g)) (F0 m 0 ls [])
  suffices hgoal : W p l e ({ frames := 13, cells := mc, slots := ms, locals := 257 } : Room) s m args below meth c H locs cells slots (MQ below (va_Qi post (ga_E g) (ga_A g)) args s mc ms (ga_A g)) (F0 m 0 ls []) by rw [e0, e1] at hgoal; exact hgoal
  refine lv_iconst (v := 0) hx hb dX3_quires_0 (by decide) ?_
  refine lv_istore_n (i := 1) (lv' := [(1, .int (0 : Int32)), (0, .ref p0)]) hx hb dX3_quires_1 rfl hl (by decide) rfl (fun ls hl => ?_)
  refine lv_aload_n hx hb dX3_quires_2 rfl (lv_at hl 1 rfl) ?_
  obtain ⟨kc_1, ks_2, hk1, hk2, hw⟩ := hw
  obtain ⟨fs_3, hq, hw⟩ := hw
  refine ga_callq (va_runV (As := []) (rest := []) ⟨hx, hb, hml, hown, hts⟩ (gm_X3_reams l g p0 h kc_1 ks_2 _ hw) (cwV 0 hts (lw_V q2351 q445 q446 q107 q447) rfl rfl rfl ⟨rfl, hdG_X3_reams⟩ ⟨Nat.le_of_ble_eq_true rfl, Nat.le_of_ble_eq_true rfl⟩) (ga_preV hI hq rfl rfl) rfl rfl hl.1 rfl (ga_room (Nat.le_of_ble_eq_true rfl)) dX3_quires_3 ⟨Nat.le_trans (Nat.add_le_add_left hk1 _) hbc, Nat.le_trans (Nat.add_le_add_left hk2 _) hbs⟩) hI hbc hbs hk1 hk2 (fun r_5 h_4 H locs cells slots hw hI hbc hbs => ?_)
  obtain ⟨a_6, ea_6, hw⟩ := hw
  rewrite [ea_6]
  obtain ⟨kc_7, ks_8, hk1, hk2, hw⟩ := hw
  obtain ⟨fs_9, hq, hw⟩ := hw
  refine ga_callFq (va_runF (As := []) (rest := []) (hI.2.1.1.1.1 13 _ rfl).2 ⟨hx, hb, hml, hown, hts⟩ (gm_J2_iterator l g a_6 h_4 kc_7 ks_8 _ hw) (va_cwF 0 hts (lw_app (List.forall_mem_cons.mpr ⟨q2353, List.forall_mem_cons.mpr ⟨q1171, List.forall_mem_cons.mpr ⟨q564, List.forall_mem_cons.mpr ⟨q104, fun _ h => absurd h List.not_mem_nil⟩⟩⟩⟩) (lw_meth q565)) rfl rfl rfl (hI.2.1.1.2.2 _ _ _ ⟨by decide +kernel, q1170, q1169, q1173, q1172, q836⟩) (by decide +kernel) ⟨Nat.le_of_ble_eq_true rfl, Nat.le_of_ble_eq_true rfl⟩) (ga_preV (C := "java/util/ArrayList") hI hq rfl rfl) rfl rfl hl.1 rfl (ga_room (Nat.le_of_ble_eq_true rfl)) dX3_quires_6 ⟨Nat.le_trans (Nat.add_le_add_left hk1 _) hbc, Nat.le_trans (Nat.add_le_add_left hk2 _) hbs⟩) hI hbc hbs hk1 hk2 (fun r_11 h_10 H locs cells slots hw hI hbc hbs => ?_)
  refine ga_astore_n (i := 2) (x := r_11) (lv' := [(2, va_rf r_11), (1, .int (0 : Int32)), (0, .ref p0)]) hx hb dX3_quires_11 rfl hl (by decide) rfl (fun ls hl => ?_)
  obtain ⟨In_12, mu_12, h0_12, hw⟩ := hw
  have hL_12 : ∀ (n : Nat) (x1_12 : Int32) (h_12 : ga_H) (bc_12 : Nat) (bs_12 : Nat) (H : Heap) (locs : List Loc) (cells slots : Nat) (ls : Array Slot), mu_12 x1_12 h_12 bc_12 bs_12 < n → In_12 x1_12 h_12 bc_12 bs_12 → ga_I g h_12 s H locs → cells + bc_12 ≤ mc → slots + bs_12 ≤ ms → lv_has ls 4 [(1, .int x1_12), (2, va_rf r_11)] → W p l e ({ frames := 13, cells := mc, slots := ms, locals := 257 } : Room) s m args below meth c H locs cells slots (MQ below (va_Qi post (ga_E g) (ga_A g)) args s mc ms (ga_A g)) (F0 m 12 ls []) := by
    intro n
    induction n with
    | zero => intro x1_12 h_12 bc_12 bs_12 H locs cells slots ls hn _ _ _ _ _; exact absurd hn (Nat.not_lt_zero _)
    | succ n ih_12 =>
      intro x1_12 h_12 bc_12 bs_12 H locs cells slots ls hn_12 hi_12 hI hbc hbs hl
      have hw := hw x1_12 h_12 bc_12 bs_12 hi_12
      refine ga_aload_n hx hb dX3_quires_12 rfl (lv_at hl 1 rfl) ?_
      obtain ⟨a_13, ea_13, hw⟩ := hw
      rewrite [ea_13]
      obtain ⟨fs_14, hq, hw⟩ := hw
      refine ga_callFi (va_runF (As := []) (rest := []) (hI.2.1.1.1.1 14 _ rfl).2 ⟨hx, hb, hml, hown, hts⟩ (gm_J16_hasNext l g a_13 h_12 _ hw) (va_cwF 0 hts (lw_app (List.forall_mem_cons.mpr ⟨q2355, List.forall_mem_cons.mpr ⟨q696, List.forall_mem_cons.mpr ⟨q698, List.forall_mem_cons.mpr ⟨q122, fun _ h => absurd h List.not_mem_nil⟩⟩⟩⟩) (lw_meth q700)) rfl rfl rfl (hI.2.1.1.2.2 _ _ _ ⟨by decide +kernel, q694, q693, q699, q697, q695⟩) (by decide +kernel) ⟨Nat.le_of_ble_eq_true rfl, Nat.le_of_ble_eq_true rfl⟩) (ga_preV (C := "java/util/ArrayList$Itr") hI hq rfl rfl) rfl rfl hl.1 rfl (ga_room (Nat.le_of_ble_eq_true rfl)) dX3_quires_13 ⟨Nat.le_trans (Nat.add_le_add_left (Nat.zero_le _) _) hbc, Nat.le_trans (Nat.add_le_add_left (Nat.zero_le _) _) hbs⟩) hI hbc hbs (Nat.zero_le _) (Nat.zero_le _) (fun r_16 h_15 H locs cells slots hw hI hbc hbs => ?_)
      refine lv_if_eq (tgt := 41) hx hb dX3_quires_18 (by decide) (fun hc_17 => ?_) (fun hc_17 => ?_)
      · have hw := hw.1 hc_17
        refine lv_iload_n hx hb dX3_quires_41 rfl (lv_at hl 0 rfl) ?_
        exact ga_iret hx hb hr rfl hlk hI hw (Nat.le_trans (Nat.le_add_right _ _) hbc) (Nat.le_trans (Nat.le_add_right _ _) hbs) dX3_quires_42
      · have hw := hw.2 hc_17
        refine ga_aload_n hx hb dX3_quires_21 rfl (lv_at hl 1 rfl) ?_
        obtain ⟨a_18, ea_18, hw⟩ := hw
        rewrite [ea_18]
        obtain ⟨kc_19, ks_20, hk1, hk2, hw⟩ := hw
        obtain ⟨fs_21, hq, hw⟩ := hw
        refine ga_callFq (va_runF (As := []) (rest := []) (hI.2.1.1.1.1 14 _ rfl).2 ⟨hx, hb, hml, hown, hts⟩ (gm_J16_next l g a_18 h_15 kc_19 ks_20 _ hw) (va_cwF 0 hts (lw_app (List.forall_mem_cons.mpr ⟨q2357, List.forall_mem_cons.mpr ⟨q721, List.forall_mem_cons.mpr ⟨q723, List.forall_mem_cons.mpr ⟨q122, fun _ h => absurd h List.not_mem_nil⟩⟩⟩⟩) (lw_meth q725)) rfl rfl rfl (hI.2.1.1.2.2 _ _ _ ⟨by decide +kernel, q720, q719, q724, q722, q695⟩) (by decide +kernel) ⟨Nat.le_of_ble_eq_true rfl, Nat.le_of_ble_eq_true rfl⟩) (ga_preV (C := "java/util/ArrayList$Itr") hI hq rfl rfl) rfl rfl hl.1 rfl (ga_room (Nat.le_of_ble_eq_true rfl)) dX3_quires_22 ⟨Nat.le_trans (Nat.add_le_add_left hk1 _) hbc, Nat.le_trans (Nat.add_le_add_left hk2 _) hbs⟩) hI hbc hbs hk1 hk2 (fun r_23 h_22 H locs cells slots hw hI hbc hbs => ?_)
        refine ga_cast (x := r_23) hx hb hts hown hI q2358 hw.1 dX3_quires_27 ?_
        have hw := hw.2
        refine ga_astore_n (i := 3) (x := r_23) (lv' := [(3, va_rf r_23), (1, .int x1_12), (2, va_rf r_11)]) hx hb dX3_quires_30 rfl hl (by decide) (by simp [ga_rcat, ga_cat_r, ga_cat_i, ga_cat_f, ga_cat_l, ga_cat_d]) (fun ls hl => ?_)
        refine lv_iload_n hx hb dX3_quires_31 rfl (lv_at hl 1 rfl) ?_
        refine ga_aload_n hx hb dX3_quires_32 rfl (lv_at hl 0 rfl) ?_
        obtain ⟨a_24, ea_24, hw⟩ := hw
        rewrite [ea_24]
        obtain ⟨fs_25, v_26, hq, hv, hw⟩ := hw
        refine ga_getN (ci := 4) (T := TX6) (v := .int v_26) hx hb hts hown hI in_X6 rfl 2 (by decide) q1301 (fun _ z => z) (ga_at.h hq) hv dX3_quires_33 ?_
        refine lv_iadd hx hb dX3_quires_36 ?_
        refine lv_istore_n (i := 1) (lv' := [(1, .int (x1_12 + v_26)), (3, va_rf r_23), (2, va_rf r_11)]) hx hb dX3_quires_37 rfl hl (by decide) rfl (fun ls hl => ?_)
        refine lv_goto (tgt := 12) hx hb dX3_quires_38 (by decide) ?_
        exact ih_12 _ _ _ _ H locs cells slots ls (Nat.lt_of_lt_of_le hw.2 (Nat.le_of_lt_succ hn_12)) hw.1 hI hbc hbs (lv_sub hl [0, 2] rfl)
  exact hL_12 _ _ _ _ _ H locs cells slots ls (Nat.lt_succ_self _) h0_12 hI hbc hbs (lv_sub hl [1, 0] rfl)
theorem hdG_X3_quires : yX3_quires.cls ≠ "java/lang/invoke/MethodHandle" ∧ yX3_quires.cls ≠ "java/lang/invoke/VarHandle" ∧ (parseMethodDescriptor yX3_quires.desc).map (fun d => d.parameters.length) = some 0 := by decide +kernel
def gw_X1_aisleOf_22 (K : ga_K) (post : Int32 → ga_H → Prop) (xp : String → Nat → ga_H → Prop) (p0 : Nat) (t0 : Int32) (v1 : Int32) (v2 : Int32) (h : ga_H) (bc bs : Nat) : Prop :=
  ∃ kc_3 ks_4 : Nat, kc_3 ≤ bc ∧ ks_4 ≤ bs ∧ gw_X1_checkArgument K t0 h kc_3 ks_4 (fun (h_5 : ga_H) => ∃ (fs_9 : List Value) (v_10 : Option Nat), h_5 p0 = some (ga_O 0 fs_9) ∧ fs_9[0]? = some (va_rf v_10) ∧ (∃ a_11 : Nat, v_10 = some a_11 ∧ ∃ (fs_12 : List Value) (v_13 : Option Nat), h_5 a_11 = some (ga_O 1 fs_12) ∧ fs_12[0]? = some (va_rf v_13) ∧ (∃ a_14 : Nat, v_13 = some a_14 ∧ ∃ (n_15 : Nat) (f_16 : Nat → Option Nat), h_5 a_14 = some (ga_Aq 6 n_15 f_16) ∧ vp_in v1 n_15 ∧ ∀ v_17 : Option Nat, v_17 = f_16 v1.toNatClampNeg → ((v2 = (0 : Int32) → (∃ a_19 : Nat, v_17 = some a_19 ∧ ∃ (fs_20 : List Value) (v_21 : Int32), h_5 a_19 = some (ga_O 2 fs_20) ∧ fs_20[1]? = some (.int v_21) ∧ (post v_21 h_5))) ∧ (¬ v2 = (0 : Int32) → ((v2 = (1 : Int32) → (∃ a_23 : Nat, v_17 = some a_23 ∧ ∃ (fs_24 : List Value) (v_25 : Int32), h_5 a_23 = some (ga_O 2 fs_24) ∧ fs_24[2]? = some (.int v_25) ∧ (post v_25 h_5))) ∧ (¬ v2 = (1 : Int32) → ((v2 = (2 : Int32) → (∃ a_27 : Nat, v_17 = some a_27 ∧ ∃ (fs_28 : List Value) (v_29 : Int32), h_5 a_27 = some (ga_O 2 fs_28) ∧ fs_28[3]? = some (.int v_29) ∧ (post v_29 h_5))) ∧ (¬ v2 = (2 : Int32) → ((v2 = (3 : Int32) → (∃ a_31 : Nat, v_17 = some a_31 ∧ ∃ kc_32 ks_33 : Nat, kc_32 ≤ (bc - kc_3) ∧ ks_33 ≤ (bs - ks_4) ∧ ∃ fs_34 : List Value, ga_at K h_5 a_31 (ga_O 2 fs_34) ∧ gw_X3_reams K a_31 h_5 kc_32 ks_33 (fun (r_36 : Option Nat) (h_35 : ga_H) => ∃ a_37 : Nat, r_36 = some a_37 ∧ ∃ fs_38 : List Value, ga_at K h_35 a_37 (ga_O 13 fs_38) ∧ gw_J2_size K a_37 h_35 (fun (r_40 : Int32) (h_39 : ga_H) => post r_40 h_39)))) ∧ (¬ v2 = (3 : Int32) → ((v2 = (4 : Int32) → (∃ a_42 : Nat, v_17 = some a_42 ∧ ∃ kc_43 ks_44 : Nat, kc_43 ≤ (bc - kc_3) ∧ ks_44 ≤ (bs - ks_4) ∧ ∃ fs_45 : List Value, ga_at K h_5 a_42 (ga_O 2 fs_45) ∧ gw_X3_quires K a_42 h_5 kc_43 ks_44 (fun (r_47 : Int32) (h_46 : ga_H) => post r_47 h_46))) ∧ (¬ v2 = (4 : Int32) → ((v2 = (5 : Int32) → (∃ (fs_49 : List Value) (v_50 : Option Nat), h_5 p0 = some (ga_O 0 fs_49) ∧ fs_49[0]? = some (va_rf v_50) ∧ (∃ a_51 : Nat, v_50 = some a_51 ∧ ∃ fs_52 : List Value, ga_at K h_5 a_51 (ga_O 1 fs_52) ∧ gw_X2_ladderAt K a_51 v1 h_5 (fun (r_54 : Int32) (h_53 : ga_H) => post r_54 h_53)))) ∧ (¬ v2 = (5 : Int32) → ((v2 = (6 : Int32) → (∃ a_56 : Nat, v_17 = some a_56 ∧ ∃ (fs_57 : List Value) (v_58 : Int32), h_5 a_56 = some (ga_O 2 fs_57) ∧ fs_57[4]? = some (.int v_58) ∧ (post v_58 h_5))) ∧ (¬ v2 = (6 : Int32) → (∃ a_59 : Nat, v_17 = some a_59 ∧ ∃ (fs_60 : List Value) (v_61 : Int32), h_5 a_59 = some (ga_O 2 fs_60) ∧ fs_60[5]? = some (.int v_61) ∧ (post v_61 h_5))))))))))))))))))) (fun (E_6 : String) (q_7 : Nat) (h_8 : ga_H) => xp E_6 q_7 h_8)
set_option maxHeartbeats 4000000 in
theorem gj_X1_aisleOf_22 {p : Program} {l : Launch} {e : Env} {s : State} {m : MethodId} {args : Array Value} {below : List Frame} {meth : Method} {c : Code} {mc ms : Nat} {H : Heap} {locs : List Loc} {cells slots : Nat} {ls : Array Slot} (hst : l.stackTraces = false) (htab : c.exceptionTable.toList = []) (g : ga_G) (post : Int32 → ga_H → Prop) (xp : String → Nat → ga_H → Prop) (p0 : Nat) (t0 : Int32) (v1 : Int32) (v2 : Int32) (h : ga_H) (bc bs : Nat) (hC : ga_Cx p s m args meth c cX1_aisleOf 4 (some .int) "PaperStore" "aisleOf") (hw : gw_X1_aisleOf_22 g.2.2 post xp p0 t0 v1 v2 h bc bs) (hI : ga_I g h s H locs) (hbc : cells + bc ≤ mc) (hbs : slots + bs ≤ ms) (hl : lv_has ls 4 [(0, .ref p0), (1, .int v1), (2, .int v2)]) : W p l e ({ frames := 14, cells := mc, slots := ms, locals := 280 } : Room) s m args below meth c H locs cells slots (vx_MQ below (va_Qi post (ga_E g) (ga_A g)) (ga_X g xp) args s mc ms (ga_A g)) (F0 m 22 ls [.int t0]) := by
  obtain ⟨hx, hb, hml, hown, hts, hr, hlk, hnm⟩ := hC
  unfold gw_X1_aisleOf_22 at hw
  obtain ⟨kc_3, ks_4, hk1, hk2, hw⟩ := hw
  refine ga_xcallv (vx_runS (As := [.int t0]) (rest := []) ⟨hx, hb, hml, hown, hts⟩ (gm_X1_checkArgument l hst g t0 h kc_3 ks_4 _ _ hw) (va_cwS 1 hts (lw_S q2027 q2028 q100 q2029) rfl rfl rfl hdG_X1_checkArgument ⟨Nat.le_of_ble_eq_true rfl, Nat.le_of_ble_eq_true rfl⟩) (ga_preS hI rfl) rfl rfl hl.1 rfl (ga_room (Nat.le_of_ble_eq_true rfl)) dX1_aisleOf_22 ⟨Nat.le_trans (Nat.add_le_add_left hk1 _) hbc, Nat.le_trans (Nat.add_le_add_left hk2 _) hbs⟩) hI hbc hbs hk1 hk2 (fun E_6 q_7 h_8 ce H locs cells slots hw hI hce hbc hbs => ?_) (fun h_5 H locs cells slots hw hI hbc hbs => ?_)
  · exact ga_out hown hlk hI hw (by rw [htab]; intro z hz; cases hz) hce (Nat.le_trans (Nat.le_add_right _ _) hbc) (Nat.le_trans (Nat.le_add_right _ _) hbs)
  · skip
    refine lv_aload_n hx hb dX1_aisleOf_25 rfl (lv_at hl 0 rfl) ?_
    obtain ⟨fs_9, v_10, hq, hv, hw⟩ := hw
    refine ga_get (ci := 0) (T := TX1) (v := va_rf v_10) hx hb hts hown hI in_X1 rfl 0 (by decide) q387 (fun _ z => z) (ga_at.h hq) hv dX1_aisleOf_26 ?_
    obtain ⟨a_11, ea_11, hw⟩ := hw
    rewrite [ea_11]
    obtain ⟨fs_12, v_13, hq, hv, hw⟩ := hw
    refine ga_getN (ci := 1) (T := TX2) (v := va_rf v_13) hx hb hts hown hI in_X2 rfl 0 (by decide) q311 (fun _ z => z) (ga_at.h hq) hv dX1_aisleOf_29 ?_
    refine lv_iload_n hx hb dX1_aisleOf_32 rfl (lv_at hl 1 rfl) ?_
    obtain ⟨a_14, ea_14, hw⟩ := hw
    rewrite [ea_14]
    obtain ⟨n_15, f_16, hq, hi, hw⟩ := hw
    refine ga_ldq hx hb hI (ga_at.h hq) rfl hi dX1_aisleOf_33 ?_
    obtain ⟨v_17, ev_17⟩ : ∃ z, z = f_16 v1.toNatClampNeg := ⟨_, rfl⟩
    rw [← ev_17]
    have hw := hw v_17 ev_17
    refine ga_astore_n (i := 3) (x := v_17) (lv' := [(3, va_rf v_17), (0, .ref p0), (1, .int v1), (2, .int v2)]) hx hb dX1_aisleOf_34 rfl hl (by decide) rfl (fun ls hl => ?_)
    refine lv_iload_n hx hb dX1_aisleOf_35 rfl (lv_at hl 3 rfl) ?_
    by_cases hc_18 : v2 = (0 : Int32)
    · have hw := hw.1 hc_18
      refine lv_tableIn (tgt := 80) hx hb dX1_aisleOf_36 (by rw [hc_18]; decide) (by rw [hc_18]; decide) (off := 44) (by rw [hc_18]; rfl) (by decide) ?_
      refine ga_aload_n hx hb dX1_aisleOf_80 rfl (lv_at hl 0 rfl) ?_
      obtain ⟨a_19, ea_19, hw⟩ := hw
      rewrite [ea_19]
      obtain ⟨fs_20, v_21, hq, hv, hw⟩ := hw
      refine ga_getN (ci := 2) (T := TX3) (v := .int v_21) hx hb hts hown hI in_X3 rfl 1 (by decide) q284 (fun _ z => z) (ga_at.h hq) hv dX1_aisleOf_81 ?_
      refine lv_goto (tgt := 142) hx hb dX1_aisleOf_84 (by decide) ?_
      exact ga_iretx hx hb hr rfl hlk hI hw (Nat.le_trans (Nat.le_add_right _ _) hbc) (Nat.le_trans (Nat.le_add_right _ _) hbs) dX1_aisleOf_142
    have hw := hw.2 hc_18
    by_cases hc_22 : v2 = (1 : Int32)
    · have hw := hw.1 hc_22
      refine lv_tableIn (tgt := 87) hx hb dX1_aisleOf_36 (by rw [hc_22]; decide) (by rw [hc_22]; decide) (off := 51) (by rw [hc_22]; rfl) (by decide) ?_
      refine ga_aload_n hx hb dX1_aisleOf_87 rfl (lv_at hl 0 rfl) ?_
      obtain ⟨a_23, ea_23, hw⟩ := hw
      rewrite [ea_23]
      obtain ⟨fs_24, v_25, hq, hv, hw⟩ := hw
      refine ga_getN (ci := 2) (T := TX3) (v := .int v_25) hx hb hts hown hI in_X3 rfl 2 (by decide) q287 (fun _ z => z) (ga_at.h hq) hv dX1_aisleOf_88 ?_
      refine lv_goto (tgt := 142) hx hb dX1_aisleOf_91 (by decide) ?_
      exact ga_iretx hx hb hr rfl hlk hI hw (Nat.le_trans (Nat.le_add_right _ _) hbc) (Nat.le_trans (Nat.le_add_right _ _) hbs) dX1_aisleOf_142
    have hw := hw.2 hc_22
    by_cases hc_26 : v2 = (2 : Int32)
    · have hw := hw.1 hc_26
      refine lv_tableIn (tgt := 94) hx hb dX1_aisleOf_36 (by rw [hc_26]; decide) (by rw [hc_26]; decide) (off := 58) (by rw [hc_26]; rfl) (by decide) ?_
      refine ga_aload_n hx hb dX1_aisleOf_94 rfl (lv_at hl 0 rfl) ?_
      obtain ⟨a_27, ea_27, hw⟩ := hw
      rewrite [ea_27]
      obtain ⟨fs_28, v_29, hq, hv, hw⟩ := hw
      refine ga_getN (ci := 2) (T := TX3) (v := .int v_29) hx hb hts hown hI in_X3 rfl 3 (by decide) q290 (fun _ z => z) (ga_at.h hq) hv dX1_aisleOf_95 ?_
      refine lv_goto (tgt := 142) hx hb dX1_aisleOf_98 (by decide) ?_
      exact ga_iretx hx hb hr rfl hlk hI hw (Nat.le_trans (Nat.le_add_right _ _) hbc) (Nat.le_trans (Nat.le_add_right _ _) hbs) dX1_aisleOf_142
    have hw := hw.2 hc_26
    by_cases hc_30 : v2 = (3 : Int32)
    · have hw := hw.1 hc_30
      refine lv_tableIn (tgt := 101) hx hb dX1_aisleOf_36 (by rw [hc_30]; decide) (by rw [hc_30]; decide) (off := 65) (by rw [hc_30]; rfl) (by decide) ?_
      refine ga_aload_n hx hb dX1_aisleOf_101 rfl (lv_at hl 0 rfl) ?_
      obtain ⟨a_31, ea_31, hw⟩ := hw
      rewrite [ea_31]
      obtain ⟨kc_32, ks_33, hk1, hk2, hw⟩ := hw
      obtain ⟨fs_34, hq, hw⟩ := hw
      refine ga_callq (va_runV (As := []) (rest := []) ⟨hx, hb, hml, hown, hts⟩ (gm_X3_reams l g a_31 h_5 kc_32 ks_33 _ hw) (cwV 0 hts (lw_V q2333 q445 q446 q107 q447) rfl rfl rfl ⟨rfl, hdG_X3_reams⟩ ⟨Nat.le_of_ble_eq_true rfl, Nat.le_of_ble_eq_true rfl⟩) (ga_preV hI hq rfl rfl) rfl rfl hl.1 rfl (ga_room (Nat.le_of_ble_eq_true rfl)) dX1_aisleOf_102 ⟨Nat.le_trans (Nat.add_le_add_left hk1 _) hbc, Nat.le_trans (Nat.add_le_add_left hk2 _) hbs⟩) hI hbc hbs hk1 hk2 (fun r_36 h_35 H locs cells slots hw hI hbc hbs => ?_)
      obtain ⟨a_37, ea_37, hw⟩ := hw
      rewrite [ea_37]
      obtain ⟨fs_38, hq, hw⟩ := hw
      refine ga_callFi (va_runF (As := []) (rest := []) (hI.2.1.1.1.1 13 _ rfl).2 ⟨hx, hb, hml, hown, hts⟩ (gm_J2_size l g a_37 h_35 _ hw) (va_cwF 0 hts (lw_app (List.forall_mem_cons.mpr ⟨q2335, List.forall_mem_cons.mpr ⟨q2338, List.forall_mem_cons.mpr ⟨q536, List.forall_mem_cons.mpr ⟨q104, fun _ h => absurd h List.not_mem_nil⟩⟩⟩⟩) (lw_meth q537)) rfl rfl rfl (hI.2.1.1.2.2 _ _ _ ⟨by decide +kernel, q2337, q2336, q2340, q2339, q836⟩) (by decide +kernel) ⟨Nat.le_of_ble_eq_true rfl, Nat.le_of_ble_eq_true rfl⟩) (ga_preV (C := "java/util/ArrayList") hI hq rfl rfl) rfl rfl hl.1 rfl (ga_room (Nat.le_of_ble_eq_true rfl)) dX1_aisleOf_105 ⟨Nat.le_trans (Nat.add_le_add_left (Nat.zero_le _) _) hbc, Nat.le_trans (Nat.add_le_add_left (Nat.zero_le _) _) hbs⟩) hI hbc hbs (Nat.zero_le _) (Nat.zero_le _) (fun r_40 h_39 H locs cells slots hw hI hbc hbs => ?_)
      refine lv_goto (tgt := 142) hx hb dX1_aisleOf_110 (by decide) ?_
      exact ga_iretx hx hb hr rfl hlk hI hw (Nat.le_trans (Nat.le_add_right _ _) hbc) (Nat.le_trans (Nat.le_add_right _ _) hbs) dX1_aisleOf_142
    have hw := hw.2 hc_30
    by_cases hc_41 : v2 = (4 : Int32)
    · have hw := hw.1 hc_41
      refine lv_tableIn (tgt := 113) hx hb dX1_aisleOf_36 (by rw [hc_41]; decide) (by rw [hc_41]; decide) (off := 77) (by rw [hc_41]; rfl) (by decide) ?_
      refine ga_aload_n hx hb dX1_aisleOf_113 rfl (lv_at hl 0 rfl) ?_
      obtain ⟨a_42, ea_42, hw⟩ := hw
      rewrite [ea_42]
      obtain ⟨kc_43, ks_44, hk1, hk2, hw⟩ := hw
      obtain ⟨fs_45, hq, hw⟩ := hw
      refine ga_calli (va_runV (As := []) (rest := []) ⟨hx, hb, hml, hown, hts⟩ (gm_X3_quires l g a_42 h_5 kc_43 ks_44 _ hw) (cwV 0 hts (lw_V q2347 q2348 q2349 q107 q2350) rfl rfl rfl ⟨rfl, hdG_X3_quires⟩ ⟨Nat.le_of_ble_eq_true rfl, Nat.le_of_ble_eq_true rfl⟩) (ga_preV hI hq rfl rfl) rfl rfl hl.1 rfl (ga_room (Nat.le_of_ble_eq_true rfl)) dX1_aisleOf_114 ⟨Nat.le_trans (Nat.add_le_add_left hk1 _) hbc, Nat.le_trans (Nat.add_le_add_left hk2 _) hbs⟩) hI hbc hbs hk1 hk2 (fun r_47 h_46 H locs cells slots hw hI hbc hbs => ?_)
      refine lv_goto (tgt := 142) hx hb dX1_aisleOf_117 (by decide) ?_
      exact ga_iretx hx hb hr rfl hlk hI hw (Nat.le_trans (Nat.le_add_right _ _) hbc) (Nat.le_trans (Nat.le_add_right _ _) hbs) dX1_aisleOf_142
    have hw := hw.2 hc_41
    by_cases hc_48 : v2 = (5 : Int32)
    · have hw := hw.1 hc_48
      refine lv_tableIn (tgt := 120) hx hb dX1_aisleOf_36 (by rw [hc_48]; decide) (by rw [hc_48]; decide) (off := 84) (by rw [hc_48]; rfl) (by decide) ?_
      refine lv_aload_n hx hb dX1_aisleOf_120 rfl (lv_at hl 1 rfl) ?_
      obtain ⟨fs_49, v_50, hq, hv, hw⟩ := hw
      refine ga_get (ci := 0) (T := TX1) (v := va_rf v_50) hx hb hts hown hI in_X1 rfl 0 (by decide) q387 (fun _ z => z) (ga_at.h hq) hv dX1_aisleOf_121 ?_
      refine lv_iload_n hx hb dX1_aisleOf_124 rfl (lv_at hl 2 rfl) ?_
      obtain ⟨a_51, ea_51, hw⟩ := hw
      rewrite [ea_51]
      obtain ⟨fs_52, hq, hw⟩ := hw
      refine ga_calli (va_runV (As := [.int v1]) (rest := []) ⟨hx, hb, hml, hown, hts⟩ (gm_X2_ladderAt l g a_51 v1 h_5 _ hw) (cwV 1 hts (lw_V q2359 q2066 q2067 q101 q2068) rfl rfl rfl ⟨rfl, hdG_X2_ladderAt⟩ ⟨Nat.le_of_ble_eq_true rfl, Nat.le_of_ble_eq_true rfl⟩) (ga_preV hI hq rfl rfl) rfl rfl hl.1 rfl (ga_room (Nat.le_of_ble_eq_true rfl)) dX1_aisleOf_125 ⟨Nat.le_trans (Nat.add_le_add_left (Nat.zero_le _) _) hbc, Nat.le_trans (Nat.add_le_add_left (Nat.zero_le _) _) hbs⟩) hI hbc hbs (Nat.zero_le _) (Nat.zero_le _) (fun r_54 h_53 H locs cells slots hw hI hbc hbs => ?_)
      refine lv_goto (tgt := 142) hx hb dX1_aisleOf_128 (by decide) ?_
      exact ga_iretx hx hb hr rfl hlk hI hw (Nat.le_trans (Nat.le_add_right _ _) hbc) (Nat.le_trans (Nat.le_add_right _ _) hbs) dX1_aisleOf_142
    have hw := hw.2 hc_48
    by_cases hc_55 : v2 = (6 : Int32)
    · have hw := hw.1 hc_55
      refine lv_tableIn (tgt := 131) hx hb dX1_aisleOf_36 (by rw [hc_55]; decide) (by rw [hc_55]; decide) (off := 95) (by rw [hc_55]; rfl) (by decide) ?_
      refine ga_aload_n hx hb dX1_aisleOf_131 rfl (lv_at hl 0 rfl) ?_
      obtain ⟨a_56, ea_56, hw⟩ := hw
      rewrite [ea_56]
      obtain ⟨fs_57, v_58, hq, hv, hw⟩ := hw
      refine ga_getN (ci := 2) (T := TX3) (v := .int v_58) hx hb hts hown hI in_X3 rfl 4 (by decide) q293 (fun _ z => z) (ga_at.h hq) hv dX1_aisleOf_132 ?_
      refine lv_goto (tgt := 142) hx hb dX1_aisleOf_135 (by decide) ?_
      exact ga_iretx hx hb hr rfl hlk hI hw (Nat.le_trans (Nat.le_add_right _ _) hbc) (Nat.le_trans (Nat.le_add_right _ _) hbs) dX1_aisleOf_142
    have hw := hw.2 hc_55
    refine lv_tableOut (tgt := 138) hx hb dX1_aisleOf_36 (zs_out 0 6 7 [0, 1, 2, 3, 4, 5, 6] (by decide) (by decide) (List.forall_mem_cons.mpr ⟨hc_18, List.forall_mem_cons.mpr ⟨hc_22, List.forall_mem_cons.mpr ⟨hc_26, List.forall_mem_cons.mpr ⟨hc_30, List.forall_mem_cons.mpr ⟨hc_41, List.forall_mem_cons.mpr ⟨hc_48, List.forall_mem_cons.mpr ⟨hc_55, fun _ h => absurd h List.not_mem_nil⟩⟩⟩⟩⟩⟩⟩)) (by decide) ?_
    refine ga_aload_n hx hb dX1_aisleOf_138 rfl (lv_at hl 0 rfl) ?_
    obtain ⟨a_59, ea_59, hw⟩ := hw
    rewrite [ea_59]
    obtain ⟨fs_60, v_61, hq, hv, hw⟩ := hw
    refine ga_getN (ci := 2) (T := TX3) (v := .int v_61) hx hb hts hown hI in_X3 rfl 5 (by decide) q296 (fun _ z => z) (ga_at.h hq) hv dX1_aisleOf_139 ?_
    exact ga_iretx hx hb hr rfl hlk hI hw (Nat.le_trans (Nat.le_add_right _ _) hbc) (Nat.le_trans (Nat.le_add_right _ _) hbs) dX1_aisleOf_142
def gw_X1_aisleOf_21 (K : ga_K) (post : Int32 → ga_H → Prop) (xp : String → Nat → ga_H → Prop) (p0 : Nat) (v1 : Int32) (v2 : Int32) (h : ga_H) (bc bs : Nat) : Prop :=
  gw_X1_aisleOf_22 K post xp p0 (0 : Int32) v1 v2 h bc bs
set_option maxHeartbeats 4000000 in
theorem gj_X1_aisleOf_21 {p : Program} {l : Launch} {e : Env} {s : State} {m : MethodId} {args : Array Value} {below : List Frame} {meth : Method} {c : Code} {mc ms : Nat} {H : Heap} {locs : List Loc} {cells slots : Nat} {ls : Array Slot} (hst : l.stackTraces = false) (htab : c.exceptionTable.toList = []) (g : ga_G) (post : Int32 → ga_H → Prop) (xp : String → Nat → ga_H → Prop) (p0 : Nat) (v1 : Int32) (v2 : Int32) (h : ga_H) (bc bs : Nat) (hC : ga_Cx p s m args meth c cX1_aisleOf 4 (some .int) "PaperStore" "aisleOf") (hw : gw_X1_aisleOf_21 g.2.2 post xp p0 v1 v2 h bc bs) (hI : ga_I g h s H locs) (hbc : cells + bc ≤ mc) (hbs : slots + bs ≤ ms) (hl : lv_has ls 4 [(0, .ref p0), (1, .int v1), (2, .int v2)]) : W p l e ({ frames := 14, cells := mc, slots := ms, locals := 280 } : Room) s m args below meth c H locs cells slots (vx_MQ below (va_Qi post (ga_E g) (ga_A g)) (ga_X g xp) args s mc ms (ga_A g)) (F0 m 21 ls []) := by
  obtain ⟨hx, hb, hml, hown, hts, hr, hlk, hnm⟩ := hC
  unfold gw_X1_aisleOf_21 at hw
  refine lv_iconst (v := 0) hx hb dX1_aisleOf_21 (by decide) ?_
  exact gj_X1_aisleOf_22 hst htab g post xp p0 (0 : Int32) v1 v2 h bc bs ⟨hx, hb, hml, hown, hts, hr, hlk, hnm⟩ hw hI hbc hbs (lv_sub hl [0, 1, 2] rfl)
def gw_X1_aisleOf (K : ga_K) (p0 : Nat) (p1 : Int32) (p2 : Int32) (h : ga_H) (mc ms : Nat) (post : Int32 → ga_H → Prop) (xp : String → Nat → ga_H → Prop) : Prop :=
  gw_X1_isAisle p1 (fun (r_1 : Int32) => (r_1 = (0 : Int32) → (gw_X1_aisleOf_21 K post xp p0 p1 p2 h mc ms)) ∧ (¬ r_1 = (0 : Int32) → (gw_X1_isIn p2 (0 : Int32) (7 : Int32) (fun (r_62 : Int32) => (r_62 = (0 : Int32) → (gw_X1_aisleOf_21 K post xp p0 p1 p2 h mc ms)) ∧ (¬ r_62 = (0 : Int32) → (gw_X1_aisleOf_22 K post xp p0 (1 : Int32) p1 p2 h mc ms))))))
set_option maxHeartbeats 4000000 in
theorem gm_X1_aisleOf (l : Launch) (hst : l.stackTraces = false) (g : ga_G) (p0 : Nat) (p1 : Int32) (p2 : Int32) (h : ga_H) (mc ms : Nat) (post : Int32 → ga_H → Prop) (xp : String → Nat → ga_H → Prop) (hw : gw_X1_aisleOf g.2.2 p0 p1 p2 h mc ms post xp) : vx_Met l yX1_aisleOf (ws_ yX1_aisleOf cX1_aisleOf 4 (some .int)) ({ frames := 14, cells := mc, slots := ms, locals := 280 } : Room) (va_Pc [.ref p0, .int p1, .int p2] (ga_B g h)) (va_Qi post (ga_E g) (ga_A g)) (ga_X g xp) mc ms (ga_A g) := by
  refine ga_metx (own := "PaperStore") (nm := "aisleOf") (by decide) rfl rfl (by exact Nat.le_of_ble_eq_true rfl) (fun p e s m below meth c ls hC htab hI hl => ?_)
  have hl : lv_has ls 4 [(0, .ref p0), (1, .int p1), (2, .int p2)] := hl
  generalize ([.ref p0, .int p1, .int p2] : List Value).toArray = args at hC ⊢
  obtain ⟨hx, hb, hml, hown, hts, hr, hlk, hnm⟩ := hC
  unfold gw_X1_aisleOf at hw
  obtain ⟨H, eH⟩ : ∃ z, z = s.heap := ⟨_, rfl⟩
  obtain ⟨locs, elo⟩ : ∃ z : List Loc, z = [] := ⟨_, rfl⟩
  rw [← eH, ← elo] at hI ⊢
  obtain ⟨cells, slots, hbc, hbs, e0, e1⟩ : ∃ a b : Nat, a + mc ≤ mc ∧ b + ms ≤ ms ∧ a = 0 ∧ b = 0 := ⟨0, 0, by omega, by omega, rfl, rfl⟩
  show W p l e ({ frames := 14, cells := mc, slots := ms, locals := 280 } : Room) s m args below meth c H locs 0 0 (vx_MQ below (va_Qi post (ga_E g) (ga_A g)) (ga_X g xp) args s mc ms (ga_A g)) (F0 m 0 ls [])
  suffices hgoal : W p l e ({ frames := 14, cells := mc, slots := ms, locals := 280 } : Room) s m args below meth c H locs cells slots (vx_MQ below (va_Qi post (ga_E g) (ga_A g)) (ga_X g xp) args s mc ms (ga_A g)) (F0 m 0 ls []) by rw [e0, e1] at hgoal; exact hgoal
  refine lv_iload_n hx hb dX1_aisleOf_0 rfl (lv_at hl 1 rfl) ?_
  refine ga_callS (As := [.int p1]) (rest := []) ⟨hx, hb, hml, hown, hts⟩ (gm_X1_isAisle l p1 _ hw) (va_cwS 1 hts (lw_S q2144 q2145 q100 q2146) rfl rfl rfl hdG_X1_isAisle ⟨Nat.le_of_ble_eq_true rfl, Nat.le_of_ble_eq_true rfl⟩) rfl hl.1 rfl (ga_room (Nat.le_of_ble_eq_true rfl)) dX1_aisleOf_1 hbc hbs (fun r_1 hw => ?_)
  refine lv_if_eq (tgt := 21) hx hb dX1_aisleOf_4 (by decide) (fun hc_2 => ?_) (fun hc_2 => ?_)
  · have hw := hw.1 hc_2
    exact gj_X1_aisleOf_21 hst htab g post xp p0 p1 p2 h mc ms ⟨hx, hb, hml, hown, hts, hr, hlk, hnm⟩ hw hI hbc hbs (lv_sub hl [0, 1, 2] rfl)
  · have hw := hw.2 hc_2
    refine lv_iload_n hx hb dX1_aisleOf_7 rfl (lv_at hl 2 rfl) ?_
    refine lv_iconst (v := 0) hx hb dX1_aisleOf_8 (by decide) ?_
    refine lv_bipush (v := 7) hx hb dX1_aisleOf_9 (by decide) ?_
    refine ga_callS (As := [.int p2, .int (0 : Int32), .int (7 : Int32)]) (rest := []) ⟨hx, hb, hml, hown, hts⟩ (gm_X1_isIn l p2 (0 : Int32) (7 : Int32) _ hw) (va_cwS 3 hts (lw_S q2024 q2025 q100 q2026) rfl rfl rfl hdG_X1_isIn ⟨Nat.le_of_ble_eq_true rfl, Nat.le_of_ble_eq_true rfl⟩) rfl hl.1 rfl (ga_room (Nat.le_of_ble_eq_true rfl)) dX1_aisleOf_11 hbc hbs (fun r_62 hw => ?_)
    refine lv_if_eq (tgt := 21) hx hb dX1_aisleOf_14 (by decide) (fun hc_63 => ?_) (fun hc_63 => ?_)
    · have hw := hw.1 hc_63
      exact gj_X1_aisleOf_21 hst htab g post xp p0 p1 p2 h mc ms ⟨hx, hb, hml, hown, hts, hr, hlk, hnm⟩ hw hI hbc hbs (lv_sub hl [0, 1, 2] rfl)
    · have hw := hw.2 hc_63
      refine lv_iconst (v := 1) hx hb dX1_aisleOf_17 (by decide) ?_
      refine lv_goto (tgt := 22) hx hb dX1_aisleOf_18 (by decide) ?_
      exact gj_X1_aisleOf_22 hst htab g post xp p0 (1 : Int32) p1 p2 h mc ms ⟨hx, hb, hml, hown, hts, hr, hlk, hnm⟩ hw hI hbc hbs (lv_sub hl [0, 1, 2] rfl)
theorem hdG_X1_aisleOf : yX1_aisleOf.cls ≠ "java/lang/invoke/MethodHandle" ∧ yX1_aisleOf.cls ≠ "java/lang/invoke/VarHandle" ∧ (parseMethodDescriptor yX1_aisleOf.desc).map (fun d => d.parameters.length) = some 2 := by decide +kernel
def gw_X0_aisleOf (K : ga_K) (p0 : Option Nat) (p1 : Int32) (p2 : Int32) (p3 : Option Nat) (h : ga_H) (mc ms : Nat) (post : Int32 → ga_H → Prop) (xp : String → Nat → ga_H → Prop) : Prop :=
  ∃ a_1 : Nat, p0 = some a_1 ∧ ∃ kc_2 ks_3 : Nat, kc_2 ≤ mc ∧ ks_3 ≤ ms ∧ ∃ fs_4 : List Value, ga_at K h a_1 (ga_O 0 fs_4) ∧ gw_X1_aisleOf K a_1 p1 p2 h kc_2 ks_3 (fun (r_6 : Int32) (h_5 : ga_H) => ∃ a_10 : Nat, p3 = some a_10 ∧ ∃ (n_11 : Nat) (f_12 : Nat → Int64), h_5 a_10 = some (ga_Al n_11 f_12) ∧ vp_in (0 : Int32) n_11 ∧ ∀ h_13 : ga_H, h_13 = ga_set h_5 a_10 (ga_Al n_11 (vp_updL f_12 (0 : Int32).toNatClampNeg r_6.toInt64)) → (post (0 : Int32) h_13)) (fun (E_7 : String) (q_8 : Nat) (h_9 : ga_H) => (E_7 = "java/lang/IllegalArgumentException" ∧ (post (1 : Int32) h_9)))
set_option maxHeartbeats 4000000 in
theorem gm_X0_aisleOf (l : Launch) (hst : l.stackTraces = false) (g : ga_G) (p0 : Option Nat) (p1 : Int32) (p2 : Int32) (p3 : Option Nat) (h : ga_H) (mc ms : Nat) (post : Int32 → ga_H → Prop) (xp : String → Nat → ga_H → Prop) (hw : gw_X0_aisleOf g.2.2 p0 p1 p2 p3 h mc ms post xp) : vx_Met l yX0_aisleOf (wsW_ yX0_aisleOf cX0_aisleOf 5 (some .int) [(0, 10, 13, 13)]) ({ frames := 15, cells := mc, slots := ms, locals := 303 } : Room) (va_Pc [va_rf p0, .int p1, .int p2, va_rf p3] (ga_B g h)) (va_Qi post (ga_E g) (ga_A g)) (ga_X g xp) mc ms (ga_A g) := by
  refine ga_metxW (own := "PaperStoreLaw") (nm := "aisleOf") (by decide) rfl rfl (by cases p0 <;> cases p3 <;> exact Nat.le_of_ble_eq_true rfl) (fun p e s m below meth c ls hC htab hI hl => ?_)
  have hl : lv_has ls 5 [(0, va_rf p0), (1, .int p1), (2, .int p2), (3, va_rf p3)] := (by cases p0 <;> cases p3 <;> exact hl)
  generalize ([va_rf p0, .int p1, .int p2, va_rf p3] : List Value).toArray = args at hC ⊢
  obtain ⟨hx, hb, hml, hown, hts, hr, hlk, hnm⟩ := hC
  unfold gw_X0_aisleOf at hw
  obtain ⟨H, eH⟩ : ∃ z, z = s.heap := ⟨_, rfl⟩
  obtain ⟨locs, elo⟩ : ∃ z : List Loc, z = [] := ⟨_, rfl⟩
  rw [← eH, ← elo] at hI ⊢
  obtain ⟨cells, slots, hbc, hbs, e0, e1⟩ : ∃ a b : Nat, a + mc ≤ mc ∧ b + ms ≤ ms ∧ a = 0 ∧ b = 0 := ⟨0, 0, by omega, by omega, rfl, rfl⟩
  show W p l e ({ frames := 15, cells := mc, slots := ms, locals := 303 } : Room) s m args below meth c H locs 0 0 (vx_MQ below (va_Qi post (ga_E g) (ga_A g)) (ga_X g xp) args s mc ms (ga_A g)) (F0 m 0 ls [])
  suffices hgoal : W p l e ({ frames := 15, cells := mc, slots := ms, locals := 303 } : Room) s m args below meth c H locs cells slots (vx_MQ below (va_Qi post (ga_E g) (ga_A g)) (ga_X g xp) args s mc ms (ga_A g)) (F0 m 0 ls []) by rw [e0, e1] at hgoal; exact hgoal
  refine ga_aload_n hx hb dX0_aisleOf_0 rfl (lv_at hl 3 rfl) ?_
  refine lv_iconst (v := 0) hx hb dX0_aisleOf_1 (by decide) ?_
  refine ga_aload_n hx hb dX0_aisleOf_2 rfl (lv_at hl 0 rfl) ?_
  refine lv_iload_n hx hb dX0_aisleOf_3 rfl (lv_at hl 1 rfl) ?_
  refine lv_iload_n hx hb dX0_aisleOf_4 rfl (lv_at hl 2 rfl) ?_
  obtain ⟨a_1, ea_1, hw⟩ := hw
  rewrite [ea_1]
  obtain ⟨kc_2, ks_3, hk1, hk2, hw⟩ := hw
  obtain ⟨fs_4, hq, hw⟩ := hw
  refine ga_xcalli (vx_runV (As := [.int p1, .int p2]) (rest := [.int (0 : Int32), va_rf p3]) ⟨hx, hb, hml, hown, hts⟩ (gm_X1_aisleOf l hst g a_1 p1 p2 h kc_2 ks_3 _ _ hw) (cwV 2 hts (lw_V q2329 q2330 q2331 q100 q2332) rfl rfl rfl ⟨rfl, hdG_X1_aisleOf⟩ ⟨Nat.le_of_ble_eq_true rfl, Nat.le_of_ble_eq_true rfl⟩) (ga_preV hI hq rfl rfl) rfl rfl hl.1 rfl (ga_room (Nat.le_of_ble_eq_true rfl)) dX0_aisleOf_5 ⟨Nat.le_trans (Nat.add_le_add_left hk1 _) hbc, Nat.le_trans (Nat.add_le_add_left hk2 _) hbs⟩) hI hbc hbs hk1 hk2 (fun E_7 q_8 h_9 ce H locs cells slots hw hI hce hbc hbs => ?_) (fun r_6 h_5 H locs cells slots hw hI hbc hbs => ?_)
  · obtain ⟨rfl, hw⟩ := hw
    refine ga_catch hown hts hI ([]) (⟨0, 10, 13, 13⟩) ([]) (by rw [htab]; rfl) (fun _ h => absurd h List.not_mem_nil) rfl (by decide) q2017 q1054 hce ?_
    refine W.eq (g2 := F0 m 13 ls [.ref q_8]) rfl ?_
    refine lv_astore (lv' := [(4, .ref q_8), (0, va_rf p0), (1, .int p1), (2, .int p2), (3, va_rf p3)]) hx hb dX0_aisleOf_13 hl (by decide) (by simp [ga_rcat, ga_cat_r, ga_cat_i, ga_cat_f, ga_cat_l, ga_cat_d]) (fun ls hl => ?_)
    refine lv_iconst (v := 1) hx hb dX0_aisleOf_15 (by decide) ?_
    exact ga_iretx hx hb hr rfl hlk hI hw (Nat.le_trans (Nat.le_add_right _ _) hbc) (Nat.le_trans (Nat.le_add_right _ _) hbs) dX0_aisleOf_16
  · skip
    refine lv_i2l (v := r_6.toInt64) hx hb dX0_aisleOf_8 rfl ?_
    obtain ⟨a_10, ea_10, hw⟩ := hw
    rewrite [ea_10]
    obtain ⟨n_11, f_12, hq, hi, hw⟩ := hw
    refine ga_stl hx hb hI hq hi dX0_aisleOf_9 (fun H locs hI => ?_)
    obtain ⟨h_13, eh_13⟩ : ∃ z, z = ga_set h_5 a_10 (ga_Al n_11 (vp_updL f_12 (0 : Int32).toNatClampNeg r_6.toInt64)) := ⟨_, rfl⟩
    rw [← eh_13] at hI
    have hw := hw h_13 eh_13
    refine lv_goto (tgt := 17) hx hb dX0_aisleOf_10 (by decide) ?_
    refine lv_iconst (v := 0) hx hb dX0_aisleOf_17 (by decide) ?_
    exact ga_iretx hx hb hr rfl hlk hI hw (Nat.le_trans (Nat.le_add_right _ _) hbc) (Nat.le_trans (Nat.le_add_right _ _) hbs) dX0_aisleOf_18
theorem hdG_X0_aisleOf : yX0_aisleOf.cls ≠ "java/lang/invoke/MethodHandle" ∧ yX0_aisleOf.cls ≠ "java/lang/invoke/VarHandle" ∧ (parseMethodDescriptor yX0_aisleOf.desc).map (fun d => d.parameters.length) = some 4 := by decide +kernel
def gw_J2_remove_2_67 (K : ga_K) (post : Int32 → ga_H → Prop) (p0 : Nat) (v2 : Option Nat) (v4 : Int32) (h : ga_H) : Prop :=
  ∃ fs_17 : List Value, ga_at K h p0 (ga_O 13 fs_17) ∧ gw_J2_fastRemove K p0 v2 v4 h (fun (h_18 : ga_H) => post (1 : Int32) h_18)
set_option maxHeartbeats 4000000 in
theorem gj_J2_remove_2_67 {p : Program} {l : Launch} {e : Env} {s : State} {m : MethodId} {args : Array Value} {below : List Frame} {meth : Method} {c : Code} {H : Heap} {locs : List Loc} {cells slots : Nat} {ls : Array Slot} (g : ga_G) (post : Int32 → ga_H → Prop) (p0 : Nat) (v2 : Option Nat) (v4 : Int32) (h : ga_H) (hC : ga_Cx p s m args meth c cJ2_remove_2 5 (some .boolean) "java/util/ArrayList" "remove") (hw : gw_J2_remove_2_67 g.2.2 post p0 v2 v4 h) (hI : ga_I g h s H locs) (hbc : cells ≤ 0) (hbs : slots ≤ 0) (hl : lv_has ls 5 [(0, .ref p0), (2, va_rf v2), (4, .int v4)]) : W p l e ({ frames := 9, cells := 0, slots := 0, locals := 163 } : Room) s m args below meth c H locs cells slots (MQ below (va_Qi post (ga_E g) (ga_A g)) args s 0 0 (ga_A g)) (F0 m 67 ls []) := by
  obtain ⟨hx, hb, hml, hown, hts, hr, hlk, hnm⟩ := hC
  unfold gw_J2_remove_2_67 at hw
  refine lv_aload_n hx hb dJ2_remove_2_67 rfl (lv_at hl 0 rfl) ?_
  refine ga_aload_n hx hb dJ2_remove_2_68 rfl (lv_at hl 1 rfl) ?_
  refine lv_iload hx hb dJ2_remove_2_69 (lv_at hl 2 rfl) ?_
  obtain ⟨fs_17, hq, hw⟩ := hw
  refine ga_callv (va_runV (As := [va_rf v2, .int v4]) (rest := []) ⟨hx, hb, hml, hown, hts⟩ (gm_J2_fastRemove l g p0 v2 v4 h _ hw) (cwV 2 hts (lw_V q2078 q2080 qs9 q104 q2081) rfl rfl rfl ⟨rfl, hdG_J2_fastRemove⟩ ⟨Nat.le_of_ble_eq_true rfl, Nat.le_of_ble_eq_true rfl⟩) (ga_preV hI hq rfl rfl) rfl rfl hl.1 rfl (ga_room (Nat.le_of_ble_eq_true rfl)) dJ2_remove_2_71 ⟨hbc, hbs⟩) hI (bc := 0) (bs := 0) hbc hbs (Nat.zero_le _) (Nat.zero_le _) (fun h_18 H locs cells slots hw hI hbc hbs => ?_)
  refine lv_iconst (v := 1) hx hb dJ2_remove_2_74 (by decide) ?_
  exact ga_iret hx hb hr rfl hlk hI hw hbc hbs dJ2_remove_2_75
def gw_J2_remove_2 (K : ga_K) (p0 : Nat) (p1 : Option Nat) (h : ga_H) (post : Int32 → ga_H → Prop) : Prop :=
  ∃ (fs_1 : List Value) (v_2 : Option Nat), h p0 = some (ga_O 13 fs_1) ∧ fs_1[1]? = some (va_rf v_2) ∧ (∃ (fs_3 : List Value) (v_4 : Int32), h p0 = some (ga_O 13 fs_3) ∧ fs_3[2]? = some (.int v_4) ∧ ((p1 = none → (∃ (In_19 : Int32 → Prop) (mu_19 : Int32 → Nat), In_19 (0 : Int32) ∧ ∀ (x4_19 : Int32), In_19 x4_19 → ((v_4 ≤ x4_19 → (post (0 : Int32) h)) ∧ (¬ v_4 ≤ x4_19 → (∃ a_21 : Nat, v_2 = some a_21 ∧ ∃ (n_22 : Nat) (f_23 : Nat → Option Nat), ga_at K h a_21 (ga_Aq 5 n_22 f_23) ∧ vp_in x4_19 n_22 ∧ ∀ v_24 : Option Nat, v_24 = f_23 x4_19.toNatClampNeg → ((v_24 = none → (gw_J2_remove_2_67 K post p0 v_2 x4_19 h)) ∧ (∀ a_25 : Nat, v_24 = some a_25 → (In_19 (x4_19 + (1 : Int32)) ∧ mu_19 (x4_19 + (1 : Int32)) < mu_19 x4_19)))))))) ∧ (∀ a_5 : Nat, p1 = some a_5 → (∃ (In_6 : Int32 → ga_H → Prop) (mu_6 : Int32 → ga_H → Nat), In_6 (0 : Int32) h ∧ ∀ (x4_6 : Int32) (h_6 : ga_H), In_6 x4_6 h_6 → ((v_4 ≤ x4_6 → (post (0 : Int32) h_6)) ∧ (¬ v_4 ≤ x4_6 → (∃ a_8 : Nat, v_2 = some a_8 ∧ ∃ (n_9 : Nat) (f_10 : Nat → Option Nat), ga_at K h_6 a_8 (ga_Aq 5 n_9 f_10) ∧ vp_in x4_6 n_9 ∧ ∀ v_11 : Option Nat, v_11 = f_10 x4_6.toNatClampNeg → (∃ a_12 : Nat, p1 = some a_12 ∧ ∃ fs_13 : List Value, ga_at K h_6 a_12 (ga_O 4 fs_13) ∧ gw_J55_equals K a_12 v_11 h_6 (fun (r_15 : Int32) (h_14 : ga_H) => (r_15 = (0 : Int32) → (In_6 (x4_6 + (1 : Int32)) h_14 ∧ mu_6 (x4_6 + (1 : Int32)) h_14 < mu_6 x4_6 h_6)) ∧ (¬ r_15 = (0 : Int32) → (gw_J2_remove_2_67 K post p0 v_2 x4_6 h_14)))))))))))
set_option maxHeartbeats 4000000 in
theorem gm_J2_remove_2 (l : Launch) (g : ga_G) (p0 : Nat) (p1 : Option Nat) (h : ga_H) (post : Int32 → ga_H → Prop) (hw : gw_J2_remove_2 g.2.2 p0 p1 h post) : Met l yJ2_remove_2 (ws_ yJ2_remove_2 cJ2_remove_2 5 (some .boolean)) ({ frames := 9, cells := 0, slots := 0, locals := 163 } : Room) (va_Pc [.ref p0, va_rf p1] (ga_B g h)) (va_Qi post (ga_E g) (ga_A g)) 0 0 (ga_A g) := by
  refine ga_met (own := "java/util/ArrayList") (nm := "remove") (by decide) rfl rfl (by cases p1 <;> exact Nat.le_of_ble_eq_true rfl) (fun p e s m below meth c ls hC hI hl => ?_)
  have hl : lv_has ls 5 [(0, .ref p0), (1, va_rf p1)] := (by cases p1 <;> exact hl)
  generalize ([.ref p0, va_rf p1] : List Value).toArray = args at hC ⊢
  obtain ⟨hx, hb, hml, hown, hts, hr, hlk, hnm⟩ := hC
  unfold gw_J2_remove_2 at hw
  obtain ⟨H, eH⟩ : ∃ z, z = s.heap := ⟨_, rfl⟩
  obtain ⟨locs, elo⟩ : ∃ z : List Loc, z = [] := ⟨_, rfl⟩
  rw [← eH, ← elo] at hI ⊢
  obtain ⟨cells, slots, hbc, hbs, e0, e1⟩ : ∃ a b : Nat, a ≤ 0 ∧ b ≤ 0 ∧ a = 0 ∧ b = 0 := ⟨0, 0, by omega, by omega, rfl, rfl⟩
  show W p l e ({ frames := 9, cells := 0, slots := 0, locals := 163 } : Room) s m args below meth c H locs 0 0 (MQ below (va_Qi post (ga_E g) (ga_A g)) args s 0 0 (ga_A g)) (F0 m 0 ls [])
  suffices hgoal : W p l e ({ frames := 9, cells := 0, slots := 0, locals := 163 } : Room) s m args below meth c H locs cells slots (MQ below (va_Qi post (ga_E g) (ga_A g)) args s 0 0 (ga_A g)) (F0 m 0 ls []) by rw [e0, e1] at hgoal; exact hgoal
  refine lv_aload_n hx hb dJ2_remove_2_0 rfl (lv_at hl 0 rfl) ?_
  obtain ⟨fs_1, v_2, hq, hv, hw⟩ := hw
  refine ga_get (ci := 13) (T := TJ2) (v := va_rf v_2) hx hb hts hown hI in_J2 rfl 1 (by decide) q203 (fun _ z => z) (ga_at.h hq) hv dJ2_remove_2_1 ?_
  refine ga_astore_n (i := 2) (x := v_2) (lv' := [(2, va_rf v_2), (0, .ref p0), (1, va_rf p1)]) hx hb dJ2_remove_2_4 rfl hl (by decide) (by simp [ga_rcat, ga_cat_r, ga_cat_i, ga_cat_f, ga_cat_l, ga_cat_d]) (fun ls hl => ?_)
  refine lv_aload_n hx hb dJ2_remove_2_5 rfl (lv_at hl 1 rfl) ?_
  obtain ⟨fs_3, v_4, hq, hv, hw⟩ := hw
  refine ga_get (ci := 13) (T := TJ2) (v := .int v_4) hx hb hts hown hI in_J2 rfl 2 (by decide) q206 (fun _ z => z) (ga_at.h hq) hv dJ2_remove_2_6 ?_
  refine lv_istore_n (i := 3) (lv' := [(3, .int v_4), (2, va_rf v_2), (0, .ref p0), (1, va_rf p1)]) hx hb dJ2_remove_2_9 rfl hl (by decide) (by simp [ga_rcat, ga_cat_r, ga_cat_i, ga_cat_f, ga_cat_l, ga_cat_d]) (fun ls hl => ?_)
  refine lv_iconst (v := 0) hx hb dJ2_remove_2_10 (by decide) ?_
  refine lv_istore (lv' := [(4, .int (0 : Int32)), (3, .int v_4), (2, va_rf v_2), (0, .ref p0), (1, va_rf p1)]) hx hb dJ2_remove_2_11 hl (by decide) rfl (fun ls hl => ?_)
  refine ga_aload_n hx hb dJ2_remove_2_13 rfl (lv_at hl 4 rfl) ?_
  refine ga_ifnonnull (tgt := 39) hx hb dJ2_remove_2_14 (by decide) (fun a_5 hc_a_5 => ?_) (fun hc_a_5 => ?_)
  · have hw := hw.2 a_5 hc_a_5
    skip
    obtain ⟨In_6, mu_6, h0_6, hw⟩ := hw
    have hL_6 : ∀ (n : Nat) (x4_6 : Int32) (h_6 : ga_H) (H : Heap) (locs : List Loc) (cells slots : Nat) (ls : Array Slot), mu_6 x4_6 h_6 < n → In_6 x4_6 h_6 → ga_I g h_6 s H locs → cells ≤ 0 → slots ≤ 0 → lv_has ls 5 [(0, .ref p0), (1, va_rf p1), (2, va_rf v_2), (3, .int v_4), (4, .int x4_6)] → W p l e ({ frames := 9, cells := 0, slots := 0, locals := 163 } : Room) s m args below meth c H locs cells slots (MQ below (va_Qi post (ga_E g) (ga_A g)) args s 0 0 (ga_A g)) (F0 m 39 ls []) := by
      intro n
      induction n with
      | zero => intro x4_6 h_6 H locs cells slots ls hn _ _ _ _ _; exact absurd hn (Nat.not_lt_zero _)
      | succ n ih_6 =>
        intro x4_6 h_6 H locs cells slots ls hn_6 hi_6 hI hbc hbs hl
        have hw := hw x4_6 h_6 hi_6
        refine lv_iload hx hb dJ2_remove_2_39 (lv_at hl 4 rfl) ?_
        refine lv_iload_n hx hb dJ2_remove_2_41 rfl (lv_at hl 3 rfl) ?_
        refine lv_icmp_ge (tgt := 65) hx hb dJ2_remove_2_42 (by decide) (fun hc_7 => ?_) (fun hc_7 => ?_)
        · have hw := hw.1 hc_7
          refine lv_iconst (v := 0) hx hb dJ2_remove_2_65 (by decide) ?_
          exact ga_iret hx hb hr rfl hlk hI hw hbc hbs dJ2_remove_2_66
        · have hw := hw.2 hc_7
          refine ga_aload_n hx hb dJ2_remove_2_45 rfl (lv_at hl 1 rfl) ?_
          refine ga_aload_n hx hb dJ2_remove_2_46 rfl (lv_at hl 2 rfl) ?_
          refine lv_iload hx hb dJ2_remove_2_47 (lv_at hl 4 rfl) ?_
          obtain ⟨a_8, ea_8, hw⟩ := hw
          rewrite [ea_8]
          obtain ⟨n_9, f_10, hq, hi, hw⟩ := hw
          refine ga_ldq hx hb hI hq rfl hi dJ2_remove_2_49 ?_
          obtain ⟨v_11, ev_11⟩ : ∃ z, z = f_10 x4_6.toNatClampNeg := ⟨_, rfl⟩
          rw [← ev_11]
          have hw := hw v_11 ev_11
          obtain ⟨a_12, ea_12, hw⟩ := hw
          rewrite [ea_12]
          obtain ⟨fs_13, hq, hw⟩ := hw
          refine ga_calli (va_runU (As := [va_rf v_11]) (rest := []) ⟨hx, hb, hml, hown, hts⟩ (gm_J55_equals l g a_12 v_11 h_6 _ hw) (va_cwU 1 hts (lw_app (List.forall_mem_cons.mpr ⟨q2228, List.forall_mem_cons.mpr ⟨q1903, List.forall_mem_cons.mpr ⟨q1916, List.forall_mem_cons.mpr ⟨q1902, List.forall_mem_cons.mpr ⟨q4137, fun _ h => absurd h List.not_mem_nil⟩⟩⟩⟩⟩) (lw_meth q1946)) rfl rfl rfl rfl hdG_J55_equals ⟨Nat.le_of_ble_eq_true rfl, Nat.le_of_ble_eq_true rfl⟩) (ga_preV (C := "PaperStore$Ream") hI hq rfl rfl) rfl rfl hl.1 rfl (ga_room (Nat.le_of_ble_eq_true rfl)) dJ2_remove_2_50 ⟨hbc, hbs⟩) hI (bc := 0) (bs := 0) hbc hbs (Nat.zero_le _) (Nat.zero_le _) (fun r_15 h_14 H locs cells slots hw hI hbc hbs => ?_)
          refine lv_if_eq (tgt := 59) hx hb dJ2_remove_2_53 (by decide) (fun hc_16 => ?_) (fun hc_16 => ?_)
          · have hw := hw.1 hc_16
            refine lv_iinc (v := x4_6 + (1 : Int32)) (lv' := [(4, .int (x4_6 + (1 : Int32))), (0, .ref p0), (1, va_rf p1), (2, va_rf v_2), (3, .int v_4)]) hx hb dJ2_remove_2_59 hl (k := 4) rfl rfl (by decide) rfl (fun ls hl => ?_)
            refine lv_goto (tgt := 39) hx hb dJ2_remove_2_62 (by decide) ?_
            exact ih_6 _ _ H locs cells slots ls (Nat.lt_of_lt_of_le hw.2 (Nat.le_of_lt_succ hn_6)) hw.1 hI hbc hbs (lv_sub hl [1, 2, 3, 4, 0] rfl)
          · have hw := hw.2 hc_16
            refine lv_goto (tgt := 67) hx hb dJ2_remove_2_56 (by decide) ?_
            exact gj_J2_remove_2_67 g post p0 v_2 x4_6 h_14 ⟨hx, hb, hml, hown, hts, hr, hlk, hnm⟩ hw hI hbc hbs (lv_sub hl [0, 2, 4] rfl)
    exact hL_6 _ _ _ H locs cells slots ls (Nat.lt_succ_self _) h0_6 hI hbc hbs (lv_sub hl [3, 4, 2, 1, 0] rfl)
  · have hw := hw.1 hc_a_5
    obtain ⟨In_19, mu_19, h0_19, hw⟩ := hw
    have hL_19 : ∀ (n : Nat) (x4_19 : Int32) (ls : Array Slot), mu_19 x4_19 < n → In_19 x4_19 → lv_has ls 5 [(0, .ref p0), (2, va_rf v_2), (3, .int v_4), (4, .int x4_19)] → W p l e ({ frames := 9, cells := 0, slots := 0, locals := 163 } : Room) s m args below meth c H locs cells slots (MQ below (va_Qi post (ga_E g) (ga_A g)) args s 0 0 (ga_A g)) (F0 m 17 ls []) := by
      intro n
      induction n with
      | zero => intro x4_19 ls hn _ _; exact absurd hn (Nat.not_lt_zero _)
      | succ n ih_19 =>
        intro x4_19 ls hn_19 hi_19 hl
        have hw := hw x4_19 hi_19
        refine lv_iload hx hb dJ2_remove_2_17 (lv_at hl 3 rfl) ?_
        refine lv_iload_n hx hb dJ2_remove_2_19 rfl (lv_at hl 2 rfl) ?_
        refine lv_icmp_ge (tgt := 65) hx hb dJ2_remove_2_20 (by decide) (fun hc_20 => ?_) (fun hc_20 => ?_)
        · have hw := hw.1 hc_20
          refine lv_iconst (v := 0) hx hb dJ2_remove_2_65 (by decide) ?_
          exact ga_iret hx hb hr rfl hlk hI hw hbc hbs dJ2_remove_2_66
        · have hw := hw.2 hc_20
          refine ga_aload_n hx hb dJ2_remove_2_23 rfl (lv_at hl 1 rfl) ?_
          refine lv_iload hx hb dJ2_remove_2_24 (lv_at hl 3 rfl) ?_
          obtain ⟨a_21, ea_21, hw⟩ := hw
          rewrite [ea_21]
          obtain ⟨n_22, f_23, hq, hi, hw⟩ := hw
          refine ga_ldq hx hb hI hq rfl hi dJ2_remove_2_26 ?_
          obtain ⟨v_24, ev_24⟩ : ∃ z, z = f_23 x4_19.toNatClampNeg := ⟨_, rfl⟩
          rw [← ev_24]
          have hw := hw v_24 ev_24
          refine ga_ifnonnull (tgt := 33) hx hb dJ2_remove_2_27 (by decide) (fun a_25 hc_a_25 => ?_) (fun hc_a_25 => ?_)
          · have hw := hw.2 a_25 hc_a_25
            skip
            refine lv_iinc (v := x4_19 + (1 : Int32)) (lv' := [(4, .int (x4_19 + (1 : Int32))), (0, .ref p0), (2, va_rf v_2), (3, .int v_4)]) hx hb dJ2_remove_2_33 hl (k := 3) rfl rfl (by decide) rfl (fun ls hl => ?_)
            refine lv_goto (tgt := 17) hx hb dJ2_remove_2_36 (by decide) ?_
            exact ih_19 _ ls (Nat.lt_of_lt_of_le hw.2 (Nat.le_of_lt_succ hn_19)) hw.1 (lv_sub hl [1, 2, 3, 0] rfl)
          · have hw := hw.1 hc_a_25
            refine lv_goto (tgt := 67) hx hb dJ2_remove_2_30 (by decide) ?_
            exact gj_J2_remove_2_67 g post p0 v_2 x4_19 h ⟨hx, hb, hml, hown, hts, hr, hlk, hnm⟩ hw hI hbc hbs (lv_sub hl [0, 1, 3] rfl)
    exact hL_19 _ _ ls (Nat.lt_succ_self _) h0_19 (lv_sub hl [3, 2, 1, 0] rfl)
theorem hdG_J2_remove_2 : yJ2_remove_2.cls ≠ "java/lang/invoke/MethodHandle" ∧ yJ2_remove_2.cls ≠ "java/lang/invoke/VarHandle" ∧ (parseMethodDescriptor yJ2_remove_2.desc).map (fun d => d.parameters.length) = some 1 := by decide +kernel
def gw_X4_takes (K : ga_K) (p0 : Nat) (p1 : Option Nat) (p2 : Int32) (h : ga_H) (post : ga_H → Prop) : Prop :=
  ∃ a_1 : Nat, p1 = some a_1 ∧ ∃ (fs_2 : List Value) (v_3 : Int32), h a_1 = some (ga_O 4 fs_2) ∧ fs_2[2]? = some (.int v_3) ∧ (∃ fs_4 : List Value, h a_1 = some (ga_O 4 fs_4) ∧ 2 < fs_4.length ∧ ∀ h_5 : ga_H, h_5 = ga_set h a_1 (ga_O 4 (fs_4.set 2 (.int (v_3 - p2)))) → (∃ a_6 : Nat, p1 = some a_6 ∧ ∃ fs_7 : List Value, ga_at K h_5 a_6 (ga_O 4 fs_7) ∧ gw_X6_isGone K a_6 h_5 (fun (r_9 : Int32) (h_8 : ga_H) => (r_9 = (0 : Int32) → (post h_8)) ∧ (¬ r_9 = (0 : Int32) → (∃ (fs_11 : List Value) (v_12 : Option Nat), h_8 p0 = some (ga_O 3 fs_11) ∧ fs_11[0]? = some (va_rf v_12) ∧ (∃ a_13 : Nat, v_12 = some a_13 ∧ ∃ fs_14 : List Value, ga_at K h_8 a_13 (ga_O 13 fs_14) ∧ gw_J2_remove_2 K a_13 p1 h_8 (fun (r_16 : Int32) (h_15 : ga_H) => post h_15)))))))
set_option maxHeartbeats 4000000 in
theorem gm_X4_takes (l : Launch) (g : ga_G) (p0 : Nat) (p1 : Option Nat) (p2 : Int32) (h : ga_H) (post : ga_H → Prop) (hw : gw_X4_takes g.2.2 p0 p1 p2 h post) : Met l yX4_takes (ws_ yX4_takes cX4_takes 4 none) ({ frames := 10, cells := 0, slots := 0, locals := 187 } : Room) (va_Pc [.ref p0, va_rf p1, .int p2] (ga_B g h)) (va_Qv post (ga_E g) (ga_A g)) 0 0 (ga_A g) := by
  refine ga_met (own := "PaperStore$Shelf") (nm := "takes") (by decide) rfl rfl (by cases p1 <;> exact Nat.le_of_ble_eq_true rfl) (fun p e s m below meth c ls hC hI hl => ?_)
  have hl : lv_has ls 4 [(0, .ref p0), (1, va_rf p1), (2, .int p2)] := (by cases p1 <;> exact hl)
  generalize ([.ref p0, va_rf p1, .int p2] : List Value).toArray = args at hC ⊢
  obtain ⟨hx, hb, hml, hown, hts, hr, hlk, hnm⟩ := hC
  unfold gw_X4_takes at hw
  obtain ⟨H, eH⟩ : ∃ z, z = s.heap := ⟨_, rfl⟩
  obtain ⟨locs, elo⟩ : ∃ z : List Loc, z = [] := ⟨_, rfl⟩
  rw [← eH, ← elo] at hI ⊢
  obtain ⟨cells, slots, hbc, hbs, e0, e1⟩ : ∃ a b : Nat, a ≤ 0 ∧ b ≤ 0 ∧ a = 0 ∧ b = 0 := ⟨0, 0, by omega, by omega, rfl, rfl⟩
  show W p l e ({ frames := 10, cells := 0, slots := 0, locals := 187 } : Room) s m args below meth c H locs 0 0 (MQ below (va_Qv post (ga_E g) (ga_A g)) args s 0 0 (ga_A g)) (F0 m 0 ls [])
  suffices hgoal : W p l e ({ frames := 10, cells := 0, slots := 0, locals := 187 } : Room) s m args below meth c H locs cells slots (MQ below (va_Qv post (ga_E g) (ga_A g)) args s 0 0 (ga_A g)) (F0 m 0 ls []) by rw [e0, e1] at hgoal; exact hgoal
  refine ga_aload_n hx hb dX4_takes_0 rfl (lv_at hl 1 rfl) ?_
  refine lv_dup hx hb dX4_takes_1 (ga_rcat _) ?_
  obtain ⟨a_1, ea_1, hw⟩ := hw
  rewrite [ea_1]
  obtain ⟨fs_2, v_3, hq, hv, hw⟩ := hw
  refine ga_getN (ci := 4) (T := TX6) (v := .int v_3) hx hb hts hown hI in_X6 rfl 2 (by decide) q1300 (fun _ z => z) (ga_at.h hq) hv dX4_takes_2 ?_
  refine lv_iload_n hx hb dX4_takes_5 rfl (lv_at hl 2 rfl) ?_
  refine lv_isub hx hb dX4_takes_6 ?_
  obtain ⟨fs_4, hq, hk, hw⟩ := hw
  refine ga_putN (ci := 4) (T := TX6) (v := .int (v_3 - p2)) (ty := tyX6 2) hx hb hts hown hI in_X6 rfl tyX6 tyX6_ok nmX6 2 (by decide) q1300 (fun _ z => z) rfl (tyX6_ok 2 (by decide)) rfl rfl hq hk dX4_takes_7 (fun H locs hI => ?_)
  obtain ⟨h_5, eh_5⟩ : ∃ z, z = ga_set h a_1 (ga_O 4 (fs_4.set 2 (.int (v_3 - p2)))) := ⟨_, rfl⟩
  rw [← eh_5] at hI
  have hw := hw h_5 eh_5
  refine ga_aload_n hx hb dX4_takes_10 rfl (lv_at hl 1 rfl) ?_
  obtain ⟨a_6, ea_6, hw⟩ := hw
  rewrite [ea_6]
  obtain ⟨fs_7, hq, hw⟩ := hw
  refine ga_calli (va_runV (As := []) (rest := []) ⟨hx, hb, hml, hown, hts⟩ (gm_X6_isGone l g a_6 h_5 _ hw) (cwV 0 hts (lw_V q2382 q2284 q2285 q137 q2286) rfl rfl rfl ⟨rfl, hdG_X6_isGone⟩ ⟨Nat.le_of_ble_eq_true rfl, Nat.le_of_ble_eq_true rfl⟩) (ga_preV hI hq rfl rfl) rfl rfl hl.1 rfl (ga_room (Nat.le_of_ble_eq_true rfl)) dX4_takes_11 ⟨hbc, hbs⟩) hI (bc := 0) (bs := 0) hbc hbs (Nat.zero_le _) (Nat.zero_le _) (fun r_9 h_8 H locs cells slots hw hI hbc hbs => ?_)
  refine lv_if_eq (tgt := 26) hx hb dX4_takes_14 (by decide) (fun hc_10 => ?_) (fun hc_10 => ?_)
  · have hw := hw.1 hc_10
    exact ga_vret hx hb hr hlk hI hw hbc hbs dX4_takes_26
  · have hw := hw.2 hc_10
    refine lv_aload_n hx hb dX4_takes_17 rfl (lv_at hl 0 rfl) ?_
    obtain ⟨fs_11, v_12, hq, hv, hw⟩ := hw
    refine ga_get (ci := 3) (T := TX4) (v := va_rf v_12) hx hb hts hown hI in_X4 rfl 0 (by decide) q272 (fun _ z => z) (ga_at.h hq) hv dX4_takes_18 ?_
    refine ga_aload_n hx hb dX4_takes_21 rfl (lv_at hl 1 rfl) ?_
    obtain ⟨a_13, ea_13, hw⟩ := hw
    rewrite [ea_13]
    obtain ⟨fs_14, hq, hw⟩ := hw
    refine ga_calli (va_runV (As := [va_rf p1]) (rest := []) ⟨hx, hb, hml, hown, hts⟩ (gm_J2_remove_2 l g a_13 p1 h_8 _ hw) (cwV 1 hts (lw_V q2383 q2384 q2385 q104 q2386) rfl rfl rfl ⟨rfl, hdG_J2_remove_2⟩ ⟨Nat.le_of_ble_eq_true rfl, Nat.le_of_ble_eq_true rfl⟩) (ga_preV hI hq rfl rfl) rfl rfl hl.1 rfl (ga_room (Nat.le_of_ble_eq_true rfl)) dX4_takes_22 ⟨hbc, hbs⟩) hI (bc := 0) (bs := 0) hbc hbs (Nat.zero_le _) (Nat.zero_le _) (fun r_16 h_15 H locs cells slots hw hI hbc hbs => ?_)
    refine lv_istore_n (i := 3) (lv' := [(3, .int r_16), (0, .ref p0), (1, va_rf p1), (2, .int p2)]) hx hb dX4_takes_25 rfl hl (by decide) rfl (fun ls hl => ?_)
    exact ga_vret hx hb hr hlk hI hw hbc hbs dX4_takes_26
theorem hdG_X4_takes : yX4_takes.cls ≠ "java/lang/invoke/MethodHandle" ∧ yX4_takes.cls ≠ "java/lang/invoke/VarHandle" ∧ (parseMethodDescriptor yX4_takes.desc).map (fun d => d.parameters.length) = some 2 := by decide +kernel
def gw_X4_isEaten (K : ga_K) (p0 : Nat) (p1 : Int32) (h : ga_H) (post : Int32 → ga_H → Prop) : Prop :=
  ∃ (In_1 : Int32 → ga_H → Prop) (mu_1 : Int32 → ga_H → Nat), In_1 p1 h ∧ ∀ (x2_1 : Int32) (h_1 : ga_H), In_1 x2_1 h_1 → ((x2_1 ≤ (0 : Int32) → (post (p1 - x2_1) h_1)) ∧ (¬ x2_1 ≤ (0 : Int32) → (∃ (fs_3 : List Value) (v_4 : Option Nat), h_1 p0 = some (ga_O 3 fs_3) ∧ fs_3[0]? = some (va_rf v_4) ∧ (∃ a_5 : Nat, v_4 = some a_5 ∧ ∃ fs_6 : List Value, ga_at K h_1 a_5 (ga_O 13 fs_6) ∧ gw_J2_isEmpty K a_5 h_1 (fun (r_8 : Int32) (h_7 : ga_H) => (¬ r_8 = (0 : Int32) → (post (p1 - x2_1) h_7)) ∧ (r_8 = (0 : Int32) → (∃ fs_10 : List Value, ga_at K h_7 p0 (ga_O 3 fs_10) ∧ gw_X4_top K p0 h_7 (fun (r_12 : Option Nat) (h_11 : ga_H) => ∃ a_13 : Nat, r_12 = some a_13 ∧ ∃ (fs_14 : List Value) (v_15 : Int32), h_11 a_13 = some (ga_O 4 fs_14) ∧ fs_14[2]? = some (.int v_15) ∧ (∀ r_16 : Int32, r_16 = (if v_15 < x2_1 then v_15 else x2_1) → (∃ a_17 : Nat, r_12 = some a_17 ∧ ∃ (fs_18 : List Value) (v_19 : Int32), h_11 a_17 = some (ga_O 4 fs_18) ∧ fs_18[4]? = some (.int v_19) ∧ (∃ fs_20 : List Value, h_11 a_17 = some (ga_O 4 fs_20) ∧ 4 < fs_20.length ∧ ∀ h_21 : ga_H, h_21 = ga_set h_11 a_17 (ga_O 4 (fs_20.set 4 (.int (v_19 + r_16)))) → (∃ fs_22 : List Value, ga_at K h_21 p0 (ga_O 3 fs_22) ∧ gw_X4_takes K p0 r_12 r_16 h_21 (fun (h_23 : ga_H) => In_1 (x2_1 - r_16) h_23 ∧ mu_1 (x2_1 - r_16) h_23 < mu_1 x2_1 h_1)))))))))))))
set_option maxHeartbeats 4000000 in
theorem gm_X4_isEaten (l : Launch) (g : ga_G) (p0 : Nat) (p1 : Int32) (h : ga_H) (post : Int32 → ga_H → Prop) (hw : gw_X4_isEaten g.2.2 p0 p1 h post) : Met l yX4_isEaten (ws_ yX4_isEaten cX4_isEaten 5 (some .int)) ({ frames := 12, cells := 0, slots := 0, locals := 224 } : Room) (va_Pc [.ref p0, .int p1] (ga_B g h)) (va_Qi post (ga_E g) (ga_A g)) 0 0 (ga_A g) := by
  refine ga_met (own := "PaperStore$Shelf") (nm := "isEaten") (by decide) rfl rfl (by exact Nat.le_of_ble_eq_true rfl) (fun p e s m below meth c ls hC hI hl => ?_)
  have hl : lv_has ls 5 [(0, .ref p0), (1, .int p1)] := hl
  generalize ([.ref p0, .int p1] : List Value).toArray = args at hC ⊢
  obtain ⟨hx, hb, hml, hown, hts, hr, hlk, hnm⟩ := hC
  unfold gw_X4_isEaten at hw
  obtain ⟨H, eH⟩ : ∃ z, z = s.heap := ⟨_, rfl⟩
  obtain ⟨locs, elo⟩ : ∃ z : List Loc, z = [] := ⟨_, rfl⟩
  rw [← eH, ← elo] at hI ⊢
  obtain ⟨cells, slots, hbc, hbs, e0, e1⟩ : ∃ a b : Nat, a ≤ 0 ∧ b ≤ 0 ∧ a = 0 ∧ b = 0 := ⟨0, 0, by omega, by omega, rfl, rfl⟩
  show W p l e ({ frames := 12, cells := 0, slots := 0, locals := 224 } : Room) s m args below meth c H locs 0 0 (MQ below (va_Qi post (ga_E g) (ga_A g)) args s 0 0 (ga_A g)) (F0 m 0 ls [])
  suffices hgoal : W p l e ({ frames := 12, cells := 0, slots := 0, locals := 224 } : Room) s m args below meth c H locs cells slots (MQ below (va_Qi post (ga_E g) (ga_A g)) args s 0 0 (ga_A g)) (F0 m 0 ls []) by rw [e0, e1] at hgoal; exact hgoal
  refine lv_iload_n hx hb dX4_isEaten_0 rfl (lv_at hl 1 rfl) ?_
  refine lv_istore_n (i := 2) (lv' := [(2, .int p1), (0, .ref p0), (1, .int p1)]) hx hb dX4_isEaten_1 rfl hl (by decide) rfl (fun ls hl => ?_)
  obtain ⟨In_1, mu_1, h0_1, hw⟩ := hw
  have hL_1 : ∀ (n : Nat) (x2_1 : Int32) (h_1 : ga_H) (H : Heap) (locs : List Loc) (cells slots : Nat) (ls : Array Slot), mu_1 x2_1 h_1 < n → In_1 x2_1 h_1 → ga_I g h_1 s H locs → cells ≤ 0 → slots ≤ 0 → lv_has ls 5 [(0, .ref p0), (1, .int p1), (2, .int x2_1)] → W p l e ({ frames := 12, cells := 0, slots := 0, locals := 224 } : Room) s m args below meth c H locs cells slots (MQ below (va_Qi post (ga_E g) (ga_A g)) args s 0 0 (ga_A g)) (F0 m 2 ls []) := by
    intro n
    induction n with
    | zero => intro x2_1 h_1 H locs cells slots ls hn _ _ _ _ _; exact absurd hn (Nat.not_lt_zero _)
    | succ n ih_1 =>
      intro x2_1 h_1 H locs cells slots ls hn_1 hi_1 hI hbc hbs hl
      have hw := hw x2_1 h_1 hi_1
      refine lv_iload_n hx hb dX4_isEaten_2 rfl (lv_at hl 2 rfl) ?_
      refine lv_if_le (tgt := 57) hx hb dX4_isEaten_3 (by decide) (fun hc_2 => ?_) (fun hc_2 => ?_)
      · have hw := hw.1 hc_2
        refine lv_iload_n hx hb dX4_isEaten_57 rfl (lv_at hl 1 rfl) ?_
        refine lv_iload_n hx hb dX4_isEaten_58 rfl (lv_at hl 2 rfl) ?_
        refine lv_isub hx hb dX4_isEaten_59 ?_
        exact ga_iret hx hb hr rfl hlk hI hw hbc hbs dX4_isEaten_60
      · have hw := hw.2 hc_2
        refine lv_aload_n hx hb dX4_isEaten_6 rfl (lv_at hl 0 rfl) ?_
        obtain ⟨fs_3, v_4, hq, hv, hw⟩ := hw
        refine ga_get (ci := 3) (T := TX4) (v := va_rf v_4) hx hb hts hown hI in_X4 rfl 0 (by decide) q272 (fun _ z => z) (ga_at.h hq) hv dX4_isEaten_7 ?_
        obtain ⟨a_5, ea_5, hw⟩ := hw
        rewrite [ea_5]
        obtain ⟨fs_6, hq, hw⟩ := hw
        refine ga_calli (va_runV (As := []) (rest := []) ⟨hx, hb, hml, hown, hts⟩ (gm_J2_isEmpty l g a_5 h_1 _ hw) (cwV 0 hts (lw_V q2265 q2266 q2267 q104 q2268) rfl rfl rfl ⟨rfl, hdG_J2_isEmpty⟩ ⟨Nat.le_of_ble_eq_true rfl, Nat.le_of_ble_eq_true rfl⟩) (ga_preV hI hq rfl rfl) rfl rfl hl.1 rfl (ga_room (Nat.le_of_ble_eq_true rfl)) dX4_isEaten_10 ⟨hbc, hbs⟩) hI (bc := 0) (bs := 0) hbc hbs (Nat.zero_le _) (Nat.zero_le _) (fun r_8 h_7 H locs cells slots hw hI hbc hbs => ?_)
        refine lv_if_ne (tgt := 57) hx hb dX4_isEaten_13 (by decide) (fun hc_9 => ?_) (fun hc_9 => ?_)
        · have hw := hw.1 hc_9
          refine lv_iload_n hx hb dX4_isEaten_57 rfl (lv_at hl 1 rfl) ?_
          refine lv_iload_n hx hb dX4_isEaten_58 rfl (lv_at hl 2 rfl) ?_
          refine lv_isub hx hb dX4_isEaten_59 ?_
          exact ga_iret hx hb hr rfl hlk hI hw hbc hbs dX4_isEaten_60
        · have hw := hw.2 hc_9
          refine lv_aload_n hx hb dX4_isEaten_16 rfl (lv_at hl 0 rfl) ?_
          obtain ⟨fs_10, hq, hw⟩ := hw
          refine ga_callq (va_runV (As := []) (rest := []) ⟨hx, hb, hml, hown, hts⟩ (gm_X4_top l g p0 h_7 _ hw) (cwV 0 hts (lw_V q2376 q2262 q2263 q108 q2264) rfl rfl rfl ⟨rfl, hdG_X4_top⟩ ⟨Nat.le_of_ble_eq_true rfl, Nat.le_of_ble_eq_true rfl⟩) (ga_preV hI hq rfl rfl) rfl rfl hl.1 rfl (ga_room (Nat.le_of_ble_eq_true rfl)) dX4_isEaten_17 ⟨hbc, hbs⟩) hI (bc := 0) (bs := 0) hbc hbs (Nat.zero_le _) (Nat.zero_le _) (fun r_12 h_11 H locs cells slots hw hI hbc hbs => ?_)
          refine ga_astore_n (i := 3) (x := r_12) (lv' := [(3, va_rf r_12), (0, .ref p0), (1, .int p1), (2, .int x2_1)]) hx hb dX4_isEaten_20 rfl hl (by decide) rfl (fun ls hl => ?_)
          refine lv_iload_n hx hb dX4_isEaten_21 rfl (lv_at hl 3 rfl) ?_
          refine ga_aload_n hx hb dX4_isEaten_22 rfl (lv_at hl 0 rfl) ?_
          obtain ⟨a_13, ea_13, hw⟩ := hw
          rewrite [ea_13]
          obtain ⟨fs_14, v_15, hq, hv, hw⟩ := hw
          refine ga_getN (ci := 4) (T := TX6) (v := .int v_15) hx hb hts hown hI in_X6 rfl 2 (by decide) q1300 (fun _ z => z) (ga_at.h hq) hv dX4_isEaten_23 ?_
          refine va_mmin hx hb (hml.trans hl.1.symm) hown (hts _ q2377) (hts _ q521) (hts _ q119) (hts _ q522) (Nat.le_of_ble_eq_true rfl) (Nat.le_trans (Nat.add_le_add_right (ga_sum [] (Nat.le_of_ble_eq_true rfl)) _) (Nat.le_of_ble_eq_true rfl)) hbc hbs dX4_isEaten_26 ?_
          refine lv_topi (fun r_16 er_16 => ?_)
          have hw := hw r_16 er_16
          refine lv_istore (lv' := [(4, .int r_16), (3, va_rf r_12), (0, .ref p0), (1, .int p1), (2, .int x2_1)]) hx hb dX4_isEaten_29 hl (by decide) (by simp [ga_rcat, ga_cat_r, ga_cat_i, ga_cat_f, ga_cat_l, ga_cat_d]) (fun ls hl => ?_)
          refine ga_aload_n hx hb dX4_isEaten_31 rfl (lv_at hl 1 rfl) ?_
          refine lv_dup hx hb dX4_isEaten_32 (ga_rcat _) ?_
          obtain ⟨a_17, ea_17, hw⟩ := hw
          rewrite [ea_17]
          obtain ⟨fs_18, v_19, hq, hv, hw⟩ := hw
          refine ga_getN (ci := 4) (T := TX6) (v := .int v_19) hx hb hts hown hI in_X6 rfl 4 (by decide) q1307 (fun _ z => z) (ga_at.h hq) hv dX4_isEaten_33 ?_
          refine lv_iload hx hb dX4_isEaten_36 (lv_at hl 0 rfl) ?_
          refine lv_iadd hx hb dX4_isEaten_38 ?_
          obtain ⟨fs_20, hq, hk, hw⟩ := hw
          refine ga_putN (ci := 4) (T := TX6) (v := .int (v_19 + r_16)) (ty := tyX6 4) hx hb hts hown hI in_X6 rfl tyX6 tyX6_ok nmX6 4 (by decide) q1307 (fun _ z => z) rfl (tyX6_ok 4 (by decide)) rfl rfl hq hk dX4_isEaten_39 (fun H locs hI => ?_)
          obtain ⟨h_21, eh_21⟩ : ∃ z, z = ga_set h_11 a_17 (ga_O 4 (fs_20.set 4 (.int (v_19 + r_16)))) := ⟨_, rfl⟩
          rw [← eh_21] at hI
          have hw := hw h_21 eh_21
          refine lv_aload_n hx hb dX4_isEaten_42 rfl (lv_at hl 2 rfl) ?_
          refine ga_aload_n hx hb dX4_isEaten_43 rfl (lv_at hl 1 rfl) ?_
          refine lv_iload hx hb dX4_isEaten_44 (lv_at hl 0 rfl) ?_
          obtain ⟨fs_22, hq, hw⟩ := hw
          refine ga_callv (va_runV (As := [va_rf r_12, .int r_16]) (rest := []) ⟨hx, hb, hml, hown, hts⟩ (gm_X4_takes l g p0 r_12 r_16 h_21 _ hw) (cwV 2 hts (lw_V q2378 q2379 q2380 q108 q2381) rfl rfl rfl ⟨rfl, hdG_X4_takes⟩ ⟨Nat.le_of_ble_eq_true rfl, Nat.le_of_ble_eq_true rfl⟩) (ga_preV hI hq rfl rfl) rfl rfl hl.1 rfl (ga_room (Nat.le_of_ble_eq_true rfl)) dX4_isEaten_46 ⟨hbc, hbs⟩) hI (bc := 0) (bs := 0) hbc hbs (Nat.zero_le _) (Nat.zero_le _) (fun h_23 H locs cells slots hw hI hbc hbs => ?_)
          refine lv_iload_n hx hb dX4_isEaten_49 rfl (lv_at hl 4 rfl) ?_
          refine lv_iload hx hb dX4_isEaten_50 (lv_at hl 0 rfl) ?_
          refine lv_isub hx hb dX4_isEaten_52 ?_
          refine lv_istore_n (i := 2) (lv' := [(2, .int (x2_1 - r_16)), (4, .int r_16), (3, va_rf r_12), (0, .ref p0), (1, .int p1)]) hx hb dX4_isEaten_53 rfl hl (by decide) rfl (fun ls hl => ?_)
          refine lv_goto (tgt := 2) hx hb dX4_isEaten_54 (by decide) ?_
          exact ih_1 _ _ H locs cells slots ls (Nat.lt_of_lt_of_le hw.2 (Nat.le_of_lt_succ hn_1)) hw.1 hI hbc hbs (lv_sub hl [3, 4, 0] rfl)
  exact hL_1 _ _ _ H locs cells slots ls (Nat.lt_succ_self _) h0_1 hI hbc hbs (lv_sub hl [1, 2, 0] rfl)
theorem hdG_X4_isEaten : yX4_isEaten.cls ≠ "java/lang/invoke/MethodHandle" ∧ yX4_isEaten.cls ≠ "java/lang/invoke/VarHandle" ∧ (parseMethodDescriptor yX4_isEaten.desc).map (fun d => d.parameters.length) = some 1 := by decide +kernel
def gw_X3_isEaten_106 (K : ga_K) (post : Int32 → ga_H → Prop) (p0 : Nat) (t0 : Int32) (v2 : Int32) (h : ga_H) : Prop :=
  ∃ fs_19 : List Value, h p0 = some (ga_O 2 fs_19) ∧ 2 < fs_19.length ∧ ∀ h_20 : ga_H, h_20 = ga_set h p0 (ga_O 2 (fs_19.set 2 (.int t0))) → (∃ (fs_21 : List Value) (v_22 : Int32), h_20 p0 = some (ga_O 2 fs_21) ∧ fs_21[2]? = some (.int v_22) ∧ (∃ (fs_23 : List Value) (v_24 : Int32), h_20 p0 = some (ga_O 2 fs_23) ∧ fs_23[3]? = some (.int v_24) ∧ (∀ r_25 : Int32, r_25 = (if ((2 : Int32) * v_24) < v_22 then ((2 : Int32) * v_24) else v_22) → (∃ (fs_26 : List Value) (v_27 : Int32), h_20 p0 = some (ga_O 2 fs_26) ∧ fs_26[2]? = some (.int v_27) ∧ (∃ fs_28 : List Value, h_20 p0 = some (ga_O 2 fs_28) ∧ 2 < fs_28.length ∧ ∀ h_29 : ga_H, h_29 = ga_set h_20 p0 (ga_O 2 (fs_28.set 2 (.int (v_27 - r_25)))) → (∃ (fs_30 : List Value) (v_31 : Int32), h_29 p0 = some (ga_O 2 fs_30) ∧ fs_30[5]? = some (.int v_31) ∧ (∃ fs_32 : List Value, h_29 p0 = some (ga_O 2 fs_32) ∧ 5 < fs_32.length ∧ ∀ h_33 : ga_H, h_33 = ga_set h_29 p0 (ga_O 2 (fs_32.set 5 (.int (v_31 + r_25)))) → (post v2 h_33))))))))
set_option maxHeartbeats 4000000 in
theorem gj_X3_isEaten_106 {p : Program} {l : Launch} {e : Env} {s : State} {m : MethodId} {args : Array Value} {below : List Frame} {meth : Method} {c : Code} {H : Heap} {locs : List Loc} {cells slots : Nat} {ls : Array Slot} (g : ga_G) (post : Int32 → ga_H → Prop) (p0 : Nat) (t0 : Int32) (v2 : Int32) (h : ga_H) (hC : ga_Cx p s m args meth c cX3_isEaten 8 (some .int) "PaperStore$Aisle" "isEaten") (hw : gw_X3_isEaten_106 g.2.2 post p0 t0 v2 h) (hI : ga_I g h s H locs) (hbc : cells ≤ 0) (hbs : slots ≤ 0) (hl : lv_has ls 8 [(0, .ref p0), (2, .int v2)]) : W p l e ({ frames := 13, cells := 0, slots := 0, locals := 248 } : Room) s m args below meth c H locs cells slots (MQ below (va_Qi post (ga_E g) (ga_A g)) args s 0 0 (ga_A g)) (F0 m 106 ls [.int t0, .ref p0]) := by
  obtain ⟨hx, hb, hml, hown, hts, hr, hlk, hnm⟩ := hC
  unfold gw_X3_isEaten_106 at hw
  obtain ⟨fs_19, hq, hk, hw⟩ := hw
  refine ga_put (ci := 2) (T := TX3) (v := .int t0) (ty := tyX3 2) hx hb hts hown hI in_X3 rfl tyX3 tyX3_ok nmX3 2 (by decide) q285 (fun _ z => z) rfl (tyX3_ok 2 (by decide)) rfl rfl hq hk dX3_isEaten_106 (fun H locs hI => ?_)
  obtain ⟨h_20, eh_20⟩ : ∃ z, z = ga_set h p0 (ga_O 2 (fs_19.set 2 (.int t0))) := ⟨_, rfl⟩
  rw [← eh_20] at hI
  have hw := hw h_20 eh_20
  refine lv_aload_n hx hb dX3_isEaten_109 rfl (lv_at hl 0 rfl) ?_
  obtain ⟨fs_21, v_22, hq, hv, hw⟩ := hw
  refine ga_get (ci := 2) (T := TX3) (v := .int v_22) hx hb hts hown hI in_X3 rfl 2 (by decide) q285 (fun _ z => z) (ga_at.h hq) hv dX3_isEaten_110 ?_
  refine lv_iconst (v := 2) hx hb dX3_isEaten_113 (by decide) ?_
  refine lv_aload_n hx hb dX3_isEaten_114 rfl (lv_at hl 0 rfl) ?_
  obtain ⟨fs_23, v_24, hq, hv, hw⟩ := hw
  refine ga_get (ci := 2) (T := TX3) (v := .int v_24) hx hb hts hown hI in_X3 rfl 3 (by decide) q288 (fun _ z => z) (ga_at.h hq) hv dX3_isEaten_115 ?_
  refine lv_imul hx hb dX3_isEaten_118 ?_
  refine va_mmin hx hb (hml.trans hl.1.symm) hown (hts _ q2387) (hts _ q521) (hts _ q119) (hts _ q522) (Nat.le_of_ble_eq_true rfl) (Nat.le_trans (Nat.add_le_add_right (ga_sum [] (Nat.le_of_ble_eq_true rfl)) _) (Nat.le_of_ble_eq_true rfl)) hbc hbs dX3_isEaten_119 ?_
  refine lv_topi (fun r_25 er_25 => ?_)
  have hw := hw r_25 er_25
  refine lv_istore_n (i := 3) (lv' := [(3, .int r_25), (0, .ref p0), (2, .int v2)]) hx hb dX3_isEaten_122 rfl hl (by decide) rfl (fun ls hl => ?_)
  refine lv_aload_n hx hb dX3_isEaten_123 rfl (lv_at hl 1 rfl) ?_
  refine lv_dup hx hb dX3_isEaten_124 rfl ?_
  obtain ⟨fs_26, v_27, hq, hv, hw⟩ := hw
  refine ga_get (ci := 2) (T := TX3) (v := .int v_27) hx hb hts hown hI in_X3 rfl 2 (by decide) q285 (fun _ z => z) (ga_at.h hq) hv dX3_isEaten_125 ?_
  refine lv_iload_n hx hb dX3_isEaten_128 rfl (lv_at hl 0 rfl) ?_
  refine lv_isub hx hb dX3_isEaten_129 ?_
  obtain ⟨fs_28, hq, hk, hw⟩ := hw
  refine ga_put (ci := 2) (T := TX3) (v := .int (v_27 - r_25)) (ty := tyX3 2) hx hb hts hown hI in_X3 rfl tyX3 tyX3_ok nmX3 2 (by decide) q285 (fun _ z => z) rfl (tyX3_ok 2 (by decide)) rfl rfl hq hk dX3_isEaten_130 (fun H locs hI => ?_)
  obtain ⟨h_29, eh_29⟩ : ∃ z, z = ga_set h_20 p0 (ga_O 2 (fs_28.set 2 (.int (v_27 - r_25)))) := ⟨_, rfl⟩
  rw [← eh_29] at hI
  have hw := hw h_29 eh_29
  refine lv_aload_n hx hb dX3_isEaten_133 rfl (lv_at hl 1 rfl) ?_
  refine lv_dup hx hb dX3_isEaten_134 rfl ?_
  obtain ⟨fs_30, v_31, hq, hv, hw⟩ := hw
  refine ga_get (ci := 2) (T := TX3) (v := .int v_31) hx hb hts hown hI in_X3 rfl 5 (by decide) q294 (fun _ z => z) (ga_at.h hq) hv dX3_isEaten_135 ?_
  refine lv_iload_n hx hb dX3_isEaten_138 rfl (lv_at hl 0 rfl) ?_
  refine lv_iadd hx hb dX3_isEaten_139 ?_
  obtain ⟨fs_32, hq, hk, hw⟩ := hw
  refine ga_put (ci := 2) (T := TX3) (v := .int (v_31 + r_25)) (ty := tyX3 5) hx hb hts hown hI in_X3 rfl tyX3 tyX3_ok nmX3 5 (by decide) q294 (fun _ z => z) rfl (tyX3_ok 5 (by decide)) rfl rfl hq hk dX3_isEaten_140 (fun H locs hI => ?_)
  obtain ⟨h_33, eh_33⟩ : ∃ z, z = ga_set h_29 p0 (ga_O 2 (fs_32.set 5 (.int (v_31 + r_25)))) := ⟨_, rfl⟩
  rw [← eh_33] at hI
  have hw := hw h_33 eh_33
  refine lv_iload_n hx hb dX3_isEaten_143 rfl (lv_at hl 2 rfl) ?_
  exact ga_iret hx hb hr rfl hlk hI hw hbc hbs dX3_isEaten_144
def gw_X3_isEaten (K : ga_K) (p0 : Nat) (h : ga_H) (post : Int32 → ga_H → Prop) : Prop :=
  ∃ (fs_1 : List Value) (v_2 : Int32), h p0 = some (ga_O 2 fs_1) ∧ fs_1[2]? = some (.int v_2) ∧ (∀ x_3 : Int32, x_3 = ((v_2 + (3 : Int32)) - (1 : Int32)) / (3 : Int32) → (∃ (fs_4 : List Value) (v_5 : Option Nat), h p0 = some (ga_O 2 fs_4) ∧ fs_4[0]? = some (va_rf v_5) ∧ (∃ a_6 : Nat, v_5 = some a_6 ∧ ∃ (n_7 : Nat) (f_8 : Nat → Option Nat), h a_6 = some (ga_Aq 7 n_7 f_8) ∧ (∃ (In_9 : Int32 → Int32 → Int32 → ga_H → Prop) (mu_9 : Int32 → Int32 → Int32 → ga_H → Nat), In_9 x_3 (0 : Int32) (0 : Int32) h ∧ ∀ (x1_9 : Int32) (x2_9 : Int32) (x5_9 : Int32) (h_9 : ga_H), In_9 x1_9 x2_9 x5_9 h_9 → ((nI n_7 ≤ x5_9 → (∃ (fs_11 : List Value) (v_12 : Int32), h_9 p0 = some (ga_O 2 fs_11) ∧ fs_11[4]? = some (.int v_12) ∧ (∃ fs_13 : List Value, h_9 p0 = some (ga_O 2 fs_13) ∧ 4 < fs_13.length ∧ ∀ h_14 : ga_H, h_14 = ga_set h_9 p0 (ga_O 2 (fs_13.set 4 (.int (v_12 + x2_9)))) → ((x2_9 ≤ (0 : Int32) → (∃ (fs_16 : List Value) (v_17 : Int32), h_14 p0 = some (ga_O 2 fs_16) ∧ fs_16[2]? = some (.int v_17) ∧ (∀ r_18 : Int32, r_18 = (if (0 : Int32) < (v_17 - (1 : Int32)) then (v_17 - (1 : Int32)) else (0 : Int32)) → (gw_X3_isEaten_106 K post p0 r_18 x2_9 h_14)))) ∧ (¬ x2_9 ≤ (0 : Int32) → (∃ (fs_34 : List Value) (v_35 : Int32), h_14 p0 = some (ga_O 2 fs_34) ∧ fs_34[2]? = some (.int v_35) ∧ (∃ (fs_36 : List Value) (v_37 : Int32), h_14 p0 = some (ga_O 2 fs_36) ∧ fs_36[2]? = some (.int v_37) ∧ (∀ r_38 : Int32, r_38 = (if (v_35 + (v_37 / (4 : Int32))) < (40 : Int32) then (v_35 + (v_37 / (4 : Int32))) else (40 : Int32)) → (gw_X3_isEaten_106 K post p0 r_38 x2_9 h_14))))))))) ∧ (¬ nI n_7 ≤ x5_9 → (∃ a_39 : Nat, v_5 = some a_39 ∧ ∃ (n_40 : Nat) (f_41 : Nat → Option Nat), h_9 a_39 = some (ga_Aq 7 n_40 f_41) ∧ vp_in x5_9 n_40 ∧ ∀ v_42 : Option Nat, v_42 = f_41 x5_9.toNatClampNeg → (∃ a_43 : Nat, v_42 = some a_43 ∧ ∃ fs_44 : List Value, ga_at K h_9 a_43 (ga_O 3 fs_44) ∧ gw_X4_isEaten K a_43 x1_9 h_9 (fun (r_46 : Int32) (h_45 : ga_H) => In_9 (x1_9 - r_46) (x2_9 + r_46) (x5_9 + (1 : Int32)) h_45 ∧ mu_9 (x1_9 - r_46) (x2_9 + r_46) (x5_9 + (1 : Int32)) h_45 < mu_9 x1_9 x2_9 x5_9 h_9)))))))))
set_option maxHeartbeats 4000000 in
theorem gm_X3_isEaten (l : Launch) (g : ga_G) (p0 : Nat) (h : ga_H) (post : Int32 → ga_H → Prop) (hw : gw_X3_isEaten g.2.2 p0 h post) : Met l yX3_isEaten (ws_ yX3_isEaten cX3_isEaten 8 (some .int)) ({ frames := 13, cells := 0, slots := 0, locals := 248 } : Room) (va_Pc [.ref p0] (ga_B g h)) (va_Qi post (ga_E g) (ga_A g)) 0 0 (ga_A g) := by
  refine ga_met (own := "PaperStore$Aisle") (nm := "isEaten") (by decide) rfl rfl (by exact Nat.le_of_ble_eq_true rfl) (fun p e s m below meth c ls hC hI hl => ?_)
  have hl : lv_has ls 8 [(0, .ref p0)] := hl
  generalize ([.ref p0] : List Value).toArray = args at hC ⊢
  obtain ⟨hx, hb, hml, hown, hts, hr, hlk, hnm⟩ := hC
  unfold gw_X3_isEaten at hw
  obtain ⟨H, eH⟩ : ∃ z, z = s.heap := ⟨_, rfl⟩
  obtain ⟨locs, elo⟩ : ∃ z : List Loc, z = [] := ⟨_, rfl⟩
  rw [← eH, ← elo] at hI ⊢
  obtain ⟨cells, slots, hbc, hbs, e0, e1⟩ : ∃ a b : Nat, a ≤ 0 ∧ b ≤ 0 ∧ a = 0 ∧ b = 0 := ⟨0, 0, by omega, by omega, rfl, rfl⟩
  show W p l e ({ frames := 13, cells := 0, slots := 0, locals := 248 } : Room) s m args below meth c H locs 0 0 (MQ below (va_Qi post (ga_E g) (ga_A g)) args s 0 0 (ga_A g)) (F0 m 0 ls [])
  suffices hgoal : W p l e ({ frames := 13, cells := 0, slots := 0, locals := 248 } : Room) s m args below meth c H locs cells slots (MQ below (va_Qi post (ga_E g) (ga_A g)) args s 0 0 (ga_A g)) (F0 m 0 ls []) by rw [e0, e1] at hgoal; exact hgoal
  refine lv_aload_n hx hb dX3_isEaten_0 rfl (lv_at hl 0 rfl) ?_
  obtain ⟨fs_1, v_2, hq, hv, hw⟩ := hw
  refine ga_get (ci := 2) (T := TX3) (v := .int v_2) hx hb hts hown hI in_X3 rfl 2 (by decide) q285 (fun _ z => z) (ga_at.h hq) hv dX3_isEaten_1 ?_
  refine lv_iconst (v := 3) hx hb dX3_isEaten_4 (by decide) ?_
  refine lv_iadd hx hb dX3_isEaten_5 ?_
  refine lv_iconst (v := 1) hx hb dX3_isEaten_6 (by decide) ?_
  refine lv_isub hx hb dX3_isEaten_7 ?_
  refine lv_iconst (v := 3) hx hb dX3_isEaten_8 (by decide) ?_
  refine lv_idiv hx hb dX3_isEaten_9 (by decide) ?_
  refine lv_topi (fun x_3 ex_3 => ?_)
  have hw := hw x_3 ex_3
  refine lv_istore_n (i := 1) (lv' := [(1, .int x_3), (0, .ref p0)]) hx hb dX3_isEaten_10 rfl hl (by decide) rfl (fun ls hl => ?_)
  refine lv_iconst (v := 0) hx hb dX3_isEaten_11 (by decide) ?_
  refine lv_istore_n (i := 2) (lv' := [(2, .int (0 : Int32)), (1, .int x_3), (0, .ref p0)]) hx hb dX3_isEaten_12 rfl hl (by decide) rfl (fun ls hl => ?_)
  refine lv_aload_n hx hb dX3_isEaten_13 rfl (lv_at hl 2 rfl) ?_
  obtain ⟨fs_4, v_5, hq, hv, hw⟩ := hw
  refine ga_get (ci := 2) (T := TX3) (v := va_rf v_5) hx hb hts hown hI in_X3 rfl 0 (by decide) q279 (fun _ z => z) (ga_at.h hq) hv dX3_isEaten_14 ?_
  refine ga_astore_n (i := 3) (x := v_5) (lv' := [(3, va_rf v_5), (2, .int (0 : Int32)), (1, .int x_3), (0, .ref p0)]) hx hb dX3_isEaten_17 rfl hl (by decide) rfl (fun ls hl => ?_)
  refine ga_aload_n hx hb dX3_isEaten_18 rfl (lv_at hl 0 rfl) ?_
  obtain ⟨a_6, ea_6, hw⟩ := hw
  rewrite [ea_6]
  obtain ⟨n_7, f_8, hq, hw⟩ := hw
  refine ga_len hx hb hI (ga_at.h hq) rfl dX3_isEaten_19 ?_
  refine lv_istore (lv' := [(4, .int (nI n_7)), (3, va_rf v_5), (2, .int (0 : Int32)), (1, .int x_3), (0, .ref p0)]) hx hb dX3_isEaten_20 hl (by decide) (by simp [ga_rcat, ga_cat_r, ga_cat_i, ga_cat_f, ga_cat_l, ga_cat_d]) (fun ls hl => ?_)
  refine lv_iconst (v := 0) hx hb dX3_isEaten_22 (by decide) ?_
  refine lv_istore (lv' := [(5, .int (0 : Int32)), (4, .int (nI n_7)), (3, va_rf v_5), (2, .int (0 : Int32)), (1, .int x_3), (0, .ref p0)]) hx hb dX3_isEaten_23 hl (by decide) rfl (fun ls hl => ?_)
  obtain ⟨In_9, mu_9, h0_9, hw⟩ := hw
  have hL_9 : ∀ (n : Nat) (x1_9 : Int32) (x2_9 : Int32) (x5_9 : Int32) (h_9 : ga_H) (H : Heap) (locs : List Loc) (cells slots : Nat) (ls : Array Slot), mu_9 x1_9 x2_9 x5_9 h_9 < n → In_9 x1_9 x2_9 x5_9 h_9 → ga_I g h_9 s H locs → cells ≤ 0 → slots ≤ 0 → lv_has ls 8 [(0, .ref p0), (1, .int x1_9), (2, .int x2_9), (3, va_rf v_5), (4, .int (nI n_7)), (5, .int x5_9)] → W p l e ({ frames := 13, cells := 0, slots := 0, locals := 248 } : Room) s m args below meth c H locs cells slots (MQ below (va_Qi post (ga_E g) (ga_A g)) args s 0 0 (ga_A g)) (F0 m 25 ls []) := by
    intro n
    induction n with
    | zero => intro x1_9 x2_9 x5_9 h_9 H locs cells slots ls hn _ _ _ _ _; exact absurd hn (Nat.not_lt_zero _)
    | succ n ih_9 =>
      intro x1_9 x2_9 x5_9 h_9 H locs cells slots ls hn_9 hi_9 hI hbc hbs hl
      have hw := hw x1_9 x2_9 x5_9 h_9 hi_9
      refine lv_iload hx hb dX3_isEaten_25 (lv_at hl 5 rfl) ?_
      refine lv_iload hx hb dX3_isEaten_27 (lv_at hl 4 rfl) ?_
      refine lv_icmp_ge (tgt := 62) hx hb dX3_isEaten_29 (by decide) (fun hc_10 => ?_) (fun hc_10 => ?_)
      · have hw := hw.1 hc_10
        refine lv_aload_n hx hb dX3_isEaten_62 rfl (lv_at hl 0 rfl) ?_
        refine lv_dup hx hb dX3_isEaten_63 rfl ?_
        obtain ⟨fs_11, v_12, hq, hv, hw⟩ := hw
        refine ga_get (ci := 2) (T := TX3) (v := .int v_12) hx hb hts hown hI in_X3 rfl 4 (by decide) q291 (fun _ z => z) (ga_at.h hq) hv dX3_isEaten_64 ?_
        refine lv_iload_n hx hb dX3_isEaten_67 rfl (lv_at hl 2 rfl) ?_
        refine lv_iadd hx hb dX3_isEaten_68 ?_
        obtain ⟨fs_13, hq, hk, hw⟩ := hw
        refine ga_put (ci := 2) (T := TX3) (v := .int (v_12 + x2_9)) (ty := tyX3 4) hx hb hts hown hI in_X3 rfl tyX3 tyX3_ok nmX3 4 (by decide) q291 (fun _ z => z) rfl (tyX3_ok 4 (by decide)) rfl rfl hq hk dX3_isEaten_69 (fun H locs hI => ?_)
        obtain ⟨h_14, eh_14⟩ : ∃ z, z = ga_set h_9 p0 (ga_O 2 (fs_13.set 4 (.int (v_12 + x2_9)))) := ⟨_, rfl⟩
        rw [← eh_14] at hI
        have hw := hw h_14 eh_14
        refine lv_aload_n hx hb dX3_isEaten_72 rfl (lv_at hl 0 rfl) ?_
        refine lv_iload_n hx hb dX3_isEaten_73 rfl (lv_at hl 2 rfl) ?_
        refine lv_if_le (tgt := 96) hx hb dX3_isEaten_74 (by decide) (fun hc_15 => ?_) (fun hc_15 => ?_)
        · have hw := hw.1 hc_15
          refine lv_iconst (v := 0) hx hb dX3_isEaten_96 (by decide) ?_
          refine lv_aload_n hx hb dX3_isEaten_97 rfl (lv_at hl 0 rfl) ?_
          obtain ⟨fs_16, v_17, hq, hv, hw⟩ := hw
          refine ga_get (ci := 2) (T := TX3) (v := .int v_17) hx hb hts hown hI in_X3 rfl 2 (by decide) q285 (fun _ z => z) (ga_at.h hq) hv dX3_isEaten_98 ?_
          refine lv_iconst (v := 1) hx hb dX3_isEaten_101 (by decide) ?_
          refine lv_isub hx hb dX3_isEaten_102 ?_
          refine va_mmax hx hb (hml.trans hl.1.symm) hown (hts _ q2388) (hts _ q899) (hts _ q119) (hts _ q900) (Nat.le_of_ble_eq_true rfl) (Nat.le_trans (Nat.add_le_add_right (ga_sum [.ref p0] (Nat.le_of_ble_eq_true rfl)) _) (Nat.le_of_ble_eq_true rfl)) hbc hbs dX3_isEaten_103 ?_
          refine lv_topi (fun r_18 er_18 => ?_)
          have hw := hw r_18 er_18
          exact gj_X3_isEaten_106 g post p0 r_18 x2_9 h_14 ⟨hx, hb, hml, hown, hts, hr, hlk, hnm⟩ hw hI hbc hbs (lv_sub hl [0, 2] rfl)
        · have hw := hw.2 hc_15
          refine lv_bipush (v := 40) hx hb dX3_isEaten_77 (by decide) ?_
          refine lv_aload_n hx hb dX3_isEaten_79 rfl (lv_at hl 0 rfl) ?_
          obtain ⟨fs_34, v_35, hq, hv, hw⟩ := hw
          refine ga_get (ci := 2) (T := TX3) (v := .int v_35) hx hb hts hown hI in_X3 rfl 2 (by decide) q285 (fun _ z => z) (ga_at.h hq) hv dX3_isEaten_80 ?_
          refine lv_aload_n hx hb dX3_isEaten_83 rfl (lv_at hl 0 rfl) ?_
          obtain ⟨fs_36, v_37, hq, hv, hw⟩ := hw
          refine ga_get (ci := 2) (T := TX3) (v := .int v_37) hx hb hts hown hI in_X3 rfl 2 (by decide) q285 (fun _ z => z) (ga_at.h hq) hv dX3_isEaten_84 ?_
          refine lv_iconst (v := 4) hx hb dX3_isEaten_87 (by decide) ?_
          refine lv_idiv hx hb dX3_isEaten_88 (by decide) ?_
          refine lv_iadd hx hb dX3_isEaten_89 ?_
          refine va_mmin hx hb (hml.trans hl.1.symm) hown (hts _ q2387) (hts _ q521) (hts _ q119) (hts _ q522) (Nat.le_of_ble_eq_true rfl) (Nat.le_trans (Nat.add_le_add_right (ga_sum [.ref p0] (Nat.le_of_ble_eq_true rfl)) _) (Nat.le_of_ble_eq_true rfl)) hbc hbs dX3_isEaten_90 ?_
          refine lv_topi (fun r_38 er_38 => ?_)
          have hw := hw r_38 er_38
          refine lv_goto (tgt := 106) hx hb dX3_isEaten_93 (by decide) ?_
          exact gj_X3_isEaten_106 g post p0 r_38 x2_9 h_14 ⟨hx, hb, hml, hown, hts, hr, hlk, hnm⟩ hw hI hbc hbs (lv_sub hl [0, 2] rfl)
      · have hw := hw.2 hc_10
        refine ga_aload_n hx hb dX3_isEaten_32 rfl (lv_at hl 3 rfl) ?_
        refine lv_iload hx hb dX3_isEaten_33 (lv_at hl 5 rfl) ?_
        obtain ⟨a_39, ea_39, hw⟩ := hw
        rewrite [ea_39]
        obtain ⟨n_40, f_41, hq, hi, hw⟩ := hw
        refine ga_ldq hx hb hI (ga_at.h hq) rfl hi dX3_isEaten_35 ?_
        obtain ⟨v_42, ev_42⟩ : ∃ z, z = f_41 x5_9.toNatClampNeg := ⟨_, rfl⟩
        rw [← ev_42]
        have hw := hw v_42 ev_42
        refine ga_astore (x := v_42) (lv' := [(6, va_rf v_42), (0, .ref p0), (1, .int x1_9), (2, .int x2_9), (3, va_rf v_5), (4, .int (nI n_7)), (5, .int x5_9)]) hx hb dX3_isEaten_36 hl (by decide) rfl (fun ls hl => ?_)
        refine ga_aload hx hb dX3_isEaten_38 (lv_at hl 0 rfl) ?_
        refine lv_iload_n hx hb dX3_isEaten_40 rfl (lv_at hl 2 rfl) ?_
        obtain ⟨a_43, ea_43, hw⟩ := hw
        rewrite [ea_43]
        obtain ⟨fs_44, hq, hw⟩ := hw
        refine ga_calli (va_runV (As := [.int x1_9]) (rest := []) ⟨hx, hb, hml, hown, hts⟩ (gm_X4_isEaten l g a_43 x1_9 h_9 _ hw) (cwV 1 hts (lw_V q2372 q2373 q2374 q108 q2375) rfl rfl rfl ⟨rfl, hdG_X4_isEaten⟩ ⟨Nat.le_of_ble_eq_true rfl, Nat.le_of_ble_eq_true rfl⟩) (ga_preV hI hq rfl rfl) rfl rfl hl.1 rfl (ga_room (Nat.le_of_ble_eq_true rfl)) dX3_isEaten_41 ⟨hbc, hbs⟩) hI (bc := 0) (bs := 0) hbc hbs (Nat.zero_le _) (Nat.zero_le _) (fun r_46 h_45 H locs cells slots hw hI hbc hbs => ?_)
        refine lv_istore (lv' := [(7, .int r_46), (6, va_rf v_42), (0, .ref p0), (1, .int x1_9), (2, .int x2_9), (3, va_rf v_5), (4, .int (nI n_7)), (5, .int x5_9)]) hx hb dX3_isEaten_44 hl (by decide) (by simp [ga_rcat, ga_cat_r, ga_cat_i, ga_cat_f, ga_cat_l, ga_cat_d]) (fun ls hl => ?_)
        refine lv_iload_n hx hb dX3_isEaten_46 rfl (lv_at hl 4 rfl) ?_
        refine lv_iload hx hb dX3_isEaten_47 (lv_at hl 0 rfl) ?_
        refine lv_iadd hx hb dX3_isEaten_49 ?_
        refine lv_istore_n (i := 2) (lv' := [(2, .int (x2_9 + r_46)), (7, .int r_46), (6, va_rf v_42), (0, .ref p0), (1, .int x1_9), (3, va_rf v_5), (4, .int (nI n_7)), (5, .int x5_9)]) hx hb dX3_isEaten_50 rfl hl (by decide) rfl (fun ls hl => ?_)
        refine lv_iload_n hx hb dX3_isEaten_51 rfl (lv_at hl 4 rfl) ?_
        refine lv_iload hx hb dX3_isEaten_52 (lv_at hl 1 rfl) ?_
        refine lv_isub hx hb dX3_isEaten_54 ?_
        refine lv_istore_n (i := 1) (lv' := [(1, .int (x1_9 - r_46)), (2, .int (x2_9 + r_46)), (7, .int r_46), (6, va_rf v_42), (0, .ref p0), (3, va_rf v_5), (4, .int (nI n_7)), (5, .int x5_9)]) hx hb dX3_isEaten_55 rfl hl (by decide) rfl (fun ls hl => ?_)
        refine lv_iinc (v := x5_9 + (1 : Int32)) (lv' := [(5, .int (x5_9 + (1 : Int32))), (1, .int (x1_9 - r_46)), (2, .int (x2_9 + r_46)), (7, .int r_46), (6, va_rf v_42), (0, .ref p0), (3, va_rf v_5), (4, .int (nI n_7))]) hx hb dX3_isEaten_56 hl (k := 7) rfl rfl (by decide) rfl (fun ls hl => ?_)
        refine lv_goto (tgt := 25) hx hb dX3_isEaten_59 (by decide) ?_
        exact ih_9 _ _ _ _ H locs cells slots ls (Nat.lt_of_lt_of_le hw.2 (Nat.le_of_lt_succ hn_9)) hw.1 hI hbc hbs (lv_sub hl [5, 1, 2, 6, 7, 0] rfl)
  exact hL_9 _ _ _ _ _ H locs cells slots ls (Nat.lt_succ_self _) h0_9 hI hbc hbs (lv_sub hl [5, 4, 3, 2, 1, 0] rfl)
theorem hdG_X3_isEaten : yX3_isEaten.cls ≠ "java/lang/invoke/MethodHandle" ∧ yX3_isEaten.cls ≠ "java/lang/invoke/VarHandle" ∧ (parseMethodDescriptor yX3_isEaten.desc).map (fun d => d.parameters.length) = some 0 := by decide +kernel
def gw_X1_eatenIn_22 (K : ga_K) (post : Int32 → ga_H → Prop) (xp : String → Nat → ga_H → Prop) (p0 : Nat) (t0 : Int32) (v1 : Int32) (v2 : Int32) (h : ga_H) (bc bs : Nat) : Prop :=
  ∃ kc_3 ks_4 : Nat, kc_3 ≤ bc ∧ ks_4 ≤ bs ∧ gw_X1_checkArgument K t0 h kc_3 ks_4 (fun (h_5 : ga_H) => ∃ (fs_9 : List Value) (v_10 : Option Nat), h_5 p0 = some (ga_O 0 fs_9) ∧ fs_9[0]? = some (va_rf v_10) ∧ (∃ a_11 : Nat, v_10 = some a_11 ∧ ∃ (fs_12 : List Value) (v_13 : Option Nat), h_5 a_11 = some (ga_O 1 fs_12) ∧ fs_12[0]? = some (va_rf v_13) ∧ (∃ a_14 : Nat, v_13 = some a_14 ∧ ∃ (n_15 : Nat) (f_16 : Nat → Option Nat), h_5 a_14 = some (ga_Aq 6 n_15 f_16) ∧ vp_in v1 n_15 ∧ ∀ v_17 : Option Nat, v_17 = f_16 v1.toNatClampNeg → (∃ a_18 : Nat, v_17 = some a_18 ∧ ∃ kc_19 ks_20 : Nat, kc_19 ≤ (bc - kc_3) ∧ ks_20 ≤ (bs - ks_4) ∧ ∃ fs_21 : List Value, ga_at K h_5 a_18 (ga_O 2 fs_21) ∧ gw_X3_copy K a_18 h_5 kc_19 ks_20 (fun (r_23 : Option Nat) (h_22 : ga_H) => ∃ (In_24 : Int32 → Int32 → ga_H → Nat → Nat → Prop) (mu_24 : Int32 → Int32 → ga_H → Nat → Nat → Nat), In_24 (0 : Int32) (0 : Int32) h_22 ((bc - kc_3) - kc_19) ((bs - ks_4) - ks_20) ∧ ∀ (x4_24 : Int32) (x5_24 : Int32) (h_24 : ga_H) (bc_24 : Nat) (bs_24 : Nat), In_24 x4_24 x5_24 h_24 bc_24 bs_24 → ((v2 ≤ x5_24 → (post x4_24 h_24)) ∧ (¬ v2 ≤ x5_24 → (∃ a_26 : Nat, r_23 = some a_26 ∧ ∃ fs_27 : List Value, ga_at K h_24 a_26 (ga_O 2 fs_27) ∧ gw_X3_isEaten K a_26 h_24 (fun (r_29 : Int32) (h_28 : ga_H) => In_24 (x4_24 + r_29) (x5_24 + (1 : Int32)) h_28 bc_24 bs_24 ∧ mu_24 (x4_24 + r_29) (x5_24 + (1 : Int32)) h_28 bc_24 bs_24 < mu_24 x4_24 x5_24 h_24 bc_24 bs_24))))))))) (fun (E_6 : String) (q_7 : Nat) (h_8 : ga_H) => xp E_6 q_7 h_8)
set_option maxHeartbeats 4000000 in
theorem gj_X1_eatenIn_22 {p : Program} {l : Launch} {e : Env} {s : State} {m : MethodId} {args : Array Value} {below : List Frame} {meth : Method} {c : Code} {mc ms : Nat} {H : Heap} {locs : List Loc} {cells slots : Nat} {ls : Array Slot} (hst : l.stackTraces = false) (htab : c.exceptionTable.toList = []) (g : ga_G) (post : Int32 → ga_H → Prop) (xp : String → Nat → ga_H → Prop) (p0 : Nat) (t0 : Int32) (v1 : Int32) (v2 : Int32) (h : ga_H) (bc bs : Nat) (hC : ga_Cx p s m args meth c cX1_eatenIn 6 (some .int) "PaperStore" "eatenIn") (hw : gw_X1_eatenIn_22 g.2.2 post xp p0 t0 v1 v2 h bc bs) (hI : ga_I g h s H locs) (hbc : cells + bc ≤ mc) (hbs : slots + bs ≤ ms) (hl : lv_has ls 6 [(0, .ref p0), (1, .int v1), (2, .int v2)]) : W p l e ({ frames := 16, cells := mc, slots := ms, locals := 316 } : Room) s m args below meth c H locs cells slots (vx_MQ below (va_Qi post (ga_E g) (ga_A g)) (ga_X g xp) args s mc ms (ga_A g)) (F0 m 22 ls [.int t0]) := by
  obtain ⟨hx, hb, hml, hown, hts, hr, hlk, hnm⟩ := hC
  unfold gw_X1_eatenIn_22 at hw
  obtain ⟨kc_3, ks_4, hk1, hk2, hw⟩ := hw
  refine ga_xcallv (vx_runS (As := [.int t0]) (rest := []) ⟨hx, hb, hml, hown, hts⟩ (gm_X1_checkArgument l hst g t0 h kc_3 ks_4 _ _ hw) (va_cwS 1 hts (lw_S q2027 q2028 q100 q2029) rfl rfl rfl hdG_X1_checkArgument ⟨Nat.le_of_ble_eq_true rfl, Nat.le_of_ble_eq_true rfl⟩) (ga_preS hI rfl) rfl rfl hl.1 rfl (ga_room (Nat.le_of_ble_eq_true rfl)) dX1_eatenIn_22 ⟨Nat.le_trans (Nat.add_le_add_left hk1 _) hbc, Nat.le_trans (Nat.add_le_add_left hk2 _) hbs⟩) hI hbc hbs hk1 hk2 (fun E_6 q_7 h_8 ce H locs cells slots hw hI hce hbc hbs => ?_) (fun h_5 H locs cells slots hw hI hbc hbs => ?_)
  · exact ga_out hown hlk hI hw (by rw [htab]; intro z hz; cases hz) hce (Nat.le_trans (Nat.le_add_right _ _) hbc) (Nat.le_trans (Nat.le_add_right _ _) hbs)
  · skip
    refine lv_aload_n hx hb dX1_eatenIn_25 rfl (lv_at hl 0 rfl) ?_
    obtain ⟨fs_9, v_10, hq, hv, hw⟩ := hw
    refine ga_get (ci := 0) (T := TX1) (v := va_rf v_10) hx hb hts hown hI in_X1 rfl 0 (by decide) q387 (fun _ z => z) (ga_at.h hq) hv dX1_eatenIn_26 ?_
    obtain ⟨a_11, ea_11, hw⟩ := hw
    rewrite [ea_11]
    obtain ⟨fs_12, v_13, hq, hv, hw⟩ := hw
    refine ga_getN (ci := 1) (T := TX2) (v := va_rf v_13) hx hb hts hown hI in_X2 rfl 0 (by decide) q311 (fun _ z => z) (ga_at.h hq) hv dX1_eatenIn_29 ?_
    refine lv_iload_n hx hb dX1_eatenIn_32 rfl (lv_at hl 1 rfl) ?_
    obtain ⟨a_14, ea_14, hw⟩ := hw
    rewrite [ea_14]
    obtain ⟨n_15, f_16, hq, hi, hw⟩ := hw
    refine ga_ldq hx hb hI (ga_at.h hq) rfl hi dX1_eatenIn_33 ?_
    obtain ⟨v_17, ev_17⟩ : ∃ z, z = f_16 v1.toNatClampNeg := ⟨_, rfl⟩
    rw [← ev_17]
    have hw := hw v_17 ev_17
    obtain ⟨a_18, ea_18, hw⟩ := hw
    rewrite [ea_18]
    obtain ⟨kc_19, ks_20, hk1, hk2, hw⟩ := hw
    obtain ⟨fs_21, hq, hw⟩ := hw
    refine ga_callq (va_runV (As := []) (rest := []) ⟨hx, hb, hml, hown, hts⟩ (gm_X3_copy l g a_18 h_5 kc_19 ks_20 _ hw) (cwV 0 hts (lw_V q2367 q1266 q1267 q107 q1268) rfl rfl rfl ⟨rfl, hdG_X3_copy⟩ ⟨Nat.le_of_ble_eq_true rfl, Nat.le_of_ble_eq_true rfl⟩) (ga_preV hI hq rfl rfl) rfl rfl hl.1 rfl (ga_room (Nat.le_of_ble_eq_true rfl)) dX1_eatenIn_34 ⟨Nat.le_trans (Nat.add_le_add_left hk1 _) hbc, Nat.le_trans (Nat.add_le_add_left hk2 _) hbs⟩) hI hbc hbs hk1 hk2 (fun r_23 h_22 H locs cells slots hw hI hbc hbs => ?_)
    refine ga_astore_n (i := 3) (x := r_23) (lv' := [(3, va_rf r_23), (0, .ref p0), (1, .int v1), (2, .int v2)]) hx hb dX1_eatenIn_37 rfl hl (by decide) rfl (fun ls hl => ?_)
    refine lv_iconst (v := 0) hx hb dX1_eatenIn_38 (by decide) ?_
    refine lv_istore (lv' := [(4, .int (0 : Int32)), (3, va_rf r_23), (0, .ref p0), (1, .int v1), (2, .int v2)]) hx hb dX1_eatenIn_39 hl (by decide) (by simp [ga_rcat, ga_cat_r, ga_cat_i, ga_cat_f, ga_cat_l, ga_cat_d]) (fun ls hl => ?_)
    refine lv_iconst (v := 0) hx hb dX1_eatenIn_41 (by decide) ?_
    refine lv_istore (lv' := [(5, .int (0 : Int32)), (4, .int (0 : Int32)), (3, va_rf r_23), (0, .ref p0), (1, .int v1), (2, .int v2)]) hx hb dX1_eatenIn_42 hl (by decide) rfl (fun ls hl => ?_)
    obtain ⟨In_24, mu_24, h0_24, hw⟩ := hw
    have hL_24 : ∀ (n : Nat) (x4_24 : Int32) (x5_24 : Int32) (h_24 : ga_H) (bc_24 : Nat) (bs_24 : Nat) (H : Heap) (locs : List Loc) (cells slots : Nat) (ls : Array Slot), mu_24 x4_24 x5_24 h_24 bc_24 bs_24 < n → In_24 x4_24 x5_24 h_24 bc_24 bs_24 → ga_I g h_24 s H locs → cells + bc_24 ≤ mc → slots + bs_24 ≤ ms → lv_has ls 6 [(2, .int v2), (3, va_rf r_23), (4, .int x4_24), (5, .int x5_24)] → W p l e ({ frames := 16, cells := mc, slots := ms, locals := 316 } : Room) s m args below meth c H locs cells slots (vx_MQ below (va_Qi post (ga_E g) (ga_A g)) (ga_X g xp) args s mc ms (ga_A g)) (F0 m 44 ls []) := by
      intro n
      induction n with
      | zero => intro x4_24 x5_24 h_24 bc_24 bs_24 H locs cells slots ls hn _ _ _ _ _; exact absurd hn (Nat.not_lt_zero _)
      | succ n ih_24 =>
        intro x4_24 x5_24 h_24 bc_24 bs_24 H locs cells slots ls hn_24 hi_24 hI hbc hbs hl
        have hw := hw x4_24 x5_24 h_24 bc_24 bs_24 hi_24
        refine lv_iload hx hb dX1_eatenIn_44 (lv_at hl 3 rfl) ?_
        refine lv_iload_n hx hb dX1_eatenIn_46 rfl (lv_at hl 0 rfl) ?_
        refine lv_icmp_ge (tgt := 65) hx hb dX1_eatenIn_47 (by decide) (fun hc_25 => ?_) (fun hc_25 => ?_)
        · have hw := hw.1 hc_25
          refine lv_iload hx hb dX1_eatenIn_65 (lv_at hl 2 rfl) ?_
          exact ga_iretx hx hb hr rfl hlk hI hw (Nat.le_trans (Nat.le_add_right _ _) hbc) (Nat.le_trans (Nat.le_add_right _ _) hbs) dX1_eatenIn_67
        · have hw := hw.2 hc_25
          refine lv_iload hx hb dX1_eatenIn_50 (lv_at hl 2 rfl) ?_
          refine ga_aload_n hx hb dX1_eatenIn_52 rfl (lv_at hl 1 rfl) ?_
          obtain ⟨a_26, ea_26, hw⟩ := hw
          rewrite [ea_26]
          obtain ⟨fs_27, hq, hw⟩ := hw
          refine ga_calli (va_runV (As := []) (rest := [.int x4_24]) ⟨hx, hb, hml, hown, hts⟩ (gm_X3_isEaten l g a_26 h_24 _ hw) (cwV 0 hts (lw_V q2368 q2369 q2370 q107 q2371) rfl rfl rfl ⟨rfl, hdG_X3_isEaten⟩ ⟨Nat.le_of_ble_eq_true rfl, Nat.le_of_ble_eq_true rfl⟩) (ga_preV hI hq rfl rfl) rfl rfl hl.1 rfl (ga_room (Nat.le_of_ble_eq_true rfl)) dX1_eatenIn_53 ⟨Nat.le_trans (Nat.add_le_add_left (Nat.zero_le _) _) hbc, Nat.le_trans (Nat.add_le_add_left (Nat.zero_le _) _) hbs⟩) hI hbc hbs (Nat.zero_le _) (Nat.zero_le _) (fun r_29 h_28 H locs cells slots hw hI hbc hbs => ?_)
          refine lv_iadd hx hb dX1_eatenIn_56 ?_
          refine lv_istore (lv' := [(4, .int (x4_24 + r_29)), (2, .int v2), (3, va_rf r_23), (5, .int x5_24)]) hx hb dX1_eatenIn_57 hl (by decide) (by simp [ga_rcat, ga_cat_r, ga_cat_i, ga_cat_f, ga_cat_l, ga_cat_d]) (fun ls hl => ?_)
          refine lv_iinc (v := x5_24 + (1 : Int32)) (lv' := [(5, .int (x5_24 + (1 : Int32))), (4, .int (x4_24 + r_29)), (2, .int v2), (3, va_rf r_23)]) hx hb dX1_eatenIn_59 hl (k := 3) rfl rfl (by decide) rfl (fun ls hl => ?_)
          refine lv_goto (tgt := 44) hx hb dX1_eatenIn_62 (by decide) ?_
          exact ih_24 _ _ _ _ _ H locs cells slots ls (Nat.lt_of_lt_of_le hw.2 (Nat.le_of_lt_succ hn_24)) hw.1 hI hbc hbs (lv_sub hl [2, 3, 1, 0] rfl)
    exact hL_24 _ _ _ _ _ _ H locs cells slots ls (Nat.lt_succ_self _) h0_24 hI hbc hbs (lv_sub hl [5, 2, 1, 0] rfl)
def gw_X1_eatenIn_21 (K : ga_K) (post : Int32 → ga_H → Prop) (xp : String → Nat → ga_H → Prop) (p0 : Nat) (v1 : Int32) (v2 : Int32) (h : ga_H) (bc bs : Nat) : Prop :=
  gw_X1_eatenIn_22 K post xp p0 (0 : Int32) v1 v2 h bc bs
set_option maxHeartbeats 4000000 in
theorem gj_X1_eatenIn_21 {p : Program} {l : Launch} {e : Env} {s : State} {m : MethodId} {args : Array Value} {below : List Frame} {meth : Method} {c : Code} {mc ms : Nat} {H : Heap} {locs : List Loc} {cells slots : Nat} {ls : Array Slot} (hst : l.stackTraces = false) (htab : c.exceptionTable.toList = []) (g : ga_G) (post : Int32 → ga_H → Prop) (xp : String → Nat → ga_H → Prop) (p0 : Nat) (v1 : Int32) (v2 : Int32) (h : ga_H) (bc bs : Nat) (hC : ga_Cx p s m args meth c cX1_eatenIn 6 (some .int) "PaperStore" "eatenIn") (hw : gw_X1_eatenIn_21 g.2.2 post xp p0 v1 v2 h bc bs) (hI : ga_I g h s H locs) (hbc : cells + bc ≤ mc) (hbs : slots + bs ≤ ms) (hl : lv_has ls 6 [(0, .ref p0), (1, .int v1), (2, .int v2)]) : W p l e ({ frames := 16, cells := mc, slots := ms, locals := 316 } : Room) s m args below meth c H locs cells slots (vx_MQ below (va_Qi post (ga_E g) (ga_A g)) (ga_X g xp) args s mc ms (ga_A g)) (F0 m 21 ls []) := by
  obtain ⟨hx, hb, hml, hown, hts, hr, hlk, hnm⟩ := hC
  unfold gw_X1_eatenIn_21 at hw
  refine lv_iconst (v := 0) hx hb dX1_eatenIn_21 (by decide) ?_
  exact gj_X1_eatenIn_22 hst htab g post xp p0 (0 : Int32) v1 v2 h bc bs ⟨hx, hb, hml, hown, hts, hr, hlk, hnm⟩ hw hI hbc hbs (lv_sub hl [0, 1, 2] rfl)
def gw_X1_eatenIn (K : ga_K) (p0 : Nat) (p1 : Int32) (p2 : Int32) (h : ga_H) (mc ms : Nat) (post : Int32 → ga_H → Prop) (xp : String → Nat → ga_H → Prop) : Prop :=
  gw_X1_isAisle p1 (fun (r_1 : Int32) => (r_1 = (0 : Int32) → (gw_X1_eatenIn_21 K post xp p0 p1 p2 h mc ms)) ∧ (¬ r_1 = (0 : Int32) → (gw_X1_isIn p2 (0 : Int32) (30 : Int32) (fun (r_30 : Int32) => (r_30 = (0 : Int32) → (gw_X1_eatenIn_21 K post xp p0 p1 p2 h mc ms)) ∧ (¬ r_30 = (0 : Int32) → (gw_X1_eatenIn_22 K post xp p0 (1 : Int32) p1 p2 h mc ms))))))
set_option maxHeartbeats 4000000 in
theorem gm_X1_eatenIn (l : Launch) (hst : l.stackTraces = false) (g : ga_G) (p0 : Nat) (p1 : Int32) (p2 : Int32) (h : ga_H) (mc ms : Nat) (post : Int32 → ga_H → Prop) (xp : String → Nat → ga_H → Prop) (hw : gw_X1_eatenIn g.2.2 p0 p1 p2 h mc ms post xp) : vx_Met l yX1_eatenIn (ws_ yX1_eatenIn cX1_eatenIn 6 (some .int)) ({ frames := 16, cells := mc, slots := ms, locals := 316 } : Room) (va_Pc [.ref p0, .int p1, .int p2] (ga_B g h)) (va_Qi post (ga_E g) (ga_A g)) (ga_X g xp) mc ms (ga_A g) := by
  refine ga_metx (own := "PaperStore") (nm := "eatenIn") (by decide) rfl rfl (by exact Nat.le_of_ble_eq_true rfl) (fun p e s m below meth c ls hC htab hI hl => ?_)
  have hl : lv_has ls 6 [(0, .ref p0), (1, .int p1), (2, .int p2)] := hl
  generalize ([.ref p0, .int p1, .int p2] : List Value).toArray = args at hC ⊢
  obtain ⟨hx, hb, hml, hown, hts, hr, hlk, hnm⟩ := hC
  unfold gw_X1_eatenIn at hw
  obtain ⟨H, eH⟩ : ∃ z, z = s.heap := ⟨_, rfl⟩
  obtain ⟨locs, elo⟩ : ∃ z : List Loc, z = [] := ⟨_, rfl⟩
  rw [← eH, ← elo] at hI ⊢
  obtain ⟨cells, slots, hbc, hbs, e0, e1⟩ : ∃ a b : Nat, a + mc ≤ mc ∧ b + ms ≤ ms ∧ a = 0 ∧ b = 0 := ⟨0, 0, by omega, by omega, rfl, rfl⟩
  show W p l e ({ frames := 16, cells := mc, slots := ms, locals := 316 } : Room) s m args below meth c H locs 0 0 (vx_MQ below (va_Qi post (ga_E g) (ga_A g)) (ga_X g xp) args s mc ms (ga_A g)) (F0 m 0 ls [])
  suffices hgoal : W p l e ({ frames := 16, cells := mc, slots := ms, locals := 316 } : Room) s m args below meth c H locs cells slots (vx_MQ below (va_Qi post (ga_E g) (ga_A g)) (ga_X g xp) args s mc ms (ga_A g)) (F0 m 0 ls []) by rw [e0, e1] at hgoal; exact hgoal
  refine lv_iload_n hx hb dX1_eatenIn_0 rfl (lv_at hl 1 rfl) ?_
  refine ga_callS (As := [.int p1]) (rest := []) ⟨hx, hb, hml, hown, hts⟩ (gm_X1_isAisle l p1 _ hw) (va_cwS 1 hts (lw_S q2144 q2145 q100 q2146) rfl rfl rfl hdG_X1_isAisle ⟨Nat.le_of_ble_eq_true rfl, Nat.le_of_ble_eq_true rfl⟩) rfl hl.1 rfl (ga_room (Nat.le_of_ble_eq_true rfl)) dX1_eatenIn_1 hbc hbs (fun r_1 hw => ?_)
  refine lv_if_eq (tgt := 21) hx hb dX1_eatenIn_4 (by decide) (fun hc_2 => ?_) (fun hc_2 => ?_)
  · have hw := hw.1 hc_2
    exact gj_X1_eatenIn_21 hst htab g post xp p0 p1 p2 h mc ms ⟨hx, hb, hml, hown, hts, hr, hlk, hnm⟩ hw hI hbc hbs (lv_sub hl [0, 1, 2] rfl)
  · have hw := hw.2 hc_2
    refine lv_iload_n hx hb dX1_eatenIn_7 rfl (lv_at hl 2 rfl) ?_
    refine lv_iconst (v := 0) hx hb dX1_eatenIn_8 (by decide) ?_
    refine lv_bipush (v := 30) hx hb dX1_eatenIn_9 (by decide) ?_
    refine ga_callS (As := [.int p2, .int (0 : Int32), .int (30 : Int32)]) (rest := []) ⟨hx, hb, hml, hown, hts⟩ (gm_X1_isIn l p2 (0 : Int32) (30 : Int32) _ hw) (va_cwS 3 hts (lw_S q2024 q2025 q100 q2026) rfl rfl rfl hdG_X1_isIn ⟨Nat.le_of_ble_eq_true rfl, Nat.le_of_ble_eq_true rfl⟩) rfl hl.1 rfl (ga_room (Nat.le_of_ble_eq_true rfl)) dX1_eatenIn_11 hbc hbs (fun r_30 hw => ?_)
    refine lv_if_eq (tgt := 21) hx hb dX1_eatenIn_14 (by decide) (fun hc_31 => ?_) (fun hc_31 => ?_)
    · have hw := hw.1 hc_31
      exact gj_X1_eatenIn_21 hst htab g post xp p0 p1 p2 h mc ms ⟨hx, hb, hml, hown, hts, hr, hlk, hnm⟩ hw hI hbc hbs (lv_sub hl [0, 1, 2] rfl)
    · have hw := hw.2 hc_31
      refine lv_iconst (v := 1) hx hb dX1_eatenIn_17 (by decide) ?_
      refine lv_goto (tgt := 22) hx hb dX1_eatenIn_18 (by decide) ?_
      exact gj_X1_eatenIn_22 hst htab g post xp p0 (1 : Int32) p1 p2 h mc ms ⟨hx, hb, hml, hown, hts, hr, hlk, hnm⟩ hw hI hbc hbs (lv_sub hl [0, 1, 2] rfl)
theorem hdG_X1_eatenIn : yX1_eatenIn.cls ≠ "java/lang/invoke/MethodHandle" ∧ yX1_eatenIn.cls ≠ "java/lang/invoke/VarHandle" ∧ (parseMethodDescriptor yX1_eatenIn.desc).map (fun d => d.parameters.length) = some 2 := by decide +kernel
def gw_X0_eatenIn (K : ga_K) (p0 : Option Nat) (p1 : Int32) (p2 : Int32) (p3 : Option Nat) (h : ga_H) (mc ms : Nat) (post : Int32 → ga_H → Prop) (xp : String → Nat → ga_H → Prop) : Prop :=
  ∃ a_1 : Nat, p0 = some a_1 ∧ ∃ kc_2 ks_3 : Nat, kc_2 ≤ mc ∧ ks_3 ≤ ms ∧ ∃ fs_4 : List Value, ga_at K h a_1 (ga_O 0 fs_4) ∧ gw_X1_eatenIn K a_1 p1 p2 h kc_2 ks_3 (fun (r_6 : Int32) (h_5 : ga_H) => ∃ a_10 : Nat, p3 = some a_10 ∧ ∃ (n_11 : Nat) (f_12 : Nat → Int64), h_5 a_10 = some (ga_Al n_11 f_12) ∧ vp_in (0 : Int32) n_11 ∧ ∀ h_13 : ga_H, h_13 = ga_set h_5 a_10 (ga_Al n_11 (vp_updL f_12 (0 : Int32).toNatClampNeg r_6.toInt64)) → (post (0 : Int32) h_13)) (fun (E_7 : String) (q_8 : Nat) (h_9 : ga_H) => (E_7 = "java/lang/IllegalArgumentException" ∧ (post (1 : Int32) h_9)))
set_option maxHeartbeats 4000000 in
theorem gm_X0_eatenIn (l : Launch) (hst : l.stackTraces = false) (g : ga_G) (p0 : Option Nat) (p1 : Int32) (p2 : Int32) (p3 : Option Nat) (h : ga_H) (mc ms : Nat) (post : Int32 → ga_H → Prop) (xp : String → Nat → ga_H → Prop) (hw : gw_X0_eatenIn g.2.2 p0 p1 p2 p3 h mc ms post xp) : vx_Met l yX0_eatenIn (wsW_ yX0_eatenIn cX0_eatenIn 5 (some .int) [(0, 10, 13, 13)]) ({ frames := 17, cells := mc, slots := ms, locals := 341 } : Room) (va_Pc [va_rf p0, .int p1, .int p2, va_rf p3] (ga_B g h)) (va_Qi post (ga_E g) (ga_A g)) (ga_X g xp) mc ms (ga_A g) := by
  refine ga_metxW (own := "PaperStoreLaw") (nm := "eatenIn") (by decide) rfl rfl (by cases p0 <;> cases p3 <;> exact Nat.le_of_ble_eq_true rfl) (fun p e s m below meth c ls hC htab hI hl => ?_)
  have hl : lv_has ls 5 [(0, va_rf p0), (1, .int p1), (2, .int p2), (3, va_rf p3)] := (by cases p0 <;> cases p3 <;> exact hl)
  generalize ([va_rf p0, .int p1, .int p2, va_rf p3] : List Value).toArray = args at hC ⊢
  obtain ⟨hx, hb, hml, hown, hts, hr, hlk, hnm⟩ := hC
  unfold gw_X0_eatenIn at hw
  obtain ⟨H, eH⟩ : ∃ z, z = s.heap := ⟨_, rfl⟩
  obtain ⟨locs, elo⟩ : ∃ z : List Loc, z = [] := ⟨_, rfl⟩
  rw [← eH, ← elo] at hI ⊢
  obtain ⟨cells, slots, hbc, hbs, e0, e1⟩ : ∃ a b : Nat, a + mc ≤ mc ∧ b + ms ≤ ms ∧ a = 0 ∧ b = 0 := ⟨0, 0, by omega, by omega, rfl, rfl⟩
  show W p l e ({ frames := 17, cells := mc, slots := ms, locals := 341 } : Room) s m args below meth c H locs 0 0 (vx_MQ below (va_Qi post (ga_E g) (ga_A g)) (ga_X g xp) args s mc ms (ga_A g)) (F0 m 0 ls [])
  suffices hgoal : W p l e ({ frames := 17, cells := mc, slots := ms, locals := 341 } : Room) s m args below meth c H locs cells slots (vx_MQ below (va_Qi post (ga_E g) (ga_A g)) (ga_X g xp) args s mc ms (ga_A g)) (F0 m 0 ls []) by rw [e0, e1] at hgoal; exact hgoal
  refine ga_aload_n hx hb dX0_eatenIn_0 rfl (lv_at hl 3 rfl) ?_
  refine lv_iconst (v := 0) hx hb dX0_eatenIn_1 (by decide) ?_
  refine ga_aload_n hx hb dX0_eatenIn_2 rfl (lv_at hl 0 rfl) ?_
  refine lv_iload_n hx hb dX0_eatenIn_3 rfl (lv_at hl 1 rfl) ?_
  refine lv_iload_n hx hb dX0_eatenIn_4 rfl (lv_at hl 2 rfl) ?_
  obtain ⟨a_1, ea_1, hw⟩ := hw
  rewrite [ea_1]
  obtain ⟨kc_2, ks_3, hk1, hk2, hw⟩ := hw
  obtain ⟨fs_4, hq, hw⟩ := hw
  refine ga_xcalli (vx_runV (As := [.int p1, .int p2]) (rest := [.int (0 : Int32), va_rf p3]) ⟨hx, hb, hml, hown, hts⟩ (gm_X1_eatenIn l hst g a_1 p1 p2 h kc_2 ks_3 _ _ hw) (cwV 2 hts (lw_V q2363 q2364 q2365 q100 q2366) rfl rfl rfl ⟨rfl, hdG_X1_eatenIn⟩ ⟨Nat.le_of_ble_eq_true rfl, Nat.le_of_ble_eq_true rfl⟩) (ga_preV hI hq rfl rfl) rfl rfl hl.1 rfl (ga_room (Nat.le_of_ble_eq_true rfl)) dX0_eatenIn_5 ⟨Nat.le_trans (Nat.add_le_add_left hk1 _) hbc, Nat.le_trans (Nat.add_le_add_left hk2 _) hbs⟩) hI hbc hbs hk1 hk2 (fun E_7 q_8 h_9 ce H locs cells slots hw hI hce hbc hbs => ?_) (fun r_6 h_5 H locs cells slots hw hI hbc hbs => ?_)
  · obtain ⟨rfl, hw⟩ := hw
    refine ga_catch hown hts hI ([]) (⟨0, 10, 13, 13⟩) ([]) (by rw [htab]; rfl) (fun _ h => absurd h List.not_mem_nil) rfl (by decide) q2017 q1054 hce ?_
    refine W.eq (g2 := F0 m 13 ls [.ref q_8]) rfl ?_
    refine lv_astore (lv' := [(4, .ref q_8), (0, va_rf p0), (1, .int p1), (2, .int p2), (3, va_rf p3)]) hx hb dX0_eatenIn_13 hl (by decide) (by simp [ga_rcat, ga_cat_r, ga_cat_i, ga_cat_f, ga_cat_l, ga_cat_d]) (fun ls hl => ?_)
    refine lv_iconst (v := 1) hx hb dX0_eatenIn_15 (by decide) ?_
    exact ga_iretx hx hb hr rfl hlk hI hw (Nat.le_trans (Nat.le_add_right _ _) hbc) (Nat.le_trans (Nat.le_add_right _ _) hbs) dX0_eatenIn_16
  · skip
    refine lv_i2l (v := r_6.toInt64) hx hb dX0_eatenIn_8 rfl ?_
    obtain ⟨a_10, ea_10, hw⟩ := hw
    rewrite [ea_10]
    obtain ⟨n_11, f_12, hq, hi, hw⟩ := hw
    refine ga_stl hx hb hI hq hi dX0_eatenIn_9 (fun H locs hI => ?_)
    obtain ⟨h_13, eh_13⟩ : ∃ z, z = ga_set h_5 a_10 (ga_Al n_11 (vp_updL f_12 (0 : Int32).toNatClampNeg r_6.toInt64)) := ⟨_, rfl⟩
    rw [← eh_13] at hI
    have hw := hw h_13 eh_13
    refine lv_goto (tgt := 17) hx hb dX0_eatenIn_10 (by decide) ?_
    refine lv_iconst (v := 0) hx hb dX0_eatenIn_17 (by decide) ?_
    exact ga_iretx hx hb hr rfl hlk hI hw (Nat.le_trans (Nat.le_add_right _ _) hbc) (Nat.le_trans (Nat.le_add_right _ _) hbs) dX0_eatenIn_18
theorem hdG_X0_eatenIn : yX0_eatenIn.cls ≠ "java/lang/invoke/MethodHandle" ∧ yX0_eatenIn.cls ≠ "java/lang/invoke/VarHandle" ∧ (parseMethodDescriptor yX0_eatenIn.desc).map (fun d => d.parameters.length) = some 4 := by decide +kernel
