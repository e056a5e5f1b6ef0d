set_option maxRecDepth 100000
def gw_J14_getExponent (K : ga_K) (p0 : UInt64) (h : ga_H) (post : Int32 → ga_H → Prop) : Prop :=
  post ((((p0.toInt64 &&& (9218868437227405312 : Int64)) >>> ((52 : Int32).toInt64 &&& 63)) - (1023 : Int64)).toInt32) h
set_option maxHeartbeats 4000000 in
theorem gm_J14_getExponent (l : Launch) (g : ga_G) (p0 : UInt64) (h : ga_H) (post : Int32 → ga_H → Prop) (hw : gw_J14_getExponent g.2.2 p0 h post) : Met l yJ14_getExponent (ws_ yJ14_getExponent cJ14_getExponent 2 (some .int)) ({ frames := 8, cells := 0, slots := 0, locals := 140 } : Room) (va_Pc [.double p0] (ga_B g h)) (va_Qi post (ga_E g) (ga_A g)) 0 0 (ga_A g) := by
  refine ga_metF (own := "java/lang/Math") (nm := "getExponent") (by decide +kernel) rfl rfl (by exact Nat.le_of_ble_eq_true rfl) (fun p e s m below meth c ls hC hI hl => ?_)
  have hl : lv_has ls 2 [(0, .double p0)] := hl
  generalize ([.double p0] : List Value).toArray = args at hC ⊢
  obtain ⟨hx, hb, hml, hown, hts, hr, hlk, hnm⟩ := hC
  unfold gw_J14_getExponent at hw
  obtain ⟨H, eH⟩ : ∃ z, z = s.heap := ⟨_, rfl⟩
  obtain ⟨locs, elo⟩ : ∃ z : List Loc, z = [] := ⟨_, rfl⟩
  rw [← eH, ← elo] at hI ⊢
  obtain ⟨cells, slots, hbc, hbs, e0, e1⟩ : ∃ a b : Nat, a ≤ 0 ∧ b ≤ 0 ∧ a = 0 ∧ b = 0 := ⟨0, 0, by omega, by omega, rfl, rfl⟩
  show W p l e ({ frames := 8, cells := 0, slots := 0, locals := 140 } : Room) s m args below meth c H locs 0 0 (MQ below (va_Qi post (ga_E g) (ga_A g)) args s 0 0 (ga_A g)) (F0 m 0 ls [])
  suffices hgoal : W p l e ({ frames := 8, cells := 0, slots := 0, locals := 140 } : Room) s m args below meth c H locs cells slots (MQ below (va_Qi post (ga_E g) (ga_A g)) args s 0 0 (ga_A g)) (F0 m 0 ls []) by rw [e0, e1] at hgoal; exact hgoal
  refine lv_dload_n hx hb dJ14_getExponent_0 rfl (lv_at hl 0 rfl) ?_
  refine vn_d2l hx hb (hml.trans hl.1.symm) hown (hts _ q1449) (hts _ q1451) (hts _ q1450) (hts _ q142) (Nat.le_of_ble_eq_true rfl) (Nat.le_trans (Nat.add_le_add_right (ga_sum [] (Nat.le_of_ble_eq_true rfl)) _) (Nat.le_of_ble_eq_true rfl)) dJ14_getExponent_1 ?_
  refine lv_ldc2 (v := 9218868437227405312) hx hb hown (hts _ q1452) dJ14_getExponent_4 ?_
  refine lv_land hx hb dJ14_getExponent_7 ?_
  refine lv_bipush (v := 52) hx hb dJ14_getExponent_8 (by decide) ?_
  refine lv_lshr (v := (p0.toInt64 &&& (9218868437227405312 : Int64)) >>> ((52 : Int32).toInt64 &&& 63)) hx hb dJ14_getExponent_10 rfl ?_
  refine lv_ldc2 (v := 1023) hx hb hown (hts _ q1453) dJ14_getExponent_11 ?_
  refine lv_lsub hx hb dJ14_getExponent_14 ?_
  refine lv_l2i (v := (((p0.toInt64 &&& (9218868437227405312 : Int64)) >>> ((52 : Int32).toInt64 &&& 63)) - (1023 : Int64)).toInt32) hx hb dJ14_getExponent_15 rfl ?_
  exact ga_iret hx hb hr rfl hlk hI hw hbc hbs dJ14_getExponent_16
theorem hdG_J14_getExponent : yJ14_getExponent.cls ≠ "java/lang/invoke/MethodHandle" ∧ yJ14_getExponent.cls ≠ "java/lang/invoke/VarHandle" ∧ (parseMethodDescriptor yJ14_getExponent.desc).map (fun d => d.parameters.length) = some 1 := by decide +kernel
def gw_J31_floorOrCeil_69 (K : ga_K) (post : UInt64 → ga_H → Prop) (v0 : UInt64) (v6 : UInt64) (v8 : Int32) (h : ga_H) : Prop :=
  (¬ lg_cmp (((4503599627370495 : Int64) >>> (v8.toInt64 &&& 63)) &&& v0.toInt64) (0 : Int64) = (0 : Int32) → (vn_snl2d (v0.toInt64 &&& (((4503599627370495 : Int64) >>> (v8.toInt64 &&& 63)) ^^^ ((-1) : Int64))) = false ∧ (vf_n64 (FP.dmul v6 v0) ∧ ((Op.cmpValue (FP.dcmp (FP.dmul v6 v0) (0 : UInt64)) .l ≤ (0 : Int32) → (post ((v0.toInt64 &&& (((4503599627370495 : Int64) >>> (v8.toInt64 &&& 63)) ^^^ ((-1) : Int64))).toUInt64) h)) ∧ (¬ Op.cmpValue (FP.dcmp (FP.dmul v6 v0) (0 : UInt64)) .l ≤ (0 : Int32) → (vf_n64 (FP.dadd ((v0.toInt64 &&& (((4503599627370495 : Int64) >>> (v8.toInt64 &&& 63)) ^^^ ((-1) : Int64))).toUInt64) v6) ∧ (post (FP.dadd ((v0.toInt64 &&& (((4503599627370495 : Int64) >>> (v8.toInt64 &&& 63)) ^^^ ((-1) : Int64))).toUInt64) v6) h))))))) ∧ (lg_cmp (((4503599627370495 : Int64) >>> (v8.toInt64 &&& 63)) &&& v0.toInt64) (0 : Int64) = (0 : Int32) → (post v0 h))
set_option maxHeartbeats 4000000 in
theorem gj_J31_floorOrCeil_69 {p : Program} {l : Launch} {e : Env} {s : State} {m : MethodId} {args : Array Value} {below : List Frame} {meth : Method} {c : Code} {H : Heap} {locs : List Loc} {cells slots : Nat} {ls : Array Slot} (g : ga_G) (post : UInt64 → ga_H → Prop) (v0 : UInt64) (v6 : UInt64) (v8 : Int32) (h : ga_H) (hC : ga_Cx p s m args meth c cJ31_floorOrCeil 15 (some .double) "java/lang/StrictMath" "floorOrCeil") (hw : gw_J31_floorOrCeil_69 g.2.2 post v0 v6 v8 h) (hI : ga_I g h s H locs) (hbc : cells ≤ 0) (hbs : slots ≤ 0) (hl : lv_has ls 15 [(0, .double v0), (6, .double v6), (8, .int v8)]) : W p l e ({ frames := 9, cells := 0, slots := 0, locals := 161 } : Room) s m args below meth c H locs cells slots (MQ below (va_Qd post (ga_E g) (ga_A g)) args s 0 0 (ga_A g)) (F0 m 69 ls []) := by
  obtain ⟨hx, hb, hml, hown, hts, hr, hlk, hnm⟩ := hC
  unfold gw_J31_floorOrCeil_69 at hw
  refine lv_dload_n hx hb dJ31_floorOrCeil_69 rfl (lv_at hl 0 rfl) ?_
  refine vn_d2l hx hb (hml.trans hl.1.symm) hown (hts _ q1456) (hts _ q1451) (hts _ q1450) (hts _ q142) (Nat.le_of_ble_eq_true rfl) (Nat.le_trans (Nat.add_le_add_right (ga_sum [] (Nat.le_of_ble_eq_true rfl)) _) (Nat.le_of_ble_eq_true rfl)) dJ31_floorOrCeil_70 ?_
  refine lv_lstore (lv' := [(9, .long v0.toInt64), (0, .double v0), (6, .double v6), (8, .int v8)]) hx hb dJ31_floorOrCeil_73 hl (by decide) rfl (fun ls hl => ?_)
  refine lv_ldc2 (v := 4503599627370495) hx hb hown (hts _ q1457) dJ31_floorOrCeil_75 ?_
  refine lv_iload hx hb dJ31_floorOrCeil_78 (lv_at hl 3 rfl) ?_
  refine lv_lshr (v := (4503599627370495 : Int64) >>> (v8.toInt64 &&& 63)) hx hb dJ31_floorOrCeil_80 rfl ?_
  refine lv_lstore (lv' := [(11, .long ((4503599627370495 : Int64) >>> (v8.toInt64 &&& 63))), (9, .long v0.toInt64), (0, .double v0), (6, .double v6), (8, .int v8)]) hx hb dJ31_floorOrCeil_81 hl (by decide) rfl (fun ls hl => ?_)
  refine lv_lload hx hb dJ31_floorOrCeil_83 (lv_at hl 0 rfl) ?_
  refine lv_lload hx hb dJ31_floorOrCeil_85 (lv_at hl 1 rfl) ?_
  refine lv_land hx hb dJ31_floorOrCeil_87 ?_
  refine lv_lconst (v := 0) hx hb dJ31_floorOrCeil_88 (by decide) ?_
  refine W.lcmp hx hb dJ31_floorOrCeil_89 ?_
  refine lv_if_ne (tgt := 95) hx hb dJ31_floorOrCeil_90 (by decide) (fun hc_6 => ?_) (fun hc_6 => ?_)
  · have hw := hw.1 hc_6
    refine lv_lload hx hb dJ31_floorOrCeil_95 (lv_at hl 1 rfl) ?_
    refine lv_lload hx hb dJ31_floorOrCeil_97 (lv_at hl 0 rfl) ?_
    refine lv_ldc2 (v := (-1)) hx hb hown (hts _ q1458) dJ31_floorOrCeil_99 ?_
    refine lv_lxor hx hb dJ31_floorOrCeil_102 ?_
    refine lv_land hx hb dJ31_floorOrCeil_103 ?_
    refine vn_l2d hx hb (hml.trans hl.1.symm) hown (hts _ q1459) (hts _ q1461) (hts _ q1460) (hts _ q142) hw.1 (Nat.le_of_ble_eq_true rfl) (Nat.le_trans (Nat.add_le_add_right (ga_sum [] (Nat.le_of_ble_eq_true rfl)) _) (Nat.le_of_ble_eq_true rfl)) dJ31_floorOrCeil_104 ?_
    have hw := hw.2
    refine lv_dstore (lv' := [(13, .double ((v0.toInt64 &&& (((4503599627370495 : Int64) >>> (v8.toInt64 &&& 63)) ^^^ ((-1) : Int64))).toUInt64)), (11, .long ((4503599627370495 : Int64) >>> (v8.toInt64 &&& 63))), (9, .long v0.toInt64), (0, .double v0), (6, .double v6), (8, .int v8)]) hx hb dJ31_floorOrCeil_107 hl (by decide) rfl (fun ls hl => ?_)
    refine lv_dload hx hb dJ31_floorOrCeil_109 (lv_at hl 4 rfl) ?_
    refine lv_dload_n hx hb dJ31_floorOrCeil_111 rfl (lv_at hl 3 rfl) ?_
    refine lv_dmul hx hb dJ31_floorOrCeil_112 hw.1 ?_
    have hw := hw.2
    refine lv_dconst0 hx hb dJ31_floorOrCeil_113 ?_
    refine lv_dcmp hx hb dJ31_floorOrCeil_114 ?_
    refine lv_if_le (tgt := 125) hx hb dJ31_floorOrCeil_115 (by decide) (fun hc_7 => ?_) (fun hc_7 => ?_)
    · have hw := hw.1 hc_7
      refine lv_dload hx hb dJ31_floorOrCeil_125 (lv_at hl 0 rfl) ?_
      exact ga_dret hx hb hr hlk hI hw hbc hbs dJ31_floorOrCeil_127
    · have hw := hw.2 hc_7
      refine lv_dload hx hb dJ31_floorOrCeil_118 (lv_at hl 0 rfl) ?_
      refine lv_dload hx hb dJ31_floorOrCeil_120 (lv_at hl 4 rfl) ?_
      refine lv_dadd hx hb dJ31_floorOrCeil_122 hw.1 ?_
      have hw := hw.2
      refine lv_dstore (lv' := [(13, .double (FP.dadd ((v0.toInt64 &&& (((4503599627370495 : Int64) >>> (v8.toInt64 &&& 63)) ^^^ ((-1) : Int64))).toUInt64) v6)), (11, .long ((4503599627370495 : Int64) >>> (v8.toInt64 &&& 63))), (9, .long v0.toInt64), (0, .double v0), (6, .double v6), (8, .int v8)]) hx hb dJ31_floorOrCeil_123 hl (by decide) rfl (fun ls hl => ?_)
      refine lv_dload hx hb dJ31_floorOrCeil_125 (lv_at hl 0 rfl) ?_
      exact ga_dret hx hb hr hlk hI hw hbc hbs dJ31_floorOrCeil_127
  · have hw := hw.2 hc_6
    refine lv_dload_n hx hb dJ31_floorOrCeil_93 rfl (lv_at hl 2 rfl) ?_
    exact ga_dret hx hb hr hlk hI hw hbc hbs dJ31_floorOrCeil_94
def gw_J31_floorOrCeil (K : ga_K) (p0 : UInt64) (p2 : UInt64) (p4 : UInt64) (p6 : UInt64) (h : ga_H) (post : UInt64 → ga_H → Prop) : Prop :=
  gw_J14_getExponent K p0 h (fun (r_2 : Int32) (h_1 : ga_H) => ((0 : Int32) ≤ r_2 → ((r_2 < (52 : Int32) → (gw_J31_floorOrCeil_69 K post p0 p6 r_2 h_1)) ∧ (¬ r_2 < (52 : Int32) → (post p0 h_1)))) ∧ (¬ (0 : Int32) ≤ r_2 → ((¬ Op.cmpValue (FP.dcmp p0 (0 : UInt64)) .l = (0 : Int32) → (((0 : Int32) ≤ Op.cmpValue (FP.dcmp p0 (0 : UInt64)) .g → (post p4 h_1)) ∧ (¬ (0 : Int32) ≤ Op.cmpValue (FP.dcmp p0 (0 : UInt64)) .g → (post p2 h_1)))) ∧ (Op.cmpValue (FP.dcmp p0 (0 : UInt64)) .l = (0 : Int32) → (post p0 h_1)))))
set_option maxHeartbeats 4000000 in
theorem gm_J31_floorOrCeil (l : Launch) (g : ga_G) (p0 : UInt64) (p2 : UInt64) (p4 : UInt64) (p6 : UInt64) (h : ga_H) (post : UInt64 → ga_H → Prop) (hw : gw_J31_floorOrCeil g.2.2 p0 p2 p4 p6 h post) : Met l yJ31_floorOrCeil (ws_ yJ31_floorOrCeil cJ31_floorOrCeil 15 (some .double)) ({ frames := 9, cells := 0, slots := 0, locals := 161 } : Room) (va_Pc [.double p0, .double p2, .double p4, .double p6] (ga_B g h)) (va_Qd post (ga_E g) (ga_A g)) 0 0 (ga_A g) := by
  refine ga_met (own := "java/lang/StrictMath") (nm := "floorOrCeil") (by decide) rfl rfl (by exact Nat.le_of_ble_eq_true rfl) (fun p e s m below meth c ls hC hI hl => ?_)
  have hl : lv_has ls 15 [(0, .double p0), (2, .double p2), (4, .double p4), (6, .double p6)] := hl
  generalize ([.double p0, .double p2, .double p4, .double p6] : List Value).toArray = args at hC ⊢
  obtain ⟨hx, hb, hml, hown, hts, hr, hlk, hnm⟩ := hC
  unfold gw_J31_floorOrCeil at hw
  obtain ⟨H, eH⟩ : ∃ z, z = s.heap := ⟨_, rfl⟩
  obtain ⟨locs, elo⟩ : ∃ z : List Loc, z = [] := ⟨_, rfl⟩
  rw [← eH, ← elo] at hI ⊢
  obtain ⟨cells, slots, hbc, hbs, e0, e1⟩ : ∃ a b : Nat, a ≤ 0 ∧ b ≤ 0 ∧ a = 0 ∧ b = 0 := ⟨0, 0, by omega, by omega, rfl, rfl⟩
  show W p l e ({ frames := 9, cells := 0, slots := 0, locals := 161 } : Room) s m args below meth c H locs 0 0 (MQ below (va_Qd post (ga_E g) (ga_A g)) args s 0 0 (ga_A g)) (F0 m 0 ls [])
  suffices hgoal : W p l e ({ frames := 9, cells := 0, slots := 0, locals := 161 } : Room) s m args below meth c H locs cells slots (MQ below (va_Qd post (ga_E g) (ga_A g)) args s 0 0 (ga_A g)) (F0 m 0 ls []) by rw [e0, e1] at hgoal; exact hgoal
  refine lv_dload_n hx hb dJ31_floorOrCeil_0 rfl (lv_at hl 0 rfl) ?_
  refine ga_calli (va_runS (As := [.double p0]) (rest := []) ⟨hx, hb, hml, hown, hts⟩ (gm_J14_getExponent l g p0 h _ hw) (va_cwS 1 hts (lw_S q1446 q1447 q119 q1448) rfl rfl rfl hdG_J14_getExponent ⟨Nat.le_of_ble_eq_true rfl, Nat.le_of_ble_eq_true rfl⟩) (ga_preS hI rfl) rfl rfl hl.1 rfl (ga_room (Nat.le_of_ble_eq_true rfl)) dJ31_floorOrCeil_1 ⟨hbc, hbs⟩) hI (bc := 0) (bs := 0) hbc hbs (Nat.zero_le _) (Nat.zero_le _) (fun r_2 h_1 H locs cells slots hw hI hbc hbs => ?_)
  refine lv_istore (lv' := [(8, .int r_2), (0, .double p0), (2, .double p2), (4, .double p4), (6, .double p6)]) hx hb dJ31_floorOrCeil_4 hl (by decide) rfl (fun ls hl => ?_)
  refine lv_iload hx hb dJ31_floorOrCeil_6 (lv_at hl 0 rfl) ?_
  refine lv_if_ge (tgt := 34) hx hb dJ31_floorOrCeil_8 (by decide) (fun hc_3 => ?_) (fun hc_3 => ?_)
  · have hw := hw.1 hc_3
    refine lv_iload hx hb dJ31_floorOrCeil_34 (lv_at hl 0 rfl) ?_
    refine lv_bipush (v := 52) hx hb dJ31_floorOrCeil_36 (by decide) ?_
    refine lv_icmp_lt (tgt := 43) hx hb dJ31_floorOrCeil_38 (by decide) (fun hc_4 => ?_) (fun hc_4 => ?_)
    · have hw := hw.1 hc_4
      refine ga_sget (v := .int (1 : Int32)) hx hb hts hown hI 9 rfl q1454 (fun _ z => z) dJ31_floorOrCeil_43 ?_
      refine lv_if_ne (tgt := 69) hx hb dJ31_floorOrCeil_46 (by decide) (fun _ => ?_) (fun hc_5 => by first | exact absurd hc_5 (by decide) | exact absurd (by decide) hc_5)
      exact gj_J31_floorOrCeil_69 g post p0 p6 r_2 h_1 ⟨hx, hb, hml, hown, hts, hr, hlk, hnm⟩ hw hI hbc hbs (lv_sub hl [1, 4, 0] rfl)
    · have hw := hw.2 hc_4
      refine lv_dload_n hx hb dJ31_floorOrCeil_41 rfl (lv_at hl 1 rfl) ?_
      exact ga_dret hx hb hr hlk hI hw hbc hbs dJ31_floorOrCeil_42
  · have hw := hw.2 hc_3
    refine lv_dload_n hx hb dJ31_floorOrCeil_11 rfl (lv_at hl 1 rfl) ?_
    refine lv_dconst0 hx hb dJ31_floorOrCeil_12 ?_
    refine lv_dcmp hx hb dJ31_floorOrCeil_13 ?_
    refine lv_if_ne (tgt := 21) hx hb dJ31_floorOrCeil_14 (by decide) (fun hc_8 => ?_) (fun hc_8 => ?_)
    · have hw := hw.1 hc_8
      refine lv_dload_n hx hb dJ31_floorOrCeil_21 rfl (lv_at hl 1 rfl) ?_
      refine lv_dconst0 hx hb dJ31_floorOrCeil_22 ?_
      refine lv_dcmp hx hb dJ31_floorOrCeil_23 ?_
      refine lv_if_ge (tgt := 31) hx hb dJ31_floorOrCeil_24 (by decide) (fun hc_9 => ?_) (fun hc_9 => ?_)
      · have hw := hw.1 hc_9
        refine lv_dload hx hb dJ31_floorOrCeil_31 (lv_at hl 3 rfl) ?_
        exact ga_dret hx hb hr hlk hI hw hbc hbs dJ31_floorOrCeil_33
      · have hw := hw.2 hc_9
        refine lv_dload_n hx hb dJ31_floorOrCeil_27 rfl (lv_at hl 2 rfl) ?_
        refine lv_goto (tgt := 33) hx hb dJ31_floorOrCeil_28 (by decide) ?_
        exact ga_dret hx hb hr hlk hI hw hbc hbs dJ31_floorOrCeil_33
    · have hw := hw.2 hc_8
      refine lv_dload_n hx hb dJ31_floorOrCeil_17 rfl (lv_at hl 1 rfl) ?_
      refine lv_goto (tgt := 33) hx hb dJ31_floorOrCeil_18 (by decide) ?_
      exact ga_dret hx hb hr hlk hI hw hbc hbs dJ31_floorOrCeil_33
theorem hdG_J31_floorOrCeil : yJ31_floorOrCeil.cls ≠ "java/lang/invoke/MethodHandle" ∧ yJ31_floorOrCeil.cls ≠ "java/lang/invoke/VarHandle" ∧ (parseMethodDescriptor yJ31_floorOrCeil.desc).map (fun d => d.parameters.length) = some 4 := by decide +kernel
def gw_J31_ceil (K : ga_K) (p0 : UInt64) (h : ga_H) (post : UInt64 → ga_H → Prop) : Prop :=
  gw_J31_floorOrCeil K p0 (9223372036854775808 : UInt64) FP.dconst1 FP.dconst1 h (fun (r_2 : UInt64) (h_1 : ga_H) => post r_2 h_1)
set_option maxHeartbeats 4000000 in
theorem gm_J31_ceil (l : Launch) (g : ga_G) (p0 : UInt64) (h : ga_H) (post : UInt64 → ga_H → Prop) (hw : gw_J31_ceil g.2.2 p0 h post) : Met l yJ31_ceil (ws_ yJ31_ceil cJ31_ceil 2 (some .double)) ({ frames := 10, cells := 0, slots := 0, locals := 195 } : Room) (va_Pc [.double p0] (ga_B g h)) (va_Qd post (ga_E g) (ga_A g)) 0 0 (ga_A g) := by
  refine ga_met (own := "java/lang/StrictMath") (nm := "ceil") (by decide) rfl rfl (by exact Nat.le_of_ble_eq_true rfl) (fun p e s m below meth c ls hC hI hl => ?_)
  have hl : lv_has ls 2 [(0, .double p0)] := hl
  generalize ([.double p0] : List Value).toArray = args at hC ⊢
  obtain ⟨hx, hb, hml, hown, hts, hr, hlk, hnm⟩ := hC
  unfold gw_J31_ceil at hw
  obtain ⟨H, eH⟩ : ∃ z, z = s.heap := ⟨_, rfl⟩
  obtain ⟨locs, elo⟩ : ∃ z : List Loc, z = [] := ⟨_, rfl⟩
  rw [← eH, ← elo] at hI ⊢
  obtain ⟨cells, slots, hbc, hbs, e0, e1⟩ : ∃ a b : Nat, a ≤ 0 ∧ b ≤ 0 ∧ a = 0 ∧ b = 0 := ⟨0, 0, by omega, by omega, rfl, rfl⟩
  show W p l e ({ frames := 10, cells := 0, slots := 0, locals := 195 } : Room) s m args below meth c H locs 0 0 (MQ below (va_Qd post (ga_E g) (ga_A g)) args s 0 0 (ga_A g)) (F0 m 0 ls [])
  suffices hgoal : W p l e ({ frames := 10, cells := 0, slots := 0, locals := 195 } : Room) s m args below meth c H locs cells slots (MQ below (va_Qd post (ga_E g) (ga_A g)) args s 0 0 (ga_A g)) (F0 m 0 ls []) by rw [e0, e1] at hgoal; exact hgoal
  refine lv_dload_n hx hb dJ31_ceil_0 rfl (lv_at hl 0 rfl) ?_
  refine lv_ldc2d (v := 9223372036854775808) hx hb hown (hts _ q1442) dJ31_ceil_1 ?_
  refine lv_dconst1 hx hb dJ31_ceil_4 ?_
  refine lv_dconst1 hx hb dJ31_ceil_5 ?_
  refine ga_calld (va_runS (As := [.double p0, .double (9223372036854775808 : UInt64), .double FP.dconst1, .double FP.dconst1]) (rest := []) ⟨hx, hb, hml, hown, hts⟩ (gm_J31_floorOrCeil l g p0 (9223372036854775808 : UInt64) FP.dconst1 FP.dconst1 h _ hw) (va_cwS 4 hts (lw_S q1443 q1444 q141 q1445) rfl rfl rfl hdG_J31_floorOrCeil ⟨Nat.le_of_ble_eq_true rfl, Nat.le_of_ble_eq_true rfl⟩) (ga_preS hI rfl) rfl rfl hl.1 rfl (ga_room (Nat.le_of_ble_eq_true rfl)) dJ31_ceil_6 ⟨hbc, hbs⟩) hI (bc := 0) (bs := 0) hbc hbs (Nat.zero_le _) (Nat.zero_le _) (fun r_2 h_1 H locs cells slots hw hI hbc hbs => ?_)
  exact ga_dret hx hb hr hlk hI hw hbc hbs dJ31_ceil_9
theorem hdG_J31_ceil : yJ31_ceil.cls ≠ "java/lang/invoke/MethodHandle" ∧ yJ31_ceil.cls ≠ "java/lang/invoke/VarHandle" ∧ (parseMethodDescriptor yJ31_ceil.desc).map (fun d => d.parameters.length) = some 1 := by decide +kernel
def gw_X1_isIn (p0 : Int32) (p1 : Int32) (p2 : Int32) (post : Int32 → Prop) : Prop :=
  (p0 < p1 → (post (0 : Int32))) ∧ (¬ p0 < p1 → ((p2 < p0 → (post (0 : Int32))) ∧ (¬ p2 < p0 → (post (1 : Int32)))))
set_option maxHeartbeats 4000000 in
theorem gm_X1_isIn (l : Launch) (p0 : Int32) (p1 : Int32) (p2 : Int32) (post : Int32 → Prop) (hw : gw_X1_isIn p0 p1 p2 post) : Met l yX1_isIn (ws_ yX1_isIn cX1_isIn 3 (some .boolean)) ({ frames := 8, cells := 0, slots := 0, locals := 140 } : Room) (va_Pc [.int p0, .int p1, .int p2] (fun _ => True)) (vp_Si post) 0 0 (fun _ => False) := by
  refine ga_metS (own := "PaperStore") (nm := "isIn") (by decide) rfl rfl (by exact Nat.le_of_ble_eq_true rfl) (fun p e s m below meth c ls hC hl => ?_)
  have hl : lv_has ls 3 [(0, .int p0), (1, .int p1), (2, .int p2)] := hl
  generalize ([.int p0, .int p1, .int p2] : List Value).toArray = args at hC ⊢
  obtain ⟨hx, hb, hml, hown, hts, hr, hlk, hnm⟩ := hC
  unfold gw_X1_isIn at hw
  refine lv_iload_n hx hb dX1_isIn_0 rfl (lv_at hl 0 rfl) ?_
  refine lv_iload_n hx hb dX1_isIn_1 rfl (lv_at hl 1 rfl) ?_
  refine lv_icmp_lt (tgt := 14) hx hb dX1_isIn_2 (by decide) (fun hc_1 => ?_) (fun hc_1 => ?_)
  · have hw := hw.1 hc_1
    refine lv_iconst (v := 0) hx hb dX1_isIn_14 (by decide) ?_
    exact ga_sret hx hb hr hlk rfl hw dX1_isIn_15
  · have hw := hw.2 hc_1
    refine lv_iload_n hx hb dX1_isIn_5 rfl (lv_at hl 0 rfl) ?_
    refine lv_iload_n hx hb dX1_isIn_6 rfl (lv_at hl 2 rfl) ?_
    refine lv_icmp_gt (tgt := 14) hx hb dX1_isIn_7 (by decide) (fun hc_2 => ?_) (fun hc_2 => ?_)
    · have hw := hw.1 hc_2
      refine lv_iconst (v := 0) hx hb dX1_isIn_14 (by decide) ?_
      exact ga_sret hx hb hr hlk rfl hw dX1_isIn_15
    · have hw := hw.2 hc_2
      refine lv_iconst (v := 1) hx hb dX1_isIn_10 (by decide) ?_
      refine lv_goto (tgt := 15) hx hb dX1_isIn_11 (by decide) ?_
      exact ga_sret hx hb hr hlk rfl hw dX1_isIn_15
theorem hdG_X1_isIn : yX1_isIn.cls ≠ "java/lang/invoke/MethodHandle" ∧ yX1_isIn.cls ≠ "java/lang/invoke/VarHandle" ∧ (parseMethodDescriptor yX1_isIn.desc).map (fun d => d.parameters.length) = some 3 := by decide +kernel
def gw_X1_checkArgument (K : ga_K) (p0 : Int32) (h : ga_H) (mc ms : Nat) (post : ga_H → Prop) (xp : String → Nat → ga_H → Prop) : Prop :=
  (¬ p0 = (0 : Int32) → (post h)) ∧ (p0 = (0 : Int32) → (1 ≤ mc ∧ 6 ≤ ms ∧ ∀ q_2 : Nat, xp "java/lang/IllegalArgumentException" q_2 h))
set_option maxHeartbeats 4000000 in
theorem gm_X1_checkArgument (l : Launch) (hst : l.stackTraces = false) (g : ga_G) (p0 : Int32) (h : ga_H) (mc ms : Nat) (post : ga_H → Prop) (xp : String → Nat → ga_H → Prop) (hw : gw_X1_checkArgument g.2.2 p0 h mc ms post xp) : vx_Met l yX1_checkArgument (ws_ yX1_checkArgument cX1_checkArgument 1 none) ({ frames := 8, cells := mc, slots := ms, locals := 140 } : Room) (va_Pc [.int p0] (ga_B g h)) (va_Qv post (ga_E g) (ga_A g)) (ga_X g xp) mc ms (ga_A g) := by
  refine ga_metx (own := "PaperStore") (nm := "checkArgument") (by decide) rfl rfl (by exact Nat.le_of_ble_eq_true rfl) (fun p e s m below meth c ls hC htab hI hl => ?_)
  have hl : lv_has ls 1 [(0, .int p0)] := hl
  generalize ([.int p0] : List Value).toArray = args at hC ⊢
  obtain ⟨hx, hb, hml, hown, hts, hr, hlk, hnm⟩ := hC
  unfold gw_X1_checkArgument at hw
  obtain ⟨H, eH⟩ : ∃ z, z = s.heap := ⟨_, rfl⟩
  obtain ⟨locs, elo⟩ : ∃ z : List Loc, z = [] := ⟨_, rfl⟩
  rw [← eH, ← elo] at hI ⊢
  obtain ⟨cells, slots, hbc, hbs, e0, e1⟩ : ∃ a b : Nat, a + mc ≤ mc ∧ b + ms ≤ ms ∧ a = 0 ∧ b = 0 := ⟨0, 0, by omega, by omega, rfl, rfl⟩
  show W p l e ({ frames := 8, cells := mc, slots := ms, locals := 140 } : Room) s m args below meth c H locs 0 0 (vx_MQ below (va_Qv post (ga_E g) (ga_A g)) (ga_X g xp) args s mc ms (ga_A g)) (F0 m 0 ls [])
  suffices hgoal : W p l e ({ frames := 8, cells := mc, slots := ms, locals := 140 } : Room) s m args below meth c H locs cells slots (vx_MQ below (va_Qv post (ga_E g) (ga_A g)) (ga_X g xp) args s mc ms (ga_A g)) (F0 m 0 ls []) by rw [e0, e1] at hgoal; exact hgoal
  refine lv_iload_n hx hb dX1_checkArgument_0 rfl (lv_at hl 0 rfl) ?_
  refine lv_if_ne (tgt := 12) hx hb dX1_checkArgument_1 (by decide) (fun hc_1 => ?_) (fun hc_1 => ?_)
  · have hw := hw.1 hc_1
    exact ga_vretx hx hb hr hlk hI hw (Nat.le_trans (Nat.le_add_right _ _) hbc) (Nat.le_trans (Nat.le_add_right _ _) hbs) dX1_checkArgument_12
  · have hw := hw.2 hc_1
    exact ga_thr_iae (ik := 7) (ic := 9) hx hb hst hts hown q2030 q2031 hI (hl.1.trans hml.symm) dX1_checkArgument_4 dX1_checkArgument_7 dX1_checkArgument_8 dX1_checkArgument_11 (by rw [htab]; intro z hz; cases hz) (Nat.le_of_ble_eq_true rfl) (Nat.le_trans (Nat.add_le_add_right (ga_sum [] (Nat.le_of_ble_eq_true rfl)) 81) (Nat.le_of_ble_eq_true rfl)) hlk hbc hbs hw.1 hw.2.1 hw.2.2
theorem hdG_X1_checkArgument : yX1_checkArgument.cls ≠ "java/lang/invoke/MethodHandle" ∧ yX1_checkArgument.cls ≠ "java/lang/invoke/VarHandle" ∧ (parseMethodDescriptor yX1_checkArgument.desc).map (fun d => d.parameters.length) = some 1 := by decide +kernel
def gw_J0_init (K : ga_K) (p0 : Nat) (h : ga_H) (post : ga_H → Prop) : Prop :=
  post h
set_option maxHeartbeats 4000000 in
theorem gm_J0_init (l : Launch) (g : ga_G) (p0 : Nat) (h : ga_H) (post : ga_H → Prop) (hw : gw_J0_init g.2.2 p0 h post) : Met l yJ0_init (ws_ yJ0_init cJ0_init 1 none) ({ frames := 8, cells := 0, slots := 0, locals := 140 } : Room) (va_Pc [.ref p0] (ga_B g h)) (va_Qv post (ga_E g) (ga_A g)) 0 0 (ga_A g) := by
  refine ga_met (own := "java/util/AbstractCollection") (nm := "<init>") (by decide) rfl rfl (by exact Nat.le_of_ble_eq_true rfl) (fun p e s m below meth c ls hC hI hl => ?_)
  have hl : lv_has ls 1 [(0, .ref p0)] := hl
  generalize ([.ref p0] : List Value).toArray = args at hC ⊢
  obtain ⟨hx, hb, hml, hown, hts, hr, hlk, hnm⟩ := hC
  unfold gw_J0_init at hw
  obtain ⟨H, eH⟩ : ∃ z, z = s.heap := ⟨_, rfl⟩
  obtain ⟨locs, elo⟩ : ∃ z : List Loc, z = [] := ⟨_, rfl⟩
  rw [← eH, ← elo] at hI ⊢
  obtain ⟨cells, slots, hbc, hbs, e0, e1⟩ : ∃ a b : Nat, a ≤ 0 ∧ b ≤ 0 ∧ a = 0 ∧ b = 0 := ⟨0, 0, by omega, by omega, rfl, rfl⟩
  show W p l e ({ frames := 8, cells := 0, slots := 0, locals := 140 } : Room) s m args below meth c H locs 0 0 (MQ below (va_Qv post (ga_E g) (ga_A g)) args s 0 0 (ga_A g)) (F0 m 0 ls [])
  suffices hgoal : W p l e ({ frames := 8, cells := 0, slots := 0, locals := 140 } : Room) s m args below meth c H locs cells slots (MQ below (va_Qv post (ga_E g) (ga_A g)) args s 0 0 (ga_A g)) (F0 m 0 ls []) by rw [e0, e1] at hgoal; exact hgoal
  refine lv_aload_n hx hb dJ0_init_0 rfl (lv_at hl 0 rfl) ?_
  refine W.objInit hx hb hown (hts _ q200) (hts _ q179) (hts _ q180) rfl (by rw [hml]; exact hl.1) rfl dJ0_init_1 (Nat.le_of_ble_eq_true rfl) (by have := ga_sum [] (Nat.le_of_ble_eq_true rfl); exact Nat.le_trans (Nat.add_le_add_right (Nat.add_le_add_left this 0) 12) (Nat.le_of_ble_eq_true rfl)) ?_
  refine W.eq (g2 := F0 m 4 ls []) rfl ?_
  exact ga_vret hx hb hr hlk hI hw hbc hbs dJ0_init_4
theorem hdG_J0_init : yJ0_init.cls ≠ "java/lang/invoke/MethodHandle" ∧ yJ0_init.cls ≠ "java/lang/invoke/VarHandle" ∧ (parseMethodDescriptor yJ0_init.desc).map (fun d => d.parameters.length) = some 0 := by decide +kernel
def gw_J1_init (K : ga_K) (p0 : Nat) (h : ga_H) (post : ga_H → Prop) : Prop :=
  gw_J0_init K p0 h (fun (h_1 : ga_H) => ∃ fs_2 : List Value, h_1 p0 = some (ga_O 13 fs_2) ∧ 0 < fs_2.length ∧ ∀ h_3 : ga_H, h_3 = ga_set h_1 p0 (ga_O 13 (fs_2.set 0 (.int (0 : Int32)))) → (post h_3))
set_option maxHeartbeats 4000000 in
theorem gm_J1_init (l : Launch) (g : ga_G) (p0 : Nat) (h : ga_H) (post : ga_H → Prop) (hw : gw_J1_init g.2.2 p0 h post) : Met l yJ1_init (ws_ yJ1_init cJ1_init 1 none) ({ frames := 9, cells := 0, slots := 0, locals := 160 } : Room) (va_Pc [.ref p0] (ga_B g h)) (va_Qv post (ga_E g) (ga_A g)) 0 0 (ga_A g) := by
  refine ga_met (own := "java/util/AbstractList") (nm := "<init>") (by decide) rfl rfl (by exact Nat.le_of_ble_eq_true rfl) (fun p e s m below meth c ls hC hI hl => ?_)
  have hl : lv_has ls 1 [(0, .ref p0)] := hl
  generalize ([.ref p0] : List Value).toArray = args at hC ⊢
  obtain ⟨hx, hb, hml, hown, hts, hr, hlk, hnm⟩ := hC
  unfold gw_J1_init at hw
  obtain ⟨H, eH⟩ : ∃ z, z = s.heap := ⟨_, rfl⟩
  obtain ⟨locs, elo⟩ : ∃ z : List Loc, z = [] := ⟨_, rfl⟩
  rw [← eH, ← elo] at hI ⊢
  obtain ⟨cells, slots, hbc, hbs, e0, e1⟩ : ∃ a b : Nat, a ≤ 0 ∧ b ≤ 0 ∧ a = 0 ∧ b = 0 := ⟨0, 0, by omega, by omega, rfl, rfl⟩
  show W p l e ({ frames := 9, cells := 0, slots := 0, locals := 160 } : Room) s m args below meth c H locs 0 0 (MQ below (va_Qv post (ga_E g) (ga_A g)) args s 0 0 (ga_A g)) (F0 m 0 ls [])
  suffices hgoal : W p l e ({ frames := 9, cells := 0, slots := 0, locals := 160 } : Room) s m args below meth c H locs cells slots (MQ below (va_Qv post (ga_E g) (ga_A g)) args s 0 0 (ga_A g)) (F0 m 0 ls []) by rw [e0, e1] at hgoal; exact hgoal
  refine lv_aload_n hx hb dJ1_init_0 rfl (lv_at hl 0 rfl) ?_
  refine ga_callv (va_runI (As := []) (rest := []) ⟨hx, hb, hml, hown, hts⟩ (gm_J0_init l g p0 h _ hw) (cwI 0 hts (lw_meth q199) rfl rfl rfl (hts _ q102) (hts _ q197) (hts _ q198) rfl hdG_J0_init ⟨Nat.le_of_ble_eq_true rfl, Nat.le_of_ble_eq_true rfl⟩) (ga_preS hI rfl) rfl rfl hl.1 rfl (ga_room (Nat.le_of_ble_eq_true rfl)) dJ1_init_1 ⟨hbc, hbs⟩) hI (bc := 0) (bs := 0) hbc hbs (Nat.zero_le _) (Nat.zero_le _) (fun h_1 H locs cells slots hw hI hbc hbs => ?_)
  refine lv_aload_n hx hb dJ1_init_4 rfl (lv_at hl 0 rfl) ?_
  refine lv_iconst (v := 0) hx hb dJ1_init_5 (by decide) ?_
  obtain ⟨fs_2, hq, hk, hw⟩ := hw
  refine ga_put (ci := 13) (T := TJ2) (v := .int (0 : Int32)) (ty := tyJ2 0) hx hb hts hown hI in_J2 rfl tyJ2 tyJ2_ok nmJ2 0 (by decide) q207 (fun _ z => z) rfl (tyJ2_ok 0 (by decide)) rfl rfl hq hk dJ1_init_6 (fun H locs hI => ?_)
  obtain ⟨h_3, eh_3⟩ : ∃ z, z = ga_set h_1 p0 (ga_O 13 (fs_2.set 0 (.int (0 : Int32)))) := ⟨_, rfl⟩
  rw [← eh_3] at hI
  have hw := hw h_3 eh_3
  exact ga_vret hx hb hr hlk hI hw hbc hbs dJ1_init_9
theorem hdG_J1_init : yJ1_init.cls ≠ "java/lang/invoke/MethodHandle" ∧ yJ1_init.cls ≠ "java/lang/invoke/VarHandle" ∧ (parseMethodDescriptor yJ1_init.desc).map (fun d => d.parameters.length) = some 0 := by decide +kernel
def gw_J2_init (K : ga_K) (p0 : Nat) (h : ga_H) (post : ga_H → Prop) : Prop :=
  gw_J1_init K p0 h (fun (h_1 : ga_H) => ∃ fs_2 : List Value, h_1 p0 = some (ga_O 13 fs_2) ∧ 1 < fs_2.length ∧ ∀ h_3 : ga_H, h_3 = ga_set h_1 p0 (ga_O 13 (fs_2.set 1 (va_rf (some (K.2 0))))) → (post h_3))
set_option maxHeartbeats 4000000 in
theorem gm_J2_init (l : Launch) (g : ga_G) (p0 : Nat) (h : ga_H) (post : ga_H → Prop) (hw : gw_J2_init g.2.2 p0 h post) : Met l yJ2_init (ws_ yJ2_init cJ2_init 1 none) ({ frames := 10, cells := 0, slots := 0, locals := 180 } : Room) (va_Pc [.ref p0] (ga_B g h)) (va_Qv post (ga_E g) (ga_A g)) 0 0 (ga_A g) := by
  refine ga_met (own := "java/util/ArrayList") (nm := "<init>") (by decide) rfl rfl (by exact Nat.le_of_ble_eq_true rfl) (fun p e s m below meth c ls hC hI hl => ?_)
  have hl : lv_has ls 1 [(0, .ref p0)] := hl
  generalize ([.ref p0] : List Value).toArray = args at hC ⊢
  obtain ⟨hx, hb, hml, hown, hts, hr, hlk, hnm⟩ := hC
  unfold gw_J2_init at hw
  obtain ⟨H, eH⟩ : ∃ z, z = s.heap := ⟨_, rfl⟩
  obtain ⟨locs, elo⟩ : ∃ z : List Loc, z = [] := ⟨_, rfl⟩
  rw [← eH, ← elo] at hI ⊢
  obtain ⟨cells, slots, hbc, hbs, e0, e1⟩ : ∃ a b : Nat, a ≤ 0 ∧ b ≤ 0 ∧ a = 0 ∧ b = 0 := ⟨0, 0, by omega, by omega, rfl, rfl⟩
  show W p l e ({ frames := 10, cells := 0, slots := 0, locals := 180 } : Room) s m args below meth c H locs 0 0 (MQ below (va_Qv post (ga_E g) (ga_A g)) args s 0 0 (ga_A g)) (F0 m 0 ls [])
  suffices hgoal : W p l e ({ frames := 10, cells := 0, slots := 0, locals := 180 } : Room) s m args below meth c H locs cells slots (MQ below (va_Qv post (ga_E g) (ga_A g)) args s 0 0 (ga_A g)) (F0 m 0 ls []) by rw [e0, e1] at hgoal; exact hgoal
  refine lv_aload_n hx hb dJ2_init_0 rfl (lv_at hl 0 rfl) ?_
  refine ga_callv (va_runI (As := []) (rest := []) ⟨hx, hb, hml, hown, hts⟩ (gm_J1_init l g p0 h _ hw) (cwI 0 hts (lw_meth q196) rfl rfl rfl (hts _ q103) (hts _ q194) (hts _ q195) rfl hdG_J1_init ⟨Nat.le_of_ble_eq_true rfl, Nat.le_of_ble_eq_true rfl⟩) (ga_preS hI rfl) rfl rfl hl.1 rfl (ga_room (Nat.le_of_ble_eq_true rfl)) dJ2_init_1 ⟨hbc, hbs⟩) hI (bc := 0) (bs := 0) hbc hbs (Nat.zero_le _) (Nat.zero_le _) (fun h_1 H locs cells slots hw hI hbc hbs => ?_)
  refine lv_aload_n hx hb dJ2_init_4 rfl (lv_at hl 0 rfl) ?_
  refine ga_sget (v := .ref (g.2.2.2 0)) hx hb hts hown hI 0 rfl q201 (fun _ z => z) dJ2_init_5 ?_
  obtain ⟨fs_2, hq, hk, hw⟩ := hw
  refine ga_put (ci := 13) (T := TJ2) (v := va_rf (some (g.2.2.2 0))) (ty := tyJ2 1) hx hb hts hown hI in_J2 rfl tyJ2 tyJ2_ok nmJ2 1 (by decide) q203 (fun _ z => z) rfl (tyJ2_ok 1 (by decide)) (ga_nq' _ _) (ga_fq' _ _) hq hk dJ2_init_8 (fun H locs hI => ?_)
  obtain ⟨h_3, eh_3⟩ : ∃ z, z = ga_set h_1 p0 (ga_O 13 (fs_2.set 1 (va_rf (some (g.2.2.2 0))))) := ⟨_, rfl⟩
  rw [← eh_3] at hI
  have hw := hw h_3 eh_3
  exact ga_vret hx hb hr hlk hI hw hbc hbs dJ2_init_11
theorem hdG_J2_init : yJ2_init.cls ≠ "java/lang/invoke/MethodHandle" ∧ yJ2_init.cls ≠ "java/lang/invoke/VarHandle" ∧ (parseMethodDescriptor yJ2_init.desc).map (fun d => d.parameters.length) = some 0 := by decide +kernel
def gw_J3_init (K : ga_K) (p0 : Nat) (h : ga_H) (post : ga_H → Prop) : Prop :=
  post h
set_option maxHeartbeats 4000000 in
theorem gm_J3_init (l : Launch) (g : ga_G) (p0 : Nat) (h : ga_H) (post : ga_H → Prop) (hw : gw_J3_init g.2.2 p0 h post) : Met l yJ3_init (ws_ yJ3_init cJ3_init 1 none) ({ frames := 8, cells := 0, slots := 0, locals := 140 } : Room) (va_Pc [.ref p0] (ga_B g h)) (va_Qv post (ga_E g) (ga_A g)) 0 0 (ga_A g) := by
  refine ga_met (own := "java/util/AbstractMap") (nm := "<init>") (by decide) rfl rfl (by exact Nat.le_of_ble_eq_true rfl) (fun p e s m below meth c ls hC hI hl => ?_)
  have hl : lv_has ls 1 [(0, .ref p0)] := hl
  generalize ([.ref p0] : List Value).toArray = args at hC ⊢
  obtain ⟨hx, hb, hml, hown, hts, hr, hlk, hnm⟩ := hC
  unfold gw_J3_init at hw
  obtain ⟨H, eH⟩ : ∃ z, z = s.heap := ⟨_, rfl⟩
  obtain ⟨locs, elo⟩ : ∃ z : List Loc, z = [] := ⟨_, rfl⟩
  rw [← eH, ← elo] at hI ⊢
  obtain ⟨cells, slots, hbc, hbs, e0, e1⟩ : ∃ a b : Nat, a ≤ 0 ∧ b ≤ 0 ∧ a = 0 ∧ b = 0 := ⟨0, 0, by omega, by omega, rfl, rfl⟩
  show W p l e ({ frames := 8, cells := 0, slots := 0, locals := 140 } : Room) s m args below meth c H locs 0 0 (MQ below (va_Qv post (ga_E g) (ga_A g)) args s 0 0 (ga_A g)) (F0 m 0 ls [])
  suffices hgoal : W p l e ({ frames := 8, cells := 0, slots := 0, locals := 140 } : Room) s m args below meth c H locs cells slots (MQ below (va_Qv post (ga_E g) (ga_A g)) args s 0 0 (ga_A g)) (F0 m 0 ls []) by rw [e0, e1] at hgoal; exact hgoal
  refine lv_aload_n hx hb dJ3_init_0 rfl (lv_at hl 0 rfl) ?_
  refine W.objInit hx hb hown (hts _ q226) (hts _ q179) (hts _ q180) rfl (by rw [hml]; exact hl.1) rfl dJ3_init_1 (Nat.le_of_ble_eq_true rfl) (by have := ga_sum [] (Nat.le_of_ble_eq_true rfl); exact Nat.le_trans (Nat.add_le_add_right (Nat.add_le_add_left this 0) 12) (Nat.le_of_ble_eq_true rfl)) ?_
  refine W.eq (g2 := F0 m 4 ls []) rfl ?_
  exact ga_vret hx hb hr hlk hI hw hbc hbs dJ3_init_4
theorem hdG_J3_init : yJ3_init.cls ≠ "java/lang/invoke/MethodHandle" ∧ yJ3_init.cls ≠ "java/lang/invoke/VarHandle" ∧ (parseMethodDescriptor yJ3_init.desc).map (fun d => d.parameters.length) = some 0 := by decide +kernel
def gw_J4_init (K : ga_K) (p0 : Nat) (h : ga_H) (post : ga_H → Prop) : Prop :=
  gw_J3_init K p0 h (fun (h_1 : ga_H) => ∃ fs_2 : List Value, h_1 p0 = some (ga_O 15 fs_2) ∧ 7 < fs_2.length ∧ ∀ h_3 : ga_H, h_3 = ga_set h_1 p0 (ga_O 15 (fs_2.set 7 (.float (1061158912 : UInt32)))) → (post h_3))
set_option maxHeartbeats 4000000 in
theorem gm_J4_init (l : Launch) (g : ga_G) (p0 : Nat) (h : ga_H) (post : ga_H → Prop) (hw : gw_J4_init g.2.2 p0 h post) : Met l yJ4_init (ws_ yJ4_init cJ4_init 1 none) ({ frames := 9, cells := 0, slots := 0, locals := 160 } : Room) (va_Pc [.ref p0] (ga_B g h)) (va_Qv post (ga_E g) (ga_A g)) 0 0 (ga_A g) := by
  refine ga_met (own := "java/util/HashMap") (nm := "<init>") (by decide) rfl rfl (by exact Nat.le_of_ble_eq_true rfl) (fun p e s m below meth c ls hC hI hl => ?_)
  have hl : lv_has ls 1 [(0, .ref p0)] := hl
  generalize ([.ref p0] : List Value).toArray = args at hC ⊢
  obtain ⟨hx, hb, hml, hown, hts, hr, hlk, hnm⟩ := hC
  unfold gw_J4_init at hw
  obtain ⟨H, eH⟩ : ∃ z, z = s.heap := ⟨_, rfl⟩
  obtain ⟨locs, elo⟩ : ∃ z : List Loc, z = [] := ⟨_, rfl⟩
  rw [← eH, ← elo] at hI ⊢
  obtain ⟨cells, slots, hbc, hbs, e0, e1⟩ : ∃ a b : Nat, a ≤ 0 ∧ b ≤ 0 ∧ a = 0 ∧ b = 0 := ⟨0, 0, by omega, by omega, rfl, rfl⟩
  show W p l e ({ frames := 9, cells := 0, slots := 0, locals := 160 } : Room) s m args below meth c H locs 0 0 (MQ below (va_Qv post (ga_E g) (ga_A g)) args s 0 0 (ga_A g)) (F0 m 0 ls [])
  suffices hgoal : W p l e ({ frames := 9, cells := 0, slots := 0, locals := 160 } : Room) s m args below meth c H locs cells slots (MQ below (va_Qv post (ga_E g) (ga_A g)) args s 0 0 (ga_A g)) (F0 m 0 ls []) by rw [e0, e1] at hgoal; exact hgoal
  refine lv_aload_n hx hb dJ4_init_0 rfl (lv_at hl 0 rfl) ?_
  refine ga_callv (va_runI (As := []) (rest := []) ⟨hx, hb, hml, hown, hts⟩ (gm_J3_init l g p0 h _ hw) (cwI 0 hts (lw_meth q225) rfl rfl rfl (hts _ q105) (hts _ q223) (hts _ q224) rfl hdG_J3_init ⟨Nat.le_of_ble_eq_true rfl, Nat.le_of_ble_eq_true rfl⟩) (ga_preS hI rfl) rfl rfl hl.1 rfl (ga_room (Nat.le_of_ble_eq_true rfl)) dJ4_init_1 ⟨hbc, hbs⟩) hI (bc := 0) (bs := 0) hbc hbs (Nat.zero_le _) (Nat.zero_le _) (fun h_1 H locs cells slots hw hI hbc hbs => ?_)
  refine lv_aload_n hx hb dJ4_init_4 rfl (lv_at hl 0 rfl) ?_
  refine lv_ldcf (v := 1061158912) hx hb hown (hts _ q227) dJ4_init_5 ?_
  obtain ⟨fs_2, hq, hk, hw⟩ := hw
  refine ga_putF (ci := 15) (T := TJ4) (v := .float (1061158912 : UInt32)) (ty := tyJ4 7) hx hb hts hown hI in_J4 rfl tyJ4 tyJ4_ok nmJ4 7 (by decide) q238 (fun _ z => z) rfl hnm rfl (tyJ4_ok 7 (by decide)) rfl rfl hq hk dJ4_init_7 (fun H locs hI => ?_)
  obtain ⟨h_3, eh_3⟩ : ∃ z, z = ga_set h_1 p0 (ga_O 15 (fs_2.set 7 (.float (1061158912 : UInt32)))) := ⟨_, rfl⟩
  rw [← eh_3] at hI
  have hw := hw h_3 eh_3
  exact ga_vret hx hb hr hlk hI hw hbc hbs dJ4_init_10
theorem hdG_J4_init : yJ4_init.cls ≠ "java/lang/invoke/MethodHandle" ∧ yJ4_init.cls ≠ "java/lang/invoke/VarHandle" ∧ (parseMethodDescriptor yJ4_init.desc).map (fun d => d.parameters.length) = some 0 := by decide +kernel
def gw_X4_init (K : ga_K) (p0 : Nat) (h : ga_H) (mc ms : Nat) (post : ga_H → Prop) : Prop :=
  1 ≤ mc ∧ 3 ≤ ms ∧ ∀ q_1 : Nat, h q_1 = none → ∀ h_2 : ga_H, h_2 = ga_set h q_1 (ga_O 13 [.int 0, va_rf none, .int 0]) → (gw_J2_init K q_1 h_2 (fun (h_3 : ga_H) => ∃ fs_4 : List Value, h_3 p0 = some (ga_O 3 fs_4) ∧ 0 < fs_4.length ∧ ∀ h_5 : ga_H, h_5 = ga_set h_3 p0 (ga_O 3 (fs_4.set 0 (va_rf (some q_1)))) → (post h_5)))
set_option maxHeartbeats 4000000 in
theorem gm_X4_init (l : Launch) (g : ga_G) (p0 : Nat) (h : ga_H) (mc ms : Nat) (post : ga_H → Prop) (hw : gw_X4_init g.2.2 p0 h mc ms post) : Met l yX4_init (ws_ yX4_init cX4_init 1 none) ({ frames := 11, cells := mc, slots := ms, locals := 200 } : Room) (va_Pc [.ref p0] (ga_B g h)) (va_Qv post (ga_E g) (ga_A g)) mc ms (ga_A g) := by
  refine ga_met (own := "PaperStore$Shelf") (nm := "<init>") (by decide) rfl rfl (by exact Nat.le_of_ble_eq_true rfl) (fun p e s m below meth c ls hC hI hl => ?_)
  have hl : lv_has ls 1 [(0, .ref p0)] := hl
  generalize ([.ref p0] : List Value).toArray = args at hC ⊢
  obtain ⟨hx, hb, hml, hown, hts, hr, hlk, hnm⟩ := hC
  unfold gw_X4_init at hw
  obtain ⟨H, eH⟩ : ∃ z, z = s.heap := ⟨_, rfl⟩
  obtain ⟨locs, elo⟩ : ∃ z : List Loc, z = [] := ⟨_, rfl⟩
  rw [← eH, ← elo] at hI ⊢
  obtain ⟨cells, slots, hbc, hbs, e0, e1⟩ : ∃ a b : Nat, a + mc ≤ mc ∧ b + ms ≤ ms ∧ a = 0 ∧ b = 0 := ⟨0, 0, by omega, by omega, rfl, rfl⟩
  show W p l e ({ frames := 11, cells := mc, slots := ms, locals := 200 } : Room) s m args below meth c H locs 0 0 (MQ below (va_Qv post (ga_E g) (ga_A g)) args s mc ms (ga_A g)) (F0 m 0 ls [])
  suffices hgoal : W p l e ({ frames := 11, cells := mc, slots := ms, locals := 200 } : Room) s m args below meth c H locs cells slots (MQ below (va_Qv post (ga_E g) (ga_A g)) args s mc ms (ga_A g)) (F0 m 0 ls []) by rw [e0, e1] at hgoal; exact hgoal
  refine lv_aload_n hx hb dX4_init_0 rfl (lv_at hl 0 rfl) ?_
  refine W.objInit hx hb hown (hts _ q269) (hts _ q179) (hts _ q180) rfl (by rw [hml]; exact hl.1) rfl dX4_init_1 (Nat.le_of_ble_eq_true rfl) (by have := ga_sum [] (Nat.le_of_ble_eq_true rfl); exact Nat.le_trans (Nat.add_le_add_right (Nat.add_le_add_left this 0) 12) (Nat.le_of_ble_eq_true rfl)) ?_
  refine W.eq (g2 := F0 m 4 ls []) rfl ?_
  refine lv_aload_n hx hb dX4_init_4 rfl (lv_at hl 0 rfl) ?_
  refine ga_new (ci := 13) (T := TJ2) hx hb hts hown hI in_J2 rfl tyJ2 tyJ2_ok q270 q190 q104 [.int 0, va_rf none, .int 0] ga_df_J2 hbc hbs hw.1 hw.2.1 dX4_init_5 (fun q_1 H cells slots hn_q_1 hI hbc hbs => ?_)
  obtain ⟨h_2, eh_2⟩ : ∃ z, z = ga_set h q_1 (ga_O 13 [.int 0, va_rf none, .int 0]) := ⟨_, rfl⟩
  rw [← eh_2] at hI
  have hw := hw.2.2 q_1 hn_q_1 h_2 eh_2
  refine lv_dup hx hb dX4_init_8 rfl ?_
  refine ga_callv (va_runI (As := []) (rest := [.ref q_1, .ref p0]) ⟨hx, hb, hml, hown, hts⟩ (gm_J2_init l g q_1 h_2 _ hw) (cwI 0 hts (lw_meth q193) rfl rfl rfl (hts _ q104) (hts _ q271) (hts _ q192) rfl hdG_J2_init ⟨Nat.le_of_ble_eq_true rfl, Nat.le_of_ble_eq_true rfl⟩) (ga_preS hI rfl) rfl rfl hl.1 rfl (ga_room (Nat.le_of_ble_eq_true rfl)) dX4_init_9 ⟨Nat.le_trans (Nat.add_le_add_left (Nat.zero_le _) _) hbc, Nat.le_trans (Nat.add_le_add_left (Nat.zero_le _) _) hbs⟩) hI hbc hbs (Nat.zero_le _) (Nat.zero_le _) (fun h_3 H locs cells slots hw hI hbc hbs => ?_)
  obtain ⟨fs_4, hq, hk, hw⟩ := hw
  refine ga_putF (ci := 3) (T := TX4) (v := va_rf (some q_1)) (ty := tyX4 0) hx hb hts hown hI in_X4 rfl tyX4 tyX4_ok nmX4 0 (by decide) q272 (fun _ z => z) rfl hnm rfl (tyX4_ok 0 (by decide)) (ga_nq _ _) (ga_fq _ _) hq hk dX4_init_12 (fun H locs hI => ?_)
  obtain ⟨h_5, eh_5⟩ : ∃ z, z = ga_set h_3 p0 (ga_O 3 (fs_4.set 0 (va_rf (some q_1)))) := ⟨_, rfl⟩
  rw [← eh_5] at hI
  have hw := hw h_5 eh_5
  exact ga_vret hx hb hr hlk hI hw (Nat.le_trans (Nat.le_add_right _ _) hbc) (Nat.le_trans (Nat.le_add_right _ _) hbs) dX4_init_15
theorem hdG_X4_init : yX4_init.cls ≠ "java/lang/invoke/MethodHandle" ∧ yX4_init.cls ≠ "java/lang/invoke/VarHandle" ∧ (parseMethodDescriptor yX4_init.desc).map (fun d => d.parameters.length) = some 0 := by decide +kernel
def gw_X3_init (K : ga_K) (p0 : Nat) (h : ga_H) (mc ms : Nat) (post : ga_H → Prop) : Prop :=
  1 ≤ mc ∧ 6 ≤ ms ∧ ∀ q_1 : Nat, h q_1 = none → ∀ h_2 : ga_H, h_2 = ga_set h q_1 (ga_Aq 7 6 (fun _ => none)) → (∃ fs_3 : List Value, h_2 p0 = some (ga_O 2 fs_3) ∧ 0 < fs_3.length ∧ ∀ h_4 : ga_H, h_4 = ga_set h_2 p0 (ga_O 2 (fs_3.set 0 (va_rf (some q_1)))) → (∃ fs_5 : List Value, h_4 p0 = some (ga_O 2 fs_5) ∧ 1 < fs_5.length ∧ ∀ h_6 : ga_H, h_6 = ga_set h_4 p0 (ga_O 2 (fs_5.set 1 (.int (4 : Int32)))) → (∃ (In_7 : Int32 → ga_H → Nat → Nat → Prop) (mu_7 : Int32 → ga_H → Nat → Nat → Nat), In_7 (0 : Int32) h_6 (mc - 1) (ms - 6) ∧ ∀ (x1_7 : Int32) (h_7 : ga_H) (bc_7 : Nat) (bs_7 : Nat), In_7 x1_7 h_7 bc_7 bs_7 → (((6 : Int32) ≤ x1_7 → (post h_7)) ∧ (¬ (6 : Int32) ≤ x1_7 → (∃ (fs_9 : List Value) (v_10 : Option Nat), h_7 p0 = some (ga_O 2 fs_9) ∧ fs_9[0]? = some (va_rf v_10) ∧ (1 ≤ bc_7 ∧ 1 ≤ bs_7 ∧ ∀ q_11 : Nat, h_7 q_11 = none → ∀ h_12 : ga_H, h_12 = ga_set h_7 q_11 (ga_O 3 [va_rf none]) → (∃ kc_13 ks_14 : Nat, kc_13 ≤ (bc_7 - 1) ∧ ks_14 ≤ (bs_7 - 1) ∧ gw_X4_init K q_11 h_12 kc_13 ks_14 (fun (h_15 : ga_H) => ∃ a_16 : Nat, v_10 = some a_16 ∧ ∃ (n_17 : Nat) (f_18 : Nat → Option Nat), h_15 a_16 = some (ga_Aq 7 n_17 f_18) ∧ vp_in x1_7 n_17 ∧ ga_ok K h_15 "PaperStore$Shelf" (some q_11) ∧ ∀ h_19 : ga_H, h_19 = ga_set h_15 a_16 (ga_Aq 7 n_17 (va_up f_18 x1_7.toNatClampNeg (some q_11))) → (In_7 (x1_7 + (1 : Int32)) h_19 ((bc_7 - 1) - kc_13) ((bs_7 - 1) - ks_14) ∧ mu_7 (x1_7 + (1 : Int32)) h_19 ((bc_7 - 1) - kc_13) ((bs_7 - 1) - ks_14) < mu_7 x1_7 h_7 bc_7 bs_7))))))))))
set_option maxHeartbeats 4000000 in
theorem gm_X3_init (l : Launch) (g : ga_G) (p0 : Nat) (h : ga_H) (mc ms : Nat) (post : ga_H → Prop) (hw : gw_X3_init g.2.2 p0 h mc ms post) : Met l yX3_init (ws_ yX3_init cX3_init 2 none) ({ frames := 12, cells := mc, slots := ms, locals := 220 } : Room) (va_Pc [.ref p0] (ga_B g h)) (va_Qv post (ga_E g) (ga_A g)) mc ms (ga_A g) := by
  refine ga_met (own := "PaperStore$Aisle") (nm := "<init>") (by decide) rfl rfl (by exact Nat.le_of_ble_eq_true rfl) (fun p e s m below meth c ls hC hI hl => ?_)
  have hl : lv_has ls 2 [(0, .ref p0)] := hl
  generalize ([.ref p0] : List Value).toArray = args at hC ⊢
  obtain ⟨hx, hb, hml, hown, hts, hr, hlk, hnm⟩ := hC
  unfold gw_X3_init at hw
  obtain ⟨H, eH⟩ : ∃ z, z = s.heap := ⟨_, rfl⟩
  obtain ⟨locs, elo⟩ : ∃ z : List Loc, z = [] := ⟨_, rfl⟩
  rw [← eH, ← elo] at hI ⊢
  obtain ⟨cells, slots, hbc, hbs, e0, e1⟩ : ∃ a b : Nat, a + mc ≤ mc ∧ b + ms ≤ ms ∧ a = 0 ∧ b = 0 := ⟨0, 0, by omega, by omega, rfl, rfl⟩
  show W p l e ({ frames := 12, cells := mc, slots := ms, locals := 220 } : Room) s m args below meth c H locs 0 0 (MQ below (va_Qv post (ga_E g) (ga_A g)) args s mc ms (ga_A g)) (F0 m 0 ls [])
  suffices hgoal : W p l e ({ frames := 12, cells := mc, slots := ms, locals := 220 } : Room) s m args below meth c H locs cells slots (MQ below (va_Qv post (ga_E g) (ga_A g)) args s mc ms (ga_A g)) (F0 m 0 ls []) by rw [e0, e1] at hgoal; exact hgoal
  refine lv_aload_n hx hb dX3_init_0 rfl (lv_at hl 0 rfl) ?_
  refine W.objInit hx hb hown (hts _ q262) (hts _ q179) (hts _ q180) rfl (by rw [hml]; exact hl.1) rfl dX3_init_1 (Nat.le_of_ble_eq_true rfl) (by have := ga_sum [] (Nat.le_of_ble_eq_true rfl); exact Nat.le_trans (Nat.add_le_add_right (Nat.add_le_add_left this 0) 12) (Nat.le_of_ble_eq_true rfl)) ?_
  refine W.eq (g2 := F0 m 4 ls []) rfl ?_
  refine lv_aload_n hx hb dX3_init_4 rfl (lv_at hl 0 rfl) ?_
  refine lv_bipush (v := 6) hx hb dX3_init_5 (by decide) ?_
  refine ga_naq hx hb hts hown hI (t := 7) rfl q263 q264 hbc hbs (by decide) (N := 6) rfl (Nat.le_of_ble_eq_true rfl) hw.1 hw.2.1 dX3_init_7 (fun q_1 H cells slots hn_q_1 hI hbc hbs => ?_)
  obtain ⟨h_2, eh_2⟩ : ∃ z, z = ga_set h q_1 (ga_Aq 7 6 (fun _ => none)) := ⟨_, rfl⟩
  rw [← eh_2] at hI
  have hw := hw.2.2 q_1 hn_q_1 h_2 eh_2
  obtain ⟨fs_3, hq, hk, hw⟩ := hw
  refine ga_putF (ci := 2) (T := TX3) (v := va_rf (some q_1)) (ty := tyX3 0) hx hb hts hown hI in_X3 rfl tyX3 tyX3_ok nmX3 0 (by decide) q279 (fun _ z => z) rfl hnm rfl (tyX3_ok 0 (by decide)) (ga_nq' _ _) (ga_fq' _ _) hq hk dX3_init_10 (fun H locs hI => ?_)
  obtain ⟨h_4, eh_4⟩ : ∃ z, z = ga_set h_2 p0 (ga_O 2 (fs_3.set 0 (va_rf (some q_1)))) := ⟨_, rfl⟩
  rw [← eh_4] at hI
  have hw := hw h_4 eh_4
  refine lv_aload_n hx hb dX3_init_13 rfl (lv_at hl 0 rfl) ?_
  refine lv_iconst (v := 4) hx hb dX3_init_14 (by decide) ?_
  obtain ⟨fs_5, hq, hk, hw⟩ := hw
  refine ga_put (ci := 2) (T := TX3) (v := .int (4 : Int32)) (ty := tyX3 1) hx hb hts hown hI in_X3 rfl tyX3 tyX3_ok nmX3 1 (by decide) q282 (fun _ z => z) rfl (tyX3_ok 1 (by decide)) rfl rfl hq hk dX3_init_15 (fun H locs hI => ?_)
  obtain ⟨h_6, eh_6⟩ : ∃ z, z = ga_set h_4 p0 (ga_O 2 (fs_5.set 1 (.int (4 : Int32)))) := ⟨_, rfl⟩
  rw [← eh_6] at hI
  have hw := hw h_6 eh_6
  refine lv_iconst (v := 0) hx hb dX3_init_18 (by decide) ?_
  refine lv_istore_n (i := 1) (lv' := [(1, .int (0 : Int32)), (0, .ref p0)]) hx hb dX3_init_19 rfl hl (by decide) rfl (fun ls hl => ?_)
  obtain ⟨In_7, mu_7, h0_7, hw⟩ := hw
  have hL_7 : ∀ (n : Nat) (x1_7 : Int32) (h_7 : ga_H) (bc_7 : Nat) (bs_7 : Nat) (H : Heap) (locs : List Loc) (cells slots : Nat) (ls : Array Slot), mu_7 x1_7 h_7 bc_7 bs_7 < n → In_7 x1_7 h_7 bc_7 bs_7 → ga_I g h_7 s H locs → cells + bc_7 ≤ mc → slots + bs_7 ≤ ms → lv_has ls 2 [(0, .ref p0), (1, .int x1_7)] → W p l e ({ frames := 12, cells := mc, slots := ms, locals := 220 } : Room) s m args below meth c H locs cells slots (MQ below (va_Qv post (ga_E g) (ga_A g)) args s mc ms (ga_A g)) (F0 m 20 ls []) := by
    intro n
    induction n with
    | zero => intro x1_7 h_7 bc_7 bs_7 H locs cells slots ls hn _ _ _ _ _; exact absurd hn (Nat.not_lt_zero _)
    | succ n ih_7 =>
      intro x1_7 h_7 bc_7 bs_7 H locs cells slots ls hn_7 hi_7 hI hbc hbs hl
      have hw := hw x1_7 h_7 bc_7 bs_7 hi_7
      refine lv_iload_n hx hb dX3_init_20 rfl (lv_at hl 1 rfl) ?_
      refine lv_bipush (v := 6) hx hb dX3_init_21 (by decide) ?_
      refine lv_icmp_ge (tgt := 45) hx hb dX3_init_23 (by decide) (fun hc_8 => ?_) (fun hc_8 => ?_)
      · have hw := hw.1 hc_8
        exact ga_vret hx hb hr hlk hI hw (Nat.le_trans (Nat.le_add_right _ _) hbc) (Nat.le_trans (Nat.le_add_right _ _) hbs) dX3_init_45
      · have hw := hw.2 hc_8
        refine lv_aload_n hx hb dX3_init_26 rfl (lv_at hl 0 rfl) ?_
        obtain ⟨fs_9, v_10, hq, hv, hw⟩ := hw
        refine ga_get (ci := 2) (T := TX3) (v := va_rf v_10) hx hb hts hown hI in_X3 rfl 0 (by decide) q279 (fun _ z => z) (ga_at.h hq) hv dX3_init_27 ?_
        refine lv_iload_n hx hb dX3_init_30 rfl (lv_at hl 1 rfl) ?_
        refine ga_new (ci := 3) (T := TX4) hx hb hts hown hI in_X4 rfl tyX4 tyX4_ok q263 q265 q108 [va_rf none] ga_df_X4 hbc hbs hw.1 hw.2.1 dX3_init_31 (fun q_11 H cells slots hn_q_11 hI hbc hbs => ?_)
        obtain ⟨h_12, eh_12⟩ : ∃ z, z = ga_set h_7 q_11 (ga_O 3 [va_rf none]) := ⟨_, rfl⟩
        rw [← eh_12] at hI
        have hw := hw.2.2 q_11 hn_q_11 h_12 eh_12
        refine lv_dup hx hb dX3_init_34 rfl ?_
        obtain ⟨kc_13, ks_14, hk1, hk2, hw⟩ := hw
        refine ga_callv (va_runIN (As := []) (rest := [.ref q_11, .int x1_7, va_rf v_10]) ⟨hx, hb, hml, hown, hts⟩ (gm_X4_init l g q_11 h_12 kc_13 ks_14 _ hw) ⟨va_cnB 0 hts (lw_meth q268) rfl rfl rfl (hI.2.1.1.2.1 _ (ga_nin q266 rfl)) (hts _ q108) hdG_X4_init ⟨Nat.le_of_ble_eq_true rfl, Nat.le_of_ble_eq_true rfl⟩, rfl, hts _ q267⟩ (ga_preS hI rfl) rfl rfl hl.1 rfl (ga_room (Nat.le_of_ble_eq_true rfl)) dX3_init_35 ⟨Nat.le_trans (Nat.add_le_add_left hk1 _) hbc, Nat.le_trans (Nat.add_le_add_left hk2 _) hbs⟩) hI hbc hbs hk1 hk2 (fun h_15 H locs cells slots hw hI hbc hbs => ?_)
        obtain ⟨a_16, ea_16, hw⟩ := hw
        rewrite [ea_16]
        obtain ⟨n_17, f_18, hq, hi, hok, hw⟩ := hw
        refine ga_sto (x := (some q_11)) hx hb hI hq rfl hok hi dX3_init_38 (fun H locs hI => ?_)
        obtain ⟨h_19, eh_19⟩ : ∃ z, z = ga_set h_15 a_16 (ga_Aq 7 n_17 (va_up f_18 x1_7.toNatClampNeg (some q_11))) := ⟨_, rfl⟩
        rw [← eh_19] at hI
        have hw := hw h_19 eh_19
        refine lv_iinc (v := x1_7 + (1 : Int32)) (lv' := [(1, .int (x1_7 + (1 : Int32))), (0, .ref p0)]) hx hb dX3_init_39 hl (k := 1) rfl rfl (by decide) rfl (fun ls hl => ?_)
        refine lv_goto (tgt := 20) hx hb dX3_init_42 (by decide) ?_
        exact ih_7 _ _ _ _ H locs cells slots ls (Nat.lt_of_lt_of_le hw.2 (Nat.le_of_lt_succ hn_7)) hw.1 hI hbc hbs (lv_sub hl [1, 0] rfl)
  exact hL_7 _ _ _ _ _ H locs cells slots ls (Nat.lt_succ_self _) h0_7 hI hbc hbs (lv_sub hl [1, 0] rfl)
theorem hdG_X3_init : yX3_init.cls ≠ "java/lang/invoke/MethodHandle" ∧ yX3_init.cls ≠ "java/lang/invoke/VarHandle" ∧ (parseMethodDescriptor yX3_init.desc).map (fun d => d.parameters.length) = some 0 := by decide +kernel
def gw_X2_init (K : ga_K) (p0 : Nat) (h : ga_H) (mc ms : Nat) (post : ga_H → Prop) : Prop :=
  1 ≤ mc ∧ 5 ≤ ms ∧ ∀ q_1 : Nat, h q_1 = none → ∀ h_2 : ga_H, h_2 = ga_set h q_1 (ga_Aq 6 5 (fun _ => none)) → (∃ fs_3 : List Value, h_2 p0 = some (ga_O 1 fs_3) ∧ 0 < fs_3.length ∧ ∀ h_4 : ga_H, h_4 = ga_set h_2 p0 (ga_O 1 (fs_3.set 0 (va_rf (some q_1)))) → (1 ≤ (mc - 1) ∧ 3 ≤ (ms - 5) ∧ ∀ q_5 : Nat, h_4 q_5 = none → ∀ h_6 : ga_H, h_6 = ga_set h_4 q_5 (ga_O 13 [.int 0, va_rf none, .int 0]) → (gw_J2_init K q_5 h_6 (fun (h_7 : ga_H) => ∃ fs_8 : List Value, h_7 p0 = some (ga_O 1 fs_8) ∧ 1 < fs_8.length ∧ ∀ h_9 : ga_H, h_9 = ga_set h_7 p0 (ga_O 1 (fs_8.set 1 (va_rf (some q_5)))) → (1 ≤ ((mc - 1) - 1) ∧ 3 ≤ ((ms - 5) - 3) ∧ ∀ q_10 : Nat, h_9 q_10 = none → ∀ h_11 : ga_H, h_11 = ga_set h_9 q_10 (ga_O 13 [.int 0, va_rf none, .int 0]) → (gw_J2_init K q_10 h_11 (fun (h_12 : ga_H) => ∃ fs_13 : List Value, h_12 p0 = some (ga_O 1 fs_13) ∧ 2 < fs_13.length ∧ ∀ h_14 : ga_H, h_14 = ga_set h_12 p0 (ga_O 1 (fs_13.set 2 (va_rf (some q_10)))) → (1 ≤ (((mc - 1) - 1) - 1) ∧ 3 ≤ (((ms - 5) - 3) - 3) ∧ ∀ q_15 : Nat, h_14 q_15 = none → ∀ h_16 : ga_H, h_16 = ga_set h_14 q_15 (ga_O 13 [.int 0, va_rf none, .int 0]) → (gw_J2_init K q_15 h_16 (fun (h_17 : ga_H) => ∃ fs_18 : List Value, h_17 p0 = some (ga_O 1 fs_18) ∧ 3 < fs_18.length ∧ ∀ h_19 : ga_H, h_19 = ga_set h_17 p0 (ga_O 1 (fs_18.set 3 (va_rf (some q_15)))) → (1 ≤ ((((mc - 1) - 1) - 1) - 1) ∧ 3 ≤ ((((ms - 5) - 3) - 3) - 3) ∧ ∀ q_20 : Nat, h_19 q_20 = none → ∀ h_21 : ga_H, h_21 = ga_set h_19 q_20 (ga_O 13 [.int 0, va_rf none, .int 0]) → (gw_J2_init K q_20 h_21 (fun (h_22 : ga_H) => ∃ fs_23 : List Value, h_22 p0 = some (ga_O 1 fs_23) ∧ 4 < fs_23.length ∧ ∀ h_24 : ga_H, h_24 = ga_set h_22 p0 (ga_O 1 (fs_23.set 4 (va_rf (some q_20)))) → (1 ≤ (((((mc - 1) - 1) - 1) - 1) - 1) ∧ 8 ≤ (((((ms - 5) - 3) - 3) - 3) - 3) ∧ ∀ q_25 : Nat, h_24 q_25 = none → ∀ h_26 : ga_H, h_26 = ga_set h_24 q_25 (ga_O 15 [va_rf none, va_rf none, va_rf none, va_rf none, .int 0, .int 0, .int 0, .float 0]) → (gw_J4_init K q_25 h_26 (fun (h_27 : ga_H) => ∃ fs_28 : List Value, h_27 p0 = some (ga_O 1 fs_28) ∧ 5 < fs_28.length ∧ ∀ h_29 : ga_H, h_29 = ga_set h_27 p0 (ga_O 1 (fs_28.set 5 (va_rf (some q_25)))) → (∃ (In_30 : Int32 → ga_H → Nat → Nat → Prop) (mu_30 : Int32 → ga_H → Nat → Nat → Nat), In_30 (0 : Int32) h_29 ((((((mc - 1) - 1) - 1) - 1) - 1) - 1) ((((((ms - 5) - 3) - 3) - 3) - 3) - 8) ∧ ∀ (x1_30 : Int32) (h_30 : ga_H) (bc_30 : Nat) (bs_30 : Nat), In_30 x1_30 h_30 bc_30 bs_30 → (((5 : Int32) ≤ x1_30 → (post h_30)) ∧ (¬ (5 : Int32) ≤ x1_30 → (∃ (fs_32 : List Value) (v_33 : Option Nat), h_30 p0 = some (ga_O 1 fs_32) ∧ fs_32[0]? = some (va_rf v_33) ∧ (1 ≤ bc_30 ∧ 6 ≤ bs_30 ∧ ∀ q_34 : Nat, h_30 q_34 = none → ∀ h_35 : ga_H, h_35 = ga_set h_30 q_34 (ga_O 2 [va_rf none, .int 0, .int 0, .int 0, .int 0, .int 0]) → (∃ kc_36 ks_37 : Nat, kc_36 ≤ (bc_30 - 1) ∧ ks_37 ≤ (bs_30 - 6) ∧ gw_X3_init K q_34 h_35 kc_36 ks_37 (fun (h_38 : ga_H) => ∃ a_39 : Nat, v_33 = some a_39 ∧ ∃ (n_40 : Nat) (f_41 : Nat → Option Nat), h_38 a_39 = some (ga_Aq 6 n_40 f_41) ∧ vp_in x1_30 n_40 ∧ ga_ok K h_38 "PaperStore$Aisle" (some q_34) ∧ ∀ h_42 : ga_H, h_42 = ga_set h_38 a_39 (ga_Aq 6 n_40 (va_up f_41 x1_30.toNatClampNeg (some q_34))) → (In_30 (x1_30 + (1 : Int32)) h_42 ((bc_30 - 1) - kc_36) ((bs_30 - 6) - ks_37) ∧ mu_30 (x1_30 + (1 : Int32)) h_42 ((bc_30 - 1) - kc_36) ((bs_30 - 6) - ks_37) < mu_30 x1_30 h_30 bc_30 bs_30))))))))))))))))))))))))
set_option maxHeartbeats 4000000 in
theorem gm_X2_init (l : Launch) (g : ga_G) (p0 : Nat) (h : ga_H) (mc ms : Nat) (post : ga_H → Prop) (hw : gw_X2_init g.2.2 p0 h mc ms post) : Met l yX2_init (ws_ yX2_init cX2_init 2 none) ({ frames := 13, cells := mc, slots := ms, locals := 241 } : Room) (va_Pc [.ref p0] (ga_B g h)) (va_Qv post (ga_E g) (ga_A g)) mc ms (ga_A g) := by
  refine ga_met (own := "PaperStore$Store") (nm := "<init>") (by decide) rfl rfl (by exact Nat.le_of_ble_eq_true rfl) (fun p e s m below meth c ls hC hI hl => ?_)
  have hl : lv_has ls 2 [(0, .ref p0)] := hl
  generalize ([.ref p0] : List Value).toArray = args at hC ⊢
  obtain ⟨hx, hb, hml, hown, hts, hr, hlk, hnm⟩ := hC
  unfold gw_X2_init at hw
  obtain ⟨H, eH⟩ : ∃ z, z = s.heap := ⟨_, rfl⟩
  obtain ⟨locs, elo⟩ : ∃ z : List Loc, z = [] := ⟨_, rfl⟩
  rw [← eH, ← elo] at hI ⊢
  obtain ⟨cells, slots, hbc, hbs, e0, e1⟩ : ∃ a b : Nat, a + mc ≤ mc ∧ b + ms ≤ ms ∧ a = 0 ∧ b = 0 := ⟨0, 0, by omega, by omega, rfl, rfl⟩
  show W p l e ({ frames := 13, cells := mc, slots := ms, locals := 241 } : Room) s m args below meth c H locs 0 0 (MQ below (va_Qv post (ga_E g) (ga_A g)) args s mc ms (ga_A g)) (F0 m 0 ls [])
  suffices hgoal : W p l e ({ frames := 13, cells := mc, slots := ms, locals := 241 } : Room) s m args below meth c H locs cells slots (MQ below (va_Qv post (ga_E g) (ga_A g)) args s mc ms (ga_A g)) (F0 m 0 ls []) by rw [e0, e1] at hgoal; exact hgoal
  refine lv_aload_n hx hb dX2_init_0 rfl (lv_at hl 0 rfl) ?_
  refine W.objInit hx hb hown (hts _ q186) (hts _ q179) (hts _ q180) rfl (by rw [hml]; exact hl.1) rfl dX2_init_1 (Nat.le_of_ble_eq_true rfl) (by have := ga_sum [] (Nat.le_of_ble_eq_true rfl); exact Nat.le_trans (Nat.add_le_add_right (Nat.add_le_add_left this 0) 12) (Nat.le_of_ble_eq_true rfl)) ?_
  refine W.eq (g2 := F0 m 4 ls []) rfl ?_
  refine lv_aload_n hx hb dX2_init_4 rfl (lv_at hl 0 rfl) ?_
  refine lv_iconst (v := 5) hx hb dX2_init_5 (by decide) ?_
  refine ga_naq hx hb hts hown hI (t := 6) rfl q187 q188 hbc hbs (by decide) (N := 5) rfl (Nat.le_of_ble_eq_true rfl) hw.1 hw.2.1 dX2_init_6 (fun q_1 H cells slots hn_q_1 hI hbc hbs => ?_)
  obtain ⟨h_2, eh_2⟩ : ∃ z, z = ga_set h q_1 (ga_Aq 6 5 (fun _ => none)) := ⟨_, rfl⟩
  rw [← eh_2] at hI
  have hw := hw.2.2 q_1 hn_q_1 h_2 eh_2
  obtain ⟨fs_3, hq, hk, hw⟩ := hw
  refine ga_putF (ci := 1) (T := TX2) (v := va_rf (some q_1)) (ty := tyX2 0) hx hb hts hown hI in_X2 rfl tyX2 tyX2_ok nmX2 0 (by decide) q310 (fun _ z => z) rfl hnm rfl (tyX2_ok 0 (by decide)) (ga_nq' _ _) (ga_fq' _ _) hq hk dX2_init_9 (fun H locs hI => ?_)
  obtain ⟨h_4, eh_4⟩ : ∃ z, z = ga_set h_2 p0 (ga_O 1 (fs_3.set 0 (va_rf (some q_1)))) := ⟨_, rfl⟩
  rw [← eh_4] at hI
  have hw := hw h_4 eh_4
  refine lv_aload_n hx hb dX2_init_12 rfl (lv_at hl 0 rfl) ?_
  refine ga_new (ci := 13) (T := TJ2) hx hb hts hown hI in_J2 rfl tyJ2 tyJ2_ok q189 q190 q104 [.int 0, va_rf none, .int 0] ga_df_J2 hbc hbs hw.1 hw.2.1 dX2_init_13 (fun q_5 H cells slots hn_q_5 hI hbc hbs => ?_)
  obtain ⟨h_6, eh_6⟩ : ∃ z, z = ga_set h_4 q_5 (ga_O 13 [.int 0, va_rf none, .int 0]) := ⟨_, rfl⟩
  rw [← eh_6] at hI
  have hw := hw.2.2 q_5 hn_q_5 h_6 eh_6
  refine lv_dup hx hb dX2_init_16 rfl ?_
  refine ga_callv (va_runI (As := []) (rest := [.ref q_5, .ref p0]) ⟨hx, hb, hml, hown, hts⟩ (gm_J2_init l g q_5 h_6 _ hw) (cwI 0 hts (lw_meth q193) rfl rfl rfl (hts _ q104) (hts _ q191) (hts _ q192) rfl hdG_J2_init ⟨Nat.le_of_ble_eq_true rfl, Nat.le_of_ble_eq_true rfl⟩) (ga_preS hI rfl) rfl rfl hl.1 rfl (ga_room (Nat.le_of_ble_eq_true rfl)) dX2_init_17 ⟨Nat.le_trans (Nat.add_le_add_left (Nat.zero_le _) _) hbc, Nat.le_trans (Nat.add_le_add_left (Nat.zero_le _) _) hbs⟩) hI hbc hbs (Nat.zero_le _) (Nat.zero_le _) (fun h_7 H locs cells slots hw hI hbc hbs => ?_)
  obtain ⟨fs_8, hq, hk, hw⟩ := hw
  refine ga_putF (ci := 1) (T := TX2) (v := va_rf (some q_5)) (ty := tyX2 1) hx hb hts hown hI in_X2 rfl tyX2 tyX2_ok nmX2 1 (by decide) q312 (fun _ z => z) rfl hnm rfl (tyX2_ok 1 (by decide)) (ga_nq _ _) (ga_fq _ _) hq hk dX2_init_20 (fun H locs hI => ?_)
  obtain ⟨h_9, eh_9⟩ : ∃ z, z = ga_set h_7 p0 (ga_O 1 (fs_8.set 1 (va_rf (some q_5)))) := ⟨_, rfl⟩
  rw [← eh_9] at hI
  have hw := hw h_9 eh_9
  refine lv_aload_n hx hb dX2_init_23 rfl (lv_at hl 0 rfl) ?_
  refine ga_new (ci := 13) (T := TJ2) hx hb hts hown hI in_J2 rfl tyJ2 tyJ2_ok q189 q190 q104 [.int 0, va_rf none, .int 0] ga_df_J2 hbc hbs hw.1 hw.2.1 dX2_init_24 (fun q_10 H cells slots hn_q_10 hI hbc hbs => ?_)
  obtain ⟨h_11, eh_11⟩ : ∃ z, z = ga_set h_9 q_10 (ga_O 13 [.int 0, va_rf none, .int 0]) := ⟨_, rfl⟩
  rw [← eh_11] at hI
  have hw := hw.2.2 q_10 hn_q_10 h_11 eh_11
  refine lv_dup hx hb dX2_init_27 rfl ?_
  refine ga_callv (va_runI (As := []) (rest := [.ref q_10, .ref p0]) ⟨hx, hb, hml, hown, hts⟩ (gm_J2_init l g q_10 h_11 _ hw) (cwI 0 hts (lw_meth q193) rfl rfl rfl (hts _ q104) (hts _ q191) (hts _ q192) rfl hdG_J2_init ⟨Nat.le_of_ble_eq_true rfl, Nat.le_of_ble_eq_true rfl⟩) (ga_preS hI rfl) rfl rfl hl.1 rfl (ga_room (Nat.le_of_ble_eq_true rfl)) dX2_init_28 ⟨Nat.le_trans (Nat.add_le_add_left (Nat.zero_le _) _) hbc, Nat.le_trans (Nat.add_le_add_left (Nat.zero_le _) _) hbs⟩) hI hbc hbs (Nat.zero_le _) (Nat.zero_le _) (fun h_12 H locs cells slots hw hI hbc hbs => ?_)
  obtain ⟨fs_13, hq, hk, hw⟩ := hw
  refine ga_putF (ci := 1) (T := TX2) (v := va_rf (some q_10)) (ty := tyX2 2) hx hb hts hown hI in_X2 rfl tyX2 tyX2_ok nmX2 2 (by decide) q314 (fun _ z => z) rfl hnm rfl (tyX2_ok 2 (by decide)) (ga_nq _ _) (ga_fq _ _) hq hk dX2_init_31 (fun H locs hI => ?_)
  obtain ⟨h_14, eh_14⟩ : ∃ z, z = ga_set h_12 p0 (ga_O 1 (fs_13.set 2 (va_rf (some q_10)))) := ⟨_, rfl⟩
  rw [← eh_14] at hI
  have hw := hw h_14 eh_14
  refine lv_aload_n hx hb dX2_init_34 rfl (lv_at hl 0 rfl) ?_
  refine ga_new (ci := 13) (T := TJ2) hx hb hts hown hI in_J2 rfl tyJ2 tyJ2_ok q189 q190 q104 [.int 0, va_rf none, .int 0] ga_df_J2 hbc hbs hw.1 hw.2.1 dX2_init_35 (fun q_15 H cells slots hn_q_15 hI hbc hbs => ?_)
  obtain ⟨h_16, eh_16⟩ : ∃ z, z = ga_set h_14 q_15 (ga_O 13 [.int 0, va_rf none, .int 0]) := ⟨_, rfl⟩
  rw [← eh_16] at hI
  have hw := hw.2.2 q_15 hn_q_15 h_16 eh_16
  refine lv_dup hx hb dX2_init_38 rfl ?_
  refine ga_callv (va_runI (As := []) (rest := [.ref q_15, .ref p0]) ⟨hx, hb, hml, hown, hts⟩ (gm_J2_init l g q_15 h_16 _ hw) (cwI 0 hts (lw_meth q193) rfl rfl rfl (hts _ q104) (hts _ q191) (hts _ q192) rfl hdG_J2_init ⟨Nat.le_of_ble_eq_true rfl, Nat.le_of_ble_eq_true rfl⟩) (ga_preS hI rfl) rfl rfl hl.1 rfl (ga_room (Nat.le_of_ble_eq_true rfl)) dX2_init_39 ⟨Nat.le_trans (Nat.add_le_add_left (Nat.zero_le _) _) hbc, Nat.le_trans (Nat.add_le_add_left (Nat.zero_le _) _) hbs⟩) hI hbc hbs (Nat.zero_le _) (Nat.zero_le _) (fun h_17 H locs cells slots hw hI hbc hbs => ?_)
  obtain ⟨fs_18, hq, hk, hw⟩ := hw
  refine ga_putF (ci := 1) (T := TX2) (v := va_rf (some q_15)) (ty := tyX2 3) hx hb hts hown hI in_X2 rfl tyX2 tyX2_ok nmX2 3 (by decide) q316 (fun _ z => z) rfl hnm rfl (tyX2_ok 3 (by decide)) (ga_nq _ _) (ga_fq _ _) hq hk dX2_init_42 (fun H locs hI => ?_)
  obtain ⟨h_19, eh_19⟩ : ∃ z, z = ga_set h_17 p0 (ga_O 1 (fs_18.set 3 (va_rf (some q_15)))) := ⟨_, rfl⟩
  rw [← eh_19] at hI
  have hw := hw h_19 eh_19
  refine lv_aload_n hx hb dX2_init_45 rfl (lv_at hl 0 rfl) ?_
  refine ga_new (ci := 13) (T := TJ2) hx hb hts hown hI in_J2 rfl tyJ2 tyJ2_ok q189 q190 q104 [.int 0, va_rf none, .int 0] ga_df_J2 hbc hbs hw.1 hw.2.1 dX2_init_46 (fun q_20 H cells slots hn_q_20 hI hbc hbs => ?_)
  obtain ⟨h_21, eh_21⟩ : ∃ z, z = ga_set h_19 q_20 (ga_O 13 [.int 0, va_rf none, .int 0]) := ⟨_, rfl⟩
  rw [← eh_21] at hI
  have hw := hw.2.2 q_20 hn_q_20 h_21 eh_21
  refine lv_dup hx hb dX2_init_49 rfl ?_
  refine ga_callv (va_runI (As := []) (rest := [.ref q_20, .ref p0]) ⟨hx, hb, hml, hown, hts⟩ (gm_J2_init l g q_20 h_21 _ hw) (cwI 0 hts (lw_meth q193) rfl rfl rfl (hts _ q104) (hts _ q191) (hts _ q192) rfl hdG_J2_init ⟨Nat.le_of_ble_eq_true rfl, Nat.le_of_ble_eq_true rfl⟩) (ga_preS hI rfl) rfl rfl hl.1 rfl (ga_room (Nat.le_of_ble_eq_true rfl)) dX2_init_50 ⟨Nat.le_trans (Nat.add_le_add_left (Nat.zero_le _) _) hbc, Nat.le_trans (Nat.add_le_add_left (Nat.zero_le _) _) hbs⟩) hI hbc hbs (Nat.zero_le _) (Nat.zero_le _) (fun h_22 H locs cells slots hw hI hbc hbs => ?_)
  obtain ⟨fs_23, hq, hk, hw⟩ := hw
  refine ga_putF (ci := 1) (T := TX2) (v := va_rf (some q_20)) (ty := tyX2 4) hx hb hts hown hI in_X2 rfl tyX2 tyX2_ok nmX2 4 (by decide) q318 (fun _ z => z) rfl hnm rfl (tyX2_ok 4 (by decide)) (ga_nq _ _) (ga_fq _ _) hq hk dX2_init_53 (fun H locs hI => ?_)
  obtain ⟨h_24, eh_24⟩ : ∃ z, z = ga_set h_22 p0 (ga_O 1 (fs_23.set 4 (va_rf (some q_20)))) := ⟨_, rfl⟩
  rw [← eh_24] at hI
  have hw := hw h_24 eh_24
  refine lv_aload_n hx hb dX2_init_56 rfl (lv_at hl 0 rfl) ?_
  refine ga_new (ci := 15) (T := TJ4) hx hb hts hown hI in_J4 rfl tyJ4 tyJ4_ok q218 q219 q106 [va_rf none, va_rf none, va_rf none, va_rf none, .int 0, .int 0, .int 0, .float 0] ga_df_J4 hbc hbs hw.1 hw.2.1 dX2_init_57 (fun q_25 H cells slots hn_q_25 hI hbc hbs => ?_)
  obtain ⟨h_26, eh_26⟩ : ∃ z, z = ga_set h_24 q_25 (ga_O 15 [va_rf none, va_rf none, va_rf none, va_rf none, .int 0, .int 0, .int 0, .float 0]) := ⟨_, rfl⟩
  rw [← eh_26] at hI
  have hw := hw.2.2 q_25 hn_q_25 h_26 eh_26
  refine lv_dup hx hb dX2_init_60 rfl ?_
  refine ga_callv (va_runI (As := []) (rest := [.ref q_25, .ref p0]) ⟨hx, hb, hml, hown, hts⟩ (gm_J4_init l g q_25 h_26 _ hw) (cwI 0 hts (lw_meth q222) rfl rfl rfl (hts _ q106) (hts _ q220) (hts _ q221) rfl hdG_J4_init ⟨Nat.le_of_ble_eq_true rfl, Nat.le_of_ble_eq_true rfl⟩) (ga_preS hI rfl) rfl rfl hl.1 rfl (ga_room (Nat.le_of_ble_eq_true rfl)) dX2_init_61 ⟨Nat.le_trans (Nat.add_le_add_left (Nat.zero_le _) _) hbc, Nat.le_trans (Nat.add_le_add_left (Nat.zero_le _) _) hbs⟩) hI hbc hbs (Nat.zero_le _) (Nat.zero_le _) (fun h_27 H locs cells slots hw hI hbc hbs => ?_)
  obtain ⟨fs_28, hq, hk, hw⟩ := hw
  refine ga_putF (ci := 1) (T := TX2) (v := va_rf (some q_25)) (ty := tyX2 5) hx hb hts hown hI in_X2 rfl tyX2 tyX2_ok nmX2 5 (by decide) q320 (fun _ z => z) rfl hnm rfl (tyX2_ok 5 (by decide)) (ga_nq _ _) (ga_fq _ _) hq hk dX2_init_64 (fun H locs hI => ?_)
  obtain ⟨h_29, eh_29⟩ : ∃ z, z = ga_set h_27 p0 (ga_O 1 (fs_28.set 5 (va_rf (some q_25)))) := ⟨_, rfl⟩
  rw [← eh_29] at hI
  have hw := hw h_29 eh_29
  refine lv_iconst (v := 0) hx hb dX2_init_67 (by decide) ?_
  refine lv_istore_n (i := 1) (lv' := [(1, .int (0 : Int32)), (0, .ref p0)]) hx hb dX2_init_68 rfl hl (by decide) rfl (fun ls hl => ?_)
  obtain ⟨In_30, mu_30, h0_30, hw⟩ := hw
  have hL_30 : ∀ (n : Nat) (x1_30 : Int32) (h_30 : ga_H) (bc_30 : Nat) (bs_30 : Nat) (H : Heap) (locs : List Loc) (cells slots : Nat) (ls : Array Slot), mu_30 x1_30 h_30 bc_30 bs_30 < n → In_30 x1_30 h_30 bc_30 bs_30 → ga_I g h_30 s H locs → cells + bc_30 ≤ mc → slots + bs_30 ≤ ms → lv_has ls 2 [(0, .ref p0), (1, .int x1_30)] → W p l e ({ frames := 13, cells := mc, slots := ms, locals := 241 } : Room) s m args below meth c H locs cells slots (MQ below (va_Qv post (ga_E g) (ga_A g)) args s mc ms (ga_A g)) (F0 m 69 ls []) := by
    intro n
    induction n with
    | zero => intro x1_30 h_30 bc_30 bs_30 H locs cells slots ls hn _ _ _ _ _; exact absurd hn (Nat.not_lt_zero _)
    | succ n ih_30 =>
      intro x1_30 h_30 bc_30 bs_30 H locs cells slots ls hn_30 hi_30 hI hbc hbs hl
      have hw := hw x1_30 h_30 bc_30 bs_30 hi_30
      refine lv_iload_n hx hb dX2_init_69 rfl (lv_at hl 1 rfl) ?_
      refine lv_iconst (v := 5) hx hb dX2_init_70 (by decide) ?_
      refine lv_icmp_ge (tgt := 93) hx hb dX2_init_71 (by decide) (fun hc_31 => ?_) (fun hc_31 => ?_)
      · have hw := hw.1 hc_31
        exact ga_vret hx hb hr hlk hI hw (Nat.le_trans (Nat.le_add_right _ _) hbc) (Nat.le_trans (Nat.le_add_right _ _) hbs) dX2_init_93
      · have hw := hw.2 hc_31
        refine lv_aload_n hx hb dX2_init_74 rfl (lv_at hl 0 rfl) ?_
        obtain ⟨fs_32, v_33, hq, hv, hw⟩ := hw
        refine ga_get (ci := 1) (T := TX2) (v := va_rf v_33) hx hb hts hown hI in_X2 rfl 0 (by decide) q310 (fun _ z => z) (ga_at.h hq) hv dX2_init_75 ?_
        refine lv_iload_n hx hb dX2_init_78 rfl (lv_at hl 1 rfl) ?_
        refine ga_new (ci := 2) (T := TX3) hx hb hts hown hI in_X3 rfl tyX3 tyX3_ok q187 q258 q107 [va_rf none, .int 0, .int 0, .int 0, .int 0, .int 0] ga_df_X3 hbc hbs hw.1 hw.2.1 dX2_init_79 (fun q_34 H cells slots hn_q_34 hI hbc hbs => ?_)
        obtain ⟨h_35, eh_35⟩ : ∃ z, z = ga_set h_30 q_34 (ga_O 2 [va_rf none, .int 0, .int 0, .int 0, .int 0, .int 0]) := ⟨_, rfl⟩
        rw [← eh_35] at hI
        have hw := hw.2.2 q_34 hn_q_34 h_35 eh_35
        refine lv_dup hx hb dX2_init_82 rfl ?_
        obtain ⟨kc_36, ks_37, hk1, hk2, hw⟩ := hw
        refine ga_callv (va_runI (As := []) (rest := [.ref q_34, .int x1_30, va_rf v_33]) ⟨hx, hb, hml, hown, hts⟩ (gm_X3_init l g q_34 h_35 kc_36 ks_37 _ hw) (cwI 0 hts (lw_meth q261) rfl rfl rfl (hts _ q107) (hts _ q259) (hts _ q260) rfl hdG_X3_init ⟨Nat.le_of_ble_eq_true rfl, Nat.le_of_ble_eq_true rfl⟩) (ga_preS hI rfl) rfl rfl hl.1 rfl (ga_room (Nat.le_of_ble_eq_true rfl)) dX2_init_83 ⟨Nat.le_trans (Nat.add_le_add_left hk1 _) hbc, Nat.le_trans (Nat.add_le_add_left hk2 _) hbs⟩) hI hbc hbs hk1 hk2 (fun h_38 H locs cells slots hw hI hbc hbs => ?_)
        obtain ⟨a_39, ea_39, hw⟩ := hw
        rewrite [ea_39]
        obtain ⟨n_40, f_41, hq, hi, hok, hw⟩ := hw
        refine ga_sto (x := (some q_34)) hx hb hI hq rfl hok hi dX2_init_86 (fun H locs hI => ?_)
        obtain ⟨h_42, eh_42⟩ : ∃ z, z = ga_set h_38 a_39 (ga_Aq 6 n_40 (va_up f_41 x1_30.toNatClampNeg (some q_34))) := ⟨_, rfl⟩
        rw [← eh_42] at hI
        have hw := hw h_42 eh_42
        refine lv_iinc (v := x1_30 + (1 : Int32)) (lv' := [(1, .int (x1_30 + (1 : Int32))), (0, .ref p0)]) hx hb dX2_init_87 hl (k := 1) rfl rfl (by decide) rfl (fun ls hl => ?_)
        refine lv_goto (tgt := 69) hx hb dX2_init_90 (by decide) ?_
        exact ih_30 _ _ _ _ H locs cells slots ls (Nat.lt_of_lt_of_le hw.2 (Nat.le_of_lt_succ hn_30)) hw.1 hI hbc hbs (lv_sub hl [1, 0] rfl)
  exact hL_30 _ _ _ _ _ H locs cells slots ls (Nat.lt_succ_self _) h0_30 hI hbc hbs (lv_sub hl [1, 0] rfl)
theorem hdG_X2_init : yX2_init.cls ≠ "java/lang/invoke/MethodHandle" ∧ yX2_init.cls ≠ "java/lang/invoke/VarHandle" ∧ (parseMethodDescriptor yX2_init.desc).map (fun d => d.parameters.length) = some 0 := by decide +kernel
def gw_J13_copyOf_2_24 (K : ga_K) (post : Option Nat → ga_H → Prop) (t0 : Option Nat) (v0 : Option Nat) (v1 : Int32) (h : ga_H) (bc bs : Nat) : Prop :=
  ∃ a_4 : Nat, v0 = some a_4 ∧ ∃ (n_5 : Nat) (f_6 : Nat → Option Nat), ga_at K h a_4 (ga_Aq 5 n_5 f_6) ∧ (∀ r_7 : Int32, r_7 = (if v1 < (nI n_5) then v1 else (nI n_5)) → (∃ a_8 : Nat, t0 = some a_8 ∧ ∃ (n_9 : Nat) (f_10 : Nat → Option Nat) (n_11 : Nat) (f_12 : Nat → Option Nat), (h a_4 = some (ga_Aq 5 n_9 f_10) ∨ (n_9 = 0 ∧ K.1 a_4 = some (ga_Aq 5 0 f_10))) ∧ h a_8 = some (ga_Aq 5 n_11 f_12) ∧ ¬ (0 : Int32) < 0 ∧ ¬ (0 : Int32) < 0 ∧ ¬ r_7 < 0 ∧ (0 : Int32).toNatClampNeg + r_7.toNatClampNeg ≤ n_9 ∧ (0 : Int32).toNatClampNeg + r_7.toNatClampNeg ≤ n_11 ∧ (∀ i : Nat, i < r_7.toNatClampNeg → ga_ok K h "java/lang/Object" (f_10 ((0 : Int32).toNatClampNeg + i))) ∧ ∀ h_13 : ga_H, h_13 = ga_set h a_8 (ga_Aq 5 n_11 (va_cpy f_10 f_12 (0 : Int32).toNatClampNeg (0 : Int32).toNatClampNeg r_7.toNatClampNeg)) → (post t0 h_13)))
set_option maxHeartbeats 4000000 in
theorem gj_J13_copyOf_2_24 {p : Program} {l : Launch} {e : Env} {s : State} {m : MethodId} {args : Array Value} {below : List Frame} {meth : Method} {c : Code} {mc ms : Nat} {H : Heap} {locs : List Loc} {cells slots : Nat} {ls : Array Slot} (g : ga_G) (post : Option Nat → ga_H → Prop) (t0 : Option Nat) (v0 : Option Nat) (v1 : Int32) (h : ga_H) (bc bs : Nat) (hC : ga_Cx p s m args meth c cJ13_copyOf_2 4 (some (.array (.object "java/lang/Object"))) "java/util/Arrays" "copyOf") (hw : gw_J13_copyOf_2_24 g.2.2 post t0 v0 v1 h bc bs) (hI : ga_I g h s H locs) (hbc : cells + bc ≤ mc) (hbs : slots + bs ≤ ms) (hl : lv_has ls 4 [(0, va_rf v0), (1, .int v1)]) : W p l e ({ frames := 8, cells := mc, slots := ms, locals := 140 } : Room) s m args below meth c H locs cells slots (MQ below (va_Qq post (ga_E g) (ga_A g)) args s mc ms (ga_A g)) (F0 m 24 ls [va_rf t0]) := by
  obtain ⟨hx, hb, hml, hown, hts, hr, hlk, hnm⟩ := hC
  unfold gw_J13_copyOf_2_24 at hw
  refine ga_astore_n (i := 3) (x := t0) (lv' := [(3, va_rf t0), (0, va_rf v0), (1, .int v1)]) hx hb dJ13_copyOf_2_24 rfl hl (by decide) rfl (fun ls hl => ?_)
  refine ga_aload_n hx hb dJ13_copyOf_2_25 rfl (lv_at hl 1 rfl) ?_
  refine lv_iconst (v := 0) hx hb dJ13_copyOf_2_26 (by decide) ?_
  refine ga_aload_n hx hb dJ13_copyOf_2_27 rfl (lv_at hl 0 rfl) ?_
  refine lv_iconst (v := 0) hx hb dJ13_copyOf_2_28 (by decide) ?_
  refine ga_aload_n hx hb dJ13_copyOf_2_29 rfl (lv_at hl 1 rfl) ?_
  obtain ⟨a_4, ea_4, hw⟩ := hw
  rewrite [ea_4]
  obtain ⟨n_5, f_6, hq, hw⟩ := hw
  refine ga_len hx hb hI hq rfl dJ13_copyOf_2_30 ?_
  refine lv_iload_n hx hb dJ13_copyOf_2_31 rfl (lv_at hl 2 rfl) ?_
  refine va_mmin hx hb (hml.trans hl.1.symm) hown (hts _ q520) (hts _ q521) (hts _ q119) (hts _ q522) (Nat.le_of_ble_eq_true rfl) (Nat.le_trans (Nat.add_le_add_right (ga_sum [.int (0 : Int32), va_rf t0, .int (0 : Int32), .ref a_4] (Nat.le_of_ble_eq_true rfl)) _) (Nat.le_of_ble_eq_true rfl)) (Nat.le_trans (Nat.le_add_right _ _) hbc) (Nat.le_trans (Nat.le_add_right _ _) hbs) dJ13_copyOf_2_32 ?_
  refine lv_topi (fun r_7 er_7 => ?_)
  have hw := hw r_7 er_7
  obtain ⟨a_8, ea_8, hw⟩ := hw
  rewrite [ea_8]
  obtain ⟨n_9, f_10, n_11, f_12, hq0, hq1, k1, k2, k3, k4, k5, k6, hw⟩ := hw
  refine ga_copyq hx hb (hml.trans hl.1.symm) hts hown q523 hI hq0 hq1 k1 k2 k3 k4 k5 k6 (Nat.le_of_ble_eq_true rfl) (Nat.le_trans (Nat.add_le_add_right (ga_sum [] (Nat.le_of_ble_eq_true rfl)) _) (show (8 : Nat) + (nativeFrameWords "java/lang/System" "arraycopy" 5 + 11) ≤ 140 by decide +kernel)) dJ13_copyOf_2_35 (fun H locs hI => ?_)
  obtain ⟨h_13, eh_13⟩ : ∃ z, z = ga_set h a_8 (ga_Aq 5 n_11 (va_cpy f_10 f_12 (0 : Int32).toNatClampNeg (0 : Int32).toNatClampNeg r_7.toNatClampNeg)) := ⟨_, rfl⟩
  rw [← eh_13] at hI
  have hw := hw h_13 eh_13
  refine ga_aload_n hx hb dJ13_copyOf_2_38 rfl (lv_at hl 0 rfl) ?_
  exact ga_qret (v := t0) hx hb hr (Or.inr ⟨_, rfl⟩) hlk hI hw (Nat.le_trans (Nat.le_add_right _ _) hbc) (Nat.le_trans (Nat.le_add_right _ _) hbs) dJ13_copyOf_2_39
def gw_J13_copyOf_2 (K : ga_K) (p0 : Option Nat) (p1 : Int32) (p2 : Option Nat) (h : ga_H) (mc ms : Nat) (post : Option Nat → ga_H → Prop) : Prop :=
  (¬ p2 = (some (K.2 5)) → False) ∧ (p2 = (some (K.2 5)) → (¬ p1 < 0 ∧ p1.toNatClampNeg ≤ 1000000 ∧ 1 ≤ mc ∧ p1.toNatClampNeg ≤ ms ∧ ∀ q_2 : Nat, h q_2 = none → ∀ h_3 : ga_H, h_3 = ga_set h q_2 (ga_Aq 5 (p1.toNatClampNeg) (fun _ => none)) → (gw_J13_copyOf_2_24 K post (some q_2) p0 p1 h_3 (mc - 1) (ms - (p1.toNatClampNeg)))))
set_option maxHeartbeats 4000000 in
theorem gm_J13_copyOf_2 (l : Launch) (g : ga_G) (p0 : Option Nat) (p1 : Int32) (p2 : Option Nat) (h : ga_H) (mc ms : Nat) (post : Option Nat → ga_H → Prop) (hw : gw_J13_copyOf_2 g.2.2 p0 p1 p2 h mc ms post) : Met l yJ13_copyOf_2 (ws_ yJ13_copyOf_2 cJ13_copyOf_2 4 (some (.array (.object "java/lang/Object")))) ({ frames := 8, cells := mc, slots := ms, locals := 140 } : Room) (va_Pc [va_rf p0, .int p1, va_rf p2] (ga_B g h)) (va_Qq post (ga_E g) (ga_A g)) mc ms (ga_A g) := by
  refine ga_met (own := "java/util/Arrays") (nm := "copyOf") (by decide) rfl rfl (by cases p0 <;> cases p2 <;> exact Nat.le_of_ble_eq_true rfl) (fun p e s m below meth c ls hC hI hl => ?_)
  have hl : lv_has ls 4 [(0, va_rf p0), (1, .int p1), (2, va_rf p2)] := (by cases p0 <;> cases p2 <;> exact hl)
  generalize ([va_rf p0, .int p1, va_rf p2] : List Value).toArray = args at hC ⊢
  obtain ⟨hx, hb, hml, hown, hts, hr, hlk, hnm⟩ := hC
  unfold gw_J13_copyOf_2 at hw
  obtain ⟨H, eH⟩ : ∃ z, z = s.heap := ⟨_, rfl⟩
  obtain ⟨locs, elo⟩ : ∃ z : List Loc, z = [] := ⟨_, rfl⟩
  rw [← eH, ← elo] at hI ⊢
  obtain ⟨cells, slots, hbc, hbs, e0, e1⟩ : ∃ a b : Nat, a + mc ≤ mc ∧ b + ms ≤ ms ∧ a = 0 ∧ b = 0 := ⟨0, 0, by omega, by omega, rfl, rfl⟩
  show W p l e ({ frames := 8, cells := mc, slots := ms, locals := 140 } : Room) s m args below meth c H locs 0 0 (MQ below (va_Qq post (ga_E g) (ga_A g)) args s mc ms (ga_A g)) (F0 m 0 ls [])
  suffices hgoal : W p l e ({ frames := 8, cells := mc, slots := ms, locals := 140 } : Room) s m args below meth c H locs cells slots (MQ below (va_Qq post (ga_E g) (ga_A g)) args s mc ms (ga_A g)) (F0 m 0 ls []) by rw [e0, e1] at hgoal; exact hgoal
  refine ga_aload_n hx hb dJ13_copyOf_2_0 rfl (lv_at hl 2 rfl) ?_
  refine ga_ldcM hx hb hts hown q517 hI dJ13_copyOf_2_1 ?_
  refine lv_acmp_ne (rx := p2) (ry := (some (g.2.2.2 5))) (tgt := 13) hx hb dJ13_copyOf_2_3 (by decide) (fun hc_1 => ?_) (fun hc_1 => ?_)
  · have hw := hw.1 hc_1
    exact hw.elim
  · have hw := hw.2 hc_1
    refine lv_iload_n hx hb dJ13_copyOf_2_6 rfl (lv_at hl 1 rfl) ?_
    refine ga_naq hx hb hts hown hI (t := 5) rfl q519 q518 hbc hbs hw.1 (N := p1.toNatClampNeg) rfl hw.2.1 hw.2.2.1 hw.2.2.2.1 dJ13_copyOf_2_7 (fun q_2 H cells slots hn_q_2 hI hbc hbs => ?_)
    obtain ⟨h_3, eh_3⟩ : ∃ z, z = ga_set h q_2 (ga_Aq 5 (p1.toNatClampNeg) (fun _ => none)) := ⟨_, rfl⟩
    rw [← eh_3] at hI
    have hw := hw.2.2.2.2 q_2 hn_q_2 h_3 eh_3
    refine lv_goto (tgt := 24) hx hb dJ13_copyOf_2_10 (by decide) ?_
    exact gj_J13_copyOf_2_24 g post (some q_2) p0 p1 h_3 (mc - 1) (ms - (p1.toNatClampNeg)) ⟨hx, hb, hml, hown, hts, hr, hlk, hnm⟩ hw hI hbc hbs (lv_sub hl [0, 1] rfl)
theorem hdG_J13_copyOf_2 : yJ13_copyOf_2.cls ≠ "java/lang/invoke/MethodHandle" ∧ yJ13_copyOf_2.cls ≠ "java/lang/invoke/VarHandle" ∧ (parseMethodDescriptor yJ13_copyOf_2.desc).map (fun d => d.parameters.length) = some 3 := by decide +kernel
def gw_J13_copyOf (K : ga_K) (p0 : Option Nat) (p1 : Int32) (h : ga_H) (mc ms : Nat) (post : Option Nat → ga_H → Prop) : Prop :=
  ∃ a_1 : Nat, p0 = some a_1 ∧ ∃ (n_2 : Nat) (f_3 : Nat → Option Nat), ga_at K h a_1 (ga_Aq 5 n_2 f_3) ∧ (∃ kc_4 ks_5 : Nat, kc_4 ≤ mc ∧ ks_5 ≤ ms ∧ gw_J13_copyOf_2 K (some a_1) p1 (some (K.2 5)) h kc_4 ks_5 (fun (r_7 : Option Nat) (h_6 : ga_H) => post r_7 h_6))
set_option maxHeartbeats 4000000 in
theorem gm_J13_copyOf (l : Launch) (g : ga_G) (p0 : Option Nat) (p1 : Int32) (h : ga_H) (mc ms : Nat) (post : Option Nat → ga_H → Prop) (hw : gw_J13_copyOf g.2.2 p0 p1 h mc ms post) : Met l yJ13_copyOf (ws_ yJ13_copyOf cJ13_copyOf 2 (some (.array (.object "java/lang/Object")))) ({ frames := 9, cells := mc, slots := ms, locals := 163 } : Room) (va_Pc [va_rf p0, .int p1] (ga_B g h)) (va_Qq post (ga_E g) (ga_A g)) mc ms (ga_A g) := by
  refine ga_met (own := "java/util/Arrays") (nm := "copyOf") (by decide) rfl rfl (by cases p0 <;> exact Nat.le_of_ble_eq_true rfl) (fun p e s m below meth c ls hC hI hl => ?_)
  have hl : lv_has ls 2 [(0, va_rf p0), (1, .int p1)] := (by cases p0 <;> exact hl)
  generalize ([va_rf p0, .int p1] : List Value).toArray = args at hC ⊢
  obtain ⟨hx, hb, hml, hown, hts, hr, hlk, hnm⟩ := hC
  unfold gw_J13_copyOf at hw
  obtain ⟨H, eH⟩ : ∃ z, z = s.heap := ⟨_, rfl⟩
  obtain ⟨locs, elo⟩ : ∃ z : List Loc, z = [] := ⟨_, rfl⟩
  rw [← eH, ← elo] at hI ⊢
  obtain ⟨cells, slots, hbc, hbs, e0, e1⟩ : ∃ a b : Nat, a + mc ≤ mc ∧ b + ms ≤ ms ∧ a = 0 ∧ b = 0 := ⟨0, 0, by omega, by omega, rfl, rfl⟩
  show W p l e ({ frames := 9, cells := mc, slots := ms, locals := 163 } : Room) s m args below meth c H locs 0 0 (MQ below (va_Qq post (ga_E g) (ga_A g)) args s mc ms (ga_A g)) (F0 m 0 ls [])
  suffices hgoal : W p l e ({ frames := 9, cells := mc, slots := ms, locals := 163 } : Room) s m args below meth c H locs cells slots (MQ below (va_Qq post (ga_E g) (ga_A g)) args s mc ms (ga_A g)) (F0 m 0 ls []) by rw [e0, e1] at hgoal; exact hgoal
  refine ga_aload_n hx hb dJ13_copyOf_0 rfl (lv_at hl 0 rfl) ?_
  refine lv_iload_n hx hb dJ13_copyOf_1 rfl (lv_at hl 1 rfl) ?_
  refine ga_aload_n hx hb dJ13_copyOf_2 rfl (lv_at hl 0 rfl) ?_
  obtain ⟨a_1, ea_1, hw⟩ := hw
  rewrite [ea_1]
  obtain ⟨n_2, f_3, hq, hw⟩ := hw
  refine ga_getC hx hb (hml.trans hl.1.symm) hts hown q467 hI hq (Nat.le_of_ble_eq_true rfl) (Nat.le_trans (Nat.add_le_add_right (ga_sum [.int p1, .ref a_1] (Nat.le_of_ble_eq_true rfl)) _) (Nat.le_of_ble_eq_true rfl)) dJ13_copyOf_3 ?_
  obtain ⟨kc_4, ks_5, hk1, hk2, hw⟩ := hw
  refine ga_callq (va_runS (As := [va_rf (some a_1), .int p1, va_rf (some (g.2.2.2 5))]) (rest := []) ⟨hx, hb, hml, hown, hts⟩ (gm_J13_copyOf_2 l g (some a_1) p1 (some (g.2.2.2 5)) h kc_4 ks_5 _ hw) (va_cwS 3 hts (lw_S q514 q515 q118 q516) rfl rfl rfl hdG_J13_copyOf_2 ⟨Nat.le_of_ble_eq_true rfl, Nat.le_of_ble_eq_true rfl⟩) (ga_preS hI rfl) rfl rfl hl.1 rfl (ga_room (Nat.le_of_ble_eq_true rfl)) dJ13_copyOf_6 ⟨Nat.le_trans (Nat.add_le_add_left hk1 _) hbc, Nat.le_trans (Nat.add_le_add_left hk2 _) hbs⟩) hI hbc hbs hk1 hk2 (fun r_7 h_6 H locs cells slots hw hI hbc hbs => ?_)
  exact ga_qret (v := r_7) hx hb hr (Or.inr ⟨_, rfl⟩) hlk hI hw (Nat.le_trans (Nat.le_add_right _ _) hbc) (Nat.le_trans (Nat.le_add_right _ _) hbs) dJ13_copyOf_9
theorem hdG_J13_copyOf : yJ13_copyOf.cls ≠ "java/lang/invoke/MethodHandle" ∧ yJ13_copyOf.cls ≠ "java/lang/invoke/VarHandle" ∧ (parseMethodDescriptor yJ13_copyOf.desc).map (fun d => d.parameters.length) = some 2 := by decide +kernel
def gw_J2_toArray (K : ga_K) (p0 : Nat) (h : ga_H) (mc ms : Nat) (post : Option Nat → ga_H → Prop) : Prop :=
  ∃ (fs_1 : List Value) (v_2 : Option Nat), h p0 = some (ga_O 13 fs_1) ∧ fs_1[1]? = some (va_rf v_2) ∧ (∃ (fs_3 : List Value) (v_4 : Int32), h p0 = some (ga_O 13 fs_3) ∧ fs_3[2]? = some (.int v_4) ∧ (∃ kc_5 ks_6 : Nat, kc_5 ≤ mc ∧ ks_6 ≤ ms ∧ gw_J13_copyOf K v_2 v_4 h kc_5 ks_6 (fun (r_8 : Option Nat) (h_7 : ga_H) => post r_8 h_7)))
set_option maxHeartbeats 4000000 in
theorem gm_J2_toArray (l : Launch) (g : ga_G) (p0 : Nat) (h : ga_H) (mc ms : Nat) (post : Option Nat → ga_H → Prop) (hw : gw_J2_toArray g.2.2 p0 h mc ms post) : Met l yJ2_toArray (ws_ yJ2_toArray cJ2_toArray 1 (some (.array (.object "java/lang/Object")))) ({ frames := 10, cells := mc, slots := ms, locals := 184 } : Room) (va_Pc [.ref p0] (ga_B g h)) (va_Qq post (ga_E g) (ga_A g)) mc ms (ga_A g) := by
  refine ga_met (own := "java/util/ArrayList") (nm := "toArray") (by decide) rfl rfl (by exact Nat.le_of_ble_eq_true rfl) (fun p e s m below meth c ls hC hI hl => ?_)
  have hl : lv_has ls 1 [(0, .ref p0)] := hl
  generalize ([.ref p0] : List Value).toArray = args at hC ⊢
  obtain ⟨hx, hb, hml, hown, hts, hr, hlk, hnm⟩ := hC
  unfold gw_J2_toArray at hw
  obtain ⟨H, eH⟩ : ∃ z, z = s.heap := ⟨_, rfl⟩
  obtain ⟨locs, elo⟩ : ∃ z : List Loc, z = [] := ⟨_, rfl⟩
  rw [← eH, ← elo] at hI ⊢
  obtain ⟨cells, slots, hbc, hbs, e0, e1⟩ : ∃ a b : Nat, a + mc ≤ mc ∧ b + ms ≤ ms ∧ a = 0 ∧ b = 0 := ⟨0, 0, by omega, by omega, rfl, rfl⟩
  show W p l e ({ frames := 10, cells := mc, slots := ms, locals := 184 } : Room) s m args below meth c H locs 0 0 (MQ below (va_Qq post (ga_E g) (ga_A g)) args s mc ms (ga_A g)) (F0 m 0 ls [])
  suffices hgoal : W p l e ({ frames := 10, cells := mc, slots := ms, locals := 184 } : Room) s m args below meth c H locs cells slots (MQ below (va_Qq post (ga_E g) (ga_A g)) args s mc ms (ga_A g)) (F0 m 0 ls []) by rw [e0, e1] at hgoal; exact hgoal
  refine lv_aload_n hx hb dJ2_toArray_0 rfl (lv_at hl 0 rfl) ?_
  obtain ⟨fs_1, v_2, hq, hv, hw⟩ := hw
  refine ga_get (ci := 13) (T := TJ2) (v := va_rf v_2) hx hb hts hown hI in_J2 rfl 1 (by decide) q203 (fun _ z => z) (ga_at.h hq) hv dJ2_toArray_1 ?_
  refine lv_aload_n hx hb dJ2_toArray_4 rfl (lv_at hl 0 rfl) ?_
  obtain ⟨fs_3, v_4, hq, hv, hw⟩ := hw
  refine ga_get (ci := 13) (T := TJ2) (v := .int v_4) hx hb hts hown hI in_J2 rfl 2 (by decide) q206 (fun _ z => z) (ga_at.h hq) hv dJ2_toArray_5 ?_
  obtain ⟨kc_5, ks_6, hk1, hk2, hw⟩ := hw
  refine ga_callq (va_runS (As := [va_rf v_2, .int v_4]) (rest := []) ⟨hx, hb, hml, hown, hts⟩ (gm_J13_copyOf l g v_2 v_4 h kc_5 ks_6 _ hw) (va_cwS 2 hts (lw_S q464 q465 q118 q466) rfl rfl rfl hdG_J13_copyOf ⟨Nat.le_of_ble_eq_true rfl, Nat.le_of_ble_eq_true rfl⟩) (ga_preS hI rfl) rfl rfl hl.1 rfl (ga_room (Nat.le_of_ble_eq_true rfl)) dJ2_toArray_8 ⟨Nat.le_trans (Nat.add_le_add_left hk1 _) hbc, Nat.le_trans (Nat.add_le_add_left hk2 _) hbs⟩) hI hbc hbs hk1 hk2 (fun r_8 h_7 H locs cells slots hw hI hbc hbs => ?_)
  exact ga_qret (v := r_8) hx hb hr (Or.inr ⟨_, rfl⟩) hlk hI hw (Nat.le_trans (Nat.le_add_right _ _) hbc) (Nat.le_trans (Nat.le_add_right _ _) hbs) dJ2_toArray_11
theorem hdG_J2_toArray : yJ2_toArray.cls ≠ "java/lang/invoke/MethodHandle" ∧ yJ2_toArray.cls ≠ "java/lang/invoke/VarHandle" ∧ (parseMethodDescriptor yJ2_toArray.desc).map (fun d => d.parameters.length) = some 0 := by decide +kernel
def gw_J27_newLength_21 (K : ga_K) (post : Int32 → ga_H → Prop) (v0 : Int32) (v1 : Int32) (h : ga_H) : Prop :=
  False
set_option maxHeartbeats 4000000 in
theorem gj_J27_newLength_21 {p : Program} {l : Launch} {e : Env} {s : State} {m : MethodId} {args : Array Value} {below : List Frame} {meth : Method} {c : Code} {H : Heap} {locs : List Loc} {cells slots : Nat} {ls : Array Slot} (g : ga_G) (post : Int32 → ga_H → Prop) (v0 : Int32) (v1 : Int32) (h : ga_H) (hC : ga_Cx p s m args meth c cJ27_newLength 4 (some .int) "jdk/internal/util/ArraysSupport" "newLength") (hw : gw_J27_newLength_21 g.2.2 post v0 v1 h) (hI : ga_I g h s H locs) (hbc : cells ≤ 0) (hbs : slots ≤ 0) (hl : lv_has ls 4 [(0, .int v0), (1, .int v1)]) : W p l e ({ frames := 8, cells := 0, slots := 0, locals := 140 } : Room) s m args below meth c H locs cells slots (MQ below (va_Qi post (ga_E g) (ga_A g)) args s 0 0 (ga_A g)) (F0 m 21 ls []) := by
  obtain ⟨hx, hb, hml, hown, hts, hr, hlk, hnm⟩ := hC
  unfold gw_J27_newLength_21 at hw
  exact hw.elim
def gw_J27_newLength (K : ga_K) (p0 : Int32) (p1 : Int32) (p2 : Int32) (h : ga_H) (post : Int32 → ga_H → Prop) : Prop :=
  ∀ r_1 : Int32, r_1 = (if p1 < p2 then p2 else p1) → ((p0 + r_1 ≤ (0 : Int32) → (gw_J27_newLength_21 K post p0 p1 h)) ∧ (¬ p0 + r_1 ≤ (0 : Int32) → (((2147483639 : Int32) < p0 + r_1 → (gw_J27_newLength_21 K post p0 p1 h)) ∧ (¬ (2147483639 : Int32) < p0 + r_1 → (post (p0 + r_1) h)))))
set_option maxHeartbeats 4000000 in
theorem gm_J27_newLength (l : Launch) (g : ga_G) (p0 : Int32) (p1 : Int32) (p2 : Int32) (h : ga_H) (post : Int32 → ga_H → Prop) (hw : gw_J27_newLength g.2.2 p0 p1 p2 h post) : Met l yJ27_newLength (ws_ yJ27_newLength cJ27_newLength 4 (some .int)) ({ frames := 8, cells := 0, slots := 0, locals := 140 } : Room) (va_Pc [.int p0, .int p1, .int p2] (ga_B g h)) (va_Qi post (ga_E g) (ga_A g)) 0 0 (ga_A g) := by
  refine ga_met (own := "jdk/internal/util/ArraysSupport") (nm := "newLength") (by decide) rfl rfl (by exact Nat.le_of_ble_eq_true rfl) (fun p e s m below meth c ls hC hI hl => ?_)
  have hl : lv_has ls 4 [(0, .int p0), (1, .int p1), (2, .int p2)] := hl
  generalize ([.int p0, .int p1, .int p2] : List Value).toArray = args at hC ⊢
  obtain ⟨hx, hb, hml, hown, hts, hr, hlk, hnm⟩ := hC
  unfold gw_J27_newLength at hw
  obtain ⟨H, eH⟩ : ∃ z, z = s.heap := ⟨_, rfl⟩
  obtain ⟨locs, elo⟩ : ∃ z : List Loc, z = [] := ⟨_, rfl⟩
  rw [← eH, ← elo] at hI ⊢
  obtain ⟨cells, slots, hbc, hbs, e0, e1⟩ : ∃ a b : Nat, a ≤ 0 ∧ b ≤ 0 ∧ a = 0 ∧ b = 0 := ⟨0, 0, by omega, by omega, rfl, rfl⟩
  show W p l e ({ frames := 8, cells := 0, slots := 0, locals := 140 } : Room) s m args below meth c H locs 0 0 (MQ below (va_Qi post (ga_E g) (ga_A g)) args s 0 0 (ga_A g)) (F0 m 0 ls [])
  suffices hgoal : W p l e ({ frames := 8, cells := 0, slots := 0, locals := 140 } : Room) s m args below meth c H locs cells slots (MQ below (va_Qi post (ga_E g) (ga_A g)) args s 0 0 (ga_A g)) (F0 m 0 ls []) by rw [e0, e1] at hgoal; exact hgoal
  refine lv_iload_n hx hb dJ27_newLength_0 rfl (lv_at hl 0 rfl) ?_
  refine lv_iload_n hx hb dJ27_newLength_1 rfl (lv_at hl 1 rfl) ?_
  refine lv_iload_n hx hb dJ27_newLength_2 rfl (lv_at hl 2 rfl) ?_
  refine va_mmax hx hb (hml.trans hl.1.symm) hown (hts _ q898) (hts _ q899) (hts _ q119) (hts _ q900) (Nat.le_of_ble_eq_true rfl) (Nat.le_trans (Nat.add_le_add_right (ga_sum [.int p0] (Nat.le_of_ble_eq_true rfl)) _) (Nat.le_of_ble_eq_true rfl)) hbc hbs dJ27_newLength_3 ?_
  refine lv_topi (fun r_1 er_1 => ?_)
  have hw := hw r_1 er_1
  refine lv_iadd hx hb dJ27_newLength_6 ?_
  refine lv_istore_n (i := 3) (lv' := [(3, .int (p0 + r_1)), (0, .int p0), (1, .int p1), (2, .int p2)]) hx hb dJ27_newLength_7 rfl hl (by decide) rfl (fun ls hl => ?_)
  refine lv_iconst (v := 0) hx hb dJ27_newLength_8 (by decide) ?_
  refine lv_iload_n hx hb dJ27_newLength_9 rfl (lv_at hl 0 rfl) ?_
  refine lv_icmp_ge (tgt := 21) hx hb dJ27_newLength_10 (by decide) (fun hc_2 => ?_) (fun hc_2 => ?_)
  · have hw := hw.1 hc_2
    exact gj_J27_newLength_21 g post p0 p1 h ⟨hx, hb, hml, hown, hts, hr, hlk, hnm⟩ hw hI hbc hbs (lv_sub hl [1, 2] rfl)
  · have hw := hw.2 hc_2
    refine lv_iload_n hx hb dJ27_newLength_13 rfl (lv_at hl 0 rfl) ?_
    refine lv_ldc (v := 2147483639) hx hb hown (hts _ q901) dJ27_newLength_14 ?_
    refine lv_icmp_gt (tgt := 21) hx hb dJ27_newLength_16 (by decide) (fun hc_3 => ?_) (fun hc_3 => ?_)
    · have hw := hw.1 hc_3
      exact gj_J27_newLength_21 g post p0 p1 h ⟨hx, hb, hml, hown, hts, hr, hlk, hnm⟩ hw hI hbc hbs (lv_sub hl [1, 2] rfl)
    · have hw := hw.2 hc_3
      refine lv_iload_n hx hb dJ27_newLength_19 rfl (lv_at hl 0 rfl) ?_
      exact ga_iret hx hb hr rfl hlk hI hw hbc hbs dJ27_newLength_20
theorem hdG_J27_newLength : yJ27_newLength.cls ≠ "java/lang/invoke/MethodHandle" ∧ yJ27_newLength.cls ≠ "java/lang/invoke/VarHandle" ∧ (parseMethodDescriptor yJ27_newLength.desc).map (fun d => d.parameters.length) = some 3 := by decide +kernel
def gw_J2_grow_20 (K : ga_K) (post : Option Nat → ga_H → Prop) (p0 : Nat) (v1 : Int32) (v2 : Int32) (h : ga_H) (bc bs : Nat) : Prop :=
  gw_J27_newLength K v2 (v1 - v2) (v2 >>> ((1 : Int32) &&& 31)) h (fun (r_8 : Int32) (h_7 : ga_H) => ∃ (fs_9 : List Value) (v_10 : Option Nat), h_7 p0 = some (ga_O 13 fs_9) ∧ fs_9[1]? = some (va_rf v_10) ∧ (∃ kc_11 ks_12 : Nat, kc_11 ≤ bc ∧ ks_12 ≤ bs ∧ gw_J13_copyOf K v_10 r_8 h_7 kc_11 ks_12 (fun (r_14 : Option Nat) (h_13 : ga_H) => ∃ fs_15 : List Value, h_13 p0 = some (ga_O 13 fs_15) ∧ 1 < fs_15.length ∧ ∀ h_16 : ga_H, h_16 = ga_set h_13 p0 (ga_O 13 (fs_15.set 1 (va_rf r_14))) → (post r_14 h_16))))
set_option maxHeartbeats 4000000 in
theorem gj_J2_grow_20 {p : Program} {l : Launch} {e : Env} {s : State} {m : MethodId} {args : Array Value} {below : List Frame} {meth : Method} {c : Code} {mc ms : Nat} {H : Heap} {locs : List Loc} {cells slots : Nat} {ls : Array Slot} (g : ga_G) (post : Option Nat → ga_H → Prop) (p0 : Nat) (v1 : Int32) (v2 : Int32) (h : ga_H) (bc bs : Nat) (hC : ga_Cx p s m args meth c cJ2_grow 4 (some (.array (.object "java/lang/Object"))) "java/util/ArrayList" "grow") (hw : gw_J2_grow_20 g.2.2 post p0 v1 v2 h bc bs) (hI : ga_I g h s H locs) (hbc : cells + bc ≤ mc) (hbs : slots + bs ≤ ms) (hl : lv_has ls 4 [(0, .ref p0), (1, .int v1), (2, .int v2)]) : W p l e ({ frames := 10, cells := mc, slots := ms, locals := 184 } : Room) s m args below meth c H locs cells slots (MQ below (va_Qq post (ga_E g) (ga_A g)) args s mc ms (ga_A g)) (F0 m 20 ls []) := by
  obtain ⟨hx, hb, hml, hown, hts, hr, hlk, hnm⟩ := hC
  unfold gw_J2_grow_20 at hw
  refine lv_iload_n hx hb dJ2_grow_20 rfl (lv_at hl 2 rfl) ?_
  refine lv_iload_n hx hb dJ2_grow_21 rfl (lv_at hl 1 rfl) ?_
  refine lv_iload_n hx hb dJ2_grow_22 rfl (lv_at hl 2 rfl) ?_
  refine lv_isub hx hb dJ2_grow_23 ?_
  refine lv_iload_n hx hb dJ2_grow_24 rfl (lv_at hl 2 rfl) ?_
  refine lv_iconst (v := 1) hx hb dJ2_grow_25 (by decide) ?_
  refine lv_ishr hx hb dJ2_grow_26 ?_
  refine ga_calli (va_runS (As := [.int v2, .int (v1 - v2), .int (v2 >>> ((1 : Int32) &&& 31))]) (rest := []) ⟨hx, hb, hml, hown, hts⟩ (gm_J27_newLength l g v2 (v1 - v2) (v2 >>> ((1 : Int32) &&& 31)) h _ hw) (va_cwS 3 hts (lw_S q1162 q896 q133 q897) rfl rfl rfl hdG_J27_newLength ⟨Nat.le_of_ble_eq_true rfl, Nat.le_of_ble_eq_true rfl⟩) (ga_preS hI rfl) rfl rfl hl.1 rfl (ga_room (Nat.le_of_ble_eq_true rfl)) dJ2_grow_27 ⟨Nat.le_trans (Nat.add_le_add_left (Nat.zero_le _) _) hbc, Nat.le_trans (Nat.add_le_add_left (Nat.zero_le _) _) hbs⟩) hI hbc hbs (Nat.zero_le _) (Nat.zero_le _) (fun r_8 h_7 H locs cells slots hw hI hbc hbs => ?_)
  refine lv_istore_n (i := 3) (lv' := [(3, .int r_8), (0, .ref p0), (1, .int v1), (2, .int v2)]) hx hb dJ2_grow_30 rfl hl (by decide) rfl (fun ls hl => ?_)
  refine lv_aload_n hx hb dJ2_grow_31 rfl (lv_at hl 1 rfl) ?_
  refine lv_aload_n hx hb dJ2_grow_32 rfl (lv_at hl 1 rfl) ?_
  obtain ⟨fs_9, v_10, hq, hv, hw⟩ := hw
  refine ga_get (ci := 13) (T := TJ2) (v := va_rf v_10) hx hb hts hown hI in_J2 rfl 1 (by decide) q203 (fun _ z => z) (ga_at.h hq) hv dJ2_grow_33 ?_
  refine lv_iload_n hx hb dJ2_grow_36 rfl (lv_at hl 0 rfl) ?_
  obtain ⟨kc_11, ks_12, hk1, hk2, hw⟩ := hw
  refine ga_callq (va_runS (As := [va_rf v_10, .int r_8]) (rest := [.ref p0]) ⟨hx, hb, hml, hown, hts⟩ (gm_J13_copyOf l g v_10 r_8 h_7 kc_11 ks_12 _ hw) (va_cwS 2 hts (lw_S q464 q465 q118 q466) rfl rfl rfl hdG_J13_copyOf ⟨Nat.le_of_ble_eq_true rfl, Nat.le_of_ble_eq_true rfl⟩) (ga_preS hI rfl) rfl rfl hl.1 rfl (ga_room (Nat.le_of_ble_eq_true rfl)) dJ2_grow_37 ⟨Nat.le_trans (Nat.add_le_add_left hk1 _) hbc, Nat.le_trans (Nat.add_le_add_left hk2 _) hbs⟩) hI hbc hbs hk1 hk2 (fun r_14 h_13 H locs cells slots hw hI hbc hbs => ?_)
  refine lv_dup_x1 hx hb dJ2_grow_40 (ga_rcat _) rfl ?_
  obtain ⟨fs_15, hq, hk, hw⟩ := hw
  refine ga_put (ci := 13) (T := TJ2) (v := va_rf r_14) (ty := tyJ2 1) hx hb hts hown hI in_J2 rfl tyJ2 tyJ2_ok nmJ2 1 (by decide) q203 (fun _ z => z) rfl (tyJ2_ok 1 (by decide)) (ga_nq' _ _) (ga_fq' _ _) hq hk dJ2_grow_41 (fun H locs hI => ?_)
  obtain ⟨h_16, eh_16⟩ : ∃ z, z = ga_set h_13 p0 (ga_O 13 (fs_15.set 1 (va_rf r_14))) := ⟨_, rfl⟩
  rw [← eh_16] at hI
  have hw := hw h_16 eh_16
  exact ga_qret (v := r_14) hx hb hr (Or.inr ⟨_, rfl⟩) hlk hI hw (Nat.le_trans (Nat.le_add_right _ _) hbc) (Nat.le_trans (Nat.le_add_right _ _) hbs) dJ2_grow_44
def gw_J2_grow (K : ga_K) (p0 : Nat) (p1 : Int32) (h : ga_H) (mc ms : Nat) (post : Option Nat → ga_H → Prop) : Prop :=
  ∃ (fs_1 : List Value) (v_2 : Option Nat), h p0 = some (ga_O 13 fs_1) ∧ fs_1[1]? = some (va_rf v_2) ∧ (∃ a_3 : Nat, v_2 = some a_3 ∧ ∃ (n_4 : Nat) (f_5 : Nat → Option Nat), ga_at K h a_3 (ga_Aq 5 n_4 f_5) ∧ (((0 : Int32) < nI n_4 → (gw_J2_grow_20 K post p0 p1 (nI n_4) h mc ms)) ∧ (¬ (0 : Int32) < nI n_4 → (∃ (fs_17 : List Value) (v_18 : Option Nat), h p0 = some (ga_O 13 fs_17) ∧ fs_17[1]? = some (va_rf v_18) ∧ ((v_18 = (some (K.2 0)) → (∀ r_20 : Int32, r_20 = (if (10 : Int32) < p1 then p1 else (10 : Int32)) → (¬ r_20 < 0 ∧ r_20.toNatClampNeg ≤ 1000000 ∧ 1 ≤ mc ∧ r_20.toNatClampNeg ≤ ms ∧ ∀ q_21 : Nat, h q_21 = none → ∀ h_22 : ga_H, h_22 = ga_set h q_21 (ga_Aq 5 (r_20.toNatClampNeg) (fun _ => none)) → (∃ fs_23 : List Value, h_22 p0 = some (ga_O 13 fs_23) ∧ 1 < fs_23.length ∧ ∀ h_24 : ga_H, h_24 = ga_set h_22 p0 (ga_O 13 (fs_23.set 1 (va_rf (some q_21)))) → (post (some q_21) h_24))))) ∧ (¬ v_18 = (some (K.2 0)) → (gw_J2_grow_20 K post p0 p1 (nI n_4) h mc ms)))))))
set_option maxHeartbeats 4000000 in
theorem gm_J2_grow (l : Launch) (g : ga_G) (p0 : Nat) (p1 : Int32) (h : ga_H) (mc ms : Nat) (post : Option Nat → ga_H → Prop) (hw : gw_J2_grow g.2.2 p0 p1 h mc ms post) : Met l yJ2_grow (ws_ yJ2_grow cJ2_grow 4 (some (.array (.object "java/lang/Object")))) ({ frames := 10, cells := mc, slots := ms, locals := 184 } : Room) (va_Pc [.ref p0, .int p1] (ga_B g h)) (va_Qq post (ga_E g) (ga_A g)) mc ms (ga_A g) := by
  refine ga_met (own := "java/util/ArrayList") (nm := "grow") (by decide) rfl rfl (by exact Nat.le_of_ble_eq_true rfl) (fun p e s m below meth c ls hC hI hl => ?_)
  have hl : lv_has ls 4 [(0, .ref p0), (1, .int p1)] := hl
  generalize ([.ref p0, .int p1] : List Value).toArray = args at hC ⊢
  obtain ⟨hx, hb, hml, hown, hts, hr, hlk, hnm⟩ := hC
  unfold gw_J2_grow at hw
  obtain ⟨H, eH⟩ : ∃ z, z = s.heap := ⟨_, rfl⟩
  obtain ⟨locs, elo⟩ : ∃ z : List Loc, z = [] := ⟨_, rfl⟩
  rw [← eH, ← elo] at hI ⊢
  obtain ⟨cells, slots, hbc, hbs, e0, e1⟩ : ∃ a b : Nat, a + mc ≤ mc ∧ b + ms ≤ ms ∧ a = 0 ∧ b = 0 := ⟨0, 0, by omega, by omega, rfl, rfl⟩
  show W p l e ({ frames := 10, cells := mc, slots := ms, locals := 184 } : Room) s m args below meth c H locs 0 0 (MQ below (va_Qq post (ga_E g) (ga_A g)) args s mc ms (ga_A g)) (F0 m 0 ls [])
  suffices hgoal : W p l e ({ frames := 10, cells := mc, slots := ms, locals := 184 } : Room) s m args below meth c H locs cells slots (MQ below (va_Qq post (ga_E g) (ga_A g)) args s mc ms (ga_A g)) (F0 m 0 ls []) by rw [e0, e1] at hgoal; exact hgoal
  refine lv_aload_n hx hb dJ2_grow_0 rfl (lv_at hl 0 rfl) ?_
  obtain ⟨fs_1, v_2, hq, hv, hw⟩ := hw
  refine ga_get (ci := 13) (T := TJ2) (v := va_rf v_2) hx hb hts hown hI in_J2 rfl 1 (by decide) q203 (fun _ z => z) (ga_at.h hq) hv dJ2_grow_1 ?_
  obtain ⟨a_3, ea_3, hw⟩ := hw
  rewrite [ea_3]
  obtain ⟨n_4, f_5, hq, hw⟩ := hw
  refine ga_len hx hb hI hq rfl dJ2_grow_4 ?_
  refine lv_istore_n (i := 2) (lv' := [(2, .int (nI n_4)), (0, .ref p0), (1, .int p1)]) hx hb dJ2_grow_5 rfl hl (by decide) rfl (fun ls hl => ?_)
  refine lv_iload_n hx hb dJ2_grow_6 rfl (lv_at hl 0 rfl) ?_
  refine lv_if_gt (tgt := 20) hx hb dJ2_grow_7 (by decide) (fun hc_6 => ?_) (fun hc_6 => ?_)
  · have hw := hw.1 hc_6
    exact gj_J2_grow_20 g post p0 p1 (nI n_4) h mc ms ⟨hx, hb, hml, hown, hts, hr, hlk, hnm⟩ hw hI hbc hbs (lv_sub hl [1, 2, 0] rfl)
  · have hw := hw.2 hc_6
    refine lv_aload_n hx hb dJ2_grow_10 rfl (lv_at hl 1 rfl) ?_
    obtain ⟨fs_17, v_18, hq, hv, hw⟩ := hw
    refine ga_get (ci := 13) (T := TJ2) (v := va_rf v_18) hx hb hts hown hI in_J2 rfl 1 (by decide) q203 (fun _ z => z) (ga_at.h hq) hv dJ2_grow_11 ?_
    refine ga_sget (v := .ref (g.2.2.2 0)) hx hb hts hown hI 0 rfl q201 (fun _ z => z) dJ2_grow_14 ?_
    refine lv_acmp_eq (rx := v_18) (ry := (some (g.2.2.2 0))) (tgt := 45) hx hb dJ2_grow_17 (by decide) (fun hc_19 => ?_) (fun hc_19 => ?_)
    · have hw := hw.1 hc_19
      refine lv_aload_n hx hb dJ2_grow_45 rfl (lv_at hl 1 rfl) ?_
      refine lv_bipush (v := 10) hx hb dJ2_grow_46 (by decide) ?_
      refine lv_iload_n hx hb dJ2_grow_48 rfl (lv_at hl 2 rfl) ?_
      refine va_mmax hx hb (hml.trans hl.1.symm) hown (hts _ q1163) (hts _ q899) (hts _ q119) (hts _ q900) (Nat.le_of_ble_eq_true rfl) (Nat.le_trans (Nat.add_le_add_right (ga_sum [.ref p0] (Nat.le_of_ble_eq_true rfl)) _) (Nat.le_of_ble_eq_true rfl)) (Nat.le_trans (Nat.le_add_right _ _) hbc) (Nat.le_trans (Nat.le_add_right _ _) hbs) dJ2_grow_49 ?_
      refine lv_topi (fun r_20 er_20 => ?_)
      have hw := hw r_20 er_20
      refine ga_naq hx hb hts hown hI (t := 5) rfl q1164 q518 hbc hbs hw.1 (N := r_20.toNatClampNeg) rfl hw.2.1 hw.2.2.1 hw.2.2.2.1 dJ2_grow_52 (fun q_21 H cells slots hn_q_21 hI hbc hbs => ?_)
      obtain ⟨h_22, eh_22⟩ : ∃ z, z = ga_set h q_21 (ga_Aq 5 (r_20.toNatClampNeg) (fun _ => none)) := ⟨_, rfl⟩
      rw [← eh_22] at hI
      have hw := hw.2.2.2.2 q_21 hn_q_21 h_22 eh_22
      refine lv_dup_x1 hx hb dJ2_grow_55 rfl rfl ?_
      obtain ⟨fs_23, hq, hk, hw⟩ := hw
      refine ga_put (ci := 13) (T := TJ2) (v := va_rf (some q_21)) (ty := tyJ2 1) hx hb hts hown hI in_J2 rfl tyJ2 tyJ2_ok nmJ2 1 (by decide) q203 (fun _ z => z) rfl (tyJ2_ok 1 (by decide)) (ga_nq' _ _) (ga_fq' _ _) hq hk dJ2_grow_56 (fun H locs hI => ?_)
      obtain ⟨h_24, eh_24⟩ : ∃ z, z = ga_set h_22 p0 (ga_O 13 (fs_23.set 1 (va_rf (some q_21)))) := ⟨_, rfl⟩
      rw [← eh_24] at hI
      have hw := hw h_24 eh_24
      exact ga_qret (v := (some q_21)) hx hb hr (Or.inr ⟨_, rfl⟩) hlk hI hw (Nat.le_trans (Nat.le_add_right _ _) hbc) (Nat.le_trans (Nat.le_add_right _ _) hbs) dJ2_grow_59
    · have hw := hw.2 hc_19
      exact gj_J2_grow_20 g post p0 p1 (nI n_4) h mc ms ⟨hx, hb, hml, hown, hts, hr, hlk, hnm⟩ hw hI hbc hbs (lv_sub hl [1, 2, 0] rfl)
theorem hdG_J2_grow : yJ2_grow.cls ≠ "java/lang/invoke/MethodHandle" ∧ yJ2_grow.cls ≠ "java/lang/invoke/VarHandle" ∧ (parseMethodDescriptor yJ2_grow.desc).map (fun d => d.parameters.length) = some 1 := by decide +kernel
def gw_J2_addAll_56 (K : ga_K) (post : Int32 → ga_H → Prop) (p0 : Nat) (v2 : Option Nat) (v3 : Int32) (v4 : Option Nat) (v5 : Int32) (h : ga_H) (bc bs : Nat) : Prop :=
  ∃ a_23 : Nat, v2 = some a_23 ∧ ∃ a_24 : Nat, v4 = some a_24 ∧ ∃ (n_25 : Nat) (f_26 : Nat → Option Nat) (n_27 : Nat) (f_28 : Nat → Option Nat), (h a_23 = some (ga_Aq 5 n_25 f_26) ∨ (n_25 = 0 ∧ K.1 a_23 = some (ga_Aq 5 0 f_26))) ∧ h a_24 = some (ga_Aq 5 n_27 f_28) ∧ ¬ (0 : Int32) < 0 ∧ ¬ v5 < 0 ∧ ¬ v3 < 0 ∧ (0 : Int32).toNatClampNeg + v3.toNatClampNeg ≤ n_25 ∧ v5.toNatClampNeg + v3.toNatClampNeg ≤ n_27 ∧ (∀ i : Nat, i < v3.toNatClampNeg → ga_ok K h "java/lang/Object" (f_26 ((0 : Int32).toNatClampNeg + i))) ∧ ∀ h_29 : ga_H, h_29 = ga_set h a_24 (ga_Aq 5 n_27 (va_cpy f_26 f_28 (0 : Int32).toNatClampNeg v5.toNatClampNeg v3.toNatClampNeg)) → (∃ fs_30 : List Value, h_29 p0 = some (ga_O 13 fs_30) ∧ 2 < fs_30.length ∧ ∀ h_31 : ga_H, h_31 = ga_set h_29 p0 (ga_O 13 (fs_30.set 2 (.int (v5 + v3)))) → (post (1 : Int32) h_31))
set_option maxHeartbeats 4000000 in
theorem gj_J2_addAll_56 {p : Program} {l : Launch} {e : Env} {s : State} {m : MethodId} {args : Array Value} {below : List Frame} {meth : Method} {c : Code} {mc ms : Nat} {H : Heap} {locs : List Loc} {cells slots : Nat} {ls : Array Slot} (g : ga_G) (post : Int32 → ga_H → Prop) (p0 : Nat) (v2 : Option Nat) (v3 : Int32) (v4 : Option Nat) (v5 : Int32) (h : ga_H) (bc bs : Nat) (hC : ga_Cx p s m args meth c cJ2_addAll 6 (some .boolean) "java/util/ArrayList" "addAll") (hw : gw_J2_addAll_56 g.2.2 post p0 v2 v3 v4 v5 h bc bs) (hI : ga_I g h s H locs) (hbc : cells + bc ≤ mc) (hbs : slots + bs ≤ ms) (hl : lv_has ls 6 [(0, .ref p0), (2, va_rf v2), (3, .int v3), (4, va_rf v4), (5, .int v5)]) : W p l e ({ frames := 11, cells := mc, slots := ms, locals := 207 } : Room) s m args below meth c H locs cells slots (MQ below (va_Qi post (ga_E g) (ga_A g)) args s mc ms (ga_A g)) (F0 m 56 ls []) := by
  obtain ⟨hx, hb, hml, hown, hts, hr, hlk, hnm⟩ := hC
  unfold gw_J2_addAll_56 at hw
  refine ga_aload_n hx hb dJ2_addAll_56 rfl (lv_at hl 1 rfl) ?_
  refine lv_iconst (v := 0) hx hb dJ2_addAll_57 (by decide) ?_
  refine ga_aload hx hb dJ2_addAll_58 (lv_at hl 3 rfl) ?_
  refine lv_iload hx hb dJ2_addAll_60 (lv_at hl 4 rfl) ?_
  refine lv_iload_n hx hb dJ2_addAll_62 rfl (lv_at hl 2 rfl) ?_
  obtain ⟨a_23, ea_23, hw⟩ := hw
  rewrite [ea_23]
  obtain ⟨a_24, ea_24, hw⟩ := hw
  rewrite [ea_24]
  obtain ⟨n_25, f_26, n_27, f_28, hq0, hq1, k1, k2, k3, k4, k5, k6, hw⟩ := hw
  refine ga_copyq hx hb (hml.trans hl.1.symm) hts hown q1165 hI hq0 hq1 k1 k2 k3 k4 k5 k6 (Nat.le_of_ble_eq_true rfl) (Nat.le_trans (Nat.add_le_add_right (ga_sum [] (Nat.le_of_ble_eq_true rfl)) _) (show (8 : Nat) + (nativeFrameWords "java/lang/System" "arraycopy" 5 + 11) ≤ 207 by decide +kernel)) dJ2_addAll_63 (fun H locs hI => ?_)
  obtain ⟨h_29, eh_29⟩ : ∃ z, z = ga_set h a_24 (ga_Aq 5 n_27 (va_cpy f_26 f_28 (0 : Int32).toNatClampNeg v5.toNatClampNeg v3.toNatClampNeg)) := ⟨_, rfl⟩
  rw [← eh_29] at hI
  have hw := hw h_29 eh_29
  refine lv_aload_n hx hb dJ2_addAll_66 rfl (lv_at hl 0 rfl) ?_
  refine lv_iload hx hb dJ2_addAll_67 (lv_at hl 4 rfl) ?_
  refine lv_iload_n hx hb dJ2_addAll_69 rfl (lv_at hl 2 rfl) ?_
  refine lv_iadd hx hb dJ2_addAll_70 ?_
  obtain ⟨fs_30, hq, hk, hw⟩ := hw
  refine ga_put (ci := 13) (T := TJ2) (v := .int (v5 + v3)) (ty := tyJ2 2) hx hb hts hown hI in_J2 rfl tyJ2 tyJ2_ok nmJ2 2 (by decide) q206 (fun _ z => z) rfl (tyJ2_ok 2 (by decide)) rfl rfl hq hk dJ2_addAll_71 (fun H locs hI => ?_)
  obtain ⟨h_31, eh_31⟩ : ∃ z, z = ga_set h_29 p0 (ga_O 13 (fs_30.set 2 (.int (v5 + v3)))) := ⟨_, rfl⟩
  rw [← eh_31] at hI
  have hw := hw h_31 eh_31
  refine lv_iconst (v := 1) hx hb dJ2_addAll_74 (by decide) ?_
  exact ga_iret hx hb hr rfl hlk hI hw (Nat.le_trans (Nat.le_add_right _ _) hbc) (Nat.le_trans (Nat.le_add_right _ _) hbs) dJ2_addAll_75
def gw_J2_addAll (K : ga_K) (p0 : Nat) (p1 : Option Nat) (h : ga_H) (mc ms : Nat) (post : Int32 → ga_H → Prop) : Prop :=
  ∃ a_1 : Nat, p1 = some a_1 ∧ ∃ kc_2 ks_3 : Nat, kc_2 ≤ mc ∧ ks_3 ≤ ms ∧ ∃ fs_4 : List Value, ga_at K h a_1 (ga_O 13 fs_4) ∧ gw_J2_toArray K a_1 h kc_2 ks_3 (fun (r_6 : Option Nat) (h_5 : ga_H) => ∃ (fs_7 : List Value) (v_8 : Int32), h_5 p0 = some (ga_O 13 fs_7) ∧ fs_7[0]? = some (.int v_8) ∧ (∃ fs_9 : List Value, h_5 p0 = some (ga_O 13 fs_9) ∧ 0 < fs_9.length ∧ ∀ h_10 : ga_H, h_10 = ga_set h_5 p0 (ga_O 13 (fs_9.set 0 (.int (v_8 + (1 : Int32))))) → (∃ a_11 : Nat, r_6 = some a_11 ∧ ∃ (n_12 : Nat) (f_13 : Nat → Option Nat), ga_at K h_10 a_11 (ga_Aq 5 n_12 f_13) ∧ ((¬ nI n_12 = (0 : Int32) → (∃ (fs_15 : List Value) (v_16 : Option Nat), h_10 p0 = some (ga_O 13 fs_15) ∧ fs_15[1]? = some (va_rf v_16) ∧ (∃ a_17 : Nat, v_16 = some a_17 ∧ ∃ (n_18 : Nat) (f_19 : Nat → Option Nat), ga_at K h_10 a_17 (ga_Aq 5 n_18 f_19) ∧ (∃ (fs_20 : List Value) (v_21 : Int32), h_10 p0 = some (ga_O 13 fs_20) ∧ fs_20[2]? = some (.int v_21) ∧ ((nI n_12 ≤ (nI n_18) - v_21 → (gw_J2_addAll_56 K post p0 r_6 (nI n_12) v_16 v_21 h_10 (mc - kc_2) (ms - ks_3))) ∧ (¬ nI n_12 ≤ (nI n_18) - v_21 → (∃ kc_32 ks_33 : Nat, kc_32 ≤ (mc - kc_2) ∧ ks_33 ≤ (ms - ks_3) ∧ ∃ fs_34 : List Value, ga_at K h_10 p0 (ga_O 13 fs_34) ∧ gw_J2_grow K p0 (v_21 + (nI n_12)) h_10 kc_32 ks_33 (fun (r_36 : Option Nat) (h_35 : ga_H) => gw_J2_addAll_56 K post p0 r_6 (nI n_12) r_36 v_21 h_35 ((mc - kc_2) - kc_32) ((ms - ks_3) - ks_33))))))))) ∧ (nI n_12 = (0 : Int32) → (post (0 : Int32) h_10))))))
set_option maxHeartbeats 4000000 in
theorem gm_J2_addAll (l : Launch) (g : ga_G) (p0 : Nat) (p1 : Option Nat) (h : ga_H) (mc ms : Nat) (post : Int32 → ga_H → Prop) (hw : gw_J2_addAll g.2.2 p0 p1 h mc ms post) : Met l yJ2_addAll (ws_ yJ2_addAll cJ2_addAll 6 (some .boolean)) ({ frames := 11, cells := mc, slots := ms, locals := 207 } : Room) (va_Pc [.ref p0, va_rf p1] (ga_B g h)) (va_Qi post (ga_E g) (ga_A g)) mc ms (ga_A g) := by
  refine ga_met (own := "java/util/ArrayList") (nm := "addAll") (by decide) rfl rfl (by cases p1 <;> exact Nat.le_of_ble_eq_true rfl) (fun p e s m below meth c ls hC hI hl => ?_)
  have hl : lv_has ls 6 [(0, .ref p0), (1, va_rf p1)] := (by cases p1 <;> exact hl)
  generalize ([.ref p0, va_rf p1] : List Value).toArray = args at hC ⊢
  obtain ⟨hx, hb, hml, hown, hts, hr, hlk, hnm⟩ := hC
  unfold gw_J2_addAll at hw
  obtain ⟨H, eH⟩ : ∃ z, z = s.heap := ⟨_, rfl⟩
  obtain ⟨locs, elo⟩ : ∃ z : List Loc, z = [] := ⟨_, rfl⟩
  rw [← eH, ← elo] at hI ⊢
  obtain ⟨cells, slots, hbc, hbs, e0, e1⟩ : ∃ a b : Nat, a + mc ≤ mc ∧ b + ms ≤ ms ∧ a = 0 ∧ b = 0 := ⟨0, 0, by omega, by omega, rfl, rfl⟩
  show W p l e ({ frames := 11, cells := mc, slots := ms, locals := 207 } : Room) s m args below meth c H locs 0 0 (MQ below (va_Qi post (ga_E g) (ga_A g)) args s mc ms (ga_A g)) (F0 m 0 ls [])
  suffices hgoal : W p l e ({ frames := 11, cells := mc, slots := ms, locals := 207 } : Room) s m args below meth c H locs cells slots (MQ below (va_Qi post (ga_E g) (ga_A g)) args s mc ms (ga_A g)) (F0 m 0 ls []) by rw [e0, e1] at hgoal; exact hgoal
  refine ga_aload_n hx hb dJ2_addAll_0 rfl (lv_at hl 1 rfl) ?_
  obtain ⟨a_1, ea_1, hw⟩ := hw
  rewrite [ea_1]
  obtain ⟨kc_2, ks_3, hk1, hk2, hw⟩ := hw
  obtain ⟨fs_4, hq, hw⟩ := hw
  refine ga_callFq (va_runF (As := []) (rest := []) (hI.2.1.1.1.1 13 _ rfl).2 ⟨hx, hb, hml, hown, hts⟩ (gm_J2_toArray l g a_1 h kc_2 ks_3 _ hw) (va_cwF 0 hts (lw_app (List.forall_mem_cons.mpr ⟨q455, List.forall_mem_cons.mpr ⟨q459, List.forall_mem_cons.mpr ⟨q461, List.forall_mem_cons.mpr ⟨q104, fun _ h => absurd h List.not_mem_nil⟩⟩⟩⟩) (lw_meth q463)) rfl rfl rfl (hI.2.1.1.2.2 _ _ _ ⟨by decide +kernel, q457, q456, q462, q460, q458⟩) (by decide +kernel) ⟨Nat.le_of_ble_eq_true rfl, Nat.le_of_ble_eq_true rfl⟩) (ga_preV (C := "java/util/ArrayList") hI hq rfl rfl) rfl rfl hl.1 rfl (ga_room (Nat.le_of_ble_eq_true rfl)) dJ2_addAll_1 ⟨Nat.le_trans (Nat.add_le_add_left hk1 _) hbc, Nat.le_trans (Nat.add_le_add_left hk2 _) hbs⟩) hI hbc hbs hk1 hk2 (fun r_6 h_5 H locs cells slots hw hI hbc hbs => ?_)
  refine ga_astore_n (i := 2) (x := r_6) (lv' := [(2, va_rf r_6), (0, .ref p0), (1, va_rf p1)]) hx hb dJ2_addAll_6 rfl hl (by decide) (by simp [ga_rcat, ga_cat_r, ga_cat_i, ga_cat_f, ga_cat_l, ga_cat_d]) (fun ls hl => ?_)
  refine lv_aload_n hx hb dJ2_addAll_7 rfl (lv_at hl 1 rfl) ?_
  refine lv_dup hx hb dJ2_addAll_8 rfl ?_
  obtain ⟨fs_7, v_8, hq, hv, hw⟩ := hw
  refine ga_get (ci := 13) (T := TJ2) (v := .int v_8) hx hb hts hown hI in_J2 rfl 0 (by decide) q210 (u_same (hts _ q209)) (ga_at.h hq) hv dJ2_addAll_9 ?_
  refine lv_iconst (v := 1) hx hb dJ2_addAll_12 (by decide) ?_
  refine lv_iadd hx hb dJ2_addAll_13 ?_
  obtain ⟨fs_9, hq, hk, hw⟩ := hw
  refine ga_put (ci := 13) (T := TJ2) (v := .int (v_8 + (1 : Int32))) (ty := tyJ2 0) hx hb hts hown hI in_J2 rfl tyJ2 tyJ2_ok nmJ2 0 (by decide) q210 (u_same (hts _ q209)) rfl (tyJ2_ok 0 (by decide)) rfl rfl hq hk dJ2_addAll_14 (fun H locs hI => ?_)
  obtain ⟨h_10, eh_10⟩ : ∃ z, z = ga_set h_5 p0 (ga_O 13 (fs_9.set 0 (.int (v_8 + (1 : Int32))))) := ⟨_, rfl⟩
  rw [← eh_10] at hI
  have hw := hw h_10 eh_10
  refine ga_aload_n hx hb dJ2_addAll_17 rfl (lv_at hl 0 rfl) ?_
  obtain ⟨a_11, ea_11, hw⟩ := hw
  rewrite [ea_11]
  obtain ⟨n_12, f_13, hq, hw⟩ := hw
  refine ga_len hx hb hI hq rfl dJ2_addAll_18 ?_
  refine lv_istore_n (i := 3) (lv' := [(3, .int (nI n_12)), (2, va_rf r_6), (0, .ref p0), (1, va_rf p1)]) hx hb dJ2_addAll_19 rfl hl (by decide) (by simp [ga_rcat, ga_cat_r, ga_cat_i, ga_cat_f, ga_cat_l, ga_cat_d]) (fun ls hl => ?_)
  refine lv_iload_n hx hb dJ2_addAll_20 rfl (lv_at hl 0 rfl) ?_
  refine lv_if_ne (tgt := 26) hx hb dJ2_addAll_21 (by decide) (fun hc_14 => ?_) (fun hc_14 => ?_)
  · have hw := hw.1 hc_14
    refine lv_iload_n hx hb dJ2_addAll_26 rfl (lv_at hl 0 rfl) ?_
    refine lv_aload_n hx hb dJ2_addAll_27 rfl (lv_at hl 2 rfl) ?_
    obtain ⟨fs_15, v_16, hq, hv, hw⟩ := hw
    refine ga_get (ci := 13) (T := TJ2) (v := va_rf v_16) hx hb hts hown hI in_J2 rfl 1 (by decide) q203 (fun _ z => z) (ga_at.h hq) hv dJ2_addAll_28 ?_
    refine lv_dup hx hb dJ2_addAll_31 (ga_rcat _) ?_
    refine ga_astore (x := v_16) (lv' := [(4, va_rf v_16), (3, .int (nI n_12)), (2, va_rf r_6), (0, .ref p0), (1, va_rf p1)]) hx hb dJ2_addAll_32 hl (by decide) rfl (fun ls hl => ?_)
    obtain ⟨a_17, ea_17, hw⟩ := hw
    rewrite [ea_17]
    obtain ⟨n_18, f_19, hq, hw⟩ := hw
    refine ga_len hx hb hI hq rfl dJ2_addAll_34 ?_
    refine lv_aload_n hx hb dJ2_addAll_35 rfl (lv_at hl 3 rfl) ?_
    obtain ⟨fs_20, v_21, hq, hv, hw⟩ := hw
    refine ga_get (ci := 13) (T := TJ2) (v := .int v_21) hx hb hts hown hI in_J2 rfl 2 (by decide) q206 (fun _ z => z) (ga_at.h hq) hv dJ2_addAll_36 ?_
    refine lv_dup hx hb dJ2_addAll_39 rfl ?_
    refine lv_istore (lv' := [(5, .int v_21), (4, va_rf v_16), (3, .int (nI n_12)), (2, va_rf r_6), (0, .ref p0), (1, va_rf p1)]) hx hb dJ2_addAll_40 hl (by decide) (by simp [ga_rcat, ga_cat_r, ga_cat_i, ga_cat_f, ga_cat_l, ga_cat_d]) (fun ls hl => ?_)
    refine lv_isub hx hb dJ2_addAll_42 ?_
    refine lv_icmp_le (tgt := 56) hx hb dJ2_addAll_43 (by decide) (fun hc_22 => ?_) (fun hc_22 => ?_)
    · have hw := hw.1 hc_22
      exact gj_J2_addAll_56 g post p0 r_6 (nI n_12) v_16 v_21 h_10 (mc - kc_2) (ms - ks_3) ⟨hx, hb, hml, hown, hts, hr, hlk, hnm⟩ hw hI hbc hbs (lv_sub hl [4, 3, 2, 1, 0] rfl)
    · have hw := hw.2 hc_22
      refine lv_aload_n hx hb dJ2_addAll_46 rfl (lv_at hl 4 rfl) ?_
      refine lv_iload hx hb dJ2_addAll_47 (lv_at hl 0 rfl) ?_
      refine lv_iload_n hx hb dJ2_addAll_49 rfl (lv_at hl 2 rfl) ?_
      refine lv_iadd hx hb dJ2_addAll_50 ?_
      obtain ⟨kc_32, ks_33, hk1, hk2, hw⟩ := hw
      obtain ⟨fs_34, hq, hw⟩ := hw
      refine ga_callq (va_runV (As := [.int (v_21 + (nI n_12))]) (rest := []) ⟨hx, hb, hml, hown, hts⟩ (gm_J2_grow l g p0 (v_21 + (nI n_12)) h_10 kc_32 ks_33 _ hw) (cwV 1 hts (lw_V q1158 q1160 qs2 q104 q1161) rfl rfl rfl ⟨rfl, hdG_J2_grow⟩ ⟨Nat.le_of_ble_eq_true rfl, Nat.le_of_ble_eq_true rfl⟩) (ga_preV hI hq rfl rfl) rfl rfl hl.1 rfl (ga_room (Nat.le_of_ble_eq_true rfl)) dJ2_addAll_51 ⟨Nat.le_trans (Nat.add_le_add_left hk1 _) hbc, Nat.le_trans (Nat.add_le_add_left hk2 _) hbs⟩) hI hbc hbs hk1 hk2 (fun r_36 h_35 H locs cells slots hw hI hbc hbs => ?_)
      refine ga_astore (x := r_36) (lv' := [(4, va_rf r_36), (5, .int v_21), (3, .int (nI n_12)), (2, va_rf r_6), (0, .ref p0), (1, va_rf p1)]) hx hb dJ2_addAll_54 hl (by decide) rfl (fun ls hl => ?_)
      exact gj_J2_addAll_56 g post p0 r_6 (nI n_12) r_36 v_21 h_35 ((mc - kc_2) - kc_32) ((ms - ks_3) - ks_33) ⟨hx, hb, hml, hown, hts, hr, hlk, hnm⟩ hw hI hbc hbs (lv_sub hl [4, 3, 2, 0, 1] rfl)
  · have hw := hw.2 hc_14
    refine lv_iconst (v := 0) hx hb dJ2_addAll_24 (by decide) ?_
    exact ga_iret hx hb hr rfl hlk hI hw (Nat.le_trans (Nat.le_add_right _ _) hbc) (Nat.le_trans (Nat.le_add_right _ _) hbs) dJ2_addAll_25
theorem hdG_J2_addAll : yJ2_addAll.cls ≠ "java/lang/invoke/MethodHandle" ∧ yJ2_addAll.cls ≠ "java/lang/invoke/VarHandle" ∧ (parseMethodDescriptor yJ2_addAll.desc).map (fun d => d.parameters.length) = some 1 := by decide +kernel
def gw_J16_init (K : ga_K) (p0 : Nat) (p1 : Option Nat) (h : ga_H) (post : ga_H → Prop) : Prop :=
  ∃ fs_1 : List Value, h p0 = some (ga_O 14 fs_1) ∧ 3 < fs_1.length ∧ ∀ h_2 : ga_H, h_2 = ga_set h p0 (ga_O 14 (fs_1.set 3 (va_rf p1))) → (∃ fs_3 : List Value, h_2 p0 = some (ga_O 14 fs_3) ∧ 1 < fs_3.length ∧ ∀ h_4 : ga_H, h_4 = ga_set h_2 p0 (ga_O 14 (fs_3.set 1 (.int (-1 : Int32)))) → (∃ (fs_5 : List Value) (v_6 : Option Nat), h_4 p0 = some (ga_O 14 fs_5) ∧ fs_5[3]? = some (va_rf v_6) ∧ (∃ a_7 : Nat, v_6 = some a_7 ∧ ∃ (fs_8 : List Value) (v_9 : Int32), h_4 a_7 = some (ga_O 13 fs_8) ∧ fs_8[0]? = some (.int v_9) ∧ (∃ fs_10 : List Value, h_4 p0 = some (ga_O 14 fs_10) ∧ 2 < fs_10.length ∧ ∀ h_11 : ga_H, h_11 = ga_set h_4 p0 (ga_O 14 (fs_10.set 2 (.int v_9))) → (post h_11)))))
set_option maxHeartbeats 4000000 in
theorem gm_J16_init (l : Launch) (g : ga_G) (p0 : Nat) (p1 : Option Nat) (h : ga_H) (post : ga_H → Prop) (hw : gw_J16_init g.2.2 p0 p1 h post) : Met l yJ16_init (ws_ yJ16_init cJ16_init 2 none) ({ frames := 8, cells := 0, slots := 0, locals := 140 } : Room) (va_Pc [.ref p0, va_rf p1] (ga_B g h)) (va_Qv post (ga_E g) (ga_A g)) 0 0 (ga_A g) := by
  refine ga_met (own := "java/util/ArrayList$Itr") (nm := "<init>") (by decide) rfl rfl (by cases p1 <;> exact Nat.le_of_ble_eq_true rfl) (fun p e s m below meth c ls hC hI hl => ?_)
  have hl : lv_has ls 2 [(0, .ref p0), (1, va_rf p1)] := (by cases p1 <;> exact hl)
  generalize ([.ref p0, va_rf p1] : List Value).toArray = args at hC ⊢
  obtain ⟨hx, hb, hml, hown, hts, hr, hlk, hnm⟩ := hC
  unfold gw_J16_init at hw
  obtain ⟨H, eH⟩ : ∃ z, z = s.heap := ⟨_, rfl⟩
  obtain ⟨locs, elo⟩ : ∃ z : List Loc, z = [] := ⟨_, rfl⟩
  rw [← eH, ← elo] at hI ⊢
  obtain ⟨cells, slots, hbc, hbs, e0, e1⟩ : ∃ a b : Nat, a ≤ 0 ∧ b ≤ 0 ∧ a = 0 ∧ b = 0 := ⟨0, 0, by omega, by omega, rfl, rfl⟩
  show W p l e ({ frames := 8, cells := 0, slots := 0, locals := 140 } : Room) s m args below meth c H locs 0 0 (MQ below (va_Qv post (ga_E g) (ga_A g)) args s 0 0 (ga_A g)) (F0 m 0 ls [])
  suffices hgoal : W p l e ({ frames := 8, cells := 0, slots := 0, locals := 140 } : Room) s m args below meth c H locs cells slots (MQ below (va_Qv post (ga_E g) (ga_A g)) args s 0 0 (ga_A g)) (F0 m 0 ls []) by rw [e0, e1] at hgoal; exact hgoal
  refine lv_aload_n hx hb dJ16_init_0 rfl (lv_at hl 0 rfl) ?_
  refine ga_aload_n hx hb dJ16_init_1 rfl (lv_at hl 1 rfl) ?_
  obtain ⟨fs_1, hq, hk, hw⟩ := hw
  refine ga_putF (ci := 14) (T := TJ16) (v := va_rf p1) (ty := tyJ16 3) hx hb hts hown hI in_J16 rfl tyJ16 tyJ16_ok nmJ16 3 (by decide) q575 (fun _ z => z) rfl hnm rfl (tyJ16_ok 3 (by decide)) (ga_nq _ _) (ga_fq _ _) hq hk dJ16_init_2 (fun H locs hI => ?_)
  obtain ⟨h_2, eh_2⟩ : ∃ z, z = ga_set h p0 (ga_O 14 (fs_1.set 3 (va_rf p1))) := ⟨_, rfl⟩
  rw [← eh_2] at hI
  have hw := hw h_2 eh_2
  refine lv_aload_n hx hb dJ16_init_5 rfl (lv_at hl 0 rfl) ?_
  refine W.objInit hx hb hown (hts _ q571) (hts _ q179) (hts _ q180) rfl (by rw [hml]; exact hl.1) rfl dJ16_init_6 (Nat.le_of_ble_eq_true rfl) (by have := ga_sum [] (Nat.le_of_ble_eq_true rfl); exact Nat.le_trans (Nat.add_le_add_right (Nat.add_le_add_left this 0) 12) (Nat.le_of_ble_eq_true rfl)) ?_
  refine W.eq (g2 := F0 m 9 ls []) rfl ?_
  refine lv_aload_n hx hb dJ16_init_9 rfl (lv_at hl 0 rfl) ?_
  refine lv_iconst (v := -1) hx hb dJ16_init_10 (by decide) ?_
  obtain ⟨fs_3, hq, hk, hw⟩ := hw
  refine ga_put (ci := 14) (T := TJ16) (v := .int (-1 : Int32)) (ty := tyJ16 1) hx hb hts hown hI in_J16 rfl tyJ16 tyJ16_ok nmJ16 1 (by decide) q573 (fun _ z => z) rfl (tyJ16_ok 1 (by decide)) rfl rfl hq hk dJ16_init_11 (fun H locs hI => ?_)
  obtain ⟨h_4, eh_4⟩ : ∃ z, z = ga_set h_2 p0 (ga_O 14 (fs_3.set 1 (.int (-1 : Int32)))) := ⟨_, rfl⟩
  rw [← eh_4] at hI
  have hw := hw h_4 eh_4
  refine lv_aload_n hx hb dJ16_init_14 rfl (lv_at hl 0 rfl) ?_
  refine lv_aload_n hx hb dJ16_init_15 rfl (lv_at hl 0 rfl) ?_
  obtain ⟨fs_5, v_6, hq, hv, hw⟩ := hw
  refine ga_get (ci := 14) (T := TJ16) (v := va_rf v_6) hx hb hts hown hI in_J16 rfl 3 (by decide) q575 (fun _ z => z) (ga_at.h hq) hv dJ16_init_16 ?_
  obtain ⟨a_7, ea_7, hw⟩ := hw
  rewrite [ea_7]
  obtain ⟨fs_8, v_9, hq, hv, hw⟩ := hw
  refine ga_get (ci := 13) (T := TJ2) (v := .int v_9) hx hb hts hown hI in_J2 rfl 0 (by decide) q208 (u_same (hts _ q209)) (ga_at.h hq) hv dJ16_init_19 ?_
  obtain ⟨fs_10, hq, hk, hw⟩ := hw
  refine ga_put (ci := 14) (T := TJ16) (v := .int v_9) (ty := tyJ16 2) hx hb hts hown hI in_J16 rfl tyJ16 tyJ16_ok nmJ16 2 (by decide) q574 (fun _ z => z) rfl (tyJ16_ok 2 (by decide)) rfl rfl hq hk dJ16_init_22 (fun H locs hI => ?_)
  obtain ⟨h_11, eh_11⟩ : ∃ z, z = ga_set h_4 p0 (ga_O 14 (fs_10.set 2 (.int v_9))) := ⟨_, rfl⟩
  rw [← eh_11] at hI
  have hw := hw h_11 eh_11
  exact ga_vret hx hb hr hlk hI hw hbc hbs dJ16_init_25
theorem hdG_J16_init : yJ16_init.cls ≠ "java/lang/invoke/MethodHandle" ∧ yJ16_init.cls ≠ "java/lang/invoke/VarHandle" ∧ (parseMethodDescriptor yJ16_init.desc).map (fun d => d.parameters.length) = some 1 := by decide +kernel
def gw_J2_iterator (K : ga_K) (p0 : Nat) (h : ga_H) (mc ms : Nat) (post : Option Nat → ga_H → Prop) : Prop :=
  1 ≤ mc ∧ 4 ≤ ms ∧ ∀ q_1 : Nat, h q_1 = none → ∀ h_2 : ga_H, h_2 = ga_set h q_1 (ga_O 14 [.int 0, .int 0, .int 0, va_rf none]) → (gw_J16_init K q_1 (some p0) h_2 (fun (h_3 : ga_H) => post (some q_1) h_3))
set_option maxHeartbeats 4000000 in
theorem gm_J2_iterator (l : Launch) (g : ga_G) (p0 : Nat) (h : ga_H) (mc ms : Nat) (post : Option Nat → ga_H → Prop) (hw : gw_J2_iterator g.2.2 p0 h mc ms post) : Met l yJ2_iterator (ws_ yJ2_iterator cJ2_iterator 1 (some (.object "java/util/Iterator"))) ({ frames := 9, cells := mc, slots := ms, locals := 161 } : Room) (va_Pc [.ref p0] (ga_B g h)) (va_Qq post (ga_E g) (ga_A g)) mc ms (ga_A g) := by
  refine ga_met (own := "java/util/ArrayList") (nm := "iterator") (by decide) rfl rfl (by exact Nat.le_of_ble_eq_true rfl) (fun p e s m below meth c ls hC hI hl => ?_)
  have hl : lv_has ls 1 [(0, .ref p0)] := hl
  generalize ([.ref p0] : List Value).toArray = args at hC ⊢
  obtain ⟨hx, hb, hml, hown, hts, hr, hlk, hnm⟩ := hC
  unfold gw_J2_iterator at hw
  obtain ⟨H, eH⟩ : ∃ z, z = s.heap := ⟨_, rfl⟩
  obtain ⟨locs, elo⟩ : ∃ z : List Loc, z = [] := ⟨_, rfl⟩
  rw [← eH, ← elo] at hI ⊢
  obtain ⟨cells, slots, hbc, hbs, e0, e1⟩ : ∃ a b : Nat, a + mc ≤ mc ∧ b + ms ≤ ms ∧ a = 0 ∧ b = 0 := ⟨0, 0, by omega, by omega, rfl, rfl⟩
  show W p l e ({ frames := 9, cells := mc, slots := ms, locals := 161 } : Room) s m args below meth c H locs 0 0 (MQ below (va_Qq post (ga_E g) (ga_A g)) args s mc ms (ga_A g)) (F0 m 0 ls [])
  suffices hgoal : W p l e ({ frames := 9, cells := mc, slots := ms, locals := 161 } : Room) s m args below meth c H locs cells slots (MQ below (va_Qq post (ga_E g) (ga_A g)) args s mc ms (ga_A g)) (F0 m 0 ls []) by rw [e0, e1] at hgoal; exact hgoal
  refine ga_new (ci := 14) (T := TJ16) hx hb hts hown hI in_J16 rfl tyJ16 tyJ16_ok q566 q567 q122 [.int 0, .int 0, .int 0, va_rf none] ga_df_J16 hbc hbs hw.1 hw.2.1 dJ2_iterator_0 (fun q_1 H cells slots hn_q_1 hI hbc hbs => ?_)
  obtain ⟨h_2, eh_2⟩ : ∃ z, z = ga_set h q_1 (ga_O 14 [.int 0, .int 0, .int 0, va_rf none]) := ⟨_, rfl⟩
  rw [← eh_2] at hI
  have hw := hw.2.2 q_1 hn_q_1 h_2 eh_2
  refine lv_dup hx hb dJ2_iterator_3 rfl ?_
  refine lv_aload_n hx hb dJ2_iterator_4 rfl (lv_at hl 0 rfl) ?_
  refine ga_callv (va_runI (As := [va_rf (some p0)]) (rest := [.ref q_1]) ⟨hx, hb, hml, hown, hts⟩ (gm_J16_init l g q_1 (some p0) h_2 _ hw) (cwI 1 hts (lw_meth q570) rfl rfl rfl (hts _ q122) (hts _ q568) (hts _ q569) rfl hdG_J16_init ⟨Nat.le_of_ble_eq_true rfl, Nat.le_of_ble_eq_true rfl⟩) (ga_preS hI rfl) rfl rfl hl.1 rfl (ga_room (Nat.le_of_ble_eq_true rfl)) dJ2_iterator_5 ⟨Nat.le_trans (Nat.add_le_add_left (Nat.zero_le _) _) hbc, Nat.le_trans (Nat.add_le_add_left (Nat.zero_le _) _) hbs⟩) hI hbc hbs (Nat.zero_le _) (Nat.zero_le _) (fun h_3 H locs cells slots hw hI hbc hbs => ?_)
  exact ga_qret (v := (some q_1)) hx hb hr (Or.inl ⟨_, rfl⟩) hlk hI hw (Nat.le_trans (Nat.le_add_right _ _) hbc) (Nat.le_trans (Nat.le_add_right _ _) hbs) dJ2_iterator_8
theorem hdG_J2_iterator : yJ2_iterator.cls ≠ "java/lang/invoke/MethodHandle" ∧ yJ2_iterator.cls ≠ "java/lang/invoke/VarHandle" ∧ (parseMethodDescriptor yJ2_iterator.desc).map (fun d => d.parameters.length) = some 0 := by decide +kernel
def gw_J16_hasNext (K : ga_K) (p0 : Nat) (h : ga_H) (post : Int32 → ga_H → Prop) : Prop :=
  ∃ (fs_1 : List Value) (v_2 : Int32), h p0 = some (ga_O 14 fs_1) ∧ fs_1[0]? = some (.int v_2) ∧ (∃ (fs_3 : List Value) (v_4 : Option Nat), h p0 = some (ga_O 14 fs_3) ∧ fs_3[3]? = some (va_rf v_4) ∧ (∃ a_5 : Nat, v_4 = some a_5 ∧ ∃ (fs_6 : List Value) (v_7 : Int32), h a_5 = some (ga_O 13 fs_6) ∧ fs_6[2]? = some (.int v_7) ∧ ((v_2 = v_7 → (post (0 : Int32) h)) ∧ (¬ v_2 = v_7 → (post (1 : Int32) h)))))
set_option maxHeartbeats 4000000 in
theorem gm_J16_hasNext (l : Launch) (g : ga_G) (p0 : Nat) (h : ga_H) (post : Int32 → ga_H → Prop) (hw : gw_J16_hasNext g.2.2 p0 h post) : Met l yJ16_hasNext (ws_ yJ16_hasNext cJ16_hasNext 1 (some .boolean)) ({ frames := 8, cells := 0, slots := 0, locals := 140 } : Room) (va_Pc [.ref p0] (ga_B g h)) (va_Qi post (ga_E g) (ga_A g)) 0 0 (ga_A g) := by
  refine ga_met (own := "java/util/ArrayList$Itr") (nm := "hasNext") (by decide) rfl rfl (by exact Nat.le_of_ble_eq_true rfl) (fun p e s m below meth c ls hC hI hl => ?_)
  have hl : lv_has ls 1 [(0, .ref p0)] := hl
  generalize ([.ref p0] : List Value).toArray = args at hC ⊢
  obtain ⟨hx, hb, hml, hown, hts, hr, hlk, hnm⟩ := hC
  unfold gw_J16_hasNext at hw
  obtain ⟨H, eH⟩ : ∃ z, z = s.heap := ⟨_, rfl⟩
  obtain ⟨locs, elo⟩ : ∃ z : List Loc, z = [] := ⟨_, rfl⟩
  rw [← eH, ← elo] at hI ⊢
  obtain ⟨cells, slots, hbc, hbs, e0, e1⟩ : ∃ a b : Nat, a ≤ 0 ∧ b ≤ 0 ∧ a = 0 ∧ b = 0 := ⟨0, 0, by omega, by omega, rfl, rfl⟩
  show W p l e ({ frames := 8, cells := 0, slots := 0, locals := 140 } : Room) s m args below meth c H locs 0 0 (MQ below (va_Qi post (ga_E g) (ga_A g)) args s 0 0 (ga_A g)) (F0 m 0 ls [])
  suffices hgoal : W p l e ({ frames := 8, cells := 0, slots := 0, locals := 140 } : Room) s m args below meth c H locs cells slots (MQ below (va_Qi post (ga_E g) (ga_A g)) args s 0 0 (ga_A g)) (F0 m 0 ls []) by rw [e0, e1] at hgoal; exact hgoal
  refine lv_aload_n hx hb dJ16_hasNext_0 rfl (lv_at hl 0 rfl) ?_
  obtain ⟨fs_1, v_2, hq, hv, hw⟩ := hw
  refine ga_get (ci := 14) (T := TJ16) (v := .int v_2) hx hb hts hown hI in_J16 rfl 0 (by decide) q572 (fun _ z => z) (ga_at.h hq) hv dJ16_hasNext_1 ?_
  refine lv_aload_n hx hb dJ16_hasNext_4 rfl (lv_at hl 0 rfl) ?_
  obtain ⟨fs_3, v_4, hq, hv, hw⟩ := hw
  refine ga_get (ci := 14) (T := TJ16) (v := va_rf v_4) hx hb hts hown hI in_J16 rfl 3 (by decide) q575 (fun _ z => z) (ga_at.h hq) hv dJ16_hasNext_5 ?_
  obtain ⟨a_5, ea_5, hw⟩ := hw
  rewrite [ea_5]
  obtain ⟨fs_6, v_7, hq, hv, hw⟩ := hw
  refine ga_getN (ci := 13) (T := TJ2) (v := .int v_7) hx hb hts hown hI in_J2 rfl 2 (by decide) q205 (fun _ z => z) (ga_at.h hq) hv dJ16_hasNext_8 ?_
  refine lv_icmp_eq (tgt := 18) hx hb dJ16_hasNext_11 (by decide) (fun hc_8 => ?_) (fun hc_8 => ?_)
  · have hw := hw.1 hc_8
    refine lv_iconst (v := 0) hx hb dJ16_hasNext_18 (by decide) ?_
    exact ga_iret hx hb hr rfl hlk hI hw hbc hbs dJ16_hasNext_19
  · have hw := hw.2 hc_8
    refine lv_iconst (v := 1) hx hb dJ16_hasNext_14 (by decide) ?_
    refine lv_goto (tgt := 19) hx hb dJ16_hasNext_15 (by decide) ?_
    exact ga_iret hx hb hr rfl hlk hI hw hbc hbs dJ16_hasNext_19
theorem hdG_J16_hasNext : yJ16_hasNext.cls ≠ "java/lang/invoke/MethodHandle" ∧ yJ16_hasNext.cls ≠ "java/lang/invoke/VarHandle" ∧ (parseMethodDescriptor yJ16_hasNext.desc).map (fun d => d.parameters.length) = some 0 := by decide +kernel
def gw_J16_checkForComodification (K : ga_K) (p0 : Nat) (h : ga_H) (mc ms : Nat) (post : ga_H → Prop) : Prop :=
  ∃ (fs_1 : List Value) (v_2 : Option Nat), h p0 = some (ga_O 14 fs_1) ∧ fs_1[3]? = some (va_rf v_2) ∧ (∃ a_3 : Nat, v_2 = some a_3 ∧ ∃ (fs_4 : List Value) (v_5 : Int32), h a_3 = some (ga_O 13 fs_4) ∧ fs_4[0]? = some (.int v_5) ∧ (∃ (fs_6 : List Value) (v_7 : Int32), h p0 = some (ga_O 14 fs_6) ∧ fs_6[2]? = some (.int v_7) ∧ ((v_5 = v_7 → (post h)) ∧ (¬ v_5 = v_7 → False))))
set_option maxHeartbeats 4000000 in
theorem gm_J16_checkForComodification (l : Launch) (g : ga_G) (p0 : Nat) (h : ga_H) (mc ms : Nat) (post : ga_H → Prop) (hw : gw_J16_checkForComodification g.2.2 p0 h mc ms post) : Met l yJ16_checkForComodification (ws_ yJ16_checkForComodification cJ16_checkForComodification 1 none) ({ frames := 8, cells := mc, slots := ms, locals := 140 } : Room) (va_Pc [.ref p0] (ga_B g h)) (va_Qv post (ga_E g) (ga_A g)) mc ms (ga_A g) := by
  refine ga_met (own := "java/util/ArrayList$Itr") (nm := "checkForComodification") (by decide) rfl rfl (by exact Nat.le_of_ble_eq_true rfl) (fun p e s m below meth c ls hC hI hl => ?_)
  have hl : lv_has ls 1 [(0, .ref p0)] := hl
  generalize ([.ref p0] : List Value).toArray = args at hC ⊢
  obtain ⟨hx, hb, hml, hown, hts, hr, hlk, hnm⟩ := hC
  unfold gw_J16_checkForComodification at hw
  obtain ⟨H, eH⟩ : ∃ z, z = s.heap := ⟨_, rfl⟩
  obtain ⟨locs, elo⟩ : ∃ z : List Loc, z = [] := ⟨_, rfl⟩
  rw [← eH, ← elo] at hI ⊢
  obtain ⟨cells, slots, hbc, hbs, e0, e1⟩ : ∃ a b : Nat, a + mc ≤ mc ∧ b + ms ≤ ms ∧ a = 0 ∧ b = 0 := ⟨0, 0, by omega, by omega, rfl, rfl⟩
  show W p l e ({ frames := 8, cells := mc, slots := ms, locals := 140 } : Room) s m args below meth c H locs 0 0 (MQ below (va_Qv post (ga_E g) (ga_A g)) args s mc ms (ga_A g)) (F0 m 0 ls [])
  suffices hgoal : W p l e ({ frames := 8, cells := mc, slots := ms, locals := 140 } : Room) s m args below meth c H locs cells slots (MQ below (va_Qv post (ga_E g) (ga_A g)) args s mc ms (ga_A g)) (F0 m 0 ls []) by rw [e0, e1] at hgoal; exact hgoal
  refine lv_aload_n hx hb dJ16_checkForComodification_0 rfl (lv_at hl 0 rfl) ?_
  obtain ⟨fs_1, v_2, hq, hv, hw⟩ := hw
  refine ga_get (ci := 14) (T := TJ16) (v := va_rf v_2) hx hb hts hown hI in_J16 rfl 3 (by decide) q575 (fun _ z => z) (ga_at.h hq) hv dJ16_checkForComodification_1 ?_
  obtain ⟨a_3, ea_3, hw⟩ := hw
  rewrite [ea_3]
  obtain ⟨fs_4, v_5, hq, hv, hw⟩ := hw
  refine ga_get (ci := 13) (T := TJ2) (v := .int v_5) hx hb hts hown hI in_J2 rfl 0 (by decide) q208 (u_same (hts _ q209)) (ga_at.h hq) hv dJ16_checkForComodification_4 ?_
  refine lv_aload_n hx hb dJ16_checkForComodification_7 rfl (lv_at hl 0 rfl) ?_
  obtain ⟨fs_6, v_7, hq, hv, hw⟩ := hw
  refine ga_get (ci := 14) (T := TJ16) (v := .int v_7) hx hb hts hown hI in_J16 rfl 2 (by decide) q574 (fun _ z => z) (ga_at.h hq) hv dJ16_checkForComodification_8 ?_
  refine lv_icmp_eq (tgt := 22) hx hb dJ16_checkForComodification_11 (by decide) (fun hc_8 => ?_) (fun hc_8 => ?_)
  · have hw := hw.1 hc_8
    exact ga_vret hx hb hr hlk hI hw (Nat.le_trans (Nat.le_add_right _ _) hbc) (Nat.le_trans (Nat.le_add_right _ _) hbs) dJ16_checkForComodification_22
  · have hw := hw.2 hc_8
    exact hw.elim
theorem hdG_J16_checkForComodification : yJ16_checkForComodification.cls ≠ "java/lang/invoke/MethodHandle" ∧ yJ16_checkForComodification.cls ≠ "java/lang/invoke/VarHandle" ∧ (parseMethodDescriptor yJ16_checkForComodification.desc).map (fun d => d.parameters.length) = some 0 := by decide +kernel
def gw_J16_next (K : ga_K) (p0 : Nat) (h : ga_H) (mc ms : Nat) (post : Option Nat → ga_H → Prop) : Prop :=
  ∃ kc_1 ks_2 : Nat, kc_1 ≤ mc ∧ ks_2 ≤ ms ∧ ∃ fs_3 : List Value, ga_at K h p0 (ga_O 14 fs_3) ∧ gw_J16_checkForComodification K p0 h kc_1 ks_2 (fun (h_4 : ga_H) => ∃ (fs_5 : List Value) (v_6 : Int32), h_4 p0 = some (ga_O 14 fs_5) ∧ fs_5[0]? = some (.int v_6) ∧ (∃ (fs_7 : List Value) (v_8 : Option Nat), h_4 p0 = some (ga_O 14 fs_7) ∧ fs_7[3]? = some (va_rf v_8) ∧ (∃ a_9 : Nat, v_8 = some a_9 ∧ ∃ (fs_10 : List Value) (v_11 : Int32), h_4 a_9 = some (ga_O 13 fs_10) ∧ fs_10[2]? = some (.int v_11) ∧ ((v_6 < v_11 → (∃ (fs_13 : List Value) (v_14 : Option Nat), h_4 p0 = some (ga_O 14 fs_13) ∧ fs_13[3]? = some (va_rf v_14) ∧ (∃ a_15 : Nat, v_14 = some a_15 ∧ ∃ (fs_16 : List Value) (v_17 : Option Nat), h_4 a_15 = some (ga_O 13 fs_16) ∧ fs_16[1]? = some (va_rf v_17) ∧ (∃ a_18 : Nat, v_17 = some a_18 ∧ ∃ (n_19 : Nat) (f_20 : Nat → Option Nat), ga_at K h_4 a_18 (ga_Aq 5 n_19 f_20) ∧ ((v_6 < nI n_19 → (∃ fs_22 : List Value, h_4 p0 = some (ga_O 14 fs_22) ∧ 0 < fs_22.length ∧ ∀ h_23 : ga_H, h_23 = ga_set h_4 p0 (ga_O 14 (fs_22.set 0 (.int (v_6 + (1 : Int32))))) → (∃ fs_24 : List Value, h_23 p0 = some (ga_O 14 fs_24) ∧ 1 < fs_24.length ∧ ∀ h_25 : ga_H, h_25 = ga_set h_23 p0 (ga_O 14 (fs_24.set 1 (.int v_6))) → (∃ a_26 : Nat, v_17 = some a_26 ∧ ∃ (n_27 : Nat) (f_28 : Nat → Option Nat), ga_at K h_25 a_26 (ga_Aq 5 n_27 f_28) ∧ vp_in v_6 n_27 ∧ ∀ v_29 : Option Nat, v_29 = f_28 v_6.toNatClampNeg → (post v_29 h_25))))) ∧ (¬ v_6 < nI n_19 → False)))))) ∧ (¬ v_6 < v_11 → False)))))
set_option maxHeartbeats 4000000 in
theorem gm_J16_next (l : Launch) (g : ga_G) (p0 : Nat) (h : ga_H) (mc ms : Nat) (post : Option Nat → ga_H → Prop) (hw : gw_J16_next g.2.2 p0 h mc ms post) : Met l yJ16_next (ws_ yJ16_next cJ16_next 3 (some (.object "java/lang/Object"))) ({ frames := 9, cells := mc, slots := ms, locals := 160 } : Room) (va_Pc [.ref p0] (ga_B g h)) (va_Qq post (ga_E g) (ga_A g)) mc ms (ga_A g) := by
  refine ga_met (own := "java/util/ArrayList$Itr") (nm := "next") (by decide) rfl rfl (by exact Nat.le_of_ble_eq_true rfl) (fun p e s m below meth c ls hC hI hl => ?_)
  have hl : lv_has ls 3 [(0, .ref p0)] := hl
  generalize ([.ref p0] : List Value).toArray = args at hC ⊢
  obtain ⟨hx, hb, hml, hown, hts, hr, hlk, hnm⟩ := hC
  unfold gw_J16_next at hw
  obtain ⟨H, eH⟩ : ∃ z, z = s.heap := ⟨_, rfl⟩
  obtain ⟨locs, elo⟩ : ∃ z : List Loc, z = [] := ⟨_, rfl⟩
  rw [← eH, ← elo] at hI ⊢
  obtain ⟨cells, slots, hbc, hbs, e0, e1⟩ : ∃ a b : Nat, a + mc ≤ mc ∧ b + ms ≤ ms ∧ a = 0 ∧ b = 0 := ⟨0, 0, by omega, by omega, rfl, rfl⟩
  show W p l e ({ frames := 9, cells := mc, slots := ms, locals := 160 } : Room) s m args below meth c H locs 0 0 (MQ below (va_Qq post (ga_E g) (ga_A g)) args s mc ms (ga_A g)) (F0 m 0 ls [])
  suffices hgoal : W p l e ({ frames := 9, cells := mc, slots := ms, locals := 160 } : Room) s m args below meth c H locs cells slots (MQ below (va_Qq post (ga_E g) (ga_A g)) args s mc ms (ga_A g)) (F0 m 0 ls []) by rw [e0, e1] at hgoal; exact hgoal
  refine lv_aload_n hx hb dJ16_next_0 rfl (lv_at hl 0 rfl) ?_
  obtain ⟨kc_1, ks_2, hk1, hk2, hw⟩ := hw
  obtain ⟨fs_3, hq, hw⟩ := hw
  refine ga_callv (va_runV (As := []) (rest := []) ⟨hx, hb, hml, hown, hts⟩ (gm_J16_checkForComodification l g p0 h kc_1 ks_2 _ hw) (cwV 0 hts (lw_V q726 q727 q728 q122 q729) rfl rfl rfl ⟨rfl, hdG_J16_checkForComodification⟩ ⟨Nat.le_of_ble_eq_true rfl, Nat.le_of_ble_eq_true rfl⟩) (ga_preV hI hq rfl rfl) rfl rfl hl.1 rfl (ga_room (Nat.le_of_ble_eq_true rfl)) dJ16_next_1 ⟨Nat.le_trans (Nat.add_le_add_left hk1 _) hbc, Nat.le_trans (Nat.add_le_add_left hk2 _) hbs⟩) hI hbc hbs hk1 hk2 (fun h_4 H locs cells slots hw hI hbc hbs => ?_)
  refine lv_aload_n hx hb dJ16_next_4 rfl (lv_at hl 0 rfl) ?_
  obtain ⟨fs_5, v_6, hq, hv, hw⟩ := hw
  refine ga_get (ci := 14) (T := TJ16) (v := .int v_6) hx hb hts hown hI in_J16 rfl 0 (by decide) q572 (fun _ z => z) (ga_at.h hq) hv dJ16_next_5 ?_
  refine lv_istore_n (i := 1) (lv' := [(1, .int v_6), (0, .ref p0)]) hx hb dJ16_next_8 rfl hl (by decide) rfl (fun ls hl => ?_)
  refine lv_iload_n hx hb dJ16_next_9 rfl (lv_at hl 0 rfl) ?_
  refine lv_aload_n hx hb dJ16_next_10 rfl (lv_at hl 1 rfl) ?_
  obtain ⟨fs_7, v_8, hq, hv, hw⟩ := hw
  refine ga_get (ci := 14) (T := TJ16) (v := va_rf v_8) hx hb hts hown hI in_J16 rfl 3 (by decide) q575 (fun _ z => z) (ga_at.h hq) hv dJ16_next_11 ?_
  obtain ⟨a_9, ea_9, hw⟩ := hw
  rewrite [ea_9]
  obtain ⟨fs_10, v_11, hq, hv, hw⟩ := hw
  refine ga_getN (ci := 13) (T := TJ2) (v := .int v_11) hx hb hts hown hI in_J2 rfl 2 (by decide) q205 (fun _ z => z) (ga_at.h hq) hv dJ16_next_14 ?_
  refine lv_icmp_lt (tgt := 28) hx hb dJ16_next_17 (by decide) (fun hc_12 => ?_) (fun hc_12 => ?_)
  · have hw := hw.1 hc_12
    refine lv_aload_n hx hb dJ16_next_28 rfl (lv_at hl 1 rfl) ?_
    obtain ⟨fs_13, v_14, hq, hv, hw⟩ := hw
    refine ga_get (ci := 14) (T := TJ16) (v := va_rf v_14) hx hb hts hown hI in_J16 rfl 3 (by decide) q575 (fun _ z => z) (ga_at.h hq) hv dJ16_next_29 ?_
    obtain ⟨a_15, ea_15, hw⟩ := hw
    rewrite [ea_15]
    obtain ⟨fs_16, v_17, hq, hv, hw⟩ := hw
    refine ga_get (ci := 13) (T := TJ2) (v := va_rf v_17) hx hb hts hown hI in_J2 rfl 1 (by decide) q204 (fun _ z => z) (ga_at.h hq) hv dJ16_next_32 ?_
    refine ga_astore_n (i := 2) (x := v_17) (lv' := [(2, va_rf v_17), (1, .int v_6), (0, .ref p0)]) hx hb dJ16_next_35 rfl hl (by decide) rfl (fun ls hl => ?_)
    refine lv_iload_n hx hb dJ16_next_36 rfl (lv_at hl 1 rfl) ?_
    refine ga_aload_n hx hb dJ16_next_37 rfl (lv_at hl 0 rfl) ?_
    obtain ⟨a_18, ea_18, hw⟩ := hw
    rewrite [ea_18]
    obtain ⟨n_19, f_20, hq, hw⟩ := hw
    refine ga_len hx hb hI hq rfl dJ16_next_38 ?_
    refine lv_icmp_lt (tgt := 50) hx hb dJ16_next_39 (by decide) (fun hc_21 => ?_) (fun hc_21 => ?_)
    · have hw := hw.1 hc_21
      refine lv_aload_n hx hb dJ16_next_50 rfl (lv_at hl 2 rfl) ?_
      refine lv_iload_n hx hb dJ16_next_51 rfl (lv_at hl 1 rfl) ?_
      refine lv_iconst (v := 1) hx hb dJ16_next_52 (by decide) ?_
      refine lv_iadd hx hb dJ16_next_53 ?_
      obtain ⟨fs_22, hq, hk, hw⟩ := hw
      refine ga_put (ci := 14) (T := TJ16) (v := .int (v_6 + (1 : Int32))) (ty := tyJ16 0) hx hb hts hown hI in_J16 rfl tyJ16 tyJ16_ok nmJ16 0 (by decide) q572 (fun _ z => z) rfl (tyJ16_ok 0 (by decide)) rfl rfl hq hk dJ16_next_54 (fun H locs hI => ?_)
      obtain ⟨h_23, eh_23⟩ : ∃ z, z = ga_set h_4 p0 (ga_O 14 (fs_22.set 0 (.int (v_6 + (1 : Int32))))) := ⟨_, rfl⟩
      rw [← eh_23] at hI
      have hw := hw h_23 eh_23
      refine ga_aload_n hx hb dJ16_next_57 rfl (lv_at hl 0 rfl) ?_
      refine lv_aload_n hx hb dJ16_next_58 rfl (lv_at hl 2 rfl) ?_
      refine lv_iload_n hx hb dJ16_next_59 rfl (lv_at hl 1 rfl) ?_
      refine lv_dup_x1 hx hb dJ16_next_60 rfl rfl ?_
      obtain ⟨fs_24, hq, hk, hw⟩ := hw
      refine ga_put (ci := 14) (T := TJ16) (v := .int v_6) (ty := tyJ16 1) hx hb hts hown hI in_J16 rfl tyJ16 tyJ16_ok nmJ16 1 (by decide) q573 (fun _ z => z) rfl (tyJ16_ok 1 (by decide)) rfl rfl hq hk dJ16_next_61 (fun H locs hI => ?_)
      obtain ⟨h_25, eh_25⟩ : ∃ z, z = ga_set h_23 p0 (ga_O 14 (fs_24.set 1 (.int v_6))) := ⟨_, rfl⟩
      rw [← eh_25] at hI
      have hw := hw h_25 eh_25
      obtain ⟨a_26, ea_26, hw⟩ := hw
      rewrite [ea_26]
      obtain ⟨n_27, f_28, hq, hi, hw⟩ := hw
      refine ga_ldq hx hb hI hq rfl hi dJ16_next_64 ?_
      obtain ⟨v_29, ev_29⟩ : ∃ z, z = f_28 v_6.toNatClampNeg := ⟨_, rfl⟩
      rw [← ev_29]
      have hw := hw v_29 ev_29
      exact ga_qret (v := v_29) hx hb hr (Or.inl ⟨_, rfl⟩) hlk hI hw (Nat.le_trans (Nat.le_add_right _ _) hbc) (Nat.le_trans (Nat.le_add_right _ _) hbs) dJ16_next_65
    · have hw := hw.2 hc_21
      exact hw.elim
  · have hw := hw.2 hc_12
    exact hw.elim
theorem hdG_J16_next : yJ16_next.cls ≠ "java/lang/invoke/MethodHandle" ∧ yJ16_next.cls ≠ "java/lang/invoke/VarHandle" ∧ (parseMethodDescriptor yJ16_next.desc).map (fun d => d.parameters.length) = some 0 := by decide +kernel
def gw_J2_grow_2 (K : ga_K) (p0 : Nat) (h : ga_H) (mc ms : Nat) (post : Option Nat → ga_H → Prop) : Prop :=
  ∃ (fs_1 : List Value) (v_2 : Int32), h p0 = some (ga_O 13 fs_1) ∧ fs_1[2]? = some (.int v_2) ∧ (∃ kc_3 ks_4 : Nat, kc_3 ≤ mc ∧ ks_4 ≤ ms ∧ ∃ fs_5 : List Value, ga_at K h p0 (ga_O 13 fs_5) ∧ gw_J2_grow K p0 (v_2 + (1 : Int32)) h kc_3 ks_4 (fun (r_7 : Option Nat) (h_6 : ga_H) => post r_7 h_6))
set_option maxHeartbeats 4000000 in
theorem gm_J2_grow_2 (l : Launch) (g : ga_G) (p0 : Nat) (h : ga_H) (mc ms : Nat) (post : Option Nat → ga_H → Prop) (hw : gw_J2_grow_2 g.2.2 p0 h mc ms post) : Met l yJ2_grow_2 (ws_ yJ2_grow_2 cJ2_grow_2 1 (some (.array (.object "java/lang/Object")))) ({ frames := 11, cells := mc, slots := ms, locals := 207 } : Room) (va_Pc [.ref p0] (ga_B g h)) (va_Qq post (ga_E g) (ga_A g)) mc ms (ga_A g) := by
  refine ga_met (own := "java/util/ArrayList") (nm := "grow") (by decide) rfl rfl (by exact Nat.le_of_ble_eq_true rfl) (fun p e s m below meth c ls hC hI hl => ?_)
  have hl : lv_has ls 1 [(0, .ref p0)] := hl
  generalize ([.ref p0] : List Value).toArray = args at hC ⊢
  obtain ⟨hx, hb, hml, hown, hts, hr, hlk, hnm⟩ := hC
  unfold gw_J2_grow_2 at hw
  obtain ⟨H, eH⟩ : ∃ z, z = s.heap := ⟨_, rfl⟩
  obtain ⟨locs, elo⟩ : ∃ z : List Loc, z = [] := ⟨_, rfl⟩
  rw [← eH, ← elo] at hI ⊢
  obtain ⟨cells, slots, hbc, hbs, e0, e1⟩ : ∃ a b : Nat, a + mc ≤ mc ∧ b + ms ≤ ms ∧ a = 0 ∧ b = 0 := ⟨0, 0, by omega, by omega, rfl, rfl⟩
  show W p l e ({ frames := 11, cells := mc, slots := ms, locals := 207 } : Room) s m args below meth c H locs 0 0 (MQ below (va_Qq post (ga_E g) (ga_A g)) args s mc ms (ga_A g)) (F0 m 0 ls [])
  suffices hgoal : W p l e ({ frames := 11, cells := mc, slots := ms, locals := 207 } : Room) s m args below meth c H locs cells slots (MQ below (va_Qq post (ga_E g) (ga_A g)) args s mc ms (ga_A g)) (F0 m 0 ls []) by rw [e0, e1] at hgoal; exact hgoal
  refine lv_aload_n hx hb dJ2_grow_2_0 rfl (lv_at hl 0 rfl) ?_
  refine lv_aload_n hx hb dJ2_grow_2_1 rfl (lv_at hl 0 rfl) ?_
  obtain ⟨fs_1, v_2, hq, hv, hw⟩ := hw
  refine ga_get (ci := 13) (T := TJ2) (v := .int v_2) hx hb hts hown hI in_J2 rfl 2 (by decide) q206 (fun _ z => z) (ga_at.h hq) hv dJ2_grow_2_2 ?_
  refine lv_iconst (v := 1) hx hb dJ2_grow_2_5 (by decide) ?_
  refine lv_iadd hx hb dJ2_grow_2_6 ?_
  obtain ⟨kc_3, ks_4, hk1, hk2, hw⟩ := hw
  obtain ⟨fs_5, hq, hw⟩ := hw
  refine ga_callq (va_runV (As := [.int (v_2 + (1 : Int32))]) (rest := []) ⟨hx, hb, hml, hown, hts⟩ (gm_J2_grow l g p0 (v_2 + (1 : Int32)) h kc_3 ks_4 _ hw) (cwV 1 hts (lw_V q1158 q1160 qs2 q104 q1161) rfl rfl rfl ⟨rfl, hdG_J2_grow⟩ ⟨Nat.le_of_ble_eq_true rfl, Nat.le_of_ble_eq_true rfl⟩) (ga_preV hI hq rfl rfl) rfl rfl hl.1 rfl (ga_room (Nat.le_of_ble_eq_true rfl)) dJ2_grow_2_7 ⟨Nat.le_trans (Nat.add_le_add_left hk1 _) hbc, Nat.le_trans (Nat.add_le_add_left hk2 _) hbs⟩) hI hbc hbs hk1 hk2 (fun r_7 h_6 H locs cells slots hw hI hbc hbs => ?_)
  exact ga_qret (v := r_7) hx hb hr (Or.inr ⟨_, rfl⟩) hlk hI hw (Nat.le_trans (Nat.le_add_right _ _) hbc) (Nat.le_trans (Nat.le_add_right _ _) hbs) dJ2_grow_2_10
theorem hdG_J2_grow_2 : yJ2_grow_2.cls ≠ "java/lang/invoke/MethodHandle" ∧ yJ2_grow_2.cls ≠ "java/lang/invoke/VarHandle" ∧ (parseMethodDescriptor yJ2_grow_2.desc).map (fun d => d.parameters.length) = some 0 := by decide +kernel
def gw_J2_add_2 (K : ga_K) (p0 : Nat) (p1 : Option Nat) (p2 : Option Nat) (p3 : Int32) (h : ga_H) (mc ms : Nat) (post : ga_H → Prop) : Prop :=
  ∃ a_1 : Nat, p2 = some a_1 ∧ ∃ (n_2 : Nat) (f_3 : Nat → Option Nat), ga_at K h a_1 (ga_Aq 5 n_2 f_3) ∧ ((¬ p3 = nI n_2 → (∃ a_5 : Nat, p2 = some a_5 ∧ ∃ (n_6 : Nat) (f_7 : Nat → Option Nat), h a_5 = some (ga_Aq 5 n_6 f_7) ∧ vp_in p3 n_6 ∧ ga_ok K h "java/lang/Object" p1 ∧ ∀ h_8 : ga_H, h_8 = ga_set h a_5 (ga_Aq 5 n_6 (va_up f_7 p3.toNatClampNeg p1)) → (∃ fs_9 : List Value, h_8 p0 = some (ga_O 13 fs_9) ∧ 2 < fs_9.length ∧ ∀ h_10 : ga_H, h_10 = ga_set h_8 p0 (ga_O 13 (fs_9.set 2 (.int (p3 + (1 : Int32))))) → (post h_10)))) ∧ (p3 = nI n_2 → (∃ kc_11 ks_12 : Nat, kc_11 ≤ mc ∧ ks_12 ≤ ms ∧ ∃ fs_13 : List Value, ga_at K h p0 (ga_O 13 fs_13) ∧ gw_J2_grow_2 K p0 h kc_11 ks_12 (fun (r_15 : Option Nat) (h_14 : ga_H) => ∃ a_16 : Nat, r_15 = some a_16 ∧ ∃ (n_17 : Nat) (f_18 : Nat → Option Nat), h_14 a_16 = some (ga_Aq 5 n_17 f_18) ∧ vp_in p3 n_17 ∧ ga_ok K h_14 "java/lang/Object" p1 ∧ ∀ h_19 : ga_H, h_19 = ga_set h_14 a_16 (ga_Aq 5 n_17 (va_up f_18 p3.toNatClampNeg p1)) → (∃ fs_20 : List Value, h_19 p0 = some (ga_O 13 fs_20) ∧ 2 < fs_20.length ∧ ∀ h_21 : ga_H, h_21 = ga_set h_19 p0 (ga_O 13 (fs_20.set 2 (.int (p3 + (1 : Int32))))) → (post h_21))))))
set_option maxHeartbeats 4000000 in
theorem gm_J2_add_2 (l : Launch) (g : ga_G) (p0 : Nat) (p1 : Option Nat) (p2 : Option Nat) (p3 : Int32) (h : ga_H) (mc ms : Nat) (post : ga_H → Prop) (hw : gw_J2_add_2 g.2.2 p0 p1 p2 p3 h mc ms post) : Met l yJ2_add_2 (ws_ yJ2_add_2 cJ2_add_2 4 none) ({ frames := 12, cells := mc, slots := ms, locals := 227 } : Room) (va_Pc [.ref p0, va_rf p1, va_rf p2, .int p3] (ga_B g h)) (va_Qv post (ga_E g) (ga_A g)) mc ms (ga_A g) := by
  refine ga_met (own := "java/util/ArrayList") (nm := "add") (by decide) rfl rfl (by cases p1 <;> cases p2 <;> exact Nat.le_of_ble_eq_true rfl) (fun p e s m below meth c ls hC hI hl => ?_)
  have hl : lv_has ls 4 [(0, .ref p0), (1, va_rf p1), (2, va_rf p2), (3, .int p3)] := (by cases p1 <;> cases p2 <;> exact hl)
  generalize ([.ref p0, va_rf p1, va_rf p2, .int p3] : List Value).toArray = args at hC ⊢
  obtain ⟨hx, hb, hml, hown, hts, hr, hlk, hnm⟩ := hC
  unfold gw_J2_add_2 at hw
  obtain ⟨H, eH⟩ : ∃ z, z = s.heap := ⟨_, rfl⟩
  obtain ⟨locs, elo⟩ : ∃ z : List Loc, z = [] := ⟨_, rfl⟩
  rw [← eH, ← elo] at hI ⊢
  obtain ⟨cells, slots, hbc, hbs, e0, e1⟩ : ∃ a b : Nat, a + mc ≤ mc ∧ b + ms ≤ ms ∧ a = 0 ∧ b = 0 := ⟨0, 0, by omega, by omega, rfl, rfl⟩
  show W p l e ({ frames := 12, cells := mc, slots := ms, locals := 227 } : Room) s m args below meth c H locs 0 0 (MQ below (va_Qv post (ga_E g) (ga_A g)) args s mc ms (ga_A g)) (F0 m 0 ls [])
  suffices hgoal : W p l e ({ frames := 12, cells := mc, slots := ms, locals := 227 } : Room) s m args below meth c H locs cells slots (MQ below (va_Qv post (ga_E g) (ga_A g)) args s mc ms (ga_A g)) (F0 m 0 ls []) by rw [e0, e1] at hgoal; exact hgoal
  refine lv_iload_n hx hb dJ2_add_2_0 rfl (lv_at hl 3 rfl) ?_
  refine ga_aload_n hx hb dJ2_add_2_1 rfl (lv_at hl 2 rfl) ?_
  obtain ⟨a_1, ea_1, hw⟩ := hw
  rewrite [ea_1]
  obtain ⟨n_2, f_3, hq, hw⟩ := hw
  refine ga_len hx hb hI hq rfl dJ2_add_2_2 ?_
  refine lv_icmp_ne (tgt := 11) hx hb dJ2_add_2_3 (by decide) (fun hc_4 => ?_) (fun hc_4 => ?_)
  · have hw := hw.1 hc_4
    refine ga_aload_n hx hb dJ2_add_2_11 rfl (lv_at hl 2 rfl) ?_
    refine lv_iload_n hx hb dJ2_add_2_12 rfl (lv_at hl 3 rfl) ?_
    refine ga_aload_n hx hb dJ2_add_2_13 rfl (lv_at hl 1 rfl) ?_
    obtain ⟨a_5, ea_5, hw⟩ := hw
    rewrite [ea_5]
    obtain ⟨n_6, f_7, hq, hi, hok, hw⟩ := hw
    refine ga_sto (x := p1) hx hb hI hq rfl hok hi dJ2_add_2_14 (fun H locs hI => ?_)
    obtain ⟨h_8, eh_8⟩ : ∃ z, z = ga_set h a_5 (ga_Aq 5 n_6 (va_up f_7 p3.toNatClampNeg p1)) := ⟨_, rfl⟩
    rw [← eh_8] at hI
    have hw := hw h_8 eh_8
    refine lv_aload_n hx hb dJ2_add_2_15 rfl (lv_at hl 0 rfl) ?_
    refine lv_iload_n hx hb dJ2_add_2_16 rfl (lv_at hl 3 rfl) ?_
    refine lv_iconst (v := 1) hx hb dJ2_add_2_17 (by decide) ?_
    refine lv_iadd hx hb dJ2_add_2_18 ?_
    obtain ⟨fs_9, hq, hk, hw⟩ := hw
    refine ga_put (ci := 13) (T := TJ2) (v := .int (p3 + (1 : Int32))) (ty := tyJ2 2) hx hb hts hown hI in_J2 rfl tyJ2 tyJ2_ok nmJ2 2 (by decide) q206 (fun _ z => z) rfl (tyJ2_ok 2 (by decide)) rfl rfl hq hk dJ2_add_2_19 (fun H locs hI => ?_)
    obtain ⟨h_10, eh_10⟩ : ∃ z, z = ga_set h_8 p0 (ga_O 13 (fs_9.set 2 (.int (p3 + (1 : Int32))))) := ⟨_, rfl⟩
    rw [← eh_10] at hI
    have hw := hw h_10 eh_10
    exact ga_vret hx hb hr hlk hI hw (Nat.le_trans (Nat.le_add_right _ _) hbc) (Nat.le_trans (Nat.le_add_right _ _) hbs) dJ2_add_2_22
  · have hw := hw.2 hc_4
    refine lv_aload_n hx hb dJ2_add_2_6 rfl (lv_at hl 0 rfl) ?_
    obtain ⟨kc_11, ks_12, hk1, hk2, hw⟩ := hw
    obtain ⟨fs_13, hq, hw⟩ := hw
    refine ga_callq (va_runV (As := []) (rest := []) ⟨hx, hb, hml, hown, hts⟩ (gm_J2_grow_2 l g p0 h kc_11 ks_12 _ hw) (cwV 0 hts (lw_V q1328 q1330 qs7 q104 q1331) rfl rfl rfl ⟨rfl, hdG_J2_grow_2⟩ ⟨Nat.le_of_ble_eq_true rfl, Nat.le_of_ble_eq_true rfl⟩) (ga_preV hI hq rfl rfl) rfl rfl hl.1 rfl (ga_room (Nat.le_of_ble_eq_true rfl)) dJ2_add_2_7 ⟨Nat.le_trans (Nat.add_le_add_left hk1 _) hbc, Nat.le_trans (Nat.add_le_add_left hk2 _) hbs⟩) hI hbc hbs hk1 hk2 (fun r_15 h_14 H locs cells slots hw hI hbc hbs => ?_)
    refine ga_astore_n (i := 2) (x := r_15) (lv' := [(2, va_rf r_15), (0, .ref p0), (1, va_rf p1), (3, .int p3)]) hx hb dJ2_add_2_10 rfl hl (by decide) (by simp [ga_rcat, ga_cat_r, ga_cat_i, ga_cat_f, ga_cat_l, ga_cat_d]) (fun ls hl => ?_)
    refine ga_aload_n hx hb dJ2_add_2_11 rfl (lv_at hl 0 rfl) ?_
    refine lv_iload_n hx hb dJ2_add_2_12 rfl (lv_at hl 3 rfl) ?_
    refine ga_aload_n hx hb dJ2_add_2_13 rfl (lv_at hl 2 rfl) ?_
    obtain ⟨a_16, ea_16, hw⟩ := hw
    rewrite [ea_16]
    obtain ⟨n_17, f_18, hq, hi, hok, hw⟩ := hw
    refine ga_sto (x := p1) hx hb hI hq rfl hok hi dJ2_add_2_14 (fun H locs hI => ?_)
    obtain ⟨h_19, eh_19⟩ : ∃ z, z = ga_set h_14 a_16 (ga_Aq 5 n_17 (va_up f_18 p3.toNatClampNeg p1)) := ⟨_, rfl⟩
    rw [← eh_19] at hI
    have hw := hw h_19 eh_19
    refine lv_aload_n hx hb dJ2_add_2_15 rfl (lv_at hl 1 rfl) ?_
    refine lv_iload_n hx hb dJ2_add_2_16 rfl (lv_at hl 3 rfl) ?_
    refine lv_iconst (v := 1) hx hb dJ2_add_2_17 (by decide) ?_
    refine lv_iadd hx hb dJ2_add_2_18 ?_
    obtain ⟨fs_20, hq, hk, hw⟩ := hw
    refine ga_put (ci := 13) (T := TJ2) (v := .int (p3 + (1 : Int32))) (ty := tyJ2 2) hx hb hts hown hI in_J2 rfl tyJ2 tyJ2_ok nmJ2 2 (by decide) q206 (fun _ z => z) rfl (tyJ2_ok 2 (by decide)) rfl rfl hq hk dJ2_add_2_19 (fun H locs hI => ?_)
    obtain ⟨h_21, eh_21⟩ : ∃ z, z = ga_set h_19 p0 (ga_O 13 (fs_20.set 2 (.int (p3 + (1 : Int32))))) := ⟨_, rfl⟩
    rw [← eh_21] at hI
    have hw := hw h_21 eh_21
    exact ga_vret hx hb hr hlk hI hw (Nat.le_trans (Nat.le_add_right _ _) hbc) (Nat.le_trans (Nat.le_add_right _ _) hbs) dJ2_add_2_22
theorem hdG_J2_add_2 : yJ2_add_2.cls ≠ "java/lang/invoke/MethodHandle" ∧ yJ2_add_2.cls ≠ "java/lang/invoke/VarHandle" ∧ (parseMethodDescriptor yJ2_add_2.desc).map (fun d => d.parameters.length) = some 3 := by decide +kernel
def gw_J2_add (K : ga_K) (p0 : Nat) (p1 : Option Nat) (h : ga_H) (mc ms : Nat) (post : Int32 → ga_H → Prop) : Prop :=
  ∃ (fs_1 : List Value) (v_2 : Int32), h p0 = some (ga_O 13 fs_1) ∧ fs_1[0]? = some (.int v_2) ∧ (∃ fs_3 : List Value, h p0 = some (ga_O 13 fs_3) ∧ 0 < fs_3.length ∧ ∀ h_4 : ga_H, h_4 = ga_set h p0 (ga_O 13 (fs_3.set 0 (.int (v_2 + (1 : Int32))))) → (∃ (fs_5 : List Value) (v_6 : Option Nat), h_4 p0 = some (ga_O 13 fs_5) ∧ fs_5[1]? = some (va_rf v_6) ∧ (∃ (fs_7 : List Value) (v_8 : Int32), h_4 p0 = some (ga_O 13 fs_7) ∧ fs_7[2]? = some (.int v_8) ∧ (∃ kc_9 ks_10 : Nat, kc_9 ≤ mc ∧ ks_10 ≤ ms ∧ ∃ fs_11 : List Value, ga_at K h_4 p0 (ga_O 13 fs_11) ∧ gw_J2_add_2 K p0 p1 v_6 v_8 h_4 kc_9 ks_10 (fun (h_12 : ga_H) => post (1 : Int32) h_12)))))
set_option maxHeartbeats 4000000 in
theorem gm_J2_add (l : Launch) (g : ga_G) (p0 : Nat) (p1 : Option Nat) (h : ga_H) (mc ms : Nat) (post : Int32 → ga_H → Prop) (hw : gw_J2_add g.2.2 p0 p1 h mc ms post) : Met l yJ2_add (ws_ yJ2_add cJ2_add 2 (some .boolean)) ({ frames := 13, cells := mc, slots := ms, locals := 250 } : Room) (va_Pc [.ref p0, va_rf p1] (ga_B g h)) (va_Qi post (ga_E g) (ga_A g)) mc ms (ga_A g) := by
  refine ga_met (own := "java/util/ArrayList") (nm := "add") (by decide) rfl rfl (by cases p1 <;> exact Nat.le_of_ble_eq_true rfl) (fun p e s m below meth c ls hC hI hl => ?_)
  have hl : lv_has ls 2 [(0, .ref p0), (1, va_rf p1)] := (by cases p1 <;> exact hl)
  generalize ([.ref p0, va_rf p1] : List Value).toArray = args at hC ⊢
  obtain ⟨hx, hb, hml, hown, hts, hr, hlk, hnm⟩ := hC
  unfold gw_J2_add at hw
  obtain ⟨H, eH⟩ : ∃ z, z = s.heap := ⟨_, rfl⟩
  obtain ⟨locs, elo⟩ : ∃ z : List Loc, z = [] := ⟨_, rfl⟩
  rw [← eH, ← elo] at hI ⊢
  obtain ⟨cells, slots, hbc, hbs, e0, e1⟩ : ∃ a b : Nat, a + mc ≤ mc ∧ b + ms ≤ ms ∧ a = 0 ∧ b = 0 := ⟨0, 0, by omega, by omega, rfl, rfl⟩
  show W p l e ({ frames := 13, cells := mc, slots := ms, locals := 250 } : Room) s m args below meth c H locs 0 0 (MQ below (va_Qi post (ga_E g) (ga_A g)) args s mc ms (ga_A g)) (F0 m 0 ls [])
  suffices hgoal : W p l e ({ frames := 13, cells := mc, slots := ms, locals := 250 } : Room) s m args below meth c H locs cells slots (MQ below (va_Qi post (ga_E g) (ga_A g)) args s mc ms (ga_A g)) (F0 m 0 ls []) by rw [e0, e1] at hgoal; exact hgoal
  refine lv_aload_n hx hb dJ2_add_0 rfl (lv_at hl 0 rfl) ?_
  refine lv_dup hx hb dJ2_add_1 rfl ?_
  obtain ⟨fs_1, v_2, hq, hv, hw⟩ := hw
  refine ga_get (ci := 13) (T := TJ2) (v := .int v_2) hx hb hts hown hI in_J2 rfl 0 (by decide) q210 (u_same (hts _ q209)) (ga_at.h hq) hv dJ2_add_2 ?_
  refine lv_iconst (v := 1) hx hb dJ2_add_5 (by decide) ?_
  refine lv_iadd hx hb dJ2_add_6 ?_
  obtain ⟨fs_3, hq, hk, hw⟩ := hw
  refine ga_put (ci := 13) (T := TJ2) (v := .int (v_2 + (1 : Int32))) (ty := tyJ2 0) hx hb hts hown hI in_J2 rfl tyJ2 tyJ2_ok nmJ2 0 (by decide) q210 (u_same (hts _ q209)) rfl (tyJ2_ok 0 (by decide)) rfl rfl hq hk dJ2_add_7 (fun H locs hI => ?_)
  obtain ⟨h_4, eh_4⟩ : ∃ z, z = ga_set h p0 (ga_O 13 (fs_3.set 0 (.int (v_2 + (1 : Int32))))) := ⟨_, rfl⟩
  rw [← eh_4] at hI
  have hw := hw h_4 eh_4
  refine lv_aload_n hx hb dJ2_add_10 rfl (lv_at hl 0 rfl) ?_
  refine ga_aload_n hx hb dJ2_add_11 rfl (lv_at hl 1 rfl) ?_
  refine lv_aload_n hx hb dJ2_add_12 rfl (lv_at hl 0 rfl) ?_
  obtain ⟨fs_5, v_6, hq, hv, hw⟩ := hw
  refine ga_get (ci := 13) (T := TJ2) (v := va_rf v_6) hx hb hts hown hI in_J2 rfl 1 (by decide) q203 (fun _ z => z) (ga_at.h hq) hv dJ2_add_13 ?_
  refine lv_aload_n hx hb dJ2_add_16 rfl (lv_at hl 0 rfl) ?_
  obtain ⟨fs_7, v_8, hq, hv, hw⟩ := hw
  refine ga_get (ci := 13) (T := TJ2) (v := .int v_8) hx hb hts hown hI in_J2 rfl 2 (by decide) q206 (fun _ z => z) (ga_at.h hq) hv dJ2_add_17 ?_
  obtain ⟨kc_9, ks_10, hk1, hk2, hw⟩ := hw
  obtain ⟨fs_11, hq, hw⟩ := hw
  refine ga_callv (va_runV (As := [va_rf p1, va_rf v_6, .int v_8]) (rest := []) ⟨hx, hb, hml, hown, hts⟩ (gm_J2_add_2 l g p0 p1 v_6 v_8 h_4 kc_9 ks_10 _ hw) (cwV 3 hts (lw_V q1324 q1326 qs6 q104 q1327) rfl rfl rfl ⟨rfl, hdG_J2_add_2⟩ ⟨Nat.le_of_ble_eq_true rfl, Nat.le_of_ble_eq_true rfl⟩) (ga_preV hI hq rfl rfl) rfl rfl hl.1 rfl (ga_room (Nat.le_of_ble_eq_true rfl)) dJ2_add_20 ⟨Nat.le_trans (Nat.add_le_add_left hk1 _) hbc, Nat.le_trans (Nat.add_le_add_left hk2 _) hbs⟩) hI hbc hbs hk1 hk2 (fun h_12 H locs cells slots hw hI hbc hbs => ?_)
  refine lv_iconst (v := 1) hx hb dJ2_add_23 (by decide) ?_
  exact ga_iret hx hb hr rfl hlk hI hw (Nat.le_trans (Nat.le_add_right _ _) hbc) (Nat.le_trans (Nat.le_add_right _ _) hbs) dJ2_add_24
theorem hdG_J2_add : yJ2_add.cls ≠ "java/lang/invoke/MethodHandle" ∧ yJ2_add.cls ≠ "java/lang/invoke/VarHandle" ∧ (parseMethodDescriptor yJ2_add.desc).map (fun d => d.parameters.length) = some 1 := by decide +kernel
def gw_X4_copy (K : ga_K) (p0 : Nat) (h : ga_H) (mc ms : Nat) (post : Option Nat → ga_H → Prop) : Prop :=
  1 ≤ mc ∧ 1 ≤ ms ∧ ∀ q_1 : Nat, h q_1 = none → ∀ h_2 : ga_H, h_2 = ga_set h q_1 (ga_O 3 [va_rf none]) → (∃ kc_3 ks_4 : Nat, kc_3 ≤ (mc - 1) ∧ ks_4 ≤ (ms - 1) ∧ gw_X4_init K q_1 h_2 kc_3 ks_4 (fun (h_5 : ga_H) => ∃ (fs_6 : List Value) (v_7 : Option Nat), h_5 p0 = some (ga_O 3 fs_6) ∧ fs_6[0]? = some (va_rf v_7) ∧ (∃ a_8 : Nat, v_7 = some a_8 ∧ ∃ kc_9 ks_10 : Nat, kc_9 ≤ ((mc - 1) - kc_3) ∧ ks_10 ≤ ((ms - 1) - ks_4) ∧ ∃ fs_11 : List Value, ga_at K h_5 a_8 (ga_O 13 fs_11) ∧ gw_J2_iterator K a_8 h_5 kc_9 ks_10 (fun (r_13 : Option Nat) (h_12 : ga_H) => ∃ (In_14 : ga_H → Nat → Nat → Prop) (mu_14 : ga_H → Nat → Nat → Nat), In_14 h_12 (((mc - 1) - kc_3) - kc_9) (((ms - 1) - ks_4) - ks_10) ∧ ∀ (h_14 : ga_H) (bc_14 : Nat) (bs_14 : Nat), In_14 h_14 bc_14 bs_14 → (∃ a_15 : Nat, r_13 = some a_15 ∧ ∃ fs_16 : List Value, ga_at K h_14 a_15 (ga_O 14 fs_16) ∧ gw_J16_hasNext K a_15 h_14 (fun (r_18 : Int32) (h_17 : ga_H) => (r_18 = (0 : Int32) → (post (some q_1) h_17)) ∧ (¬ r_18 = (0 : Int32) → (∃ a_20 : Nat, r_13 = some a_20 ∧ ∃ kc_21 ks_22 : Nat, kc_21 ≤ bc_14 ∧ ks_22 ≤ bs_14 ∧ ∃ fs_23 : List Value, ga_at K h_17 a_20 (ga_O 14 fs_23) ∧ gw_J16_next K a_20 h_17 kc_21 ks_22 (fun (r_25 : Option Nat) (h_24 : ga_H) => ga_ok K h_24 "PaperStore$Ream" r_25 ∧ (∃ (fs_26 : List Value) (v_27 : Option Nat), h_24 q_1 = some (ga_O 3 fs_26) ∧ fs_26[0]? = some (va_rf v_27) ∧ (∃ a_28 : Nat, r_25 = some a_28 ∧ ∃ kc_29 ks_30 : Nat, kc_29 ≤ (bc_14 - kc_21) ∧ ks_30 ≤ (bs_14 - ks_22) ∧ ∃ fs_31 : List Value, ga_at K h_24 a_28 (ga_O 4 fs_31) ∧ gw_X6_copy K a_28 h_24 kc_29 ks_30 (fun (r_33 : Option Nat) (h_32 : ga_H) => ∃ a_34 : Nat, v_27 = some a_34 ∧ ∃ kc_35 ks_36 : Nat, kc_35 ≤ ((bc_14 - kc_21) - kc_29) ∧ ks_36 ≤ ((bs_14 - ks_22) - ks_30) ∧ ∃ fs_37 : List Value, ga_at K h_32 a_34 (ga_O 13 fs_37) ∧ gw_J2_add K a_34 r_33 h_32 kc_35 ks_36 (fun (r_39 : Int32) (h_38 : ga_H) => In_14 h_38 (((bc_14 - kc_21) - kc_29) - kc_35) (((bs_14 - ks_22) - ks_30) - ks_36) ∧ mu_14 h_38 (((bc_14 - kc_21) - kc_29) - kc_35) (((bs_14 - ks_22) - ks_30) - ks_36) < mu_14 h_14 bc_14 bs_14)))))))))))))
set_option maxHeartbeats 4000000 in
theorem gm_X4_copy (l : Launch) (g : ga_G) (p0 : Nat) (h : ga_H) (mc ms : Nat) (post : Option Nat → ga_H → Prop) (hw : gw_X4_copy g.2.2 p0 h mc ms post) : Met l yX4_copy (ws_ yX4_copy cX4_copy 4 (some (.object "PaperStore$Shelf"))) ({ frames := 14, cells := mc, slots := ms, locals := 271 } : Room) (va_Pc [.ref p0] (ga_B g h)) (va_Qq post (ga_E g) (ga_A g)) mc ms (ga_A g) := by
  refine ga_met (own := "PaperStore$Shelf") (nm := "copy") (by decide) rfl rfl (by exact Nat.le_of_ble_eq_true rfl) (fun p e s m below meth c ls hC hI hl => ?_)
  have hl : lv_has ls 4 [(0, .ref p0)] := hl
  generalize ([.ref p0] : List Value).toArray = args at hC ⊢
  obtain ⟨hx, hb, hml, hown, hts, hr, hlk, hnm⟩ := hC
  unfold gw_X4_copy at hw
  obtain ⟨H, eH⟩ : ∃ z, z = s.heap := ⟨_, rfl⟩
  obtain ⟨locs, elo⟩ : ∃ z : List Loc, z = [] := ⟨_, rfl⟩
  rw [← eH, ← elo] at hI ⊢
  obtain ⟨cells, slots, hbc, hbs, e0, e1⟩ : ∃ a b : Nat, a + mc ≤ mc ∧ b + ms ≤ ms ∧ a = 0 ∧ b = 0 := ⟨0, 0, by omega, by omega, rfl, rfl⟩
  show W p l e ({ frames := 14, cells := mc, slots := ms, locals := 271 } : Room) s m args below meth c H locs 0 0 (MQ below (va_Qq post (ga_E g) (ga_A g)) args s mc ms (ga_A g)) (F0 m 0 ls [])
  suffices hgoal : W p l e ({ frames := 14, cells := mc, slots := ms, locals := 271 } : Room) s m args below meth c H locs cells slots (MQ below (va_Qq post (ga_E g) (ga_A g)) args s mc ms (ga_A g)) (F0 m 0 ls []) by rw [e0, e1] at hgoal; exact hgoal
  refine ga_new (ci := 3) (T := TX4) hx hb hts hown hI in_X4 rfl tyX4 tyX4_ok q1275 q265 q108 [va_rf none] ga_df_X4 hbc hbs hw.1 hw.2.1 dX4_copy_0 (fun q_1 H cells slots hn_q_1 hI hbc hbs => ?_)
  obtain ⟨h_2, eh_2⟩ : ∃ z, z = ga_set h q_1 (ga_O 3 [va_rf none]) := ⟨_, rfl⟩
  rw [← eh_2] at hI
  have hw := hw.2.2 q_1 hn_q_1 h_2 eh_2
  refine lv_dup hx hb dX4_copy_3 rfl ?_
  obtain ⟨kc_3, ks_4, hk1, hk2, hw⟩ := hw
  refine ga_callv (va_runI (As := []) (rest := [.ref q_1]) ⟨hx, hb, hml, hown, hts⟩ (gm_X4_init l g q_1 h_2 kc_3 ks_4 _ hw) (cwI 0 hts (lw_meth q268) rfl rfl rfl (hts _ q108) (hts _ q1276) (hts _ q267) rfl hdG_X4_init ⟨Nat.le_of_ble_eq_true rfl, Nat.le_of_ble_eq_true rfl⟩) (ga_preS hI rfl) rfl rfl hl.1 rfl (ga_room (Nat.le_of_ble_eq_true rfl)) dX4_copy_4 ⟨Nat.le_trans (Nat.add_le_add_left hk1 _) hbc, Nat.le_trans (Nat.add_le_add_left hk2 _) hbs⟩) hI hbc hbs hk1 hk2 (fun h_5 H locs cells slots hw hI hbc hbs => ?_)
  refine lv_astore_n (i := 1) (lv' := [(1, .ref q_1), (0, .ref p0)]) hx hb dX4_copy_7 rfl hl (by decide) rfl (fun ls hl => ?_)
  refine lv_aload_n hx hb dX4_copy_8 rfl (lv_at hl 1 rfl) ?_
  obtain ⟨fs_6, v_7, hq, hv, hw⟩ := hw
  refine ga_get (ci := 3) (T := TX4) (v := va_rf v_7) hx hb hts hown hI in_X4 rfl 0 (by decide) q272 (fun _ z => z) (ga_at.h hq) hv dX4_copy_9 ?_
  obtain ⟨a_8, ea_8, hw⟩ := hw
  rewrite [ea_8]
  obtain ⟨kc_9, ks_10, hk1, hk2, hw⟩ := hw
  obtain ⟨fs_11, hq, hw⟩ := hw
  refine ga_callq (va_runV (As := []) (rest := []) ⟨hx, hb, hml, hown, hts⟩ (gm_J2_iterator l g a_8 h_5 kc_9 ks_10 _ hw) (cwV 0 hts (lw_V q1277 q564 q4118 q104 q565) rfl rfl rfl ⟨rfl, hdG_J2_iterator⟩ ⟨Nat.le_of_ble_eq_true rfl, Nat.le_of_ble_eq_true rfl⟩) (ga_preV hI hq rfl rfl) rfl rfl hl.1 rfl (ga_room (Nat.le_of_ble_eq_true rfl)) dX4_copy_12 ⟨Nat.le_trans (Nat.add_le_add_left hk1 _) hbc, Nat.le_trans (Nat.add_le_add_left hk2 _) hbs⟩) hI hbc hbs hk1 hk2 (fun r_13 h_12 H locs cells slots hw hI hbc hbs => ?_)
  refine ga_astore_n (i := 2) (x := r_13) (lv' := [(2, va_rf r_13), (1, .ref q_1), (0, .ref p0)]) hx hb dX4_copy_15 rfl hl (by decide) rfl (fun ls hl => ?_)
  obtain ⟨In_14, mu_14, h0_14, hw⟩ := hw
  have hL_14 : ∀ (n : Nat) (h_14 : ga_H) (bc_14 : Nat) (bs_14 : Nat) (H : Heap) (locs : List Loc) (cells slots : Nat) (ls : Array Slot), mu_14 h_14 bc_14 bs_14 < n → In_14 h_14 bc_14 bs_14 → ga_I g h_14 s H locs → cells + bc_14 ≤ mc → slots + bs_14 ≤ ms → lv_has ls 4 [(1, va_rf (some q_1)), (2, va_rf r_13)] → W p l e ({ frames := 14, cells := mc, slots := ms, locals := 271 } : Room) s m args below meth c H locs cells slots (MQ below (va_Qq post (ga_E g) (ga_A g)) args s mc ms (ga_A g)) (F0 m 16 ls []) := by
    intro n
    induction n with
    | zero => intro h_14 bc_14 bs_14 H locs cells slots ls hn _ _ _ _ _; exact absurd hn (Nat.not_lt_zero _)
    | succ n ih_14 =>
      intro h_14 bc_14 bs_14 H locs cells slots ls hn_14 hi_14 hI hbc hbs hl
      have hw := hw h_14 bc_14 bs_14 hi_14
      refine ga_aload_n hx hb dX4_copy_16 rfl (lv_at hl 1 rfl) ?_
      obtain ⟨a_15, ea_15, hw⟩ := hw
      rewrite [ea_15]
      obtain ⟨fs_16, hq, hw⟩ := hw
      refine ga_callFi (va_runF (As := []) (rest := []) (hI.2.1.1.1.1 14 _ rfl).2 ⟨hx, hb, hml, hown, hts⟩ (gm_J16_hasNext l g a_15 h_14 _ hw) (va_cwF 0 hts (lw_app (List.forall_mem_cons.mpr ⟨q1279, List.forall_mem_cons.mpr ⟨q696, List.forall_mem_cons.mpr ⟨q698, List.forall_mem_cons.mpr ⟨q122, fun _ h => absurd h List.not_mem_nil⟩⟩⟩⟩) (lw_meth q700)) rfl rfl rfl (hI.2.1.1.2.2 _ _ _ ⟨by decide +kernel, q694, q693, q699, q697, q695⟩) (by decide +kernel) ⟨Nat.le_of_ble_eq_true rfl, Nat.le_of_ble_eq_true rfl⟩) (ga_preV (C := "java/util/ArrayList$Itr") hI hq rfl rfl) rfl rfl hl.1 rfl (ga_room (Nat.le_of_ble_eq_true rfl)) dX4_copy_17 ⟨Nat.le_trans (Nat.add_le_add_left (Nat.zero_le _) _) hbc, Nat.le_trans (Nat.add_le_add_left (Nat.zero_le _) _) hbs⟩) hI hbc hbs (Nat.zero_le _) (Nat.zero_le _) (fun r_18 h_17 H locs cells slots hw hI hbc hbs => ?_)
      refine lv_if_eq (tgt := 50) hx hb dX4_copy_22 (by decide) (fun hc_19 => ?_) (fun hc_19 => ?_)
      · have hw := hw.1 hc_19
        refine ga_aload_n hx hb dX4_copy_50 rfl (lv_at hl 0 rfl) ?_
        exact ga_qret (v := (some q_1)) hx hb hr (Or.inl ⟨_, rfl⟩) hlk hI hw (Nat.le_trans (Nat.le_add_right _ _) hbc) (Nat.le_trans (Nat.le_add_right _ _) hbs) dX4_copy_51
      · have hw := hw.2 hc_19
        refine ga_aload_n hx hb dX4_copy_25 rfl (lv_at hl 1 rfl) ?_
        obtain ⟨a_20, ea_20, hw⟩ := hw
        rewrite [ea_20]
        obtain ⟨kc_21, ks_22, hk1, hk2, hw⟩ := hw
        obtain ⟨fs_23, hq, hw⟩ := hw
        refine ga_callFq (va_runF (As := []) (rest := []) (hI.2.1.1.1.1 14 _ rfl).2 ⟨hx, hb, hml, hown, hts⟩ (gm_J16_next l g a_20 h_17 kc_21 ks_22 _ hw) (va_cwF 0 hts (lw_app (List.forall_mem_cons.mpr ⟨q1281, List.forall_mem_cons.mpr ⟨q721, List.forall_mem_cons.mpr ⟨q723, List.forall_mem_cons.mpr ⟨q122, fun _ h => absurd h List.not_mem_nil⟩⟩⟩⟩) (lw_meth q725)) rfl rfl rfl (hI.2.1.1.2.2 _ _ _ ⟨by decide +kernel, q720, q719, q724, q722, q695⟩) (by decide +kernel) ⟨Nat.le_of_ble_eq_true rfl, Nat.le_of_ble_eq_true rfl⟩) (ga_preV (C := "java/util/ArrayList$Itr") hI hq rfl rfl) rfl rfl hl.1 rfl (ga_room (Nat.le_of_ble_eq_true rfl)) dX4_copy_26 ⟨Nat.le_trans (Nat.add_le_add_left hk1 _) hbc, Nat.le_trans (Nat.add_le_add_left hk2 _) hbs⟩) hI hbc hbs hk1 hk2 (fun r_25 h_24 H locs cells slots hw hI hbc hbs => ?_)
        refine ga_cast (x := r_25) hx hb hts hown hI q1282 hw.1 dX4_copy_31 ?_
        have hw := hw.2
        refine ga_astore_n (i := 3) (x := r_25) (lv' := [(3, va_rf r_25), (1, va_rf (some q_1)), (2, va_rf r_13)]) hx hb dX4_copy_34 rfl hl (by decide) (by simp [ga_rcat, ga_cat_r, ga_cat_i, ga_cat_f, ga_cat_l, ga_cat_d]) (fun ls hl => ?_)
        refine ga_aload_n hx hb dX4_copy_35 rfl (lv_at hl 1 rfl) ?_
        obtain ⟨fs_26, v_27, hq, hv, hw⟩ := hw
        refine ga_get (ci := 3) (T := TX4) (v := va_rf v_27) hx hb hts hown hI in_X4 rfl 0 (by decide) q272 (fun _ z => z) (ga_at.h hq) hv dX4_copy_36 ?_
        refine ga_aload_n hx hb dX4_copy_39 rfl (lv_at hl 0 rfl) ?_
        obtain ⟨a_28, ea_28, hw⟩ := hw
        rewrite [ea_28]
        obtain ⟨kc_29, ks_30, hk1, hk2, hw⟩ := hw
        obtain ⟨fs_31, hq, hw⟩ := hw
        refine ga_callq (va_runV (As := []) (rest := [va_rf v_27]) ⟨hx, hb, hml, hown, hts⟩ (gm_X6_copy l g a_28 h_24 kc_29 ks_30 _ hw) (cwV 0 hts (lw_V q1283 q1284 q1285 q137 q1286) rfl rfl rfl ⟨rfl, hdG_X6_copy⟩ ⟨Nat.le_of_ble_eq_true rfl, Nat.le_of_ble_eq_true rfl⟩) (ga_preV hI hq rfl rfl) rfl rfl hl.1 rfl (ga_room (Nat.le_of_ble_eq_true rfl)) dX4_copy_40 ⟨Nat.le_trans (Nat.add_le_add_left hk1 _) hbc, Nat.le_trans (Nat.add_le_add_left hk2 _) hbs⟩) hI hbc hbs hk1 hk2 (fun r_33 h_32 H locs cells slots hw hI hbc hbs => ?_)
        obtain ⟨a_34, ea_34, hw⟩ := hw
        rewrite [ea_34]
        obtain ⟨kc_35, ks_36, hk1, hk2, hw⟩ := hw
        obtain ⟨fs_37, hq, hw⟩ := hw
        refine ga_calli (va_runV (As := [va_rf r_33]) (rest := []) ⟨hx, hb, hml, hown, hts⟩ (gm_J2_add l g a_34 r_33 h_32 kc_35 ks_36 _ hw) (cwV 1 hts (lw_V q1320 q1321 q1322 q104 q1323) rfl rfl rfl ⟨rfl, hdG_J2_add⟩ ⟨Nat.le_of_ble_eq_true rfl, Nat.le_of_ble_eq_true rfl⟩) (ga_preV hI hq rfl rfl) rfl rfl hl.1 rfl (ga_room (Nat.le_of_ble_eq_true rfl)) dX4_copy_43 ⟨Nat.le_trans (Nat.add_le_add_left hk1 _) hbc, Nat.le_trans (Nat.add_le_add_left hk2 _) hbs⟩) hI hbc hbs hk1 hk2 (fun r_39 h_38 H locs cells slots hw hI hbc hbs => ?_)
        refine lv_pop hx hb dX4_copy_46 rfl ?_
        refine lv_goto (tgt := 16) hx hb dX4_copy_47 (by decide) ?_
        exact ih_14 _ _ _ H locs cells slots ls (Nat.lt_of_lt_of_le hw.2 (Nat.le_of_lt_succ hn_14)) hw.1 hI hbc hbs (lv_sub hl [1, 2] rfl)
  exact hL_14 _ _ _ _ H locs cells slots ls (Nat.lt_succ_self _) h0_14 hI hbc hbs (lv_sub hl [1, 0] rfl)
theorem hdG_X4_copy : yX4_copy.cls ≠ "java/lang/invoke/MethodHandle" ∧ yX4_copy.cls ≠ "java/lang/invoke/VarHandle" ∧ (parseMethodDescriptor yX4_copy.desc).map (fun d => d.parameters.length) = some 0 := by decide +kernel
def gw_X3_copy (K : ga_K) (p0 : Nat) (h : ga_H) (mc ms : Nat) (post : Option Nat → ga_H → Prop) : Prop :=
  1 ≤ mc ∧ 6 ≤ ms ∧ ∀ q_1 : Nat, h q_1 = none → ∀ h_2 : ga_H, h_2 = ga_set h q_1 (ga_O 2 [va_rf none, .int 0, .int 0, .int 0, .int 0, .int 0]) → (∃ kc_3 ks_4 : Nat, kc_3 ≤ (mc - 1) ∧ ks_4 ≤ (ms - 6) ∧ gw_X3_init K q_1 h_2 kc_3 ks_4 (fun (h_5 : ga_H) => ∃ (In_6 : Int32 → ga_H → Nat → Nat → Prop) (mu_6 : Int32 → ga_H → Nat → Nat → Nat), In_6 (0 : Int32) h_5 ((mc - 1) - kc_3) ((ms - 6) - ks_4) ∧ ∀ (x2_6 : Int32) (h_6 : ga_H) (bc_6 : Nat) (bs_6 : Nat), In_6 x2_6 h_6 bc_6 bs_6 → (((6 : Int32) ≤ x2_6 → (∃ (fs_8 : List Value) (v_9 : Int32), h_6 p0 = some (ga_O 2 fs_8) ∧ fs_8[1]? = some (.int v_9) ∧ (∃ fs_10 : List Value, h_6 q_1 = some (ga_O 2 fs_10) ∧ 1 < fs_10.length ∧ ∀ h_11 : ga_H, h_11 = ga_set h_6 q_1 (ga_O 2 (fs_10.set 1 (.int v_9))) → (∃ (fs_12 : List Value) (v_13 : Int32), h_11 p0 = some (ga_O 2 fs_12) ∧ fs_12[2]? = some (.int v_13) ∧ (∃ fs_14 : List Value, h_11 q_1 = some (ga_O 2 fs_14) ∧ 2 < fs_14.length ∧ ∀ h_15 : ga_H, h_15 = ga_set h_11 q_1 (ga_O 2 (fs_14.set 2 (.int v_13))) → (∃ (fs_16 : List Value) (v_17 : Int32), h_15 p0 = some (ga_O 2 fs_16) ∧ fs_16[3]? = some (.int v_17) ∧ (∃ fs_18 : List Value, h_15 q_1 = some (ga_O 2 fs_18) ∧ 3 < fs_18.length ∧ ∀ h_19 : ga_H, h_19 = ga_set h_15 q_1 (ga_O 2 (fs_18.set 3 (.int v_17))) → (∃ (fs_20 : List Value) (v_21 : Int32), h_19 p0 = some (ga_O 2 fs_20) ∧ fs_20[4]? = some (.int v_21) ∧ (∃ fs_22 : List Value, h_19 q_1 = some (ga_O 2 fs_22) ∧ 4 < fs_22.length ∧ ∀ h_23 : ga_H, h_23 = ga_set h_19 q_1 (ga_O 2 (fs_22.set 4 (.int v_21))) → (∃ (fs_24 : List Value) (v_25 : Int32), h_23 p0 = some (ga_O 2 fs_24) ∧ fs_24[5]? = some (.int v_25) ∧ (∃ fs_26 : List Value, h_23 q_1 = some (ga_O 2 fs_26) ∧ 5 < fs_26.length ∧ ∀ h_27 : ga_H, h_27 = ga_set h_23 q_1 (ga_O 2 (fs_26.set 5 (.int v_25))) → (post (some q_1) h_27)))))))))))) ∧ (¬ (6 : Int32) ≤ x2_6 → (∃ (fs_28 : List Value) (v_29 : Option Nat), h_6 q_1 = some (ga_O 2 fs_28) ∧ fs_28[0]? = some (va_rf v_29) ∧ (∃ (fs_30 : List Value) (v_31 : Option Nat), h_6 p0 = some (ga_O 2 fs_30) ∧ fs_30[0]? = some (va_rf v_31) ∧ (∃ a_32 : Nat, v_31 = some a_32 ∧ ∃ (n_33 : Nat) (f_34 : Nat → Option Nat), h_6 a_32 = some (ga_Aq 7 n_33 f_34) ∧ vp_in x2_6 n_33 ∧ ∀ v_35 : Option Nat, v_35 = f_34 x2_6.toNatClampNeg → (∃ a_36 : Nat, v_35 = some a_36 ∧ ∃ kc_37 ks_38 : Nat, kc_37 ≤ bc_6 ∧ ks_38 ≤ bs_6 ∧ ∃ fs_39 : List Value, ga_at K h_6 a_36 (ga_O 3 fs_39) ∧ gw_X4_copy K a_36 h_6 kc_37 ks_38 (fun (r_41 : Option Nat) (h_40 : ga_H) => ∃ a_42 : Nat, v_29 = some a_42 ∧ ∃ (n_43 : Nat) (f_44 : Nat → Option Nat), h_40 a_42 = some (ga_Aq 7 n_43 f_44) ∧ vp_in x2_6 n_43 ∧ ga_ok K h_40 "PaperStore$Shelf" r_41 ∧ ∀ h_45 : ga_H, h_45 = ga_set h_40 a_42 (ga_Aq 7 n_43 (va_up f_44 x2_6.toNatClampNeg r_41)) → (In_6 (x2_6 + (1 : Int32)) h_45 (bc_6 - kc_37) (bs_6 - ks_38) ∧ mu_6 (x2_6 + (1 : Int32)) h_45 (bc_6 - kc_37) (bs_6 - ks_38) < mu_6 x2_6 h_6 bc_6 bs_6))))))))))
set_option maxHeartbeats 4000000 in
theorem gm_X3_copy (l : Launch) (g : ga_G) (p0 : Nat) (h : ga_H) (mc ms : Nat) (post : Option Nat → ga_H → Prop) (hw : gw_X3_copy g.2.2 p0 h mc ms post) : Met l yX3_copy (ws_ yX3_copy cX3_copy 3 (some (.object "PaperStore$Aisle"))) ({ frames := 15, cells := mc, slots := ms, locals := 294 } : Room) (va_Pc [.ref p0] (ga_B g h)) (va_Qq post (ga_E g) (ga_A g)) mc ms (ga_A g) := by
  refine ga_met (own := "PaperStore$Aisle") (nm := "copy") (by decide) rfl rfl (by exact Nat.le_of_ble_eq_true rfl) (fun p e s m below meth c ls hC hI hl => ?_)
  have hl : lv_has ls 3 [(0, .ref p0)] := hl
  generalize ([.ref p0] : List Value).toArray = args at hC ⊢
  obtain ⟨hx, hb, hml, hown, hts, hr, hlk, hnm⟩ := hC
  unfold gw_X3_copy at hw
  obtain ⟨H, eH⟩ : ∃ z, z = s.heap := ⟨_, rfl⟩
  obtain ⟨locs, elo⟩ : ∃ z : List Loc, z = [] := ⟨_, rfl⟩
  rw [← eH, ← elo] at hI ⊢
  obtain ⟨cells, slots, hbc, hbs, e0, e1⟩ : ∃ a b : Nat, a + mc ≤ mc ∧ b + ms ≤ ms ∧ a = 0 ∧ b = 0 := ⟨0, 0, by omega, by omega, rfl, rfl⟩
  show W p l e ({ frames := 15, cells := mc, slots := ms, locals := 294 } : Room) s m args below meth c H locs 0 0 (MQ below (va_Qq post (ga_E g) (ga_A g)) args s mc ms (ga_A g)) (F0 m 0 ls [])
  suffices hgoal : W p l e ({ frames := 15, cells := mc, slots := ms, locals := 294 } : Room) s m args below meth c H locs cells slots (MQ below (va_Qq post (ga_E g) (ga_A g)) args s mc ms (ga_A g)) (F0 m 0 ls []) by rw [e0, e1] at hgoal; exact hgoal
  refine ga_new (ci := 2) (T := TX3) hx hb hts hown hI in_X3 rfl tyX3 tyX3_ok q1269 q258 q107 [va_rf none, .int 0, .int 0, .int 0, .int 0, .int 0] ga_df_X3 hbc hbs hw.1 hw.2.1 dX3_copy_0 (fun q_1 H cells slots hn_q_1 hI hbc hbs => ?_)
  obtain ⟨h_2, eh_2⟩ : ∃ z, z = ga_set h q_1 (ga_O 2 [va_rf none, .int 0, .int 0, .int 0, .int 0, .int 0]) := ⟨_, rfl⟩
  rw [← eh_2] at hI
  have hw := hw.2.2 q_1 hn_q_1 h_2 eh_2
  refine lv_dup hx hb dX3_copy_3 rfl ?_
  obtain ⟨kc_3, ks_4, hk1, hk2, hw⟩ := hw
  refine ga_callv (va_runI (As := []) (rest := [.ref q_1]) ⟨hx, hb, hml, hown, hts⟩ (gm_X3_init l g q_1 h_2 kc_3 ks_4 _ hw) (cwI 0 hts (lw_meth q261) rfl rfl rfl (hts _ q107) (hts _ q1270) (hts _ q260) rfl hdG_X3_init ⟨Nat.le_of_ble_eq_true rfl, Nat.le_of_ble_eq_true rfl⟩) (ga_preS hI rfl) rfl rfl hl.1 rfl (ga_room (Nat.le_of_ble_eq_true rfl)) dX3_copy_4 ⟨Nat.le_trans (Nat.add_le_add_left hk1 _) hbc, Nat.le_trans (Nat.add_le_add_left hk2 _) hbs⟩) hI hbc hbs hk1 hk2 (fun h_5 H locs cells slots hw hI hbc hbs => ?_)
  refine lv_astore_n (i := 1) (lv' := [(1, .ref q_1), (0, .ref p0)]) hx hb dX3_copy_7 rfl hl (by decide) rfl (fun ls hl => ?_)
  refine lv_iconst (v := 0) hx hb dX3_copy_8 (by decide) ?_
  refine lv_istore_n (i := 2) (lv' := [(2, .int (0 : Int32)), (1, .ref q_1), (0, .ref p0)]) hx hb dX3_copy_9 rfl hl (by decide) rfl (fun ls hl => ?_)
  obtain ⟨In_6, mu_6, h0_6, hw⟩ := hw
  have hL_6 : ∀ (n : Nat) (x2_6 : Int32) (h_6 : ga_H) (bc_6 : Nat) (bs_6 : Nat) (H : Heap) (locs : List Loc) (cells slots : Nat) (ls : Array Slot), mu_6 x2_6 h_6 bc_6 bs_6 < n → In_6 x2_6 h_6 bc_6 bs_6 → ga_I g h_6 s H locs → cells + bc_6 ≤ mc → slots + bs_6 ≤ ms → lv_has ls 3 [(0, .ref p0), (1, va_rf (some q_1)), (2, .int x2_6)] → W p l e ({ frames := 15, cells := mc, slots := ms, locals := 294 } : Room) s m args below meth c H locs cells slots (MQ below (va_Qq post (ga_E g) (ga_A g)) args s mc ms (ga_A g)) (F0 m 10 ls []) := by
    intro n
    induction n with
    | zero => intro x2_6 h_6 bc_6 bs_6 H locs cells slots ls hn _ _ _ _ _; exact absurd hn (Nat.not_lt_zero _)
    | succ n ih_6 =>
      intro x2_6 h_6 bc_6 bs_6 H locs cells slots ls hn_6 hi_6 hI hbc hbs hl
      have hw := hw x2_6 h_6 bc_6 bs_6 hi_6
      refine lv_iload_n hx hb dX3_copy_10 rfl (lv_at hl 2 rfl) ?_
      refine lv_bipush (v := 6) hx hb dX3_copy_11 (by decide) ?_
      refine lv_icmp_ge (tgt := 37) hx hb dX3_copy_13 (by decide) (fun hc_7 => ?_) (fun hc_7 => ?_)
      · have hw := hw.1 hc_7
        refine ga_aload_n hx hb dX3_copy_37 rfl (lv_at hl 1 rfl) ?_
        refine lv_aload_n hx hb dX3_copy_38 rfl (lv_at hl 0 rfl) ?_
        obtain ⟨fs_8, v_9, hq, hv, hw⟩ := hw
        refine ga_get (ci := 2) (T := TX3) (v := .int v_9) hx hb hts hown hI in_X3 rfl 1 (by decide) q282 (fun _ z => z) (ga_at.h hq) hv dX3_copy_39 ?_
        obtain ⟨fs_10, hq, hk, hw⟩ := hw
        refine ga_put (ci := 2) (T := TX3) (v := .int v_9) (ty := tyX3 1) hx hb hts hown hI in_X3 rfl tyX3 tyX3_ok nmX3 1 (by decide) q282 (fun _ z => z) rfl (tyX3_ok 1 (by decide)) rfl rfl hq hk dX3_copy_42 (fun H locs hI => ?_)
        obtain ⟨h_11, eh_11⟩ : ∃ z, z = ga_set h_6 q_1 (ga_O 2 (fs_10.set 1 (.int v_9))) := ⟨_, rfl⟩
        rw [← eh_11] at hI
        have hw := hw h_11 eh_11
        refine ga_aload_n hx hb dX3_copy_45 rfl (lv_at hl 1 rfl) ?_
        refine lv_aload_n hx hb dX3_copy_46 rfl (lv_at hl 0 rfl) ?_
        obtain ⟨fs_12, v_13, hq, hv, hw⟩ := hw
        refine ga_get (ci := 2) (T := TX3) (v := .int v_13) hx hb hts hown hI in_X3 rfl 2 (by decide) q285 (fun _ z => z) (ga_at.h hq) hv dX3_copy_47 ?_
        obtain ⟨fs_14, hq, hk, hw⟩ := hw
        refine ga_put (ci := 2) (T := TX3) (v := .int v_13) (ty := tyX3 2) hx hb hts hown hI in_X3 rfl tyX3 tyX3_ok nmX3 2 (by decide) q285 (fun _ z => z) rfl (tyX3_ok 2 (by decide)) rfl rfl hq hk dX3_copy_50 (fun H locs hI => ?_)
        obtain ⟨h_15, eh_15⟩ : ∃ z, z = ga_set h_11 q_1 (ga_O 2 (fs_14.set 2 (.int v_13))) := ⟨_, rfl⟩
        rw [← eh_15] at hI
        have hw := hw h_15 eh_15
        refine ga_aload_n hx hb dX3_copy_53 rfl (lv_at hl 1 rfl) ?_
        refine lv_aload_n hx hb dX3_copy_54 rfl (lv_at hl 0 rfl) ?_
        obtain ⟨fs_16, v_17, hq, hv, hw⟩ := hw
        refine ga_get (ci := 2) (T := TX3) (v := .int v_17) hx hb hts hown hI in_X3 rfl 3 (by decide) q288 (fun _ z => z) (ga_at.h hq) hv dX3_copy_55 ?_
        obtain ⟨fs_18, hq, hk, hw⟩ := hw
        refine ga_put (ci := 2) (T := TX3) (v := .int v_17) (ty := tyX3 3) hx hb hts hown hI in_X3 rfl tyX3 tyX3_ok nmX3 3 (by decide) q288 (fun _ z => z) rfl (tyX3_ok 3 (by decide)) rfl rfl hq hk dX3_copy_58 (fun H locs hI => ?_)
        obtain ⟨h_19, eh_19⟩ : ∃ z, z = ga_set h_15 q_1 (ga_O 2 (fs_18.set 3 (.int v_17))) := ⟨_, rfl⟩
        rw [← eh_19] at hI
        have hw := hw h_19 eh_19
        refine ga_aload_n hx hb dX3_copy_61 rfl (lv_at hl 1 rfl) ?_
        refine lv_aload_n hx hb dX3_copy_62 rfl (lv_at hl 0 rfl) ?_
        obtain ⟨fs_20, v_21, hq, hv, hw⟩ := hw
        refine ga_get (ci := 2) (T := TX3) (v := .int v_21) hx hb hts hown hI in_X3 rfl 4 (by decide) q291 (fun _ z => z) (ga_at.h hq) hv dX3_copy_63 ?_
        obtain ⟨fs_22, hq, hk, hw⟩ := hw
        refine ga_put (ci := 2) (T := TX3) (v := .int v_21) (ty := tyX3 4) hx hb hts hown hI in_X3 rfl tyX3 tyX3_ok nmX3 4 (by decide) q291 (fun _ z => z) rfl (tyX3_ok 4 (by decide)) rfl rfl hq hk dX3_copy_66 (fun H locs hI => ?_)
        obtain ⟨h_23, eh_23⟩ : ∃ z, z = ga_set h_19 q_1 (ga_O 2 (fs_22.set 4 (.int v_21))) := ⟨_, rfl⟩
        rw [← eh_23] at hI
        have hw := hw h_23 eh_23
        refine ga_aload_n hx hb dX3_copy_69 rfl (lv_at hl 1 rfl) ?_
        refine lv_aload_n hx hb dX3_copy_70 rfl (lv_at hl 0 rfl) ?_
        obtain ⟨fs_24, v_25, hq, hv, hw⟩ := hw
        refine ga_get (ci := 2) (T := TX3) (v := .int v_25) hx hb hts hown hI in_X3 rfl 5 (by decide) q294 (fun _ z => z) (ga_at.h hq) hv dX3_copy_71 ?_
        obtain ⟨fs_26, hq, hk, hw⟩ := hw
        refine ga_put (ci := 2) (T := TX3) (v := .int v_25) (ty := tyX3 5) hx hb hts hown hI in_X3 rfl tyX3 tyX3_ok nmX3 5 (by decide) q294 (fun _ z => z) rfl (tyX3_ok 5 (by decide)) rfl rfl hq hk dX3_copy_74 (fun H locs hI => ?_)
        obtain ⟨h_27, eh_27⟩ : ∃ z, z = ga_set h_23 q_1 (ga_O 2 (fs_26.set 5 (.int v_25))) := ⟨_, rfl⟩
        rw [← eh_27] at hI
        have hw := hw h_27 eh_27
        refine ga_aload_n hx hb dX3_copy_77 rfl (lv_at hl 1 rfl) ?_
        exact ga_qret (v := (some q_1)) hx hb hr (Or.inl ⟨_, rfl⟩) hlk hI hw (Nat.le_trans (Nat.le_add_right _ _) hbc) (Nat.le_trans (Nat.le_add_right _ _) hbs) dX3_copy_78
      · have hw := hw.2 hc_7
        refine ga_aload_n hx hb dX3_copy_16 rfl (lv_at hl 1 rfl) ?_
        obtain ⟨fs_28, v_29, hq, hv, hw⟩ := hw
        refine ga_get (ci := 2) (T := TX3) (v := va_rf v_29) hx hb hts hown hI in_X3 rfl 0 (by decide) q279 (fun _ z => z) (ga_at.h hq) hv dX3_copy_17 ?_
        refine lv_iload_n hx hb dX3_copy_20 rfl (lv_at hl 2 rfl) ?_
        refine lv_aload_n hx hb dX3_copy_21 rfl (lv_at hl 0 rfl) ?_
        obtain ⟨fs_30, v_31, hq, hv, hw⟩ := hw
        refine ga_get (ci := 2) (T := TX3) (v := va_rf v_31) hx hb hts hown hI in_X3 rfl 0 (by decide) q279 (fun _ z => z) (ga_at.h hq) hv dX3_copy_22 ?_
        refine lv_iload_n hx hb dX3_copy_25 rfl (lv_at hl 2 rfl) ?_
        obtain ⟨a_32, ea_32, hw⟩ := hw
        rewrite [ea_32]
        obtain ⟨n_33, f_34, hq, hi, hw⟩ := hw
        refine ga_ldq hx hb hI (ga_at.h hq) rfl hi dX3_copy_26 ?_
        obtain ⟨v_35, ev_35⟩ : ∃ z, z = f_34 x2_6.toNatClampNeg := ⟨_, rfl⟩
        rw [← ev_35]
        have hw := hw v_35 ev_35
        obtain ⟨a_36, ea_36, hw⟩ := hw
        rewrite [ea_36]
        obtain ⟨kc_37, ks_38, hk1, hk2, hw⟩ := hw
        obtain ⟨fs_39, hq, hw⟩ := hw
        refine ga_callq (va_runV (As := []) (rest := [.int x2_6, va_rf v_29]) ⟨hx, hb, hml, hown, hts⟩ (gm_X4_copy l g a_36 h_6 kc_37 ks_38 _ hw) (cwV 0 hts (lw_V q1271 q1272 q1273 q108 q1274) rfl rfl rfl ⟨rfl, hdG_X4_copy⟩ ⟨Nat.le_of_ble_eq_true rfl, Nat.le_of_ble_eq_true rfl⟩) (ga_preV hI hq rfl rfl) rfl rfl hl.1 rfl (ga_room (Nat.le_of_ble_eq_true rfl)) dX3_copy_27 ⟨Nat.le_trans (Nat.add_le_add_left hk1 _) hbc, Nat.le_trans (Nat.add_le_add_left hk2 _) hbs⟩) hI hbc hbs hk1 hk2 (fun r_41 h_40 H locs cells slots hw hI hbc hbs => ?_)
        obtain ⟨a_42, ea_42, hw⟩ := hw
        rewrite [ea_42]
        obtain ⟨n_43, f_44, hq, hi, hok, hw⟩ := hw
        refine ga_sto (x := r_41) hx hb hI hq rfl hok hi dX3_copy_30 (fun H locs hI => ?_)
        obtain ⟨h_45, eh_45⟩ : ∃ z, z = ga_set h_40 a_42 (ga_Aq 7 n_43 (va_up f_44 x2_6.toNatClampNeg r_41)) := ⟨_, rfl⟩
        rw [← eh_45] at hI
        have hw := hw h_45 eh_45
        refine lv_iinc (v := x2_6 + (1 : Int32)) (lv' := [(2, .int (x2_6 + (1 : Int32))), (0, .ref p0), (1, va_rf (some q_1))]) hx hb dX3_copy_31 hl (k := 2) rfl rfl (by decide) rfl (fun ls hl => ?_)
        refine lv_goto (tgt := 10) hx hb dX3_copy_34 (by decide) ?_
        exact ih_6 _ _ _ _ H locs cells slots ls (Nat.lt_of_lt_of_le hw.2 (Nat.le_of_lt_succ hn_6)) hw.1 hI hbc hbs (lv_sub hl [1, 2, 0] rfl)
  exact hL_6 _ _ _ _ _ H locs cells slots ls (Nat.lt_succ_self _) h0_6 hI hbc hbs (lv_sub hl [2, 1, 0] rfl)
theorem hdG_X3_copy : yX3_copy.cls ≠ "java/lang/invoke/MethodHandle" ∧ yX3_copy.cls ≠ "java/lang/invoke/VarHandle" ∧ (parseMethodDescriptor yX3_copy.desc).map (fun d => d.parameters.length) = some 0 := by decide +kernel
def gw_X3_reams (K : ga_K) (p0 : Nat) (h : ga_H) (mc ms : Nat) (post : Option Nat → ga_H → Prop) : Prop :=
  1 ≤ mc ∧ 3 ≤ ms ∧ ∀ q_1 : Nat, h q_1 = none → ∀ h_2 : ga_H, h_2 = ga_set h q_1 (ga_O 13 [.int 0, va_rf none, .int 0]) → (gw_J2_init K q_1 h_2 (fun (h_3 : ga_H) => ∃ (fs_4 : List Value) (v_5 : Option Nat), h_3 p0 = some (ga_O 2 fs_4) ∧ fs_4[0]? = some (va_rf v_5) ∧ (∃ a_6 : Nat, v_5 = some a_6 ∧ ∃ (n_7 : Nat) (f_8 : Nat → Option Nat), h_3 a_6 = some (ga_Aq 7 n_7 f_8) ∧ (∃ (In_9 : Int32 → ga_H → Nat → Nat → Prop) (mu_9 : Int32 → ga_H → Nat → Nat → Nat), In_9 (0 : Int32) h_3 (mc - 1) (ms - 3) ∧ ∀ (x4_9 : Int32) (h_9 : ga_H) (bc_9 : Nat) (bs_9 : Nat), In_9 x4_9 h_9 bc_9 bs_9 → ((nI n_7 ≤ x4_9 → (post (some q_1) h_9)) ∧ (¬ nI n_7 ≤ x4_9 → (∃ a_11 : Nat, v_5 = some a_11 ∧ ∃ (n_12 : Nat) (f_13 : Nat → Option Nat), h_9 a_11 = some (ga_Aq 7 n_12 f_13) ∧ vp_in x4_9 n_12 ∧ ∀ v_14 : Option Nat, v_14 = f_13 x4_9.toNatClampNeg → (∃ a_15 : Nat, v_14 = some a_15 ∧ ∃ (fs_16 : List Value) (v_17 : Option Nat), h_9 a_15 = some (ga_O 3 fs_16) ∧ fs_16[0]? = some (va_rf v_17) ∧ (∃ kc_18 ks_19 : Nat, kc_18 ≤ bc_9 ∧ ks_19 ≤ bs_9 ∧ ∃ fs_20 : List Value, ga_at K h_9 q_1 (ga_O 13 fs_20) ∧ gw_J2_addAll K q_1 v_17 h_9 kc_18 ks_19 (fun (r_22 : Int32) (h_21 : ga_H) => In_9 (x4_9 + (1 : Int32)) h_21 (bc_9 - kc_18) (bs_9 - ks_19) ∧ mu_9 (x4_9 + (1 : Int32)) h_21 (bc_9 - kc_18) (bs_9 - ks_19) < mu_9 x4_9 h_9 bc_9 bs_9))))))))))
set_option maxHeartbeats 4000000 in
theorem gm_X3_reams (l : Launch) (g : ga_G) (p0 : Nat) (h : ga_H) (mc ms : Nat) (post : Option Nat → ga_H → Prop) (hw : gw_X3_reams g.2.2 p0 h mc ms post) : Met l yX3_reams (ws_ yX3_reams cX3_reams 6 (some (.object "java/util/List"))) ({ frames := 12, cells := mc, slots := ms, locals := 232 } : Room) (va_Pc [.ref p0] (ga_B g h)) (va_Qq post (ga_E g) (ga_A g)) mc ms (ga_A g) := by
  refine ga_met (own := "PaperStore$Aisle") (nm := "reams") (by decide) rfl rfl (by exact Nat.le_of_ble_eq_true rfl) (fun p e s m below meth c ls hC hI hl => ?_)
  have hl : lv_has ls 6 [(0, .ref p0)] := hl
  generalize ([.ref p0] : List Value).toArray = args at hC ⊢
  obtain ⟨hx, hb, hml, hown, hts, hr, hlk, hnm⟩ := hC
  unfold gw_X3_reams at hw
  obtain ⟨H, eH⟩ : ∃ z, z = s.heap := ⟨_, rfl⟩
  obtain ⟨locs, elo⟩ : ∃ z : List Loc, z = [] := ⟨_, rfl⟩
  rw [← eH, ← elo] at hI ⊢
  obtain ⟨cells, slots, hbc, hbs, e0, e1⟩ : ∃ a b : Nat, a + mc ≤ mc ∧ b + ms ≤ ms ∧ a = 0 ∧ b = 0 := ⟨0, 0, by omega, by omega, rfl, rfl⟩
  show W p l e ({ frames := 12, cells := mc, slots := ms, locals := 232 } : Room) s m args below meth c H locs 0 0 (MQ below (va_Qq post (ga_E g) (ga_A g)) args s mc ms (ga_A g)) (F0 m 0 ls [])
  suffices hgoal : W p l e ({ frames := 12, cells := mc, slots := ms, locals := 232 } : Room) s m args below meth c H locs cells slots (MQ below (va_Qq post (ga_E g) (ga_A g)) args s mc ms (ga_A g)) (F0 m 0 ls []) by rw [e0, e1] at hgoal; exact hgoal
  refine ga_new (ci := 13) (T := TJ2) hx hb hts hown hI in_J2 rfl tyJ2 tyJ2_ok q448 q190 q104 [.int 0, va_rf none, .int 0] ga_df_J2 hbc hbs hw.1 hw.2.1 dX3_reams_0 (fun q_1 H cells slots hn_q_1 hI hbc hbs => ?_)
  obtain ⟨h_2, eh_2⟩ : ∃ z, z = ga_set h q_1 (ga_O 13 [.int 0, va_rf none, .int 0]) := ⟨_, rfl⟩
  rw [← eh_2] at hI
  have hw := hw.2.2 q_1 hn_q_1 h_2 eh_2
  refine lv_dup hx hb dX3_reams_3 rfl ?_
  refine ga_callv (va_runI (As := []) (rest := [.ref q_1]) ⟨hx, hb, hml, hown, hts⟩ (gm_J2_init l g q_1 h_2 _ hw) (cwI 0 hts (lw_meth q193) rfl rfl rfl (hts _ q104) (hts _ q449) (hts _ q192) rfl hdG_J2_init ⟨Nat.le_of_ble_eq_true rfl, Nat.le_of_ble_eq_true rfl⟩) (ga_preS hI rfl) rfl rfl hl.1 rfl (ga_room (Nat.le_of_ble_eq_true rfl)) dX3_reams_4 ⟨Nat.le_trans (Nat.add_le_add_left (Nat.zero_le _) _) hbc, Nat.le_trans (Nat.add_le_add_left (Nat.zero_le _) _) hbs⟩) hI hbc hbs (Nat.zero_le _) (Nat.zero_le _) (fun h_3 H locs cells slots hw hI hbc hbs => ?_)
  refine lv_astore_n (i := 1) (lv' := [(1, .ref q_1), (0, .ref p0)]) hx hb dX3_reams_7 rfl hl (by decide) rfl (fun ls hl => ?_)
  refine lv_aload_n hx hb dX3_reams_8 rfl (lv_at hl 1 rfl) ?_
  obtain ⟨fs_4, v_5, hq, hv, hw⟩ := hw
  refine ga_get (ci := 2) (T := TX3) (v := va_rf v_5) hx hb hts hown hI in_X3 rfl 0 (by decide) q279 (fun _ z => z) (ga_at.h hq) hv dX3_reams_9 ?_
  refine ga_astore_n (i := 2) (x := v_5) (lv' := [(2, va_rf v_5), (1, .ref q_1), (0, .ref p0)]) hx hb dX3_reams_12 rfl hl (by decide) rfl (fun ls hl => ?_)
  refine ga_aload_n hx hb dX3_reams_13 rfl (lv_at hl 0 rfl) ?_
  obtain ⟨a_6, ea_6, hw⟩ := hw
  rewrite [ea_6]
  obtain ⟨n_7, f_8, hq, hw⟩ := hw
  refine ga_len hx hb hI (ga_at.h hq) rfl dX3_reams_14 ?_
  refine lv_istore_n (i := 3) (lv' := [(3, .int (nI n_7)), (2, va_rf v_5), (1, .ref q_1), (0, .ref p0)]) hx hb dX3_reams_15 rfl hl (by decide) (by simp [ga_rcat, ga_cat_r, ga_cat_i, ga_cat_f, ga_cat_l, ga_cat_d]) (fun ls hl => ?_)
  refine lv_iconst (v := 0) hx hb dX3_reams_16 (by decide) ?_
  refine lv_istore (lv' := [(4, .int (0 : Int32)), (3, .int (nI n_7)), (2, va_rf v_5), (1, .ref q_1), (0, .ref p0)]) hx hb dX3_reams_17 hl (by decide) rfl (fun ls hl => ?_)
  obtain ⟨In_9, mu_9, h0_9, hw⟩ := hw
  have hL_9 : ∀ (n : Nat) (x4_9 : Int32) (h_9 : ga_H) (bc_9 : Nat) (bs_9 : Nat) (H : Heap) (locs : List Loc) (cells slots : Nat) (ls : Array Slot), mu_9 x4_9 h_9 bc_9 bs_9 < n → In_9 x4_9 h_9 bc_9 bs_9 → ga_I g h_9 s H locs → cells + bc_9 ≤ mc → slots + bs_9 ≤ ms → lv_has ls 6 [(1, va_rf (some q_1)), (2, va_rf v_5), (3, .int (nI n_7)), (4, .int x4_9)] → W p l e ({ frames := 12, cells := mc, slots := ms, locals := 232 } : Room) s m args below meth c H locs cells slots (MQ below (va_Qq post (ga_E g) (ga_A g)) args s mc ms (ga_A g)) (F0 m 19 ls []) := by
    intro n
    induction n with
    | zero => intro x4_9 h_9 bc_9 bs_9 H locs cells slots ls hn _ _ _ _ _; exact absurd hn (Nat.not_lt_zero _)
    | succ n ih_9 =>
      intro x4_9 h_9 bc_9 bs_9 H locs cells slots ls hn_9 hi_9 hI hbc hbs hl
      have hw := hw x4_9 h_9 bc_9 bs_9 hi_9
      refine lv_iload hx hb dX3_reams_19 (lv_at hl 3 rfl) ?_
      refine lv_iload_n hx hb dX3_reams_21 rfl (lv_at hl 2 rfl) ?_
      refine lv_icmp_ge (tgt := 47) hx hb dX3_reams_22 (by decide) (fun hc_10 => ?_) (fun hc_10 => ?_)
      · have hw := hw.1 hc_10
        refine ga_aload_n hx hb dX3_reams_47 rfl (lv_at hl 0 rfl) ?_
        exact ga_qret (v := (some q_1)) hx hb hr (Or.inl ⟨_, rfl⟩) hlk hI hw (Nat.le_trans (Nat.le_add_right _ _) hbc) (Nat.le_trans (Nat.le_add_right _ _) hbs) dX3_reams_48
      · have hw := hw.2 hc_10
        refine ga_aload_n hx hb dX3_reams_25 rfl (lv_at hl 1 rfl) ?_
        refine lv_iload hx hb dX3_reams_26 (lv_at hl 3 rfl) ?_
        obtain ⟨a_11, ea_11, hw⟩ := hw
        rewrite [ea_11]
        obtain ⟨n_12, f_13, hq, hi, hw⟩ := hw
        refine ga_ldq hx hb hI (ga_at.h hq) rfl hi dX3_reams_28 ?_
        obtain ⟨v_14, ev_14⟩ : ∃ z, z = f_13 x4_9.toNatClampNeg := ⟨_, rfl⟩
        rw [← ev_14]
        have hw := hw v_14 ev_14
        refine ga_astore (x := v_14) (lv' := [(5, va_rf v_14), (1, va_rf (some q_1)), (2, va_rf v_5), (3, .int (nI n_7)), (4, .int x4_9)]) hx hb dX3_reams_29 hl (by decide) rfl (fun ls hl => ?_)
        refine ga_aload_n hx hb dX3_reams_31 rfl (lv_at hl 1 rfl) ?_
        refine ga_aload hx hb dX3_reams_32 (lv_at hl 0 rfl) ?_
        obtain ⟨a_15, ea_15, hw⟩ := hw
        rewrite [ea_15]
        obtain ⟨fs_16, v_17, hq, hv, hw⟩ := hw
        refine ga_getN (ci := 3) (T := TX4) (v := va_rf v_17) hx hb hts hown hI in_X4 rfl 0 (by decide) q273 (fun _ z => z) (ga_at.h hq) hv dX3_reams_34 ?_
        obtain ⟨kc_18, ks_19, hk1, hk2, hw⟩ := hw
        obtain ⟨fs_20, hq, hw⟩ := hw
        refine ga_calli (va_runV (As := [va_rf v_17]) (rest := []) ⟨hx, hb, hml, hown, hts⟩ (gm_J2_addAll l g q_1 v_17 h_9 kc_18 ks_19 _ hw) (cwV 1 hts (lw_V q450 q451 q452 q104 q453) rfl rfl rfl ⟨rfl, hdG_J2_addAll⟩ ⟨Nat.le_of_ble_eq_true rfl, Nat.le_of_ble_eq_true rfl⟩) (ga_preV hI hq rfl rfl) rfl rfl hl.1 rfl (ga_room (Nat.le_of_ble_eq_true rfl)) dX3_reams_37 ⟨Nat.le_trans (Nat.add_le_add_left hk1 _) hbc, Nat.le_trans (Nat.add_le_add_left hk2 _) hbs⟩) hI hbc hbs hk1 hk2 (fun r_22 h_21 H locs cells slots hw hI hbc hbs => ?_)
        refine lv_pop hx hb dX3_reams_40 rfl ?_
        refine lv_iinc (v := x4_9 + (1 : Int32)) (lv' := [(4, .int (x4_9 + (1 : Int32))), (5, va_rf v_14), (1, va_rf (some q_1)), (2, va_rf v_5), (3, .int (nI n_7))]) hx hb dX3_reams_41 hl (k := 4) rfl rfl (by decide) rfl (fun ls hl => ?_)
        refine lv_goto (tgt := 19) hx hb dX3_reams_44 (by decide) ?_
        exact ih_9 _ _ _ _ H locs cells slots ls (Nat.lt_of_lt_of_le hw.2 (Nat.le_of_lt_succ hn_9)) hw.1 hI hbc hbs (lv_sub hl [2, 3, 4, 0] rfl)
  exact hL_9 _ _ _ _ _ H locs cells slots ls (Nat.lt_succ_self _) h0_9 hI hbc hbs (lv_sub hl [3, 2, 1, 0] rfl)
theorem hdG_X3_reams : yX3_reams.cls ≠ "java/lang/invoke/MethodHandle" ∧ yX3_reams.cls ≠ "java/lang/invoke/VarHandle" ∧ (parseMethodDescriptor yX3_reams.desc).map (fun d => d.parameters.length) = some 0 := by decide +kernel
def gw_J25_checkIndex_9 (K : ga_K) (post : Int32 → ga_H → Prop) (v0 : Int32) (v1 : Int32) (v2 : Option Nat) (h : ga_H) : Prop :=
  False
set_option maxHeartbeats 4000000 in
theorem gj_J25_checkIndex_9 {p : Program} {l : Launch} {e : Env} {s : State} {m : MethodId} {args : Array Value} {below : List Frame} {meth : Method} {c : Code} {H : Heap} {locs : List Loc} {cells slots : Nat} {ls : Array Slot} (g : ga_G) (post : Int32 → ga_H → Prop) (v0 : Int32) (v1 : Int32) (v2 : Option Nat) (h : ga_H) (hC : ga_Cx p s m args meth c cJ25_checkIndex 3 (some .int) "jdk/internal/util/Preconditions" "checkIndex") (hw : gw_J25_checkIndex_9 g.2.2 post v0 v1 v2 h) (hI : ga_I g h s H locs) (hbc : cells ≤ 0) (hbs : slots ≤ 0) (hl : lv_has ls 3 [(0, .int v0), (1, .int v1), (2, va_rf v2)]) : W p l e ({ frames := 8, cells := 0, slots := 0, locals := 140 } : Room) s m args below meth c H locs cells slots (MQ below (va_Qi post (ga_E g) (ga_A g)) args s 0 0 (ga_A g)) (F0 m 9 ls []) := by
  obtain ⟨hx, hb, hml, hown, hts, hr, hlk, hnm⟩ := hC
  unfold gw_J25_checkIndex_9 at hw
  exact hw.elim
def gw_J25_checkIndex (K : ga_K) (p0 : Int32) (p1 : Int32) (p2 : Option Nat) (h : ga_H) (post : Int32 → ga_H → Prop) : Prop :=
  (p0 < (0 : Int32) → (gw_J25_checkIndex_9 K post p0 p1 p2 h)) ∧ (¬ p0 < (0 : Int32) → ((p0 < p1 → (post p0 h)) ∧ (¬ p0 < p1 → (gw_J25_checkIndex_9 K post p0 p1 p2 h))))
set_option maxHeartbeats 4000000 in
theorem gm_J25_checkIndex (l : Launch) (g : ga_G) (p0 : Int32) (p1 : Int32) (p2 : Option Nat) (h : ga_H) (post : Int32 → ga_H → Prop) (hw : gw_J25_checkIndex g.2.2 p0 p1 p2 h post) : Met l yJ25_checkIndex (ws_ yJ25_checkIndex cJ25_checkIndex 3 (some .int)) ({ frames := 8, cells := 0, slots := 0, locals := 140 } : Room) (va_Pc [.int p0, .int p1, va_rf p2] (ga_B g h)) (va_Qi post (ga_E g) (ga_A g)) 0 0 (ga_A g) := by
  refine ga_met (own := "jdk/internal/util/Preconditions") (nm := "checkIndex") (by decide) rfl rfl (by cases p2 <;> exact Nat.le_of_ble_eq_true rfl) (fun p e s m below meth c ls hC hI hl => ?_)
  have hl : lv_has ls 3 [(0, .int p0), (1, .int p1), (2, va_rf p2)] := (by cases p2 <;> exact hl)
  generalize ([.int p0, .int p1, va_rf p2] : List Value).toArray = args at hC ⊢
  obtain ⟨hx, hb, hml, hown, hts, hr, hlk, hnm⟩ := hC
  unfold gw_J25_checkIndex at hw
  obtain ⟨H, eH⟩ : ∃ z, z = s.heap := ⟨_, rfl⟩
  obtain ⟨locs, elo⟩ : ∃ z : List Loc, z = [] := ⟨_, rfl⟩
  rw [← eH, ← elo] at hI ⊢
  obtain ⟨cells, slots, hbc, hbs, e0, e1⟩ : ∃ a b : Nat, a ≤ 0 ∧ b ≤ 0 ∧ a = 0 ∧ b = 0 := ⟨0, 0, by omega, by omega, rfl, rfl⟩
  show W p l e ({ frames := 8, cells := 0, slots := 0, locals := 140 } : Room) s m args below meth c H locs 0 0 (MQ below (va_Qi post (ga_E g) (ga_A g)) args s 0 0 (ga_A g)) (F0 m 0 ls [])
  suffices hgoal : W p l e ({ frames := 8, cells := 0, slots := 0, locals := 140 } : Room) s m args below meth c H locs cells slots (MQ below (va_Qi post (ga_E g) (ga_A g)) args s 0 0 (ga_A g)) (F0 m 0 ls []) by rw [e0, e1] at hgoal; exact hgoal
  refine lv_iload_n hx hb dJ25_checkIndex_0 rfl (lv_at hl 0 rfl) ?_
  refine lv_if_lt (tgt := 9) hx hb dJ25_checkIndex_1 (by decide) (fun hc_1 => ?_) (fun hc_1 => ?_)
  · have hw := hw.1 hc_1
    exact gj_J25_checkIndex_9 g post p0 p1 p2 h ⟨hx, hb, hml, hown, hts, hr, hlk, hnm⟩ hw hI hbc hbs (lv_sub hl [0, 1, 2] rfl)
  · have hw := hw.2 hc_1
    refine lv_iload_n hx hb dJ25_checkIndex_4 rfl (lv_at hl 0 rfl) ?_
    refine lv_iload_n hx hb dJ25_checkIndex_5 rfl (lv_at hl 1 rfl) ?_
    refine lv_icmp_lt (tgt := 16) hx hb dJ25_checkIndex_6 (by decide) (fun hc_2 => ?_) (fun hc_2 => ?_)
    · have hw := hw.1 hc_2
      refine lv_iload_n hx hb dJ25_checkIndex_16 rfl (lv_at hl 0 rfl) ?_
      exact ga_iret hx hb hr rfl hlk hI hw hbc hbs dJ25_checkIndex_17
    · have hw := hw.2 hc_2
      exact gj_J25_checkIndex_9 g post p0 p1 p2 h ⟨hx, hb, hml, hown, hts, hr, hlk, hnm⟩ hw hI hbc hbs (lv_sub hl [0, 1, 2] rfl)
theorem hdG_J25_checkIndex : yJ25_checkIndex.cls ≠ "java/lang/invoke/MethodHandle" ∧ yJ25_checkIndex.cls ≠ "java/lang/invoke/VarHandle" ∧ (parseMethodDescriptor yJ25_checkIndex.desc).map (fun d => d.parameters.length) = some 3 := by decide +kernel
def gw_J24_checkIndex (K : ga_K) (p0 : Int32) (p1 : Int32) (h : ga_H) (post : Int32 → ga_H → Prop) : Prop :=
  gw_J25_checkIndex K p0 p1 none h (fun (r_2 : Int32) (h_1 : ga_H) => post r_2 h_1)
set_option maxHeartbeats 4000000 in
theorem gm_J24_checkIndex (l : Launch) (g : ga_G) (p0 : Int32) (p1 : Int32) (h : ga_H) (post : Int32 → ga_H → Prop) (hw : gw_J24_checkIndex g.2.2 p0 p1 h post) : Met l yJ24_checkIndex (ws_ yJ24_checkIndex cJ24_checkIndex 2 (some .int)) ({ frames := 9, cells := 0, slots := 0, locals := 162 } : Room) (va_Pc [.int p0, .int p1] (ga_B g h)) (va_Qi post (ga_E g) (ga_A g)) 0 0 (ga_A g) := by
  refine ga_met (own := "java/util/Objects") (nm := "checkIndex") (by decide) rfl rfl (by exact Nat.le_of_ble_eq_true rfl) (fun p e s m below meth c ls hC hI hl => ?_)
  have hl : lv_has ls 2 [(0, .int p0), (1, .int p1)] := hl
  generalize ([.int p0, .int p1] : List Value).toArray = args at hC ⊢
  obtain ⟨hx, hb, hml, hown, hts, hr, hlk, hnm⟩ := hC
  unfold gw_J24_checkIndex at hw
  obtain ⟨H, eH⟩ : ∃ z, z = s.heap := ⟨_, rfl⟩
  obtain ⟨locs, elo⟩ : ∃ z : List Loc, z = [] := ⟨_, rfl⟩
  rw [← eH, ← elo] at hI ⊢
  obtain ⟨cells, slots, hbc, hbs, e0, e1⟩ : ∃ a b : Nat, a ≤ 0 ∧ b ≤ 0 ∧ a = 0 ∧ b = 0 := ⟨0, 0, by omega, by omega, rfl, rfl⟩
  show W p l e ({ frames := 9, cells := 0, slots := 0, locals := 162 } : Room) s m args below meth c H locs 0 0 (MQ below (va_Qi post (ga_E g) (ga_A g)) args s 0 0 (ga_A g)) (F0 m 0 ls [])
  suffices hgoal : W p l e ({ frames := 9, cells := 0, slots := 0, locals := 162 } : Room) s m args below meth c H locs cells slots (MQ below (va_Qi post (ga_E g) (ga_A g)) args s 0 0 (ga_A g)) (F0 m 0 ls []) by rw [e0, e1] at hgoal; exact hgoal
  refine lv_iload_n hx hb dJ24_checkIndex_0 rfl (lv_at hl 0 rfl) ?_
  refine lv_iload_n hx hb dJ24_checkIndex_1 rfl (lv_at hl 1 rfl) ?_
  refine lv_null hx hb dJ24_checkIndex_2 ?_
  refine ga_calli (va_runS (As := [.int p0, .int p1, va_rf none]) (rest := []) ⟨hx, hb, hml, hown, hts⟩ (gm_J25_checkIndex l g p0 p1 none h _ hw) (va_cwS 3 hts (lw_S q845 q846 q131 q847) rfl rfl rfl hdG_J25_checkIndex ⟨Nat.le_of_ble_eq_true rfl, Nat.le_of_ble_eq_true rfl⟩) (ga_preS hI rfl) rfl rfl hl.1 rfl (ga_room (Nat.le_of_ble_eq_true rfl)) dJ24_checkIndex_3 ⟨hbc, hbs⟩) hI (bc := 0) (bs := 0) hbc hbs (Nat.zero_le _) (Nat.zero_le _) (fun r_2 h_1 H locs cells slots hw hI hbc hbs => ?_)
  exact ga_iret hx hb hr rfl hlk hI hw hbc hbs dJ24_checkIndex_6
theorem hdG_J24_checkIndex : yJ24_checkIndex.cls ≠ "java/lang/invoke/MethodHandle" ∧ yJ24_checkIndex.cls ≠ "java/lang/invoke/VarHandle" ∧ (parseMethodDescriptor yJ24_checkIndex.desc).map (fun d => d.parameters.length) = some 2 := by decide +kernel
def gw_J2_elementData (K : ga_K) (p0 : Nat) (p1 : Int32) (h : ga_H) (post : Option Nat → ga_H → Prop) : Prop :=
  ∃ (fs_1 : List Value) (v_2 : Option Nat), h p0 = some (ga_O 13 fs_1) ∧ fs_1[1]? = some (va_rf v_2) ∧ (∃ a_3 : Nat, v_2 = some a_3 ∧ ∃ (n_4 : Nat) (f_5 : Nat → Option Nat), ga_at K h a_3 (ga_Aq 5 n_4 f_5) ∧ vp_in p1 n_4 ∧ ∀ v_6 : Option Nat, v_6 = f_5 p1.toNatClampNeg → (post v_6 h))
set_option maxHeartbeats 4000000 in
theorem gm_J2_elementData (l : Launch) (g : ga_G) (p0 : Nat) (p1 : Int32) (h : ga_H) (post : Option Nat → ga_H → Prop) (hw : gw_J2_elementData g.2.2 p0 p1 h post) : Met l yJ2_elementData (ws_ yJ2_elementData cJ2_elementData 2 (some (.object "java/lang/Object"))) ({ frames := 8, cells := 0, slots := 0, locals := 140 } : Room) (va_Pc [.ref p0, .int p1] (ga_B g h)) (va_Qq post (ga_E g) (ga_A g)) 0 0 (ga_A g) := by
  refine ga_met (own := "java/util/ArrayList") (nm := "elementData") (by decide) rfl rfl (by exact Nat.le_of_ble_eq_true rfl) (fun p e s m below meth c ls hC hI hl => ?_)
  have hl : lv_has ls 2 [(0, .ref p0), (1, .int p1)] := hl
  generalize ([.ref p0, .int p1] : List Value).toArray = args at hC ⊢
  obtain ⟨hx, hb, hml, hown, hts, hr, hlk, hnm⟩ := hC
  unfold gw_J2_elementData at hw
  obtain ⟨H, eH⟩ : ∃ z, z = s.heap := ⟨_, rfl⟩
  obtain ⟨locs, elo⟩ : ∃ z : List Loc, z = [] := ⟨_, rfl⟩
  rw [← eH, ← elo] at hI ⊢
  obtain ⟨cells, slots, hbc, hbs, e0, e1⟩ : ∃ a b : Nat, a ≤ 0 ∧ b ≤ 0 ∧ a = 0 ∧ b = 0 := ⟨0, 0, by omega, by omega, rfl, rfl⟩
  show W p l e ({ frames := 8, cells := 0, slots := 0, locals := 140 } : Room) s m args below meth c H locs 0 0 (MQ below (va_Qq post (ga_E g) (ga_A g)) args s 0 0 (ga_A g)) (F0 m 0 ls [])
  suffices hgoal : W p l e ({ frames := 8, cells := 0, slots := 0, locals := 140 } : Room) s m args below meth c H locs cells slots (MQ below (va_Qq post (ga_E g) (ga_A g)) args s 0 0 (ga_A g)) (F0 m 0 ls []) by rw [e0, e1] at hgoal; exact hgoal
  refine lv_aload_n hx hb dJ2_elementData_0 rfl (lv_at hl 0 rfl) ?_
  obtain ⟨fs_1, v_2, hq, hv, hw⟩ := hw
  refine ga_get (ci := 13) (T := TJ2) (v := va_rf v_2) hx hb hts hown hI in_J2 rfl 1 (by decide) q203 (fun _ z => z) (ga_at.h hq) hv dJ2_elementData_1 ?_
  refine lv_iload_n hx hb dJ2_elementData_4 rfl (lv_at hl 1 rfl) ?_
  obtain ⟨a_3, ea_3, hw⟩ := hw
  rewrite [ea_3]
  obtain ⟨n_4, f_5, hq, hi, hw⟩ := hw
  refine ga_ldq hx hb hI hq rfl hi dJ2_elementData_5 ?_
  obtain ⟨v_6, ev_6⟩ : ∃ z, z = f_5 p1.toNatClampNeg := ⟨_, rfl⟩
  rw [← ev_6]
  have hw := hw v_6 ev_6
  exact ga_qret (v := v_6) hx hb hr (Or.inl ⟨_, rfl⟩) hlk hI hw hbc hbs dJ2_elementData_6
theorem hdG_J2_elementData : yJ2_elementData.cls ≠ "java/lang/invoke/MethodHandle" ∧ yJ2_elementData.cls ≠ "java/lang/invoke/VarHandle" ∧ (parseMethodDescriptor yJ2_elementData.desc).map (fun d => d.parameters.length) = some 1 := by decide +kernel
def gw_J2_set (K : ga_K) (p0 : Nat) (p1 : Int32) (p2 : Option Nat) (h : ga_H) (post : Option Nat → ga_H → Prop) : Prop :=
  ∃ (fs_1 : List Value) (v_2 : Int32), h p0 = some (ga_O 13 fs_1) ∧ fs_1[2]? = some (.int v_2) ∧ (gw_J24_checkIndex K p1 v_2 h (fun (r_4 : Int32) (h_3 : ga_H) => ∃ fs_5 : List Value, ga_at K h_3 p0 (ga_O 13 fs_5) ∧ gw_J2_elementData K p0 p1 h_3 (fun (r_7 : Option Nat) (h_6 : ga_H) => ∃ (fs_8 : List Value) (v_9 : Option Nat), h_6 p0 = some (ga_O 13 fs_8) ∧ fs_8[1]? = some (va_rf v_9) ∧ (∃ a_10 : Nat, v_9 = some a_10 ∧ ∃ (n_11 : Nat) (f_12 : Nat → Option Nat), h_6 a_10 = some (ga_Aq 5 n_11 f_12) ∧ vp_in p1 n_11 ∧ ga_ok K h_6 "java/lang/Object" p2 ∧ ∀ h_13 : ga_H, h_13 = ga_set h_6 a_10 (ga_Aq 5 n_11 (va_up f_12 p1.toNatClampNeg p2)) → (post r_7 h_13)))))
set_option maxHeartbeats 4000000 in
theorem gm_J2_set (l : Launch) (g : ga_G) (p0 : Nat) (p1 : Int32) (p2 : Option Nat) (h : ga_H) (post : Option Nat → ga_H → Prop) (hw : gw_J2_set g.2.2 p0 p1 p2 h post) : Met l yJ2_set (ws_ yJ2_set cJ2_set 4 (some (.object "java/lang/Object"))) ({ frames := 10, cells := 0, slots := 0, locals := 183 } : Room) (va_Pc [.ref p0, .int p1, va_rf p2] (ga_B g h)) (va_Qq post (ga_E g) (ga_A g)) 0 0 (ga_A g) := by
  refine ga_met (own := "java/util/ArrayList") (nm := "set") (by decide) rfl rfl (by cases p2 <;> exact Nat.le_of_ble_eq_true rfl) (fun p e s m below meth c ls hC hI hl => ?_)
  have hl : lv_has ls 4 [(0, .ref p0), (1, .int p1), (2, va_rf p2)] := (by cases p2 <;> exact hl)
  generalize ([.ref p0, .int p1, va_rf p2] : List Value).toArray = args at hC ⊢
  obtain ⟨hx, hb, hml, hown, hts, hr, hlk, hnm⟩ := hC
  unfold gw_J2_set at hw
  obtain ⟨H, eH⟩ : ∃ z, z = s.heap := ⟨_, rfl⟩
  obtain ⟨locs, elo⟩ : ∃ z : List Loc, z = [] := ⟨_, rfl⟩
  rw [← eH, ← elo] at hI ⊢
  obtain ⟨cells, slots, hbc, hbs, e0, e1⟩ : ∃ a b : Nat, a ≤ 0 ∧ b ≤ 0 ∧ a = 0 ∧ b = 0 := ⟨0, 0, by omega, by omega, rfl, rfl⟩
  show W p l e ({ frames := 10, cells := 0, slots := 0, locals := 183 } : Room) s m args below meth c H locs 0 0 (MQ below (va_Qq post (ga_E g) (ga_A g)) args s 0 0 (ga_A g)) (F0 m 0 ls [])
  suffices hgoal : W p l e ({ frames := 10, cells := 0, slots := 0, locals := 183 } : Room) s m args below meth c H locs cells slots (MQ below (va_Qq post (ga_E g) (ga_A g)) args s 0 0 (ga_A g)) (F0 m 0 ls []) by rw [e0, e1] at hgoal; exact hgoal
  refine lv_iload_n hx hb dJ2_set_0 rfl (lv_at hl 1 rfl) ?_
  refine lv_aload_n hx hb dJ2_set_1 rfl (lv_at hl 0 rfl) ?_
  obtain ⟨fs_1, v_2, hq, hv, hw⟩ := hw
  refine ga_get (ci := 13) (T := TJ2) (v := .int v_2) hx hb hts hown hI in_J2 rfl 2 (by decide) q206 (fun _ z => z) (ga_at.h hq) hv dJ2_set_2 ?_
  refine ga_calli (va_runS (As := [.int p1, .int v_2]) (rest := []) ⟨hx, hb, hml, hown, hts⟩ (gm_J24_checkIndex l g p1 v_2 h _ hw) (va_cwS 2 hts (lw_S q842 q843 q130 q844) rfl rfl rfl hdG_J24_checkIndex ⟨Nat.le_of_ble_eq_true rfl, Nat.le_of_ble_eq_true rfl⟩) (ga_preS hI rfl) rfl rfl hl.1 rfl (ga_room (Nat.le_of_ble_eq_true rfl)) dJ2_set_5 ⟨hbc, hbs⟩) hI (bc := 0) (bs := 0) hbc hbs (Nat.zero_le _) (Nat.zero_le _) (fun r_4 h_3 H locs cells slots hw hI hbc hbs => ?_)
  refine lv_pop hx hb dJ2_set_8 rfl ?_
  refine lv_aload_n hx hb dJ2_set_9 rfl (lv_at hl 0 rfl) ?_
  refine lv_iload_n hx hb dJ2_set_10 rfl (lv_at hl 1 rfl) ?_
  obtain ⟨fs_5, hq, hw⟩ := hw
  refine ga_callq (va_runV (As := [.int p1]) (rest := []) ⟨hx, hb, hml, hown, hts⟩ (gm_J2_elementData l g p0 p1 h_3 _ hw) (cwV 1 hts (lw_V q848 q849 q850 q104 q851) rfl rfl rfl ⟨rfl, hdG_J2_elementData⟩ ⟨Nat.le_of_ble_eq_true rfl, Nat.le_of_ble_eq_true rfl⟩) (ga_preV hI hq rfl rfl) rfl rfl hl.1 rfl (ga_room (Nat.le_of_ble_eq_true rfl)) dJ2_set_11 ⟨hbc, hbs⟩) hI (bc := 0) (bs := 0) hbc hbs (Nat.zero_le _) (Nat.zero_le _) (fun r_7 h_6 H locs cells slots hw hI hbc hbs => ?_)
  refine ga_astore_n (i := 3) (x := r_7) (lv' := [(3, va_rf r_7), (0, .ref p0), (1, .int p1), (2, va_rf p2)]) hx hb dJ2_set_14 rfl hl (by decide) (by simp [ga_rcat, ga_cat_r, ga_cat_i, ga_cat_f, ga_cat_l, ga_cat_d]) (fun ls hl => ?_)
  refine lv_aload_n hx hb dJ2_set_15 rfl (lv_at hl 1 rfl) ?_
  obtain ⟨fs_8, v_9, hq, hv, hw⟩ := hw
  refine ga_get (ci := 13) (T := TJ2) (v := va_rf v_9) hx hb hts hown hI in_J2 rfl 1 (by decide) q203 (fun _ z => z) (ga_at.h hq) hv dJ2_set_16 ?_
  refine lv_iload_n hx hb dJ2_set_19 rfl (lv_at hl 2 rfl) ?_
  refine ga_aload_n hx hb dJ2_set_20 rfl (lv_at hl 3 rfl) ?_
  obtain ⟨a_10, ea_10, hw⟩ := hw
  rewrite [ea_10]
  obtain ⟨n_11, f_12, hq, hi, hok, hw⟩ := hw
  refine ga_sto (x := p2) hx hb hI hq rfl hok hi dJ2_set_21 (fun H locs hI => ?_)
  obtain ⟨h_13, eh_13⟩ : ∃ z, z = ga_set h_6 a_10 (ga_Aq 5 n_11 (va_up f_12 p1.toNatClampNeg p2)) := ⟨_, rfl⟩
  rw [← eh_13] at hI
  have hw := hw h_13 eh_13
  refine ga_aload_n hx hb dJ2_set_22 rfl (lv_at hl 0 rfl) ?_
  exact ga_qret (v := r_7) hx hb hr (Or.inl ⟨_, rfl⟩) hlk hI hw hbc hbs dJ2_set_23
theorem hdG_J2_set : yJ2_set.cls ≠ "java/lang/invoke/MethodHandle" ∧ yJ2_set.cls ≠ "java/lang/invoke/VarHandle" ∧ (parseMethodDescriptor yJ2_set.desc).map (fun d => d.parameters.length) = some 2 := by decide +kernel
def gw_J4_size (K : ga_K) (p0 : Nat) (h : ga_H) (post : Int32 → ga_H → Prop) : Prop :=
  ∃ (fs_1 : List Value) (v_2 : Int32), h p0 = some (ga_O 15 fs_1) ∧ fs_1[4]? = some (.int v_2) ∧ (post v_2 h)
set_option maxHeartbeats 4000000 in
theorem gm_J4_size (l : Launch) (g : ga_G) (p0 : Nat) (h : ga_H) (post : Int32 → ga_H → Prop) (hw : gw_J4_size g.2.2 p0 h post) : Met l yJ4_size (ws_ yJ4_size cJ4_size 1 (some .int)) ({ frames := 8, cells := 0, slots := 0, locals := 140 } : Room) (va_Pc [.ref p0] (ga_B g h)) (va_Qi post (ga_E g) (ga_A g)) 0 0 (ga_A g) := by
  refine ga_met (own := "java/util/HashMap") (nm := "size") (by decide) rfl rfl (by exact Nat.le_of_ble_eq_true rfl) (fun p e s m below meth c ls hC hI hl => ?_)
  have hl : lv_has ls 1 [(0, .ref p0)] := hl
  generalize ([.ref p0] : List Value).toArray = args at hC ⊢
  obtain ⟨hx, hb, hml, hown, hts, hr, hlk, hnm⟩ := hC
  unfold gw_J4_size at hw
  obtain ⟨H, eH⟩ : ∃ z, z = s.heap := ⟨_, rfl⟩
  obtain ⟨locs, elo⟩ : ∃ z : List Loc, z = [] := ⟨_, rfl⟩
  rw [← eH, ← elo] at hI ⊢
  obtain ⟨cells, slots, hbc, hbs, e0, e1⟩ : ∃ a b : Nat, a ≤ 0 ∧ b ≤ 0 ∧ a = 0 ∧ b = 0 := ⟨0, 0, by omega, by omega, rfl, rfl⟩
  show W p l e ({ frames := 8, cells := 0, slots := 0, locals := 140 } : Room) s m args below meth c H locs 0 0 (MQ below (va_Qi post (ga_E g) (ga_A g)) args s 0 0 (ga_A g)) (F0 m 0 ls [])
  suffices hgoal : W p l e ({ frames := 8, cells := 0, slots := 0, locals := 140 } : Room) s m args below meth c H locs cells slots (MQ below (va_Qi post (ga_E g) (ga_A g)) args s 0 0 (ga_A g)) (F0 m 0 ls []) by rw [e0, e1] at hgoal; exact hgoal
  refine lv_aload_n hx hb dJ4_size_0 rfl (lv_at hl 0 rfl) ?_
  obtain ⟨fs_1, v_2, hq, hv, hw⟩ := hw
  refine ga_get (ci := 15) (T := TJ4) (v := .int v_2) hx hb hts hown hI in_J4 rfl 4 (by decide) q234 (fun _ z => z) (ga_at.h hq) hv dJ4_size_1 ?_
  exact ga_iret hx hb hr rfl hlk hI hw hbc hbs dJ4_size_4
theorem hdG_J4_size : yJ4_size.cls ≠ "java/lang/invoke/MethodHandle" ∧ yJ4_size.cls ≠ "java/lang/invoke/VarHandle" ∧ (parseMethodDescriptor yJ4_size.desc).map (fun d => d.parameters.length) = some 0 := by decide +kernel
def gw_J14_ceil (K : ga_K) (p0 : UInt64) (h : ga_H) (post : UInt64 → ga_H → Prop) : Prop :=
  gw_J31_ceil K p0 h (fun (r : UInt64) (h2 : ga_H) => vf_n64 r ∧ post r h2)
theorem gm_J14_ceil (l : Launch) (g : ga_G) (p0 : UInt64) (h : ga_H) (post : UInt64 → ga_H → Prop) (hw : gw_J14_ceil g.2.2 p0 h post) : Met l yJ14_ceil (ws_ yJ14_ceil cJ14_ceil 2 (some .double)) ({ frames := 12, cells := 0, slots := 0, locals := 1295 } : Room) (va_Pc [.double p0] (ga_B g h)) (va_Qd post (ga_E g) (ga_A g)) 0 0 (ga_A g) :=
  ga_ceilMet (gm_J31_ceil l g p0 h _ hw) (fun _ _ z => z.1) (fun _ _ z => z.2)
theorem hdG_J14_ceil : yJ14_ceil.cls ≠ "java/lang/invoke/MethodHandle" ∧ yJ14_ceil.cls ≠ "java/lang/invoke/VarHandle" ∧ (parseMethodDescriptor yJ14_ceil.desc).map (fun d => d.parameters.length) = some 1 := by decide +kernel
def gw_J30_numberOfLeadingZeros_61 (K : ga_K) (post : Int32 → ga_H → Prop) (v0 : Int32) (v1 : Int32) (h : ga_H) : Prop :=
  (v0 < (4 : Int32) → (post (v1 - ((v0.toUInt32 >>> ((1 : Int32).toUInt32 &&& Int32.toUInt32 31)).toInt32)) h)) ∧ (¬ v0 < (4 : Int32) → (∀ x_6 : Int32, x_6 = (v0.toUInt32 >>> ((2 : Int32).toUInt32 &&& Int32.toUInt32 31)).toInt32 → (post ((v1 + (-2 : Int32)) - ((x_6.toUInt32 >>> ((1 : Int32).toUInt32 &&& Int32.toUInt32 31)).toInt32)) h)))
set_option maxHeartbeats 4000000 in
theorem gj_J30_numberOfLeadingZeros_61 {p : Program} {l : Launch} {e : Env} {s : State} {m : MethodId} {args : Array Value} {below : List Frame} {meth : Method} {c : Code} {H : Heap} {locs : List Loc} {cells slots : Nat} {ls : Array Slot} (g : ga_G) (post : Int32 → ga_H → Prop) (v0 : Int32) (v1 : Int32) (h : ga_H) (hC : ga_Cx p s m args meth c cJ30_numberOfLeadingZeros 2 (some .int) "java/lang/Integer" "numberOfLeadingZeros") (hw : gw_J30_numberOfLeadingZeros_61 g.2.2 post v0 v1 h) (hI : ga_I g h s H locs) (hbc : cells ≤ 0) (hbs : slots ≤ 0) (hl : lv_has ls 2 [(0, .int v0), (1, .int v1)]) : W p l e ({ frames := 8, cells := 0, slots := 0, locals := 140 } : Room) s m args below meth c H locs cells slots (MQ below (va_Qi post (ga_E g) (ga_A g)) args s 0 0 (ga_A g)) (F0 m 61 ls []) := by
  obtain ⟨hx, hb, hml, hown, hts, hr, hlk, hnm⟩ := hC
  unfold gw_J30_numberOfLeadingZeros_61 at hw
  refine lv_iload_n hx hb dJ30_numberOfLeadingZeros_61 rfl (lv_at hl 0 rfl) ?_
  refine lv_iconst (v := 4) hx hb dJ30_numberOfLeadingZeros_62 (by decide) ?_
  refine lv_icmp_lt (tgt := 73) hx hb dJ30_numberOfLeadingZeros_63 (by decide) (fun hc_5 => ?_) (fun hc_5 => ?_)
  · have hw := hw.1 hc_5
    refine lv_iload_n hx hb dJ30_numberOfLeadingZeros_73 rfl (lv_at hl 1 rfl) ?_
    refine lv_iload_n hx hb dJ30_numberOfLeadingZeros_74 rfl (lv_at hl 0 rfl) ?_
    refine lv_iconst (v := 1) hx hb dJ30_numberOfLeadingZeros_75 (by decide) ?_
    refine lv_iushr (v := (v0.toUInt32 >>> ((1 : Int32).toUInt32 &&& Int32.toUInt32 31)).toInt32) hx hb dJ30_numberOfLeadingZeros_76 rfl ?_
    refine lv_isub hx hb dJ30_numberOfLeadingZeros_77 ?_
    exact ga_iret hx hb hr rfl hlk hI hw hbc hbs dJ30_numberOfLeadingZeros_78
  · have hw := hw.2 hc_5
    refine lv_iinc (v := v1 + (-2 : Int32)) (lv' := [(1, .int (v1 + (-2 : Int32))), (0, .int v0)]) hx hb dJ30_numberOfLeadingZeros_66 hl (k := 1) rfl rfl (by decide) rfl (fun ls hl => ?_)
    refine lv_iload_n hx hb dJ30_numberOfLeadingZeros_69 rfl (lv_at hl 1 rfl) ?_
    refine lv_iconst (v := 2) hx hb dJ30_numberOfLeadingZeros_70 (by decide) ?_
    refine lv_iushr (v := (v0.toUInt32 >>> ((2 : Int32).toUInt32 &&& Int32.toUInt32 31)).toInt32) hx hb dJ30_numberOfLeadingZeros_71 rfl ?_
    refine lv_topi (fun x_6 ex_6 => ?_)
    have hw := hw x_6 ex_6
    refine lv_istore_n (i := 0) (lv' := [(0, .int x_6), (1, .int (v1 + (-2 : Int32)))]) hx hb dJ30_numberOfLeadingZeros_72 rfl hl (by decide) rfl (fun ls hl => ?_)
    refine lv_iload_n hx hb dJ30_numberOfLeadingZeros_73 rfl (lv_at hl 1 rfl) ?_
    refine lv_iload_n hx hb dJ30_numberOfLeadingZeros_74 rfl (lv_at hl 0 rfl) ?_
    refine lv_iconst (v := 1) hx hb dJ30_numberOfLeadingZeros_75 (by decide) ?_
    refine lv_iushr (v := (x_6.toUInt32 >>> ((1 : Int32).toUInt32 &&& Int32.toUInt32 31)).toInt32) hx hb dJ30_numberOfLeadingZeros_76 rfl ?_
    refine lv_isub hx hb dJ30_numberOfLeadingZeros_77 ?_
    exact ga_iret hx hb hr rfl hlk hI hw hbc hbs dJ30_numberOfLeadingZeros_78
def gw_J30_numberOfLeadingZeros_48 (K : ga_K) (post : Int32 → ga_H → Prop) (v0 : Int32) (v1 : Int32) (h : ga_H) : Prop :=
  (v0 < (16 : Int32) → (gw_J30_numberOfLeadingZeros_61 K post v0 v1 h)) ∧ (¬ v0 < (16 : Int32) → (∀ x_7 : Int32, x_7 = (v0.toUInt32 >>> ((4 : Int32).toUInt32 &&& Int32.toUInt32 31)).toInt32 → (gw_J30_numberOfLeadingZeros_61 K post x_7 (v1 + (-4 : Int32)) h)))
set_option maxHeartbeats 4000000 in
theorem gj_J30_numberOfLeadingZeros_48 {p : Program} {l : Launch} {e : Env} {s : State} {m : MethodId} {args : Array Value} {below : List Frame} {meth : Method} {c : Code} {H : Heap} {locs : List Loc} {cells slots : Nat} {ls : Array Slot} (g : ga_G) (post : Int32 → ga_H → Prop) (v0 : Int32) (v1 : Int32) (h : ga_H) (hC : ga_Cx p s m args meth c cJ30_numberOfLeadingZeros 2 (some .int) "java/lang/Integer" "numberOfLeadingZeros") (hw : gw_J30_numberOfLeadingZeros_48 g.2.2 post v0 v1 h) (hI : ga_I g h s H locs) (hbc : cells ≤ 0) (hbs : slots ≤ 0) (hl : lv_has ls 2 [(0, .int v0), (1, .int v1)]) : W p l e ({ frames := 8, cells := 0, slots := 0, locals := 140 } : Room) s m args below meth c H locs cells slots (MQ below (va_Qi post (ga_E g) (ga_A g)) args s 0 0 (ga_A g)) (F0 m 48 ls []) := by
  obtain ⟨hx, hb, hml, hown, hts, hr, hlk, hnm⟩ := hC
  unfold gw_J30_numberOfLeadingZeros_48 at hw
  refine lv_iload_n hx hb dJ30_numberOfLeadingZeros_48 rfl (lv_at hl 0 rfl) ?_
  refine lv_bipush (v := 16) hx hb dJ30_numberOfLeadingZeros_49 (by decide) ?_
  refine lv_icmp_lt (tgt := 61) hx hb dJ30_numberOfLeadingZeros_51 (by decide) (fun hc_4 => ?_) (fun hc_4 => ?_)
  · have hw := hw.1 hc_4
    exact gj_J30_numberOfLeadingZeros_61 g post v0 v1 h ⟨hx, hb, hml, hown, hts, hr, hlk, hnm⟩ hw hI hbc hbs (lv_sub hl [0, 1] rfl)
  · have hw := hw.2 hc_4
    refine lv_iinc (v := v1 + (-4 : Int32)) (lv' := [(1, .int (v1 + (-4 : Int32))), (0, .int v0)]) hx hb dJ30_numberOfLeadingZeros_54 hl (k := 1) rfl rfl (by decide) rfl (fun ls hl => ?_)
    refine lv_iload_n hx hb dJ30_numberOfLeadingZeros_57 rfl (lv_at hl 1 rfl) ?_
    refine lv_iconst (v := 4) hx hb dJ30_numberOfLeadingZeros_58 (by decide) ?_
    refine lv_iushr (v := (v0.toUInt32 >>> ((4 : Int32).toUInt32 &&& Int32.toUInt32 31)).toInt32) hx hb dJ30_numberOfLeadingZeros_59 rfl ?_
    refine lv_topi (fun x_7 ex_7 => ?_)
    have hw := hw x_7 ex_7
    refine lv_istore_n (i := 0) (lv' := [(0, .int x_7), (1, .int (v1 + (-4 : Int32)))]) hx hb dJ30_numberOfLeadingZeros_60 rfl hl (by decide) rfl (fun ls hl => ?_)
    exact gj_J30_numberOfLeadingZeros_61 g post x_7 (v1 + (-4 : Int32)) h ⟨hx, hb, hml, hown, hts, hr, hlk, hnm⟩ hw hI hbc hbs (lv_sub hl [0, 1] rfl)
def gw_J30_numberOfLeadingZeros_33 (K : ga_K) (post : Int32 → ga_H → Prop) (v0 : Int32) (v1 : Int32) (h : ga_H) : Prop :=
  (v0 < (256 : Int32) → (gw_J30_numberOfLeadingZeros_48 K post v0 v1 h)) ∧ (¬ v0 < (256 : Int32) → (∀ x_8 : Int32, x_8 = (v0.toUInt32 >>> ((8 : Int32).toUInt32 &&& Int32.toUInt32 31)).toInt32 → (gw_J30_numberOfLeadingZeros_48 K post x_8 (v1 + (-8 : Int32)) h)))
set_option maxHeartbeats 4000000 in
theorem gj_J30_numberOfLeadingZeros_33 {p : Program} {l : Launch} {e : Env} {s : State} {m : MethodId} {args : Array Value} {below : List Frame} {meth : Method} {c : Code} {H : Heap} {locs : List Loc} {cells slots : Nat} {ls : Array Slot} (g : ga_G) (post : Int32 → ga_H → Prop) (v0 : Int32) (v1 : Int32) (h : ga_H) (hC : ga_Cx p s m args meth c cJ30_numberOfLeadingZeros 2 (some .int) "java/lang/Integer" "numberOfLeadingZeros") (hw : gw_J30_numberOfLeadingZeros_33 g.2.2 post v0 v1 h) (hI : ga_I g h s H locs) (hbc : cells ≤ 0) (hbs : slots ≤ 0) (hl : lv_has ls 2 [(0, .int v0), (1, .int v1)]) : W p l e ({ frames := 8, cells := 0, slots := 0, locals := 140 } : Room) s m args below meth c H locs cells slots (MQ below (va_Qi post (ga_E g) (ga_A g)) args s 0 0 (ga_A g)) (F0 m 33 ls []) := by
  obtain ⟨hx, hb, hml, hown, hts, hr, hlk, hnm⟩ := hC
  unfold gw_J30_numberOfLeadingZeros_33 at hw
  refine lv_iload_n hx hb dJ30_numberOfLeadingZeros_33 rfl (lv_at hl 0 rfl) ?_
  refine lv_sipush (v := 256) hx hb dJ30_numberOfLeadingZeros_34 (by decide) ?_
  refine lv_icmp_lt (tgt := 48) hx hb dJ30_numberOfLeadingZeros_37 (by decide) (fun hc_3 => ?_) (fun hc_3 => ?_)
  · have hw := hw.1 hc_3
    exact gj_J30_numberOfLeadingZeros_48 g post v0 v1 h ⟨hx, hb, hml, hown, hts, hr, hlk, hnm⟩ hw hI hbc hbs (lv_sub hl [0, 1] rfl)
  · have hw := hw.2 hc_3
    refine lv_iinc (v := v1 + (-8 : Int32)) (lv' := [(1, .int (v1 + (-8 : Int32))), (0, .int v0)]) hx hb dJ30_numberOfLeadingZeros_40 hl (k := 1) rfl rfl (by decide) rfl (fun ls hl => ?_)
    refine lv_iload_n hx hb dJ30_numberOfLeadingZeros_43 rfl (lv_at hl 1 rfl) ?_
    refine lv_bipush (v := 8) hx hb dJ30_numberOfLeadingZeros_44 (by decide) ?_
    refine lv_iushr (v := (v0.toUInt32 >>> ((8 : Int32).toUInt32 &&& Int32.toUInt32 31)).toInt32) hx hb dJ30_numberOfLeadingZeros_46 rfl ?_
    refine lv_topi (fun x_8 ex_8 => ?_)
    have hw := hw x_8 ex_8
    refine lv_istore_n (i := 0) (lv' := [(0, .int x_8), (1, .int (v1 + (-8 : Int32)))]) hx hb dJ30_numberOfLeadingZeros_47 rfl hl (by decide) rfl (fun ls hl => ?_)
    exact gj_J30_numberOfLeadingZeros_48 g post x_8 (v1 + (-8 : Int32)) h ⟨hx, hb, hml, hown, hts, hr, hlk, hnm⟩ hw hI hbc hbs (lv_sub hl [0, 1] rfl)
def gw_J30_numberOfLeadingZeros (K : ga_K) (p0 : Int32) (h : ga_H) (post : Int32 → ga_H → Prop) : Prop :=
  ((0 : Int32) < p0 → ((p0 < (65536 : Int32) → (gw_J30_numberOfLeadingZeros_33 K post p0 (31 : Int32) h)) ∧ (¬ p0 < (65536 : Int32) → (∀ x_9 : Int32, x_9 = (p0.toUInt32 >>> ((16 : Int32).toUInt32 &&& Int32.toUInt32 31)).toInt32 → (gw_J30_numberOfLeadingZeros_33 K post x_9 ((31 : Int32) + (-16 : Int32)) h))))) ∧ (¬ (0 : Int32) < p0 → ((¬ p0 = (0 : Int32) → (post (0 : Int32) h)) ∧ (p0 = (0 : Int32) → (post (32 : Int32) h))))
set_option maxHeartbeats 4000000 in
theorem gm_J30_numberOfLeadingZeros (l : Launch) (g : ga_G) (p0 : Int32) (h : ga_H) (post : Int32 → ga_H → Prop) (hw : gw_J30_numberOfLeadingZeros g.2.2 p0 h post) : Met l yJ30_numberOfLeadingZeros (ws_ yJ30_numberOfLeadingZeros cJ30_numberOfLeadingZeros 2 (some .int)) ({ frames := 8, cells := 0, slots := 0, locals := 140 } : Room) (va_Pc [.int p0] (ga_B g h)) (va_Qi post (ga_E g) (ga_A g)) 0 0 (ga_A g) := by
  refine ga_met (own := "java/lang/Integer") (nm := "numberOfLeadingZeros") (by decide) rfl rfl (by exact Nat.le_of_ble_eq_true rfl) (fun p e s m below meth c ls hC hI hl => ?_)
  have hl : lv_has ls 2 [(0, .int p0)] := hl
  generalize ([.int p0] : List Value).toArray = args at hC ⊢
  obtain ⟨hx, hb, hml, hown, hts, hr, hlk, hnm⟩ := hC
  unfold gw_J30_numberOfLeadingZeros at hw
  obtain ⟨H, eH⟩ : ∃ z, z = s.heap := ⟨_, rfl⟩
  obtain ⟨locs, elo⟩ : ∃ z : List Loc, z = [] := ⟨_, rfl⟩
  rw [← eH, ← elo] at hI ⊢
  obtain ⟨cells, slots, hbc, hbs, e0, e1⟩ : ∃ a b : Nat, a ≤ 0 ∧ b ≤ 0 ∧ a = 0 ∧ b = 0 := ⟨0, 0, by omega, by omega, rfl, rfl⟩
  show W p l e ({ frames := 8, cells := 0, slots := 0, locals := 140 } : Room) s m args below meth c H locs 0 0 (MQ below (va_Qi post (ga_E g) (ga_A g)) args s 0 0 (ga_A g)) (F0 m 0 ls [])
  suffices hgoal : W p l e ({ frames := 8, cells := 0, slots := 0, locals := 140 } : Room) s m args below meth c H locs cells slots (MQ below (va_Qi post (ga_E g) (ga_A g)) args s 0 0 (ga_A g)) (F0 m 0 ls []) by rw [e0, e1] at hgoal; exact hgoal
  refine lv_iload_n hx hb dJ30_numberOfLeadingZeros_0 rfl (lv_at hl 0 rfl) ?_
  refine lv_if_gt (tgt := 15) hx hb dJ30_numberOfLeadingZeros_1 (by decide) (fun hc_1 => ?_) (fun hc_1 => ?_)
  · have hw := hw.1 hc_1
    refine lv_bipush (v := 31) hx hb dJ30_numberOfLeadingZeros_15 (by decide) ?_
    refine lv_istore_n (i := 1) (lv' := [(1, .int (31 : Int32)), (0, .int p0)]) hx hb dJ30_numberOfLeadingZeros_17 rfl hl (by decide) rfl (fun ls hl => ?_)
    refine lv_iload_n hx hb dJ30_numberOfLeadingZeros_18 rfl (lv_at hl 1 rfl) ?_
    refine lv_ldcw (v := 65536) hx hb hown (hts _ q1235) dJ30_numberOfLeadingZeros_19 ?_
    refine lv_icmp_lt (tgt := 33) hx hb dJ30_numberOfLeadingZeros_22 (by decide) (fun hc_2 => ?_) (fun hc_2 => ?_)
    · have hw := hw.1 hc_2
      exact gj_J30_numberOfLeadingZeros_33 g post p0 (31 : Int32) h ⟨hx, hb, hml, hown, hts, hr, hlk, hnm⟩ hw hI hbc hbs (lv_sub hl [1, 0] rfl)
    · have hw := hw.2 hc_2
      refine lv_iinc (v := (31 : Int32) + (-16 : Int32)) (lv' := [(1, .int ((31 : Int32) + (-16 : Int32))), (0, .int p0)]) hx hb dJ30_numberOfLeadingZeros_25 hl (k := 0) rfl rfl (by decide) rfl (fun ls hl => ?_)
      refine lv_iload_n hx hb dJ30_numberOfLeadingZeros_28 rfl (lv_at hl 1 rfl) ?_
      refine lv_bipush (v := 16) hx hb dJ30_numberOfLeadingZeros_29 (by decide) ?_
      refine lv_iushr (v := (p0.toUInt32 >>> ((16 : Int32).toUInt32 &&& Int32.toUInt32 31)).toInt32) hx hb dJ30_numberOfLeadingZeros_31 rfl ?_
      refine lv_topi (fun x_9 ex_9 => ?_)
      have hw := hw x_9 ex_9
      refine lv_istore_n (i := 0) (lv' := [(0, .int x_9), (1, .int ((31 : Int32) + (-16 : Int32)))]) hx hb dJ30_numberOfLeadingZeros_32 rfl hl (by decide) rfl (fun ls hl => ?_)
      exact gj_J30_numberOfLeadingZeros_33 g post x_9 ((31 : Int32) + (-16 : Int32)) h ⟨hx, hb, hml, hown, hts, hr, hlk, hnm⟩ hw hI hbc hbs (lv_sub hl [0, 1] rfl)
  · have hw := hw.2 hc_1
    refine lv_iload_n hx hb dJ30_numberOfLeadingZeros_4 rfl (lv_at hl 0 rfl) ?_
    refine lv_if_ne (tgt := 13) hx hb dJ30_numberOfLeadingZeros_5 (by decide) (fun hc_10 => ?_) (fun hc_10 => ?_)
    · have hw := hw.1 hc_10
      refine lv_iconst (v := 0) hx hb dJ30_numberOfLeadingZeros_13 (by decide) ?_
      exact ga_iret hx hb hr rfl hlk hI hw hbc hbs dJ30_numberOfLeadingZeros_14
    · have hw := hw.2 hc_10
      refine lv_bipush (v := 32) hx hb dJ30_numberOfLeadingZeros_8 (by decide) ?_
      refine lv_goto (tgt := 14) hx hb dJ30_numberOfLeadingZeros_10 (by decide) ?_
      exact ga_iret hx hb hr rfl hlk hI hw hbc hbs dJ30_numberOfLeadingZeros_14
theorem hdG_J30_numberOfLeadingZeros : yJ30_numberOfLeadingZeros.cls ≠ "java/lang/invoke/MethodHandle" ∧ yJ30_numberOfLeadingZeros.cls ≠ "java/lang/invoke/VarHandle" ∧ (parseMethodDescriptor yJ30_numberOfLeadingZeros.desc).map (fun d => d.parameters.length) = some 1 := by decide +kernel
def gw_J4_tableSizeFor (K : ga_K) (p0 : Int32) (h : ga_H) (post : Int32 → ga_H → Prop) : Prop :=
  gw_J30_numberOfLeadingZeros K (p0 - (1 : Int32)) h (fun (r_2 : Int32) (h_1 : ga_H) => ∀ x_3 : Int32, x_3 = ((-1 : Int32).toUInt32 >>> (r_2.toUInt32 &&& Int32.toUInt32 31)).toInt32 → (((0 : Int32) ≤ x_3 → ((x_3 < (1073741824 : Int32) → (post (x_3 + (1 : Int32)) h_1)) ∧ (¬ x_3 < (1073741824 : Int32) → (post (1073741824 : Int32) h_1)))) ∧ (¬ (0 : Int32) ≤ x_3 → (post (1 : Int32) h_1))))
set_option maxHeartbeats 4000000 in
theorem gm_J4_tableSizeFor (l : Launch) (g : ga_G) (p0 : Int32) (h : ga_H) (post : Int32 → ga_H → Prop) (hw : gw_J4_tableSizeFor g.2.2 p0 h post) : Met l yJ4_tableSizeFor (ws_ yJ4_tableSizeFor cJ4_tableSizeFor 2 (some .int)) ({ frames := 9, cells := 0, slots := 0, locals := 161 } : Room) (va_Pc [.int p0] (ga_B g h)) (va_Qi post (ga_E g) (ga_A g)) 0 0 (ga_A g) := by
  refine ga_met (own := "java/util/HashMap") (nm := "tableSizeFor") (by decide) rfl rfl (by exact Nat.le_of_ble_eq_true rfl) (fun p e s m below meth c ls hC hI hl => ?_)
  have hl : lv_has ls 2 [(0, .int p0)] := hl
  generalize ([.int p0] : List Value).toArray = args at hC ⊢
  obtain ⟨hx, hb, hml, hown, hts, hr, hlk, hnm⟩ := hC
  unfold gw_J4_tableSizeFor at hw
  obtain ⟨H, eH⟩ : ∃ z, z = s.heap := ⟨_, rfl⟩
  obtain ⟨locs, elo⟩ : ∃ z : List Loc, z = [] := ⟨_, rfl⟩
  rw [← eH, ← elo] at hI ⊢
  obtain ⟨cells, slots, hbc, hbs, e0, e1⟩ : ∃ a b : Nat, a ≤ 0 ∧ b ≤ 0 ∧ a = 0 ∧ b = 0 := ⟨0, 0, by omega, by omega, rfl, rfl⟩
  show W p l e ({ frames := 9, cells := 0, slots := 0, locals := 161 } : Room) s m args below meth c H locs 0 0 (MQ below (va_Qi post (ga_E g) (ga_A g)) args s 0 0 (ga_A g)) (F0 m 0 ls [])
  suffices hgoal : W p l e ({ frames := 9, cells := 0, slots := 0, locals := 161 } : Room) s m args below meth c H locs cells slots (MQ below (va_Qi post (ga_E g) (ga_A g)) args s 0 0 (ga_A g)) (F0 m 0 ls []) by rw [e0, e1] at hgoal; exact hgoal
  refine lv_iconst (v := -1) hx hb dJ4_tableSizeFor_0 (by decide) ?_
  refine lv_iload_n hx hb dJ4_tableSizeFor_1 rfl (lv_at hl 0 rfl) ?_
  refine lv_iconst (v := 1) hx hb dJ4_tableSizeFor_2 (by decide) ?_
  refine lv_isub hx hb dJ4_tableSizeFor_3 ?_
  refine ga_calli (va_runS (As := [.int (p0 - (1 : Int32))]) (rest := [.int (-1 : Int32)]) ⟨hx, hb, hml, hown, hts⟩ (gm_J30_numberOfLeadingZeros l g (p0 - (1 : Int32)) h _ hw) (va_cwS 1 hts (lw_S q1467 q1468 q136 q1469) rfl rfl rfl hdG_J30_numberOfLeadingZeros ⟨Nat.le_of_ble_eq_true rfl, Nat.le_of_ble_eq_true rfl⟩) (ga_preS hI rfl) rfl rfl hl.1 rfl (ga_room (Nat.le_of_ble_eq_true rfl)) dJ4_tableSizeFor_4 ⟨hbc, hbs⟩) hI (bc := 0) (bs := 0) hbc hbs (Nat.zero_le _) (Nat.zero_le _) (fun r_2 h_1 H locs cells slots hw hI hbc hbs => ?_)
  refine lv_iushr (v := ((-1 : Int32).toUInt32 >>> (r_2.toUInt32 &&& Int32.toUInt32 31)).toInt32) hx hb dJ4_tableSizeFor_7 rfl ?_
  refine lv_topi (fun x_3 ex_3 => ?_)
  have hw := hw x_3 ex_3
  refine lv_istore_n (i := 1) (lv' := [(1, .int x_3), (0, .int p0)]) hx hb dJ4_tableSizeFor_8 rfl hl (by decide) rfl (fun ls hl => ?_)
  refine lv_iload_n hx hb dJ4_tableSizeFor_9 rfl (lv_at hl 0 rfl) ?_
  refine lv_if_ge (tgt := 17) hx hb dJ4_tableSizeFor_10 (by decide) (fun hc_4 => ?_) (fun hc_4 => ?_)
  · have hw := hw.1 hc_4
    refine lv_iload_n hx hb dJ4_tableSizeFor_17 rfl (lv_at hl 0 rfl) ?_
    refine lv_ldc (v := 1073741824) hx hb hown (hts _ q1463) dJ4_tableSizeFor_18 ?_
    refine lv_icmp_lt (tgt := 28) hx hb dJ4_tableSizeFor_20 (by decide) (fun hc_5 => ?_) (fun hc_5 => ?_)
    · have hw := hw.1 hc_5
      refine lv_iload_n hx hb dJ4_tableSizeFor_28 rfl (lv_at hl 0 rfl) ?_
      refine lv_iconst (v := 1) hx hb dJ4_tableSizeFor_29 (by decide) ?_
      refine lv_iadd hx hb dJ4_tableSizeFor_30 ?_
      exact ga_iret hx hb hr rfl hlk hI hw hbc hbs dJ4_tableSizeFor_31
    · have hw := hw.2 hc_5
      refine lv_ldc (v := 1073741824) hx hb hown (hts _ q1463) dJ4_tableSizeFor_23 ?_
      refine lv_goto (tgt := 31) hx hb dJ4_tableSizeFor_25 (by decide) ?_
      exact ga_iret hx hb hr rfl hlk hI hw hbc hbs dJ4_tableSizeFor_31
  · have hw := hw.2 hc_4
    refine lv_iconst (v := 1) hx hb dJ4_tableSizeFor_13 (by decide) ?_
    refine lv_goto (tgt := 31) hx hb dJ4_tableSizeFor_14 (by decide) ?_
    exact ga_iret hx hb hr rfl hlk hI hw hbc hbs dJ4_tableSizeFor_31
theorem hdG_J4_tableSizeFor : yJ4_tableSizeFor.cls ≠ "java/lang/invoke/MethodHandle" ∧ yJ4_tableSizeFor.cls ≠ "java/lang/invoke/VarHandle" ∧ (parseMethodDescriptor yJ4_tableSizeFor.desc).map (fun d => d.parameters.length) = some 1 := by decide +kernel
def gw_J4_resize_327 (K : ga_K) (post : Option Nat → ga_H → Prop) (hd151 : Int32 → ga_H → Nat → Nat → Prop) (p0 : Nat) (v1 : Option Nat) (v2 : Int32) (v4 : Int32) (v6 : Option Nat) (v7 : Int32) (v11 : Option Nat) (v12 : Option Nat) (h : ga_H) (bc bs : Nat) : Prop :=
  (v12 = none → (hd151 (v7 + (1 : Int32)) h bc bs)) ∧ (∀ a_51 : Nat, v12 = some a_51 → (∃ a_52 : Nat, v12 = some a_52 ∧ ∃ fs_53 : List Value, h a_52 = some (ga_O 16 fs_53) ∧ 3 < fs_53.length ∧ ∀ h_54 : ga_H, h_54 = ga_set h a_52 (ga_O 16 (fs_53.set 3 (va_rf none))) → (∃ a_55 : Nat, v6 = some a_55 ∧ ∃ (n_56 : Nat) (f_57 : Nat → Option Nat), h_54 a_55 = some (ga_Aq 8 n_56 f_57) ∧ vp_in (v7 + v2) n_56 ∧ ga_ok K h_54 "java/util/HashMap$Node" v11 ∧ ∀ h_58 : ga_H, h_58 = ga_set h_54 a_55 (ga_Aq 8 n_56 (va_up f_57 (v7 + v2).toNatClampNeg v11)) → (hd151 (v7 + (1 : Int32)) h_58 bc bs))))
set_option maxHeartbeats 4000000 in
theorem gj_J4_resize_327 {p : Program} {l : Launch} {e : Env} {s : State} {m : MethodId} {args : Array Value} {below : List Frame} {meth : Method} {c : Code} {mc ms : Nat} {H : Heap} {locs : List Loc} {cells slots : Nat} {ls : Array Slot} (g : ga_G) (post : Option Nat → ga_H → Prop) (hd151 : Int32 → ga_H → Nat → Nat → Prop) (p0 : Nat) (v1 : Option Nat) (v2 : Int32) (v4 : Int32) (v6 : Option Nat) (v7 : Int32) (v11 : Option Nat) (v12 : Option Nat) (h : ga_H) (bc bs : Nat) (hC : ga_Cx p s m args meth c cJ4_resize 14 (some (.array (.object "java/util/HashMap$Node"))) "java/util/HashMap" "resize") (hw : gw_J4_resize_327 g.2.2 post hd151 p0 v1 v2 v4 v6 v7 v11 v12 h bc bs) (hhd151 : ∀ (y0 : Int32) (T : ga_H) (B1 : Nat) (B2 : Nat) (H : Heap) (locs : List Loc) (cells slots : Nat) (ls : Array Slot), hd151 y0 T B1 B2 → ga_I g T s H locs → cells + B1 ≤ mc → slots + B2 ≤ ms → lv_has ls 14 [(0, .ref p0), (1, va_rf v1), (2, .int v2), (4, .int v4), (6, va_rf v6), (7, .int y0)] → W p l e ({ frames := 8, cells := mc, slots := ms, locals := 140 } : Room) s m args below meth c H locs cells slots (MQ below (va_Qq post (ga_E g) (ga_A g)) args s mc ms (ga_A g)) (F0 m 151 ls [])) (hI : ga_I g h s H locs) (hbc : cells + bc ≤ mc) (hbs : slots + bs ≤ ms) (hl : lv_has ls 14 [(0, .ref p0), (1, va_rf v1), (2, .int v2), (4, .int v4), (6, va_rf v6), (7, .int v7), (11, va_rf v11), (12, va_rf v12)]) : W p l e ({ frames := 8, cells := mc, slots := ms, locals := 140 } : Room) s m args below meth c H locs cells slots (MQ below (va_Qq post (ga_E g) (ga_A g)) args s mc ms (ga_A g)) (F0 m 327 ls []) := by
  obtain ⟨hx, hb, hml, hown, hts, hr, hlk, hnm⟩ := hC
  unfold gw_J4_resize_327 at hw
  refine ga_aload hx hb dJ4_resize_327 (lv_at hl 7 rfl) ?_
  refine ga_ifnull (tgt := 347) hx hb dJ4_resize_329 (by decide) (fun hc_a_51 => ?_) (fun a_51 hc_a_51 => ?_)
  · have hw := hw.1 hc_a_51
    refine lv_iinc (v := v7 + (1 : Int32)) (lv' := [(7, .int (v7 + (1 : Int32))), (0, .ref p0), (1, va_rf v1), (2, .int v2), (4, .int v4), (6, va_rf v6), (11, va_rf v11), (12, va_rf v12)]) hx hb dJ4_resize_347 hl (k := 5) rfl rfl (by decide) (by simp [ga_rcat, ga_cat_r, ga_cat_i, ga_cat_f, ga_cat_l, ga_cat_d]) (fun ls hl => ?_)
    refine lv_goto (tgt := 151) hx hb dJ4_resize_350 (by decide) ?_
    exact hhd151 _ _ _ _ H locs cells slots ls hw hI hbc hbs (lv_sub hl [1, 2, 3, 4, 5, 0] rfl)
  · have hw := hw.2 a_51 hc_a_51
    skip
    refine ga_aload hx hb dJ4_resize_332 (lv_at hl 7 rfl) ?_
    refine lv_null hx hb dJ4_resize_334 ?_
    obtain ⟨a_52, ea_52, hw⟩ := hw
    rewrite [ea_52]
    obtain ⟨fs_53, hq, hk, hw⟩ := hw
    refine ga_put (ci := 16) (T := TJ32) (v := va_rf none) (ty := tyJ32 3) hx hb hts hown hI in_J32 rfl tyJ32 tyJ32_ok nmJ32 3 (by decide) q1513 (fun _ z => z) rfl (tyJ32_ok 3 (by decide)) (ga_nq _ _) (ga_fq _ _) hq hk dJ4_resize_335 (fun H locs hI => ?_)
    obtain ⟨h_54, eh_54⟩ : ∃ z, z = ga_set h a_52 (ga_O 16 (fs_53.set 3 (va_rf none))) := ⟨_, rfl⟩
    rw [← eh_54] at hI
    have hw := hw h_54 eh_54
    refine ga_aload hx hb dJ4_resize_338 (lv_at hl 4 rfl) ?_
    refine lv_iload hx hb dJ4_resize_340 (lv_at hl 5 rfl) ?_
    refine lv_iload_n hx hb dJ4_resize_342 rfl (lv_at hl 2 rfl) ?_
    refine lv_iadd hx hb dJ4_resize_343 ?_
    refine ga_aload hx hb dJ4_resize_344 (lv_at hl 6 rfl) ?_
    obtain ⟨a_55, ea_55, hw⟩ := hw
    rewrite [ea_55]
    obtain ⟨n_56, f_57, hq, hi, hok, hw⟩ := hw
    refine ga_sto (x := v11) hx hb hI hq rfl hok hi dJ4_resize_346 (fun H locs hI => ?_)
    obtain ⟨h_58, eh_58⟩ : ∃ z, z = ga_set h_54 a_55 (ga_Aq 8 n_56 (va_up f_57 (v7 + v2).toNatClampNeg v11)) := ⟨_, rfl⟩
    rw [← eh_58] at hI
    have hw := hw h_58 eh_58
    refine lv_iinc (v := v7 + (1 : Int32)) (lv' := [(7, .int (v7 + (1 : Int32))), (0, .ref p0), (1, va_rf v1), (2, .int v2), (4, .int v4), (6, va_rf v6), (11, va_rf v11), (12, va_rf v12)]) hx hb dJ4_resize_347 hl (k := 5) rfl rfl (by decide) (by simp [ga_rcat, ga_cat_r, ga_cat_i, ga_cat_f, ga_cat_l, ga_cat_d]) (fun ls hl => ?_)
    refine lv_goto (tgt := 151) hx hb dJ4_resize_350 (by decide) ?_
    exact hhd151 _ _ _ _ H locs cells slots ls hw hI hbc hbs (lv_sub hl [1, 2, 3, 4, 5, 0] rfl)
def gw_J4_resize_301 (K : ga_K) (post : Option Nat → ga_H → Prop) (hd151 : Int32 → ga_H → Nat → Nat → Prop) (hd235 : Option Nat → Option Nat → Option Nat → Option Nat → Option Nat → ga_H → Prop) (p0 : Nat) (v1 : Option Nat) (v2 : Int32) (v4 : Int32) (v6 : Option Nat) (v7 : Int32) (v9 : Option Nat) (v10 : Option Nat) (v11 : Option Nat) (v12 : Option Nat) (v13 : Option Nat) (h : ga_H) (bc bs : Nat) : Prop :=
  (v13 = none → ((v10 = none → (gw_J4_resize_327 K post (fun (y0 : Int32) (T : ga_H) (B1 : Nat) (B2 : Nat) => hd151 y0 T B1 B2) p0 v1 v2 v4 v6 v7 v11 v12 h bc bs)) ∧ (∀ a_50 : Nat, v10 = some a_50 → (∃ a_59 : Nat, v10 = some a_59 ∧ ∃ fs_60 : List Value, h a_59 = some (ga_O 16 fs_60) ∧ 3 < fs_60.length ∧ ∀ h_61 : ga_H, h_61 = ga_set h a_59 (ga_O 16 (fs_60.set 3 (va_rf none))) → (∃ a_62 : Nat, v6 = some a_62 ∧ ∃ (n_63 : Nat) (f_64 : Nat → Option Nat), h_61 a_62 = some (ga_Aq 8 n_63 f_64) ∧ vp_in v7 n_63 ∧ ga_ok K h_61 "java/util/HashMap$Node" v9 ∧ ∀ h_65 : ga_H, h_65 = ga_set h_61 a_62 (ga_Aq 8 n_63 (va_up f_64 v7.toNatClampNeg v9)) → (gw_J4_resize_327 K post (fun (y0 : Int32) (T : ga_H) (B1 : Nat) (B2 : Nat) => hd151 y0 T B1 B2) p0 v1 v2 v4 v6 v7 v11 v12 h_65 bc bs)))))) ∧ (∀ a_49 : Nat, v13 = some a_49 → (hd235 v13 v9 v10 v11 v12 h))
set_option maxHeartbeats 4000000 in
theorem gj_J4_resize_301 {p : Program} {l : Launch} {e : Env} {s : State} {m : MethodId} {args : Array Value} {below : List Frame} {meth : Method} {c : Code} {mc ms : Nat} {H : Heap} {locs : List Loc} {cells slots : Nat} {ls : Array Slot} (g : ga_G) (post : Option Nat → ga_H → Prop) (hd151 : Int32 → ga_H → Nat → Nat → Prop) (hd235 : Option Nat → Option Nat → Option Nat → Option Nat → Option Nat → ga_H → Prop) (p0 : Nat) (v1 : Option Nat) (v2 : Int32) (v4 : Int32) (v6 : Option Nat) (v7 : Int32) (v9 : Option Nat) (v10 : Option Nat) (v11 : Option Nat) (v12 : Option Nat) (v13 : Option Nat) (h : ga_H) (bc bs : Nat) (hC : ga_Cx p s m args meth c cJ4_resize 14 (some (.array (.object "java/util/HashMap$Node"))) "java/util/HashMap" "resize") (hw : gw_J4_resize_301 g.2.2 post hd151 hd235 p0 v1 v2 v4 v6 v7 v9 v10 v11 v12 v13 h bc bs) (hhd151 : ∀ (y0 : Int32) (T : ga_H) (B1 : Nat) (B2 : Nat) (H : Heap) (locs : List Loc) (cells slots : Nat) (ls : Array Slot), hd151 y0 T B1 B2 → ga_I g T s H locs → cells + B1 ≤ mc → slots + B2 ≤ ms → lv_has ls 14 [(0, .ref p0), (1, va_rf v1), (2, .int v2), (4, .int v4), (6, va_rf v6), (7, .int y0)] → W p l e ({ frames := 8, cells := mc, slots := ms, locals := 140 } : Room) s m args below meth c H locs cells slots (MQ below (va_Qq post (ga_E g) (ga_A g)) args s mc ms (ga_A g)) (F0 m 151 ls [])) (hhd235 : ∀ (y0 : Option Nat) (y1 : Option Nat) (y2 : Option Nat) (y3 : Option Nat) (y4 : Option Nat) (T : ga_H) (H : Heap) (locs : List Loc) (cells slots : Nat) (ls : Array Slot), hd235 y0 y1 y2 y3 y4 T → ga_I g T s H locs → cells + bc ≤ mc → slots + bs ≤ ms → lv_has ls 14 [(0, .ref p0), (1, va_rf v1), (2, .int v2), (4, .int v4), (6, va_rf v6), (7, .int v7), (8, va_rf y0), (9, va_rf y1), (10, va_rf y2), (11, va_rf y3), (12, va_rf y4)] → W p l e ({ frames := 8, cells := mc, slots := ms, locals := 140 } : Room) s m args below meth c H locs cells slots (MQ below (va_Qq post (ga_E g) (ga_A g)) args s mc ms (ga_A g)) (F0 m 235 ls [])) (hI : ga_I g h s H locs) (hbc : cells + bc ≤ mc) (hbs : slots + bs ≤ ms) (hl : lv_has ls 14 [(0, .ref p0), (1, va_rf v1), (2, .int v2), (4, .int v4), (6, va_rf v6), (7, .int v7), (9, va_rf v9), (10, va_rf v10), (11, va_rf v11), (12, va_rf v12), (13, va_rf v13)]) : W p l e ({ frames := 8, cells := mc, slots := ms, locals := 140 } : Room) s m args below meth c H locs cells slots (MQ below (va_Qq post (ga_E g) (ga_A g)) args s mc ms (ga_A g)) (F0 m 301 ls []) := by
  obtain ⟨hx, hb, hml, hown, hts, hr, hlk, hnm⟩ := hC
  unfold gw_J4_resize_301 at hw
  refine ga_aload hx hb dJ4_resize_301 (lv_at hl 10 rfl) ?_
  refine lv_dup hx hb dJ4_resize_303 (ga_rcat _) ?_
  refine ga_astore (x := v13) (lv' := [(8, va_rf v13), (0, .ref p0), (1, va_rf v1), (2, .int v2), (4, .int v4), (6, va_rf v6), (7, .int v7), (9, va_rf v9), (10, va_rf v10), (11, va_rf v11), (12, va_rf v12), (13, va_rf v13)]) hx hb dJ4_resize_304 hl (by decide) rfl (fun ls hl => ?_)
  refine ga_ifnonnull (tgt := 235) hx hb dJ4_resize_306 (by decide) (fun a_49 hc_a_49 => ?_) (fun hc_a_49 => ?_)
  · have hw := hw.2 a_49 hc_a_49
    skip
    exact hhd235 _ _ _ _ _ _ H locs cells slots ls hw hI hbc hbs (lv_sub hl [1, 2, 3, 4, 5, 6, 0, 7, 8, 9, 10] rfl)
  · have hw := hw.1 hc_a_49
    refine ga_aload hx hb dJ4_resize_309 (lv_at hl 8 rfl) ?_
    refine ga_ifnull (tgt := 327) hx hb dJ4_resize_311 (by decide) (fun hc_a_50 => ?_) (fun a_50 hc_a_50 => ?_)
    · have hw := hw.1 hc_a_50
      exact gj_J4_resize_327 g post (fun (y0 : Int32) (T : ga_H) (B1 : Nat) (B2 : Nat) => hd151 y0 T B1 B2) p0 v1 v2 v4 v6 v7 v11 v12 h bc bs ⟨hx, hb, hml, hown, hts, hr, hlk, hnm⟩ hw hhd151 hI hbc hbs (lv_sub hl [1, 2, 3, 4, 5, 6, 9, 10] rfl)
    · have hw := hw.2 a_50 hc_a_50
      skip
      refine ga_aload hx hb dJ4_resize_314 (lv_at hl 8 rfl) ?_
      refine lv_null hx hb dJ4_resize_316 ?_
      obtain ⟨a_59, ea_59, hw⟩ := hw
      rewrite [ea_59]
      obtain ⟨fs_60, hq, hk, hw⟩ := hw
      refine ga_put (ci := 16) (T := TJ32) (v := va_rf none) (ty := tyJ32 3) hx hb hts hown hI in_J32 rfl tyJ32 tyJ32_ok nmJ32 3 (by decide) q1513 (fun _ z => z) rfl (tyJ32_ok 3 (by decide)) (ga_nq _ _) (ga_fq _ _) hq hk dJ4_resize_317 (fun H locs hI => ?_)
      obtain ⟨h_61, eh_61⟩ : ∃ z, z = ga_set h a_59 (ga_O 16 (fs_60.set 3 (va_rf none))) := ⟨_, rfl⟩
      rw [← eh_61] at hI
      have hw := hw h_61 eh_61
      refine ga_aload hx hb dJ4_resize_320 (lv_at hl 5 rfl) ?_
      refine lv_iload hx hb dJ4_resize_322 (lv_at hl 6 rfl) ?_
      refine ga_aload hx hb dJ4_resize_324 (lv_at hl 7 rfl) ?_
      obtain ⟨a_62, ea_62, hw⟩ := hw
      rewrite [ea_62]
      obtain ⟨n_63, f_64, hq, hi, hok, hw⟩ := hw
      refine ga_sto (x := v9) hx hb hI hq rfl hok hi dJ4_resize_326 (fun H locs hI => ?_)
      obtain ⟨h_65, eh_65⟩ : ∃ z, z = ga_set h_61 a_62 (ga_Aq 8 n_63 (va_up f_64 v7.toNatClampNeg v9)) := ⟨_, rfl⟩
      rw [← eh_65] at hI
      have hw := hw h_65 eh_65
      exact gj_J4_resize_327 g post (fun (y0 : Int32) (T : ga_H) (B1 : Nat) (B2 : Nat) => hd151 y0 T B1 B2) p0 v1 v2 v4 v6 v7 v11 v12 h_65 bc bs ⟨hx, hb, hml, hown, hts, hr, hlk, hnm⟩ hw hhd151 hI hbc hbs (lv_sub hl [1, 2, 3, 4, 5, 6, 9, 10] rfl)
def gw_J4_resize_297 (K : ga_K) (post : Option Nat → ga_H → Prop) (hd151 : Int32 → ga_H → Nat → Nat → Prop) (hd235 : Option Nat → Option Nat → Option Nat → Option Nat → Option Nat → ga_H → Prop) (p0 : Nat) (v1 : Option Nat) (v2 : Int32) (v4 : Int32) (v6 : Option Nat) (v7 : Int32) (v8 : Option Nat) (v9 : Option Nat) (v10 : Option Nat) (v11 : Option Nat) (v13 : Option Nat) (h : ga_H) (bc bs : Nat) : Prop :=
  gw_J4_resize_301 K post (fun (y0 : Int32) (T : ga_H) (B1 : Nat) (B2 : Nat) => hd151 y0 T B1 B2) (fun (y0 : Option Nat) (y1 : Option Nat) (y2 : Option Nat) (y3 : Option Nat) (y4 : Option Nat) (T : ga_H) => hd235 y0 y1 y2 y3 y4 T) p0 v1 v2 v4 v6 v7 v9 v10 v11 v8 v13 h bc bs
set_option maxHeartbeats 4000000 in
theorem gj_J4_resize_297 {p : Program} {l : Launch} {e : Env} {s : State} {m : MethodId} {args : Array Value} {below : List Frame} {meth : Method} {c : Code} {mc ms : Nat} {H : Heap} {locs : List Loc} {cells slots : Nat} {ls : Array Slot} (g : ga_G) (post : Option Nat → ga_H → Prop) (hd151 : Int32 → ga_H → Nat → Nat → Prop) (hd235 : Option Nat → Option Nat → Option Nat → Option Nat → Option Nat → ga_H → Prop) (p0 : Nat) (v1 : Option Nat) (v2 : Int32) (v4 : Int32) (v6 : Option Nat) (v7 : Int32) (v8 : Option Nat) (v9 : Option Nat) (v10 : Option Nat) (v11 : Option Nat) (v13 : Option Nat) (h : ga_H) (bc bs : Nat) (hC : ga_Cx p s m args meth c cJ4_resize 14 (some (.array (.object "java/util/HashMap$Node"))) "java/util/HashMap" "resize") (hw : gw_J4_resize_297 g.2.2 post hd151 hd235 p0 v1 v2 v4 v6 v7 v8 v9 v10 v11 v13 h bc bs) (hhd151 : ∀ (y0 : Int32) (T : ga_H) (B1 : Nat) (B2 : Nat) (H : Heap) (locs : List Loc) (cells slots : Nat) (ls : Array Slot), hd151 y0 T B1 B2 → ga_I g T s H locs → cells + B1 ≤ mc → slots + B2 ≤ ms → lv_has ls 14 [(0, .ref p0), (1, va_rf v1), (2, .int v2), (4, .int v4), (6, va_rf v6), (7, .int y0)] → W p l e ({ frames := 8, cells := mc, slots := ms, locals := 140 } : Room) s m args below meth c H locs cells slots (MQ below (va_Qq post (ga_E g) (ga_A g)) args s mc ms (ga_A g)) (F0 m 151 ls [])) (hhd235 : ∀ (y0 : Option Nat) (y1 : Option Nat) (y2 : Option Nat) (y3 : Option Nat) (y4 : Option Nat) (T : ga_H) (H : Heap) (locs : List Loc) (cells slots : Nat) (ls : Array Slot), hd235 y0 y1 y2 y3 y4 T → ga_I g T s H locs → cells + bc ≤ mc → slots + bs ≤ ms → lv_has ls 14 [(0, .ref p0), (1, va_rf v1), (2, .int v2), (4, .int v4), (6, va_rf v6), (7, .int v7), (8, va_rf y0), (9, va_rf y1), (10, va_rf y2), (11, va_rf y3), (12, va_rf y4)] → W p l e ({ frames := 8, cells := mc, slots := ms, locals := 140 } : Room) s m args below meth c H locs cells slots (MQ below (va_Qq post (ga_E g) (ga_A g)) args s mc ms (ga_A g)) (F0 m 235 ls [])) (hI : ga_I g h s H locs) (hbc : cells + bc ≤ mc) (hbs : slots + bs ≤ ms) (hl : lv_has ls 14 [(0, .ref p0), (1, va_rf v1), (2, .int v2), (4, .int v4), (6, va_rf v6), (7, .int v7), (8, va_rf v8), (9, va_rf v9), (10, va_rf v10), (11, va_rf v11), (13, va_rf v13)]) : W p l e ({ frames := 8, cells := mc, slots := ms, locals := 140 } : Room) s m args below meth c H locs cells slots (MQ below (va_Qq post (ga_E g) (ga_A g)) args s mc ms (ga_A g)) (F0 m 297 ls []) := by
  obtain ⟨hx, hb, hml, hown, hts, hr, hlk, hnm⟩ := hC
  unfold gw_J4_resize_297 at hw
  refine ga_aload hx hb dJ4_resize_297 (lv_at hl 6 rfl) ?_
  refine ga_astore (x := v8) (lv' := [(12, va_rf v8), (0, .ref p0), (1, va_rf v1), (2, .int v2), (4, .int v4), (6, va_rf v6), (7, .int v7), (8, va_rf v8), (9, va_rf v9), (10, va_rf v10), (11, va_rf v11), (13, va_rf v13)]) hx hb dJ4_resize_299 hl (by decide) (by simp [ga_rcat, ga_cat_r, ga_cat_i, ga_cat_f, ga_cat_l, ga_cat_d]) (fun ls hl => ?_)
  exact gj_J4_resize_301 g post (fun (y0 : Int32) (T : ga_H) (B1 : Nat) (B2 : Nat) => hd151 y0 T B1 B2) (fun (y0 : Option Nat) (y1 : Option Nat) (y2 : Option Nat) (y3 : Option Nat) (y4 : Option Nat) (T : ga_H) => hd235 y0 y1 y2 y3 y4 T) p0 v1 v2 v4 v6 v7 v9 v10 v11 v8 v13 h bc bs ⟨hx, hb, hml, hown, hts, hr, hlk, hnm⟩ hw hhd151 hhd235 hI hbc hbs (lv_sub hl [1, 2, 3, 4, 5, 6, 8, 9, 10, 0, 11] rfl)
def gw_J4_resize_271 (K : ga_K) (post : Option Nat → ga_H → Prop) (hd151 : Int32 → ga_H → Nat → Nat → Prop) (hd235 : Option Nat → Option Nat → Option Nat → Option Nat → Option Nat → ga_H → Prop) (p0 : Nat) (v1 : Option Nat) (v2 : Int32) (v4 : Int32) (v6 : Option Nat) (v7 : Int32) (v8 : Option Nat) (v9 : Option Nat) (v11 : Option Nat) (v12 : Option Nat) (v13 : Option Nat) (h : ga_H) (bc bs : Nat) : Prop :=
  gw_J4_resize_301 K post (fun (y0 : Int32) (T : ga_H) (B1 : Nat) (B2 : Nat) => hd151 y0 T B1 B2) (fun (y0 : Option Nat) (y1 : Option Nat) (y2 : Option Nat) (y3 : Option Nat) (y4 : Option Nat) (T : ga_H) => hd235 y0 y1 y2 y3 y4 T) p0 v1 v2 v4 v6 v7 v9 v8 v11 v12 v13 h bc bs
set_option maxHeartbeats 4000000 in
theorem gj_J4_resize_271 {p : Program} {l : Launch} {e : Env} {s : State} {m : MethodId} {args : Array Value} {below : List Frame} {meth : Method} {c : Code} {mc ms : Nat} {H : Heap} {locs : List Loc} {cells slots : Nat} {ls : Array Slot} (g : ga_G) (post : Option Nat → ga_H → Prop) (hd151 : Int32 → ga_H → Nat → Nat → Prop) (hd235 : Option Nat → Option Nat → Option Nat → Option Nat → Option Nat → ga_H → Prop) (p0 : Nat) (v1 : Option Nat) (v2 : Int32) (v4 : Int32) (v6 : Option Nat) (v7 : Int32) (v8 : Option Nat) (v9 : Option Nat) (v11 : Option Nat) (v12 : Option Nat) (v13 : Option Nat) (h : ga_H) (bc bs : Nat) (hC : ga_Cx p s m args meth c cJ4_resize 14 (some (.array (.object "java/util/HashMap$Node"))) "java/util/HashMap" "resize") (hw : gw_J4_resize_271 g.2.2 post hd151 hd235 p0 v1 v2 v4 v6 v7 v8 v9 v11 v12 v13 h bc bs) (hhd151 : ∀ (y0 : Int32) (T : ga_H) (B1 : Nat) (B2 : Nat) (H : Heap) (locs : List Loc) (cells slots : Nat) (ls : Array Slot), hd151 y0 T B1 B2 → ga_I g T s H locs → cells + B1 ≤ mc → slots + B2 ≤ ms → lv_has ls 14 [(0, .ref p0), (1, va_rf v1), (2, .int v2), (4, .int v4), (6, va_rf v6), (7, .int y0)] → W p l e ({ frames := 8, cells := mc, slots := ms, locals := 140 } : Room) s m args below meth c H locs cells slots (MQ below (va_Qq post (ga_E g) (ga_A g)) args s mc ms (ga_A g)) (F0 m 151 ls [])) (hhd235 : ∀ (y0 : Option Nat) (y1 : Option Nat) (y2 : Option Nat) (y3 : Option Nat) (y4 : Option Nat) (T : ga_H) (H : Heap) (locs : List Loc) (cells slots : Nat) (ls : Array Slot), hd235 y0 y1 y2 y3 y4 T → ga_I g T s H locs → cells + bc ≤ mc → slots + bs ≤ ms → lv_has ls 14 [(0, .ref p0), (1, va_rf v1), (2, .int v2), (4, .int v4), (6, va_rf v6), (7, .int v7), (8, va_rf y0), (9, va_rf y1), (10, va_rf y2), (11, va_rf y3), (12, va_rf y4)] → W p l e ({ frames := 8, cells := mc, slots := ms, locals := 140 } : Room) s m args below meth c H locs cells slots (MQ below (va_Qq post (ga_E g) (ga_A g)) args s mc ms (ga_A g)) (F0 m 235 ls [])) (hI : ga_I g h s H locs) (hbc : cells + bc ≤ mc) (hbs : slots + bs ≤ ms) (hl : lv_has ls 14 [(0, .ref p0), (1, va_rf v1), (2, .int v2), (4, .int v4), (6, va_rf v6), (7, .int v7), (8, va_rf v8), (9, va_rf v9), (11, va_rf v11), (12, va_rf v12), (13, va_rf v13)]) : W p l e ({ frames := 8, cells := mc, slots := ms, locals := 140 } : Room) s m args below meth c H locs cells slots (MQ below (va_Qq post (ga_E g) (ga_A g)) args s mc ms (ga_A g)) (F0 m 271 ls []) := by
  obtain ⟨hx, hb, hml, hown, hts, hr, hlk, hnm⟩ := hC
  unfold gw_J4_resize_271 at hw
  refine ga_aload hx hb dJ4_resize_271 (lv_at hl 6 rfl) ?_
  refine ga_astore (x := v8) (lv' := [(10, va_rf v8), (0, .ref p0), (1, va_rf v1), (2, .int v2), (4, .int v4), (6, va_rf v6), (7, .int v7), (8, va_rf v8), (9, va_rf v9), (11, va_rf v11), (12, va_rf v12), (13, va_rf v13)]) hx hb dJ4_resize_273 hl (by decide) (by simp [ga_rcat, ga_cat_r, ga_cat_i, ga_cat_f, ga_cat_l, ga_cat_d]) (fun ls hl => ?_)
  refine lv_goto (tgt := 301) hx hb dJ4_resize_275 (by decide) ?_
  exact gj_J4_resize_301 g post (fun (y0 : Int32) (T : ga_H) (B1 : Nat) (B2 : Nat) => hd151 y0 T B1 B2) (fun (y0 : Option Nat) (y1 : Option Nat) (y2 : Option Nat) (y3 : Option Nat) (y4 : Option Nat) (T : ga_H) => hd235 y0 y1 y2 y3 y4 T) p0 v1 v2 v4 v6 v7 v9 v8 v11 v12 v13 h bc bs ⟨hx, hb, hml, hown, hts, hr, hlk, hnm⟩ hw hhd151 hhd235 hI hbc hbs (lv_sub hl [1, 2, 3, 4, 5, 6, 8, 0, 9, 10, 11] rfl)
def gw_J4_resize_125 (K : ga_K) (post : Option Nat → ga_H → Prop) (p0 : Nat) (v1 : Option Nat) (v2 : Int32) (v4 : Int32) (v5 : Int32) (h : ga_H) (bc bs : Nat) : Prop :=
  ∃ fs_12 : List Value, h p0 = some (ga_O 15 fs_12) ∧ 6 < fs_12.length ∧ ∀ h_13 : ga_H, h_13 = ga_set h p0 (ga_O 15 (fs_12.set 6 (.int v5))) → (¬ v4 < 0 ∧ v4.toNatClampNeg ≤ 1000000 ∧ 1 ≤ bc ∧ v4.toNatClampNeg ≤ bs ∧ ∀ q_14 : Nat, h_13 q_14 = none → ∀ h_15 : ga_H, h_15 = ga_set h_13 q_14 (ga_Aq 8 (v4.toNatClampNeg) (fun _ => none)) → (∃ fs_16 : List Value, h_15 p0 = some (ga_O 15 fs_16) ∧ 2 < fs_16.length ∧ ∀ h_17 : ga_H, h_17 = ga_set h_15 p0 (ga_O 15 (fs_16.set 2 (va_rf (some q_14)))) → ((v1 = none → (post (some q_14) h_17)) ∧ (∀ a_18 : Nat, v1 = some a_18 → (∃ (In_19 : Int32 → ga_H → Nat → Nat → Prop) (mu_19 : Int32 → ga_H → Nat → Nat → Nat), In_19 (0 : Int32) h_17 (bc - 1) (bs - (v4.toNatClampNeg)) ∧ ∀ (x7_19 : Int32) (h_19 : ga_H) (bc_19 : Nat) (bs_19 : Nat), In_19 x7_19 h_19 bc_19 bs_19 → ((v2 ≤ x7_19 → (post (some q_14) h_19)) ∧ (¬ v2 ≤ x7_19 → (∃ a_21 : Nat, v1 = some a_21 ∧ ∃ (n_22 : Nat) (f_23 : Nat → Option Nat), h_19 a_21 = some (ga_Aq 8 n_22 f_23) ∧ vp_in x7_19 n_22 ∧ ∀ v_24 : Option Nat, v_24 = f_23 x7_19.toNatClampNeg → ((v_24 = none → (In_19 (x7_19 + (1 : Int32)) h_19 bc_19 bs_19 ∧ mu_19 (x7_19 + (1 : Int32)) h_19 bc_19 bs_19 < mu_19 x7_19 h_19 bc_19 bs_19)) ∧ (∀ a_25 : Nat, v_24 = some a_25 → (∃ a_26 : Nat, v1 = some a_26 ∧ ∃ (n_27 : Nat) (f_28 : Nat → Option Nat), h_19 a_26 = some (ga_Aq 8 n_27 f_28) ∧ vp_in x7_19 n_27 ∧ ga_ok K h_19 "java/util/HashMap$Node" none ∧ ∀ h_29 : ga_H, h_29 = ga_set h_19 a_26 (ga_Aq 8 n_27 (va_up f_28 x7_19.toNatClampNeg none)) → (∃ a_30 : Nat, v_24 = some a_30 ∧ ∃ (fs_31 : List Value) (v_32 : Option Nat), h_29 a_30 = some (ga_O 16 fs_31) ∧ fs_31[3]? = some (va_rf v_32) ∧ ((v_32 = none → (∃ a_70 : Nat, v_24 = some a_70 ∧ ∃ (fs_71 : List Value) (v_72 : Int32), h_29 a_70 = some (ga_O 16 fs_71) ∧ fs_71[0]? = some (.int v_72) ∧ (∃ (n_73 : Nat) (f_74 : Nat → Option Nat), h_29 q_14 = some (ga_Aq 8 n_73 f_74) ∧ vp_in (v_72 &&& (v4 - (1 : Int32))) n_73 ∧ ga_ok K h_29 "java/util/HashMap$Node" v_24 ∧ ∀ h_75 : ga_H, h_75 = ga_set h_29 q_14 (ga_Aq 8 n_73 (va_up f_74 (v_72 &&& (v4 - (1 : Int32))).toNatClampNeg v_24)) → (In_19 (x7_19 + (1 : Int32)) h_75 bc_19 bs_19 ∧ mu_19 (x7_19 + (1 : Int32)) h_75 bc_19 bs_19 < mu_19 x7_19 h_19 bc_19 bs_19)))) ∧ (∀ a_33 : Nat, v_32 = some a_33 → (∃ a_35 : Nat, v_24 = some a_35 ∧ ∃ fs_34 : List Value, ga_at K h_29 a_35 (ga_O 16 fs_34) ∧ (∃ (In_37 : Option Nat → Option Nat → Option Nat → Option Nat → Option Nat → ga_H → Prop) (mu_37 : Option Nat → Option Nat → Option Nat → Option Nat → Option Nat → ga_H → Nat), In_37 v_24 none none none none h_29 ∧ ∀ (x8_37 : Option Nat) (x9_37 : Option Nat) (x10_37 : Option Nat) (x11_37 : Option Nat) (x12_37 : Option Nat) (h_37 : ga_H), In_37 x8_37 x9_37 x10_37 x11_37 x12_37 h_37 → (∃ a_38 : Nat, x8_37 = some a_38 ∧ ∃ (fs_39 : List Value) (v_40 : Option Nat), h_37 a_38 = some (ga_O 16 fs_39) ∧ fs_39[3]? = some (va_rf v_40) ∧ (∃ a_41 : Nat, x8_37 = some a_41 ∧ ∃ (fs_42 : List Value) (v_43 : Int32), h_37 a_41 = some (ga_O 16 fs_42) ∧ fs_42[0]? = some (.int v_43) ∧ ((¬ v_43 &&& v2 = (0 : Int32) → ((x12_37 = none → (gw_J4_resize_297 K post (fun (y0 : Int32) (T : ga_H) (B1 : Nat) (B2 : Nat) => In_19 y0 T B1 B2 ∧ mu_19 y0 T B1 B2 < mu_19 x7_19 h_19 bc_19 bs_19) (fun (y0 : Option Nat) (y1 : Option Nat) (y2 : Option Nat) (y3 : Option Nat) (y4 : Option Nat) (T : ga_H) => In_37 y0 y1 y2 y3 y4 T ∧ mu_37 y0 y1 y2 y3 y4 T < mu_37 x8_37 x9_37 x10_37 x11_37 x12_37 h_37) p0 v1 v2 v4 (some q_14) x7_19 x8_37 x9_37 x10_37 x8_37 v_40 h_37 bc_19 bs_19)) ∧ (∀ a_45 : Nat, x12_37 = some a_45 → (∃ a_46 : Nat, x12_37 = some a_46 ∧ ∃ fs_47 : List Value, h_37 a_46 = some (ga_O 16 fs_47) ∧ 3 < fs_47.length ∧ ∀ h_48 : ga_H, h_48 = ga_set h_37 a_46 (ga_O 16 (fs_47.set 3 (va_rf x8_37))) → (gw_J4_resize_297 K post (fun (y0 : Int32) (T : ga_H) (B1 : Nat) (B2 : Nat) => In_19 y0 T B1 B2 ∧ mu_19 y0 T B1 B2 < mu_19 x7_19 h_19 bc_19 bs_19) (fun (y0 : Option Nat) (y1 : Option Nat) (y2 : Option Nat) (y3 : Option Nat) (y4 : Option Nat) (T : ga_H) => In_37 y0 y1 y2 y3 y4 T ∧ mu_37 y0 y1 y2 y3 y4 T < mu_37 x8_37 x9_37 x10_37 x11_37 x12_37 h_37) p0 v1 v2 v4 (some q_14) x7_19 x8_37 x9_37 x10_37 x11_37 v_40 h_48 bc_19 bs_19))))) ∧ (v_43 &&& v2 = (0 : Int32) → ((x10_37 = none → (gw_J4_resize_271 K post (fun (y0 : Int32) (T : ga_H) (B1 : Nat) (B2 : Nat) => In_19 y0 T B1 B2 ∧ mu_19 y0 T B1 B2 < mu_19 x7_19 h_19 bc_19 bs_19) (fun (y0 : Option Nat) (y1 : Option Nat) (y2 : Option Nat) (y3 : Option Nat) (y4 : Option Nat) (T : ga_H) => In_37 y0 y1 y2 y3 y4 T ∧ mu_37 y0 y1 y2 y3 y4 T < mu_37 x8_37 x9_37 x10_37 x11_37 x12_37 h_37) p0 v1 v2 v4 (some q_14) x7_19 x8_37 x8_37 x11_37 x12_37 v_40 h_37 bc_19 bs_19)) ∧ (∀ a_66 : Nat, x10_37 = some a_66 → (∃ a_67 : Nat, x10_37 = some a_67 ∧ ∃ fs_68 : List Value, h_37 a_67 = some (ga_O 16 fs_68) ∧ 3 < fs_68.length ∧ ∀ h_69 : ga_H, h_69 = ga_set h_37 a_67 (ga_O 16 (fs_68.set 3 (va_rf x8_37))) → (gw_J4_resize_271 K post (fun (y0 : Int32) (T : ga_H) (B1 : Nat) (B2 : Nat) => In_19 y0 T B1 B2 ∧ mu_19 y0 T B1 B2 < mu_19 x7_19 h_19 bc_19 bs_19) (fun (y0 : Option Nat) (y1 : Option Nat) (y2 : Option Nat) (y3 : Option Nat) (y4 : Option Nat) (T : ga_H) => In_37 y0 y1 y2 y3 y4 T ∧ mu_37 y0 y1 y2 y3 y4 T < mu_37 x8_37 x9_37 x10_37 x11_37 x12_37 h_37) p0 v1 v2 v4 (some q_14) x7_19 x8_37 x9_37 x11_37 x12_37 v_40 h_69 bc_19 bs_19))))))))))))))))))))))))
set_option maxHeartbeats 4000000 in
theorem gj_J4_resize_125 {p : Program} {l : Launch} {e : Env} {s : State} {m : MethodId} {args : Array Value} {below : List Frame} {meth : Method} {c : Code} {mc ms : Nat} {H : Heap} {locs : List Loc} {cells slots : Nat} {ls : Array Slot} (g : ga_G) (post : Option Nat → ga_H → Prop) (p0 : Nat) (v1 : Option Nat) (v2 : Int32) (v4 : Int32) (v5 : Int32) (h : ga_H) (bc bs : Nat) (hC : ga_Cx p s m args meth c cJ4_resize 14 (some (.array (.object "java/util/HashMap$Node"))) "java/util/HashMap" "resize") (hw : gw_J4_resize_125 g.2.2 post p0 v1 v2 v4 v5 h bc bs) (hI : ga_I g h s H locs) (hbc : cells + bc ≤ mc) (hbs : slots + bs ≤ ms) (hl : lv_has ls 14 [(0, .ref p0), (1, va_rf v1), (2, .int v2), (4, .int v4), (5, .int v5)]) : W p l e ({ frames := 8, cells := mc, slots := ms, locals := 140 } : Room) s m args below meth c H locs cells slots (MQ below (va_Qq post (ga_E g) (ga_A g)) args s mc ms (ga_A g)) (F0 m 125 ls []) := by
  obtain ⟨hx, hb, hml, hown, hts, hr, hlk, hnm⟩ := hC
  unfold gw_J4_resize_125 at hw
  refine lv_aload_n hx hb dJ4_resize_125 rfl (lv_at hl 0 rfl) ?_
  refine lv_iload hx hb dJ4_resize_126 (lv_at hl 4 rfl) ?_
  obtain ⟨fs_12, hq, hk, hw⟩ := hw
  refine ga_put (ci := 15) (T := TJ4) (v := .int v5) (ty := tyJ4 6) hx hb hts hown hI in_J4 rfl tyJ4 tyJ4_ok nmJ4 6 (by decide) q237 (fun _ z => z) rfl (tyJ4_ok 6 (by decide)) rfl rfl hq hk dJ4_resize_128 (fun H locs hI => ?_)
  obtain ⟨h_13, eh_13⟩ : ∃ z, z = ga_set h p0 (ga_O 15 (fs_12.set 6 (.int v5))) := ⟨_, rfl⟩
  rw [← eh_13] at hI
  have hw := hw h_13 eh_13
  refine lv_iload hx hb dJ4_resize_131 (lv_at hl 3 rfl) ?_
  refine ga_naq hx hb hts hown hI (t := 8) rfl q1476 q1477 hbc hbs hw.1 (N := v4.toNatClampNeg) rfl hw.2.1 hw.2.2.1 hw.2.2.2.1 dJ4_resize_133 (fun q_14 H cells slots hn_q_14 hI hbc hbs => ?_)
  obtain ⟨h_15, eh_15⟩ : ∃ z, z = ga_set h_13 q_14 (ga_Aq 8 (v4.toNatClampNeg) (fun _ => none)) := ⟨_, rfl⟩
  rw [← eh_15] at hI
  have hw := hw.2.2.2.2 q_14 hn_q_14 h_15 eh_15
  refine lv_astore (lv' := [(6, .ref q_14), (0, .ref p0), (1, va_rf v1), (2, .int v2), (4, .int v4), (5, .int v5)]) hx hb dJ4_resize_136 hl (by decide) rfl (fun ls hl => ?_)
  refine lv_aload_n hx hb dJ4_resize_138 rfl (lv_at hl 1 rfl) ?_
  refine lv_aload hx hb dJ4_resize_139 (lv_at hl 0 rfl) ?_
  obtain ⟨fs_16, hq, hk, hw⟩ := hw
  refine ga_put (ci := 15) (T := TJ4) (v := va_rf (some q_14)) (ty := tyJ4 2) hx hb hts hown hI in_J4 rfl tyJ4 tyJ4_ok nmJ4 2 (by decide) q229 (fun _ z => z) rfl (tyJ4_ok 2 (by decide)) (ga_nq' _ _) (ga_fq' _ _) hq hk dJ4_resize_141 (fun H locs hI => ?_)
  obtain ⟨h_17, eh_17⟩ : ∃ z, z = ga_set h_15 p0 (ga_O 15 (fs_16.set 2 (va_rf (some q_14)))) := ⟨_, rfl⟩
  rw [← eh_17] at hI
  have hw := hw h_17 eh_17
  refine ga_aload_n hx hb dJ4_resize_144 rfl (lv_at hl 2 rfl) ?_
  refine ga_ifnull (tgt := 353) hx hb dJ4_resize_145 (by decide) (fun hc_a_18 => ?_) (fun a_18 hc_a_18 => ?_)
  · have hw := hw.1 hc_a_18
    refine lv_aload hx hb dJ4_resize_353 (lv_at hl 0 rfl) ?_
    exact ga_qret (v := (some q_14)) hx hb hr (Or.inr ⟨_, rfl⟩) hlk hI hw (Nat.le_trans (Nat.le_add_right _ _) hbc) (Nat.le_trans (Nat.le_add_right _ _) hbs) dJ4_resize_355
  · have hw := hw.2 a_18 hc_a_18
    skip
    refine lv_iconst (v := 0) hx hb dJ4_resize_148 (by decide) ?_
    refine lv_istore (lv' := [(7, .int (0 : Int32)), (6, .ref q_14), (0, .ref p0), (1, va_rf v1), (2, .int v2), (4, .int v4), (5, .int v5)]) hx hb dJ4_resize_149 hl (by decide) rfl (fun ls hl => ?_)
    obtain ⟨In_19, mu_19, h0_19, hw⟩ := hw
    have hL_19 : ∀ (n : Nat) (x7_19 : Int32) (h_19 : ga_H) (bc_19 : Nat) (bs_19 : Nat) (H : Heap) (locs : List Loc) (cells slots : Nat) (ls : Array Slot), mu_19 x7_19 h_19 bc_19 bs_19 < n → In_19 x7_19 h_19 bc_19 bs_19 → ga_I g h_19 s H locs → cells + bc_19 ≤ mc → slots + bs_19 ≤ ms → lv_has ls 14 [(0, .ref p0), (1, va_rf v1), (2, .int v2), (4, .int v4), (6, va_rf (some q_14)), (7, .int x7_19)] → W p l e ({ frames := 8, cells := mc, slots := ms, locals := 140 } : Room) s m args below meth c H locs cells slots (MQ below (va_Qq post (ga_E g) (ga_A g)) args s mc ms (ga_A g)) (F0 m 151 ls []) := by
      intro n
      induction n with
      | zero => intro x7_19 h_19 bc_19 bs_19 H locs cells slots ls hn _ _ _ _ _; exact absurd hn (Nat.not_lt_zero _)
      | succ n ih_19 =>
        intro x7_19 h_19 bc_19 bs_19 H locs cells slots ls hn_19 hi_19 hI hbc hbs hl
        have hw := hw x7_19 h_19 bc_19 bs_19 hi_19
        refine lv_iload hx hb dJ4_resize_151 (lv_at hl 5 rfl) ?_
        refine lv_iload_n hx hb dJ4_resize_153 rfl (lv_at hl 2 rfl) ?_
        refine lv_icmp_ge (tgt := 353) hx hb dJ4_resize_154 (by decide) (fun hc_20 => ?_) (fun hc_20 => ?_)
        · have hw := hw.1 hc_20
          refine ga_aload hx hb dJ4_resize_353 (lv_at hl 4 rfl) ?_
          exact ga_qret (v := (some q_14)) hx hb hr (Or.inr ⟨_, rfl⟩) hlk hI hw (Nat.le_trans (Nat.le_add_right _ _) hbc) (Nat.le_trans (Nat.le_add_right _ _) hbs) dJ4_resize_355
        · have hw := hw.2 hc_20
          refine ga_aload_n hx hb dJ4_resize_157 rfl (lv_at hl 1 rfl) ?_
          refine lv_iload hx hb dJ4_resize_158 (lv_at hl 5 rfl) ?_
          obtain ⟨a_21, ea_21, hw⟩ := hw
          rewrite [ea_21]
          obtain ⟨n_22, f_23, hq, hi, hw⟩ := hw
          refine ga_ldq hx hb hI (ga_at.h hq) rfl hi dJ4_resize_160 ?_
          obtain ⟨v_24, ev_24⟩ : ∃ z, z = f_23 x7_19.toNatClampNeg := ⟨_, rfl⟩
          rw [← ev_24]
          have hw := hw v_24 ev_24
          refine lv_dup hx hb dJ4_resize_161 (ga_rcat _) ?_
          refine ga_astore (x := v_24) (lv' := [(8, va_rf v_24), (0, .ref p0), (1, va_rf v1), (2, .int v2), (4, .int v4), (6, va_rf (some q_14)), (7, .int x7_19)]) hx hb dJ4_resize_162 hl (by decide) rfl (fun ls hl => ?_)
          refine ga_ifnull (tgt := 347) hx hb dJ4_resize_164 (by decide) (fun hc_a_25 => ?_) (fun a_25 hc_a_25 => ?_)
          · have hw := hw.1 hc_a_25
            refine lv_iinc (v := x7_19 + (1 : Int32)) (lv' := [(7, .int (x7_19 + (1 : Int32))), (8, va_rf v_24), (0, .ref p0), (1, va_rf v1), (2, .int v2), (4, .int v4), (6, va_rf (some q_14))]) hx hb dJ4_resize_347 hl (k := 6) rfl rfl (by decide) rfl (fun ls hl => ?_)
            refine lv_goto (tgt := 151) hx hb dJ4_resize_350 (by decide) ?_
            exact ih_19 _ _ _ _ H locs cells slots ls (Nat.lt_of_lt_of_le hw.2 (Nat.le_of_lt_succ hn_19)) hw.1 hI hbc hbs (lv_sub hl [2, 3, 4, 5, 6, 0] rfl)
          · have hw := hw.2 a_25 hc_a_25
            skip
            refine ga_aload_n hx hb dJ4_resize_167 rfl (lv_at hl 2 rfl) ?_
            refine lv_iload hx hb dJ4_resize_168 (lv_at hl 6 rfl) ?_
            refine lv_null hx hb dJ4_resize_170 ?_
            obtain ⟨a_26, ea_26, hw⟩ := hw
            rewrite [ea_26]
            obtain ⟨n_27, f_28, hq, hi, hok, hw⟩ := hw
            refine ga_sto (x := none) hx hb hI hq rfl hok hi dJ4_resize_171 (fun H locs hI => ?_)
            obtain ⟨h_29, eh_29⟩ : ∃ z, z = ga_set h_19 a_26 (ga_Aq 8 n_27 (va_up f_28 x7_19.toNatClampNeg none)) := ⟨_, rfl⟩
            rw [← eh_29] at hI
            have hw := hw h_29 eh_29
            refine ga_aload hx hb dJ4_resize_172 (lv_at hl 0 rfl) ?_
            obtain ⟨a_30, ea_30, hw⟩ := hw
            rewrite [ea_30]
            obtain ⟨fs_31, v_32, hq, hv, hw⟩ := hw
            refine ga_get (ci := 16) (T := TJ32) (v := va_rf v_32) hx hb hts hown hI in_J32 rfl 3 (by decide) q1513 (fun _ z => z) (ga_at.h hq) hv dJ4_resize_174 ?_
            refine ga_ifnonnull (tgt := 198) hx hb dJ4_resize_177 (by decide) (fun a_33 hc_a_33 => ?_) (fun hc_a_33 => ?_)
            · have hw := hw.2 a_33 hc_a_33
              skip
              refine ga_aload hx hb dJ4_resize_198 (lv_at hl 0 rfl) ?_
              obtain ⟨a_35, ea_35, hw⟩ := hw
              rewrite [ea_35]
              obtain ⟨fs_34, hq, hw⟩ := hw
              refine ga_instN (ci := 16) hx hb hts hown hI q1478 hq rfl (List.mem_of_getElem? (i := 0) rfl) dJ4_resize_200 ?_
              refine lv_if_eq (tgt := 223) hx hb dJ4_resize_203 (by decide) (fun _ => ?_) (fun hc_36 => by first | exact absurd hc_36 (by decide) | exact absurd (by decide) hc_36)
              refine lv_null hx hb dJ4_resize_223 ?_
              refine ga_astore (x := none) (lv' := [(9, va_rf none), (8, va_rf v_24), (0, .ref p0), (1, va_rf v1), (2, .int v2), (4, .int v4), (6, va_rf (some q_14)), (7, .int x7_19)]) hx hb dJ4_resize_224 hl (by decide) (by simp [ga_rcat, ga_cat_r, ga_cat_i, ga_cat_f, ga_cat_l, ga_cat_d]) (fun ls hl => ?_)
              refine lv_null hx hb dJ4_resize_226 ?_
              refine ga_astore (x := none) (lv' := [(10, va_rf none), (9, va_rf none), (8, va_rf v_24), (0, .ref p0), (1, va_rf v1), (2, .int v2), (4, .int v4), (6, va_rf (some q_14)), (7, .int x7_19)]) hx hb dJ4_resize_227 hl (by decide) rfl (fun ls hl => ?_)
              refine lv_null hx hb dJ4_resize_229 ?_
              refine ga_astore (x := none) (lv' := [(11, va_rf none), (10, va_rf none), (9, va_rf none), (8, va_rf v_24), (0, .ref p0), (1, va_rf v1), (2, .int v2), (4, .int v4), (6, va_rf (some q_14)), (7, .int x7_19)]) hx hb dJ4_resize_230 hl (by decide) rfl (fun ls hl => ?_)
              refine lv_null hx hb dJ4_resize_232 ?_
              refine ga_astore (x := none) (lv' := [(12, va_rf none), (11, va_rf none), (10, va_rf none), (9, va_rf none), (8, va_rf v_24), (0, .ref p0), (1, va_rf v1), (2, .int v2), (4, .int v4), (6, va_rf (some q_14)), (7, .int x7_19)]) hx hb dJ4_resize_233 hl (by decide) rfl (fun ls hl => ?_)
              obtain ⟨In_37, mu_37, h0_37, hw⟩ := hw
              have hL_37 : ∀ (n : Nat) (x8_37 : Option Nat) (x9_37 : Option Nat) (x10_37 : Option Nat) (x11_37 : Option Nat) (x12_37 : Option Nat) (h_37 : ga_H) (H : Heap) (locs : List Loc) (cells slots : Nat) (ls : Array Slot), mu_37 x8_37 x9_37 x10_37 x11_37 x12_37 h_37 < n → In_37 x8_37 x9_37 x10_37 x11_37 x12_37 h_37 → ga_I g h_37 s H locs → cells + bc_19 ≤ mc → slots + bs_19 ≤ ms → lv_has ls 14 [(0, .ref p0), (1, va_rf v1), (2, .int v2), (4, .int v4), (6, va_rf (some q_14)), (7, .int x7_19), (8, va_rf x8_37), (9, va_rf x9_37), (10, va_rf x10_37), (11, va_rf x11_37), (12, va_rf x12_37)] → W p l e ({ frames := 8, cells := mc, slots := ms, locals := 140 } : Room) s m args below meth c H locs cells slots (MQ below (va_Qq post (ga_E g) (ga_A g)) args s mc ms (ga_A g)) (F0 m 235 ls []) := by
                intro n
                induction n with
                | zero => intro x8_37 x9_37 x10_37 x11_37 x12_37 h_37 H locs cells slots ls hn _ _ _ _ _; exact absurd hn (Nat.not_lt_zero _)
                | succ n ih_37 =>
                  intro x8_37 x9_37 x10_37 x11_37 x12_37 h_37 H locs cells slots ls hn_37 hi_37 hI hbc hbs hl
                  have hw := hw x8_37 x9_37 x10_37 x11_37 x12_37 h_37 hi_37
                  refine ga_aload hx hb dJ4_resize_235 (lv_at hl 6 rfl) ?_
                  obtain ⟨a_38, ea_38, hw⟩ := hw
                  rewrite [ea_38]
                  obtain ⟨fs_39, v_40, hq, hv, hw⟩ := hw
                  refine ga_get (ci := 16) (T := TJ32) (v := va_rf v_40) hx hb hts hown hI in_J32 rfl 3 (by decide) q1513 (fun _ z => z) (ga_at.h hq) hv dJ4_resize_237 ?_
                  refine ga_astore (x := v_40) (lv' := [(13, va_rf v_40), (0, .ref p0), (1, va_rf v1), (2, .int v2), (4, .int v4), (6, va_rf (some q_14)), (7, .int x7_19), (8, va_rf x8_37), (9, va_rf x9_37), (10, va_rf x10_37), (11, va_rf x11_37), (12, va_rf x12_37)]) hx hb dJ4_resize_240 hl (by decide) (by simp [ga_rcat, ga_cat_r, ga_cat_i, ga_cat_f, ga_cat_l, ga_cat_d]) (fun ls hl => ?_)
                  refine ga_aload hx hb dJ4_resize_242 (lv_at hl 7 rfl) ?_
                  obtain ⟨a_41, ea_41, hw⟩ := hw
                  rewrite [ea_41]
                  obtain ⟨fs_42, v_43, hq, hv, hw⟩ := hw
                  refine ga_get (ci := 16) (T := TJ32) (v := .int v_43) hx hb hts hown hI in_J32 rfl 0 (by decide) q1500 (fun _ z => z) (ga_at.h hq) hv dJ4_resize_244 ?_
                  refine lv_iload_n hx hb dJ4_resize_247 rfl (lv_at hl 3 rfl) ?_
                  refine lv_iand hx hb dJ4_resize_248 ?_
                  refine lv_if_ne (tgt := 278) hx hb dJ4_resize_249 (by decide) (fun hc_44 => ?_) (fun hc_44 => ?_)
                  · have hw := hw.1 hc_44
                    refine ga_aload hx hb dJ4_resize_278 (lv_at hl 11 rfl) ?_
                    refine ga_ifnonnull (tgt := 290) hx hb dJ4_resize_280 (by decide) (fun a_45 hc_a_45 => ?_) (fun hc_a_45 => ?_)
                    · have hw := hw.2 a_45 hc_a_45
                      skip
                      refine ga_aload hx hb dJ4_resize_290 (lv_at hl 11 rfl) ?_
                      refine ga_aload hx hb dJ4_resize_292 (lv_at hl 7 rfl) ?_
                      obtain ⟨a_46, ea_46, hw⟩ := hw
                      rewrite [ea_46]
                      obtain ⟨fs_47, hq, hk, hw⟩ := hw
                      refine ga_put (ci := 16) (T := TJ32) (v := va_rf x8_37) (ty := tyJ32 3) hx hb hts hown hI in_J32 rfl tyJ32 tyJ32_ok nmJ32 3 (by decide) q1513 (fun _ z => z) rfl (tyJ32_ok 3 (by decide)) (ga_nq _ _) (ga_fq _ _) hq hk dJ4_resize_294 (fun H locs hI => ?_)
                      obtain ⟨h_48, eh_48⟩ : ∃ z, z = ga_set h_37 a_46 (ga_O 16 (fs_47.set 3 (va_rf x8_37))) := ⟨_, rfl⟩
                      rw [← eh_48] at hI
                      have hw := hw h_48 eh_48
                      exact gj_J4_resize_297 g post (fun (y0 : Int32) (T : ga_H) (B1 : Nat) (B2 : Nat) => In_19 y0 T B1 B2 ∧ mu_19 y0 T B1 B2 < mu_19 x7_19 h_19 bc_19 bs_19) (fun (y0 : Option Nat) (y1 : Option Nat) (y2 : Option Nat) (y3 : Option Nat) (y4 : Option Nat) (T : ga_H) => In_37 y0 y1 y2 y3 y4 T ∧ mu_37 y0 y1 y2 y3 y4 T < mu_37 x8_37 x9_37 x10_37 x11_37 x12_37 h_37) p0 v1 v2 v4 (some q_14) x7_19 x8_37 x9_37 x10_37 x11_37 v_40 h_48 bc_19 bs_19 ⟨hx, hb, hml, hown, hts, hr, hlk, hnm⟩ hw (fun _y0 _y1 _y2 _y3 H locs cells slots ls hw hI hbc hbs hl => ih_19 _ _ _ _ H locs cells slots ls (Nat.lt_of_lt_of_le hw.2 (Nat.le_of_lt_succ hn_19)) hw.1 hI hbc hbs hl) (fun _y0 _y1 _y2 _y3 _y4 _y5 H locs cells slots ls hw hI hbc hbs hl => ih_37 _ _ _ _ _ _ H locs cells slots ls (Nat.lt_of_lt_of_le hw.2 (Nat.le_of_lt_succ hn_37)) hw.1 hI hbc hbs hl) hI hbc hbs (lv_sub hl [1, 2, 3, 4, 5, 6, 7, 8, 9, 10, 0] rfl)
                    · have hw := hw.1 hc_a_45
                      refine ga_aload hx hb dJ4_resize_283 (lv_at hl 7 rfl) ?_
                      refine ga_astore (x := x8_37) (lv' := [(11, va_rf x8_37), (13, va_rf v_40), (0, .ref p0), (1, va_rf v1), (2, .int v2), (4, .int v4), (6, va_rf (some q_14)), (7, .int x7_19), (8, va_rf x8_37), (9, va_rf x9_37), (10, va_rf x10_37), (12, va_rf x12_37)]) hx hb dJ4_resize_285 hl (by decide) (by simp [ga_rcat, ga_cat_r, ga_cat_i, ga_cat_f, ga_cat_l, ga_cat_d]) (fun ls hl => ?_)
                      refine lv_goto (tgt := 297) hx hb dJ4_resize_287 (by decide) ?_
                      exact gj_J4_resize_297 g post (fun (y0 : Int32) (T : ga_H) (B1 : Nat) (B2 : Nat) => In_19 y0 T B1 B2 ∧ mu_19 y0 T B1 B2 < mu_19 x7_19 h_19 bc_19 bs_19) (fun (y0 : Option Nat) (y1 : Option Nat) (y2 : Option Nat) (y3 : Option Nat) (y4 : Option Nat) (T : ga_H) => In_37 y0 y1 y2 y3 y4 T ∧ mu_37 y0 y1 y2 y3 y4 T < mu_37 x8_37 x9_37 x10_37 x11_37 x12_37 h_37) p0 v1 v2 v4 (some q_14) x7_19 x8_37 x9_37 x10_37 x8_37 v_40 h_37 bc_19 bs_19 ⟨hx, hb, hml, hown, hts, hr, hlk, hnm⟩ hw (fun _y0 _y1 _y2 _y3 H locs cells slots ls hw hI hbc hbs hl => ih_19 _ _ _ _ H locs cells slots ls (Nat.lt_of_lt_of_le hw.2 (Nat.le_of_lt_succ hn_19)) hw.1 hI hbc hbs hl) (fun _y0 _y1 _y2 _y3 _y4 _y5 H locs cells slots ls hw hI hbc hbs hl => ih_37 _ _ _ _ _ _ H locs cells slots ls (Nat.lt_of_lt_of_le hw.2 (Nat.le_of_lt_succ hn_37)) hw.1 hI hbc hbs hl) hI hbc hbs (lv_sub hl [2, 3, 4, 5, 6, 7, 8, 9, 10, 0, 1] rfl)
                  · have hw := hw.2 hc_44
                    refine ga_aload hx hb dJ4_resize_252 (lv_at hl 9 rfl) ?_
                    refine ga_ifnonnull (tgt := 264) hx hb dJ4_resize_254 (by decide) (fun a_66 hc_a_66 => ?_) (fun hc_a_66 => ?_)
                    · have hw := hw.2 a_66 hc_a_66
                      skip
                      refine ga_aload hx hb dJ4_resize_264 (lv_at hl 9 rfl) ?_
                      refine ga_aload hx hb dJ4_resize_266 (lv_at hl 7 rfl) ?_
                      obtain ⟨a_67, ea_67, hw⟩ := hw
                      rewrite [ea_67]
                      obtain ⟨fs_68, hq, hk, hw⟩ := hw
                      refine ga_put (ci := 16) (T := TJ32) (v := va_rf x8_37) (ty := tyJ32 3) hx hb hts hown hI in_J32 rfl tyJ32 tyJ32_ok nmJ32 3 (by decide) q1513 (fun _ z => z) rfl (tyJ32_ok 3 (by decide)) (ga_nq _ _) (ga_fq _ _) hq hk dJ4_resize_268 (fun H locs hI => ?_)
                      obtain ⟨h_69, eh_69⟩ : ∃ z, z = ga_set h_37 a_67 (ga_O 16 (fs_68.set 3 (va_rf x8_37))) := ⟨_, rfl⟩
                      rw [← eh_69] at hI
                      have hw := hw h_69 eh_69
                      exact gj_J4_resize_271 g post (fun (y0 : Int32) (T : ga_H) (B1 : Nat) (B2 : Nat) => In_19 y0 T B1 B2 ∧ mu_19 y0 T B1 B2 < mu_19 x7_19 h_19 bc_19 bs_19) (fun (y0 : Option Nat) (y1 : Option Nat) (y2 : Option Nat) (y3 : Option Nat) (y4 : Option Nat) (T : ga_H) => In_37 y0 y1 y2 y3 y4 T ∧ mu_37 y0 y1 y2 y3 y4 T < mu_37 x8_37 x9_37 x10_37 x11_37 x12_37 h_37) p0 v1 v2 v4 (some q_14) x7_19 x8_37 x9_37 x11_37 x12_37 v_40 h_69 bc_19 bs_19 ⟨hx, hb, hml, hown, hts, hr, hlk, hnm⟩ hw (fun _y0 _y1 _y2 _y3 H locs cells slots ls hw hI hbc hbs hl => ih_19 _ _ _ _ H locs cells slots ls (Nat.lt_of_lt_of_le hw.2 (Nat.le_of_lt_succ hn_19)) hw.1 hI hbc hbs hl) (fun _y0 _y1 _y2 _y3 _y4 _y5 H locs cells slots ls hw hI hbc hbs hl => ih_37 _ _ _ _ _ _ H locs cells slots ls (Nat.lt_of_lt_of_le hw.2 (Nat.le_of_lt_succ hn_37)) hw.1 hI hbc hbs hl) hI hbc hbs (lv_sub hl [1, 2, 3, 4, 5, 6, 7, 8, 10, 11, 0] rfl)
                    · have hw := hw.1 hc_a_66
                      refine ga_aload hx hb dJ4_resize_257 (lv_at hl 7 rfl) ?_
                      refine ga_astore (x := x8_37) (lv' := [(9, va_rf x8_37), (13, va_rf v_40), (0, .ref p0), (1, va_rf v1), (2, .int v2), (4, .int v4), (6, va_rf (some q_14)), (7, .int x7_19), (8, va_rf x8_37), (10, va_rf x10_37), (11, va_rf x11_37), (12, va_rf x12_37)]) hx hb dJ4_resize_259 hl (by decide) (by simp [ga_rcat, ga_cat_r, ga_cat_i, ga_cat_f, ga_cat_l, ga_cat_d]) (fun ls hl => ?_)
                      refine lv_goto (tgt := 271) hx hb dJ4_resize_261 (by decide) ?_
                      exact gj_J4_resize_271 g post (fun (y0 : Int32) (T : ga_H) (B1 : Nat) (B2 : Nat) => In_19 y0 T B1 B2 ∧ mu_19 y0 T B1 B2 < mu_19 x7_19 h_19 bc_19 bs_19) (fun (y0 : Option Nat) (y1 : Option Nat) (y2 : Option Nat) (y3 : Option Nat) (y4 : Option Nat) (T : ga_H) => In_37 y0 y1 y2 y3 y4 T ∧ mu_37 y0 y1 y2 y3 y4 T < mu_37 x8_37 x9_37 x10_37 x11_37 x12_37 h_37) p0 v1 v2 v4 (some q_14) x7_19 x8_37 x8_37 x11_37 x12_37 v_40 h_37 bc_19 bs_19 ⟨hx, hb, hml, hown, hts, hr, hlk, hnm⟩ hw (fun _y0 _y1 _y2 _y3 H locs cells slots ls hw hI hbc hbs hl => ih_19 _ _ _ _ H locs cells slots ls (Nat.lt_of_lt_of_le hw.2 (Nat.le_of_lt_succ hn_19)) hw.1 hI hbc hbs hl) (fun _y0 _y1 _y2 _y3 _y4 _y5 H locs cells slots ls hw hI hbc hbs hl => ih_37 _ _ _ _ _ _ H locs cells slots ls (Nat.lt_of_lt_of_le hw.2 (Nat.le_of_lt_succ hn_37)) hw.1 hI hbc hbs hl) hI hbc hbs (lv_sub hl [2, 3, 4, 5, 6, 7, 8, 0, 10, 11, 1] rfl)
              exact hL_37 _ _ _ _ _ _ _ H locs cells slots ls (Nat.lt_succ_self _) h0_37 hI hbc hbs (lv_sub hl [5, 6, 7, 8, 9, 10, 4, 3, 2, 1, 0] rfl)
            · have hw := hw.1 hc_a_33
              refine ga_aload hx hb dJ4_resize_180 (lv_at hl 5 rfl) ?_
              refine ga_aload hx hb dJ4_resize_182 (lv_at hl 0 rfl) ?_
              obtain ⟨a_70, ea_70, hw⟩ := hw
              rewrite [ea_70]
              obtain ⟨fs_71, v_72, hq, hv, hw⟩ := hw
              refine ga_get (ci := 16) (T := TJ32) (v := .int v_72) hx hb hts hown hI in_J32 rfl 0 (by decide) q1500 (fun _ z => z) (ga_at.h hq) hv dJ4_resize_184 ?_
              refine lv_iload hx hb dJ4_resize_187 (lv_at hl 4 rfl) ?_
              refine lv_iconst (v := 1) hx hb dJ4_resize_189 (by decide) ?_
              refine lv_isub hx hb dJ4_resize_190 ?_
              refine lv_iand hx hb dJ4_resize_191 ?_
              refine ga_aload hx hb dJ4_resize_192 (lv_at hl 0 rfl) ?_
              obtain ⟨n_73, f_74, hq, hi, hok, hw⟩ := hw
              refine ga_sto (x := v_24) hx hb hI hq rfl hok hi dJ4_resize_194 (fun H locs hI => ?_)
              obtain ⟨h_75, eh_75⟩ : ∃ z, z = ga_set h_29 q_14 (ga_Aq 8 n_73 (va_up f_74 (v_72 &&& (v4 - (1 : Int32))).toNatClampNeg v_24)) := ⟨_, rfl⟩
              rw [← eh_75] at hI
              have hw := hw h_75 eh_75
              refine lv_goto (tgt := 347) hx hb dJ4_resize_195 (by decide) ?_
              refine lv_iinc (v := x7_19 + (1 : Int32)) (lv' := [(7, .int (x7_19 + (1 : Int32))), (8, va_rf v_24), (0, .ref p0), (1, va_rf v1), (2, .int v2), (4, .int v4), (6, va_rf (some q_14))]) hx hb dJ4_resize_347 hl (k := 6) rfl rfl (by decide) rfl (fun ls hl => ?_)
              refine lv_goto (tgt := 151) hx hb dJ4_resize_350 (by decide) ?_
              exact ih_19 _ _ _ _ H locs cells slots ls (Nat.lt_of_lt_of_le hw.2 (Nat.le_of_lt_succ hn_19)) hw.1 hI hbc hbs (lv_sub hl [2, 3, 4, 5, 6, 0] rfl)
    exact hL_19 _ _ _ _ _ H locs cells slots ls (Nat.lt_succ_self _) h0_19 hI hbc hbs (lv_sub hl [2, 3, 4, 5, 1, 0] rfl)
def gw_J4_resize_123 (K : ga_K) (post : Option Nat → ga_H → Prop) (p0 : Nat) (t0 : Int32) (v1 : Option Nat) (v2 : Int32) (v4 : Int32) (h : ga_H) (bc bs : Nat) : Prop :=
  gw_J4_resize_125 K post p0 v1 v2 v4 t0 h bc bs
set_option maxHeartbeats 4000000 in
theorem gj_J4_resize_123 {p : Program} {l : Launch} {e : Env} {s : State} {m : MethodId} {args : Array Value} {below : List Frame} {meth : Method} {c : Code} {mc ms : Nat} {H : Heap} {locs : List Loc} {cells slots : Nat} {ls : Array Slot} (g : ga_G) (post : Option Nat → ga_H → Prop) (p0 : Nat) (t0 : Int32) (v1 : Option Nat) (v2 : Int32) (v4 : Int32) (h : ga_H) (bc bs : Nat) (hC : ga_Cx p s m args meth c cJ4_resize 14 (some (.array (.object "java/util/HashMap$Node"))) "java/util/HashMap" "resize") (hw : gw_J4_resize_123 g.2.2 post p0 t0 v1 v2 v4 h bc bs) (hI : ga_I g h s H locs) (hbc : cells + bc ≤ mc) (hbs : slots + bs ≤ ms) (hl : lv_has ls 14 [(0, .ref p0), (1, va_rf v1), (2, .int v2), (4, .int v4)]) : W p l e ({ frames := 8, cells := mc, slots := ms, locals := 140 } : Room) s m args below meth c H locs cells slots (MQ below (va_Qq post (ga_E g) (ga_A g)) args s mc ms (ga_A g)) (F0 m 123 ls [.int t0]) := by
  obtain ⟨hx, hb, hml, hown, hts, hr, hlk, hnm⟩ := hC
  unfold gw_J4_resize_123 at hw
  refine lv_istore (lv' := [(5, .int t0), (0, .ref p0), (1, va_rf v1), (2, .int v2), (4, .int v4)]) hx hb dJ4_resize_123 hl (by decide) rfl (fun ls hl => ?_)
  exact gj_J4_resize_125 g post p0 v1 v2 v4 t0 h bc bs ⟨hx, hb, hml, hown, hts, hr, hlk, hnm⟩ hw hI hbc hbs (lv_sub hl [1, 2, 3, 4, 0] rfl)
def gw_J4_resize_121 (K : ga_K) (post : Option Nat → ga_H → Prop) (p0 : Nat) (v1 : Option Nat) (v2 : Int32) (v4 : Int32) (h : ga_H) (bc bs : Nat) : Prop :=
  gw_J4_resize_123 K post p0 (2147483647 : Int32) v1 v2 v4 h bc bs
set_option maxHeartbeats 4000000 in
theorem gj_J4_resize_121 {p : Program} {l : Launch} {e : Env} {s : State} {m : MethodId} {args : Array Value} {below : List Frame} {meth : Method} {c : Code} {mc ms : Nat} {H : Heap} {locs : List Loc} {cells slots : Nat} {ls : Array Slot} (g : ga_G) (post : Option Nat → ga_H → Prop) (p0 : Nat) (v1 : Option Nat) (v2 : Int32) (v4 : Int32) (h : ga_H) (bc bs : Nat) (hC : ga_Cx p s m args meth c cJ4_resize 14 (some (.array (.object "java/util/HashMap$Node"))) "java/util/HashMap" "resize") (hw : gw_J4_resize_121 g.2.2 post p0 v1 v2 v4 h bc bs) (hI : ga_I g h s H locs) (hbc : cells + bc ≤ mc) (hbs : slots + bs ≤ ms) (hl : lv_has ls 14 [(0, .ref p0), (1, va_rf v1), (2, .int v2), (4, .int v4)]) : W p l e ({ frames := 8, cells := mc, slots := ms, locals := 140 } : Room) s m args below meth c H locs cells slots (MQ below (va_Qq post (ga_E g) (ga_A g)) args s mc ms (ga_A g)) (F0 m 121 ls []) := by
  obtain ⟨hx, hb, hml, hown, hts, hr, hlk, hnm⟩ := hC
  unfold gw_J4_resize_121 at hw
  refine lv_ldc (v := 2147483647) hx hb hown (hts _ q1474) dJ4_resize_121 ?_
  exact gj_J4_resize_123 g post p0 (2147483647 : Int32) v1 v2 v4 h bc bs ⟨hx, hb, hml, hown, hts, hr, hlk, hnm⟩ hw hI hbc hbs (lv_sub hl [0, 1, 2, 3] rfl)
def gw_J4_resize_85 (K : ga_K) (post : Option Nat → ga_H → Prop) (p0 : Nat) (v1 : Option Nat) (v2 : Int32) (v4 : Int32) (v5 : Int32) (h : ga_H) (bc bs : Nat) : Prop :=
  (¬ v5 = (0 : Int32) → (gw_J4_resize_125 K post p0 v1 v2 v4 v5 h bc bs)) ∧ (v5 = (0 : Int32) → (∃ (fs_76 : List Value) (v_77 : UInt32), h p0 = some (ga_O 15 fs_76) ∧ fs_76[7]? = some (.float v_77) ∧ (vf_n32 (FP.fmul (FP.i2f v4) v_77) ∧ (((1073741824 : Int32) ≤ v4 → (gw_J4_resize_121 K post p0 v1 v2 v4 h bc bs)) ∧ (¬ (1073741824 : Int32) ≤ v4 → (((0 : Int32) ≤ Op.cmpValue (FP.fcmp (FP.fmul (FP.i2f v4) v_77) (1317011456 : UInt32)) .g → (gw_J4_resize_121 K post p0 v1 v2 v4 h bc bs)) ∧ (¬ (0 : Int32) ≤ Op.cmpValue (FP.fcmp (FP.fmul (FP.i2f v4) v_77) (1317011456 : UInt32)) .g → (gw_J4_resize_123 K post p0 (FP.f2i (FP.fmul (FP.i2f v4) v_77)) v1 v2 v4 h bc bs))))))))
set_option maxHeartbeats 4000000 in
theorem gj_J4_resize_85 {p : Program} {l : Launch} {e : Env} {s : State} {m : MethodId} {args : Array Value} {below : List Frame} {meth : Method} {c : Code} {mc ms : Nat} {H : Heap} {locs : List Loc} {cells slots : Nat} {ls : Array Slot} (g : ga_G) (post : Option Nat → ga_H → Prop) (p0 : Nat) (v1 : Option Nat) (v2 : Int32) (v4 : Int32) (v5 : Int32) (h : ga_H) (bc bs : Nat) (hC : ga_Cx p s m args meth c cJ4_resize 14 (some (.array (.object "java/util/HashMap$Node"))) "java/util/HashMap" "resize") (hw : gw_J4_resize_85 g.2.2 post p0 v1 v2 v4 v5 h bc bs) (hI : ga_I g h s H locs) (hbc : cells + bc ≤ mc) (hbs : slots + bs ≤ ms) (hl : lv_has ls 14 [(0, .ref p0), (1, va_rf v1), (2, .int v2), (4, .int v4), (5, .int v5)]) : W p l e ({ frames := 8, cells := mc, slots := ms, locals := 140 } : Room) s m args below meth c H locs cells slots (MQ below (va_Qq post (ga_E g) (ga_A g)) args s mc ms (ga_A g)) (F0 m 85 ls []) := by
  obtain ⟨hx, hb, hml, hown, hts, hr, hlk, hnm⟩ := hC
  unfold gw_J4_resize_85 at hw
  refine lv_iload hx hb dJ4_resize_85 (lv_at hl 4 rfl) ?_
  refine lv_if_ne (tgt := 125) hx hb dJ4_resize_87 (by decide) (fun hc_11 => ?_) (fun hc_11 => ?_)
  · have hw := hw.1 hc_11
    exact gj_J4_resize_125 g post p0 v1 v2 v4 v5 h bc bs ⟨hx, hb, hml, hown, hts, hr, hlk, hnm⟩ hw hI hbc hbs (lv_sub hl [0, 1, 2, 3, 4] rfl)
  · have hw := hw.2 hc_11
    refine lv_iload hx hb dJ4_resize_90 (lv_at hl 3 rfl) ?_
    refine lv_i2f hx hb dJ4_resize_92 ?_
    refine lv_aload_n hx hb dJ4_resize_93 rfl (lv_at hl 0 rfl) ?_
    obtain ⟨fs_76, v_77, hq, hv, hw⟩ := hw
    refine ga_get (ci := 15) (T := TJ4) (v := .float v_77) hx hb hts hown hI in_J4 rfl 7 (by decide) q238 (fun _ z => z) (ga_at.h hq) hv dJ4_resize_94 ?_
    refine lv_fmul hx hb dJ4_resize_97 hw.1 ?_
    have hw := hw.2
    refine lv_fstore (lv' := [(6, .float (FP.fmul (FP.i2f v4) v_77)), (0, .ref p0), (1, va_rf v1), (2, .int v2), (4, .int v4), (5, .int v5)]) hx hb dJ4_resize_98 hl (by decide) rfl (fun ls hl => ?_)
    refine lv_iload hx hb dJ4_resize_100 (lv_at hl 4 rfl) ?_
    refine lv_ldc (v := 1073741824) hx hb hown (hts _ q1463) dJ4_resize_102 ?_
    refine lv_icmp_ge (tgt := 121) hx hb dJ4_resize_104 (by decide) (fun hc_78 => ?_) (fun hc_78 => ?_)
    · have hw := hw.1 hc_78
      exact gj_J4_resize_121 g post p0 v1 v2 v4 h bc bs ⟨hx, hb, hml, hown, hts, hr, hlk, hnm⟩ hw hI hbc hbs (lv_sub hl [1, 2, 3, 4] rfl)
    · have hw := hw.2 hc_78
      refine lv_fload hx hb dJ4_resize_107 (lv_at hl 0 rfl) ?_
      refine lv_ldcf (v := 1317011456) hx hb hown (hts _ q1475) dJ4_resize_109 ?_
      refine lv_fcmp hx hb dJ4_resize_111 ?_
      refine lv_if_ge (tgt := 121) hx hb dJ4_resize_112 (by decide) (fun hc_79 => ?_) (fun hc_79 => ?_)
      · have hw := hw.1 hc_79
        exact gj_J4_resize_121 g post p0 v1 v2 v4 h bc bs ⟨hx, hb, hml, hown, hts, hr, hlk, hnm⟩ hw hI hbc hbs (lv_sub hl [1, 2, 3, 4] rfl)
      · have hw := hw.2 hc_79
        refine lv_fload hx hb dJ4_resize_115 (lv_at hl 0 rfl) ?_
        refine lv_f2i hx hb dJ4_resize_117 ?_
        refine lv_goto (tgt := 123) hx hb dJ4_resize_118 (by decide) ?_
        exact gj_J4_resize_123 g post p0 (FP.f2i (FP.fmul (FP.i2f v4) v_77)) v1 v2 v4 h bc bs ⟨hx, hb, hml, hown, hts, hr, hlk, hnm⟩ hw hI hbc hbs (lv_sub hl [1, 2, 3, 4] rfl)
def gw_J4_resize_15 (K : ga_K) (post : Option Nat → ga_H → Prop) (p0 : Nat) (t0 : Int32) (v1 : Option Nat) (h : ga_H) (bc bs : Nat) : Prop :=
  ∃ (fs_7 : List Value) (v_8 : Int32), h p0 = some (ga_O 15 fs_7) ∧ fs_7[6]? = some (.int v_8) ∧ ((t0 ≤ (0 : Int32) → ((v_8 ≤ (0 : Int32) → (gw_J4_resize_85 K post p0 v1 t0 (16 : Int32) (12 : Int32) h bc bs)) ∧ (¬ v_8 ≤ (0 : Int32) → (gw_J4_resize_85 K post p0 v1 t0 v_8 (0 : Int32) h bc bs)))) ∧ (¬ t0 ≤ (0 : Int32) → ((t0 < (1073741824 : Int32) → (((1073741824 : Int32) ≤ t0 <<< ((1 : Int32) &&& 31) → (gw_J4_resize_85 K post p0 v1 t0 (t0 <<< ((1 : Int32) &&& 31)) (0 : Int32) h bc bs)) ∧ (¬ (1073741824 : Int32) ≤ t0 <<< ((1 : Int32) &&& 31) → ((t0 < (16 : Int32) → (gw_J4_resize_85 K post p0 v1 t0 (t0 <<< ((1 : Int32) &&& 31)) (0 : Int32) h bc bs)) ∧ (¬ t0 < (16 : Int32) → (gw_J4_resize_85 K post p0 v1 t0 (t0 <<< ((1 : Int32) &&& 31)) (v_8 <<< ((1 : Int32) &&& 31)) h bc bs)))))) ∧ (¬ t0 < (1073741824 : Int32) → (∃ fs_83 : List Value, h p0 = some (ga_O 15 fs_83) ∧ 6 < fs_83.length ∧ ∀ h_84 : ga_H, h_84 = ga_set h p0 (ga_O 15 (fs_83.set 6 (.int (2147483647 : Int32)))) → (post v1 h_84))))))
set_option maxHeartbeats 4000000 in
theorem gj_J4_resize_15 {p : Program} {l : Launch} {e : Env} {s : State} {m : MethodId} {args : Array Value} {below : List Frame} {meth : Method} {c : Code} {mc ms : Nat} {H : Heap} {locs : List Loc} {cells slots : Nat} {ls : Array Slot} (g : ga_G) (post : Option Nat → ga_H → Prop) (p0 : Nat) (t0 : Int32) (v1 : Option Nat) (h : ga_H) (bc bs : Nat) (hC : ga_Cx p s m args meth c cJ4_resize 14 (some (.array (.object "java/util/HashMap$Node"))) "java/util/HashMap" "resize") (hw : gw_J4_resize_15 g.2.2 post p0 t0 v1 h bc bs) (hI : ga_I g h s H locs) (hbc : cells + bc ≤ mc) (hbs : slots + bs ≤ ms) (hl : lv_has ls 14 [(0, .ref p0), (1, va_rf v1)]) : W p l e ({ frames := 8, cells := mc, slots := ms, locals := 140 } : Room) s m args below meth c H locs cells slots (MQ below (va_Qq post (ga_E g) (ga_A g)) args s mc ms (ga_A g)) (F0 m 15 ls [.int t0]) := by
  obtain ⟨hx, hb, hml, hown, hts, hr, hlk, hnm⟩ := hC
  unfold gw_J4_resize_15 at hw
  refine lv_istore_n (i := 2) (lv' := [(2, .int t0), (0, .ref p0), (1, va_rf v1)]) hx hb dJ4_resize_15 rfl hl (by decide) (by simp [ga_rcat, ga_cat_r, ga_cat_i, ga_cat_f, ga_cat_l, ga_cat_d]) (fun ls hl => ?_)
  refine lv_aload_n hx hb dJ4_resize_16 rfl (lv_at hl 1 rfl) ?_
  obtain ⟨fs_7, v_8, hq, hv, hw⟩ := hw
  refine ga_get (ci := 15) (T := TJ4) (v := .int v_8) hx hb hts hown hI in_J4 rfl 6 (by decide) q237 (fun _ z => z) (ga_at.h hq) hv dJ4_resize_17 ?_
  refine lv_istore_n (i := 3) (lv' := [(3, .int v_8), (2, .int t0), (0, .ref p0), (1, va_rf v1)]) hx hb dJ4_resize_20 rfl hl (by decide) rfl (fun ls hl => ?_)
  refine lv_iconst (v := 0) hx hb dJ4_resize_21 (by decide) ?_
  refine lv_istore (lv' := [(5, .int (0 : Int32)), (3, .int v_8), (2, .int t0), (0, .ref p0), (1, va_rf v1)]) hx hb dJ4_resize_22 hl (by decide) rfl (fun ls hl => ?_)
  refine lv_iload_n hx hb dJ4_resize_24 rfl (lv_at hl 2 rfl) ?_
  refine lv_if_le (tgt := 67) hx hb dJ4_resize_25 (by decide) (fun hc_9 => ?_) (fun hc_9 => ?_)
  · have hw := hw.1 hc_9
    refine lv_iload_n hx hb dJ4_resize_67 rfl (lv_at hl 1 rfl) ?_
    refine lv_if_le (tgt := 77) hx hb dJ4_resize_68 (by decide) (fun hc_10 => ?_) (fun hc_10 => ?_)
    · have hw := hw.1 hc_10
      refine lv_bipush (v := 16) hx hb dJ4_resize_77 (by decide) ?_
      refine lv_istore (lv' := [(4, .int (16 : Int32)), (5, .int (0 : Int32)), (3, .int v_8), (2, .int t0), (0, .ref p0), (1, va_rf v1)]) hx hb dJ4_resize_79 hl (by decide) rfl (fun ls hl => ?_)
      refine lv_bipush (v := 12) hx hb dJ4_resize_81 (by decide) ?_
      refine lv_istore (lv' := [(5, .int (12 : Int32)), (4, .int (16 : Int32)), (3, .int v_8), (2, .int t0), (0, .ref p0), (1, va_rf v1)]) hx hb dJ4_resize_83 hl (by decide) rfl (fun ls hl => ?_)
      exact gj_J4_resize_85 g post p0 v1 t0 (16 : Int32) (12 : Int32) h bc bs ⟨hx, hb, hml, hown, hts, hr, hlk, hnm⟩ hw hI hbc hbs (lv_sub hl [4, 5, 3, 1, 0] rfl)
    · have hw := hw.2 hc_10
      refine lv_iload_n hx hb dJ4_resize_71 rfl (lv_at hl 1 rfl) ?_
      refine lv_istore (lv' := [(4, .int v_8), (5, .int (0 : Int32)), (3, .int v_8), (2, .int t0), (0, .ref p0), (1, va_rf v1)]) hx hb dJ4_resize_72 hl (by decide) rfl (fun ls hl => ?_)
      refine lv_goto (tgt := 85) hx hb dJ4_resize_74 (by decide) ?_
      exact gj_J4_resize_85 g post p0 v1 t0 v_8 (0 : Int32) h bc bs ⟨hx, hb, hml, hown, hts, hr, hlk, hnm⟩ hw hI hbc hbs (lv_sub hl [4, 5, 3, 0, 1] rfl)
  · have hw := hw.2 hc_9
    refine lv_iload_n hx hb dJ4_resize_28 rfl (lv_at hl 2 rfl) ?_
    refine lv_ldc (v := 1073741824) hx hb hown (hts _ q1463) dJ4_resize_29 ?_
    refine lv_icmp_lt (tgt := 42) hx hb dJ4_resize_31 (by decide) (fun hc_80 => ?_) (fun hc_80 => ?_)
    · have hw := hw.1 hc_80
      refine lv_iload_n hx hb dJ4_resize_42 rfl (lv_at hl 2 rfl) ?_
      refine lv_iconst (v := 1) hx hb dJ4_resize_43 (by decide) ?_
      refine lv_ishl hx hb dJ4_resize_44 ?_
      refine lv_dup hx hb dJ4_resize_45 rfl ?_
      refine lv_istore (lv' := [(4, .int (t0 <<< ((1 : Int32) &&& 31))), (5, .int (0 : Int32)), (3, .int v_8), (2, .int t0), (0, .ref p0), (1, va_rf v1)]) hx hb dJ4_resize_46 hl (by decide) rfl (fun ls hl => ?_)
      refine lv_ldc (v := 1073741824) hx hb hown (hts _ q1463) dJ4_resize_48 ?_
      refine lv_icmp_ge (tgt := 85) hx hb dJ4_resize_50 (by decide) (fun hc_81 => ?_) (fun hc_81 => ?_)
      · have hw := hw.1 hc_81
        exact gj_J4_resize_85 g post p0 v1 t0 (t0 <<< ((1 : Int32) &&& 31)) (0 : Int32) h bc bs ⟨hx, hb, hml, hown, hts, hr, hlk, hnm⟩ hw hI hbc hbs (lv_sub hl [4, 5, 3, 0, 1] rfl)
      · have hw := hw.2 hc_81
        refine lv_iload_n hx hb dJ4_resize_53 rfl (lv_at hl 3 rfl) ?_
        refine lv_bipush (v := 16) hx hb dJ4_resize_54 (by decide) ?_
        refine lv_icmp_lt (tgt := 85) hx hb dJ4_resize_56 (by decide) (fun hc_82 => ?_) (fun hc_82 => ?_)
        · have hw := hw.1 hc_82
          exact gj_J4_resize_85 g post p0 v1 t0 (t0 <<< ((1 : Int32) &&& 31)) (0 : Int32) h bc bs ⟨hx, hb, hml, hown, hts, hr, hlk, hnm⟩ hw hI hbc hbs (lv_sub hl [4, 5, 3, 0, 1] rfl)
        · have hw := hw.2 hc_82
          refine lv_iload_n hx hb dJ4_resize_59 rfl (lv_at hl 2 rfl) ?_
          refine lv_iconst (v := 1) hx hb dJ4_resize_60 (by decide) ?_
          refine lv_ishl hx hb dJ4_resize_61 ?_
          refine lv_istore (lv' := [(5, .int (v_8 <<< ((1 : Int32) &&& 31))), (4, .int (t0 <<< ((1 : Int32) &&& 31))), (3, .int v_8), (2, .int t0), (0, .ref p0), (1, va_rf v1)]) hx hb dJ4_resize_62 hl (by decide) rfl (fun ls hl => ?_)
          refine lv_goto (tgt := 85) hx hb dJ4_resize_64 (by decide) ?_
          exact gj_J4_resize_85 g post p0 v1 t0 (t0 <<< ((1 : Int32) &&& 31)) (v_8 <<< ((1 : Int32) &&& 31)) h bc bs ⟨hx, hb, hml, hown, hts, hr, hlk, hnm⟩ hw hI hbc hbs (lv_sub hl [4, 5, 3, 1, 0] rfl)
    · have hw := hw.2 hc_80
      refine lv_aload_n hx hb dJ4_resize_34 rfl (lv_at hl 3 rfl) ?_
      refine lv_ldc (v := 2147483647) hx hb hown (hts _ q1474) dJ4_resize_35 ?_
      obtain ⟨fs_83, hq, hk, hw⟩ := hw
      refine ga_put (ci := 15) (T := TJ4) (v := .int (2147483647 : Int32)) (ty := tyJ4 6) hx hb hts hown hI in_J4 rfl tyJ4 tyJ4_ok nmJ4 6 (by decide) q237 (fun _ z => z) rfl (tyJ4_ok 6 (by decide)) rfl rfl hq hk dJ4_resize_37 (fun H locs hI => ?_)
      obtain ⟨h_84, eh_84⟩ : ∃ z, z = ga_set h p0 (ga_O 15 (fs_83.set 6 (.int (2147483647 : Int32)))) := ⟨_, rfl⟩
      rw [← eh_84] at hI
      have hw := hw h_84 eh_84
      refine ga_aload_n hx hb dJ4_resize_40 rfl (lv_at hl 4 rfl) ?_
      exact ga_qret (v := v1) hx hb hr (Or.inr ⟨_, rfl⟩) hlk hI hw (Nat.le_trans (Nat.le_add_right _ _) hbc) (Nat.le_trans (Nat.le_add_right _ _) hbs) dJ4_resize_41
def gw_J4_resize (K : ga_K) (p0 : Nat) (h : ga_H) (mc ms : Nat) (post : Option Nat → ga_H → Prop) : Prop :=
  ∃ (fs_1 : List Value) (v_2 : Option Nat), h p0 = some (ga_O 15 fs_1) ∧ fs_1[2]? = some (va_rf v_2) ∧ ((v_2 = none → (gw_J4_resize_15 K post p0 (0 : Int32) v_2 h mc ms)) ∧ (∀ a_3 : Nat, v_2 = some a_3 → (∃ a_4 : Nat, v_2 = some a_4 ∧ ∃ (n_5 : Nat) (f_6 : Nat → Option Nat), h a_4 = some (ga_Aq 8 n_5 f_6) ∧ (gw_J4_resize_15 K post p0 (nI n_5) v_2 h mc ms))))
set_option maxHeartbeats 4000000 in
theorem gm_J4_resize (l : Launch) (g : ga_G) (p0 : Nat) (h : ga_H) (mc ms : Nat) (post : Option Nat → ga_H → Prop) (hw : gw_J4_resize g.2.2 p0 h mc ms post) : Met l yJ4_resize (ws_ yJ4_resize cJ4_resize 14 (some (.array (.object "java/util/HashMap$Node")))) ({ frames := 8, cells := mc, slots := ms, locals := 140 } : Room) (va_Pc [.ref p0] (ga_B g h)) (va_Qq post (ga_E g) (ga_A g)) mc ms (ga_A g) := by
  refine ga_met (own := "java/util/HashMap") (nm := "resize") (by decide) rfl rfl (by exact Nat.le_of_ble_eq_true rfl) (fun p e s m below meth c ls hC hI hl => ?_)
  have hl : lv_has ls 14 [(0, .ref p0)] := hl
  generalize ([.ref p0] : List Value).toArray = args at hC ⊢
  obtain ⟨hx, hb, hml, hown, hts, hr, hlk, hnm⟩ := hC
  unfold gw_J4_resize at hw
  obtain ⟨H, eH⟩ : ∃ z, z = s.heap := ⟨_, rfl⟩
  obtain ⟨locs, elo⟩ : ∃ z : List Loc, z = [] := ⟨_, rfl⟩
  rw [← eH, ← elo] at hI ⊢
  obtain ⟨cells, slots, hbc, hbs, e0, e1⟩ : ∃ a b : Nat, a + mc ≤ mc ∧ b + ms ≤ ms ∧ a = 0 ∧ b = 0 := ⟨0, 0, by omega, by omega, rfl, rfl⟩
  show W p l e ({ frames := 8, cells := mc, slots := ms, locals := 140 } : Room) s m args below meth c H locs 0 0 (MQ below (va_Qq post (ga_E g) (ga_A g)) args s mc ms (ga_A g)) (F0 m 0 ls [])
  suffices hgoal : W p l e ({ frames := 8, cells := mc, slots := ms, locals := 140 } : Room) s m args below meth c H locs cells slots (MQ below (va_Qq post (ga_E g) (ga_A g)) args s mc ms (ga_A g)) (F0 m 0 ls []) by rw [e0, e1] at hgoal; exact hgoal
  refine lv_aload_n hx hb dJ4_resize_0 rfl (lv_at hl 0 rfl) ?_
  obtain ⟨fs_1, v_2, hq, hv, hw⟩ := hw
  refine ga_get (ci := 15) (T := TJ4) (v := va_rf v_2) hx hb hts hown hI in_J4 rfl 2 (by decide) q229 (fun _ z => z) (ga_at.h hq) hv dJ4_resize_1 ?_
  refine ga_astore_n (i := 1) (x := v_2) (lv' := [(1, va_rf v_2), (0, .ref p0)]) hx hb dJ4_resize_4 rfl hl (by decide) rfl (fun ls hl => ?_)
  refine ga_aload_n hx hb dJ4_resize_5 rfl (lv_at hl 0 rfl) ?_
  refine ga_ifnonnull (tgt := 13) hx hb dJ4_resize_6 (by decide) (fun a_3 hc_a_3 => ?_) (fun hc_a_3 => ?_)
  · have hw := hw.2 a_3 hc_a_3
    skip
    refine ga_aload_n hx hb dJ4_resize_13 rfl (lv_at hl 0 rfl) ?_
    obtain ⟨a_4, ea_4, hw⟩ := hw
    rewrite [ea_4]
    obtain ⟨n_5, f_6, hq, hw⟩ := hw
    refine ga_len hx hb hI (ga_at.h hq) rfl dJ4_resize_14 ?_
    exact gj_J4_resize_15 g post p0 (nI n_5) v_2 h mc ms ⟨hx, hb, hml, hown, hts, hr, hlk, hnm⟩ hw hI hbc hbs (lv_sub hl [1, 0] rfl)
  · have hw := hw.1 hc_a_3
    refine lv_iconst (v := 0) hx hb dJ4_resize_9 (by decide) ?_
    refine lv_goto (tgt := 15) hx hb dJ4_resize_10 (by decide) ?_
    exact gj_J4_resize_15 g post p0 (0 : Int32) v_2 h mc ms ⟨hx, hb, hml, hown, hts, hr, hlk, hnm⟩ hw hI hbc hbs (lv_sub hl [1, 0] rfl)
theorem hdG_J4_resize : yJ4_resize.cls ≠ "java/lang/invoke/MethodHandle" ∧ yJ4_resize.cls ≠ "java/lang/invoke/VarHandle" ∧ (parseMethodDescriptor yJ4_resize.desc).map (fun d => d.parameters.length) = some 0 := by decide +kernel
def gw_J20_init (K : ga_K) (p0 : Nat) (h : ga_H) (post : ga_H → Prop) : Prop :=
  gw_J0_init K p0 h (fun (h_1 : ga_H) => post h_1)
set_option maxHeartbeats 4000000 in
theorem gm_J20_init (l : Launch) (g : ga_G) (p0 : Nat) (h : ga_H) (post : ga_H → Prop) (hw : gw_J20_init g.2.2 p0 h post) : Met l yJ20_init (ws_ yJ20_init cJ20_init 1 none) ({ frames := 9, cells := 0, slots := 0, locals := 160 } : Room) (va_Pc [.ref p0] (ga_B g h)) (va_Qv post (ga_E g) (ga_A g)) 0 0 (ga_A g) := by
  refine ga_met (own := "java/util/AbstractSet") (nm := "<init>") (by decide) rfl rfl (by exact Nat.le_of_ble_eq_true rfl) (fun p e s m below meth c ls hC hI hl => ?_)
  have hl : lv_has ls 1 [(0, .ref p0)] := hl
  generalize ([.ref p0] : List Value).toArray = args at hC ⊢
  obtain ⟨hx, hb, hml, hown, hts, hr, hlk, hnm⟩ := hC
  unfold gw_J20_init at hw
  obtain ⟨H, eH⟩ : ∃ z, z = s.heap := ⟨_, rfl⟩
  obtain ⟨locs, elo⟩ : ∃ z : List Loc, z = [] := ⟨_, rfl⟩
  rw [← eH, ← elo] at hI ⊢
  obtain ⟨cells, slots, hbc, hbs, e0, e1⟩ : ∃ a b : Nat, a ≤ 0 ∧ b ≤ 0 ∧ a = 0 ∧ b = 0 := ⟨0, 0, by omega, by omega, rfl, rfl⟩
  show W p l e ({ frames := 9, cells := 0, slots := 0, locals := 160 } : Room) s m args below meth c H locs 0 0 (MQ below (va_Qv post (ga_E g) (ga_A g)) args s 0 0 (ga_A g)) (F0 m 0 ls [])
  suffices hgoal : W p l e ({ frames := 9, cells := 0, slots := 0, locals := 160 } : Room) s m args below meth c H locs cells slots (MQ below (va_Qv post (ga_E g) (ga_A g)) args s 0 0 (ga_A g)) (F0 m 0 ls []) by rw [e0, e1] at hgoal; exact hgoal
  refine lv_aload_n hx hb dJ20_init_0 rfl (lv_at hl 0 rfl) ?_
  refine ga_callv (va_runI (As := []) (rest := []) ⟨hx, hb, hml, hown, hts⟩ (gm_J0_init l g p0 h _ hw) (cwI 0 hts (lw_meth q199) rfl rfl rfl (hts _ q102) (hts _ q643) (hts _ q198) rfl hdG_J0_init ⟨Nat.le_of_ble_eq_true rfl, Nat.le_of_ble_eq_true rfl⟩) (ga_preS hI rfl) rfl rfl hl.1 rfl (ga_room (Nat.le_of_ble_eq_true rfl)) dJ20_init_1 ⟨hbc, hbs⟩) hI (bc := 0) (bs := 0) hbc hbs (Nat.zero_le _) (Nat.zero_le _) (fun h_1 H locs cells slots hw hI hbc hbs => ?_)
  exact ga_vret hx hb hr hlk hI hw hbc hbs dJ20_init_4
theorem hdG_J20_init : yJ20_init.cls ≠ "java/lang/invoke/MethodHandle" ∧ yJ20_init.cls ≠ "java/lang/invoke/VarHandle" ∧ (parseMethodDescriptor yJ20_init.desc).map (fun d => d.parameters.length) = some 0 := by decide +kernel
