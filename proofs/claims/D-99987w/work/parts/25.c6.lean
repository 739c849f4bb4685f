set_option maxRecDepth 100000
set_option maxHeartbeats 4000000
abbrev mi_X1_days : xM := (cX1_days, yX1_days, 2, some .int, 8)
theorem md_X1_days : xMD mi_X1_days 1 := ⟨by decide, by decide, by decide +kernel⟩
def f_X1_days (r0 : Nat) (x1 : Int32) (h : mH) : Option (Int32 × mH) := bR (f_X1_isIn x1 (1 : Int32) (60 : Int32) h) fun a1 g1 => if a1 = 0 then some ((-1 : Int32), g1) else (gFr [0] 4 g1 r0).bind fun v3 => if gC g1 v3 = 2 then bR (f_X3_isOver v3  g1) fun a4 g4 => if a4 = 0 then if gC g4 r0 = 0 then bR (f_X1_snap r0  g4) fun a6 g6 => (gFr [0] 4 g6 r0).bind fun v7 => if gC g6 v7 = 2 then bR (f_X3_passAll v7 x1 g6) fun a8 g8 => some (a8, g8) else none else none else some ((0 : Int32), g4) else none
theorem t_X1_days {G : xG} (C0 : xC) {l : Launch} {r0 : Nat} {x1 : Int32} (h : mH) {o : Int32 × mH} (H : f_X1_days r0 x1 h = some o) : XR G l mi_X1_days [.ref r0, .int x1] h (some (.int o.1)) o.2 := by
  refine XR.of C0 (by decide) (Nat.le_of_ble_eq_true rfl) (fun C _ _ _ hE => ?_)
  show X G C mi_X1_days 0 [(0, .ref r0), (1, .int x1)] [] h
  unfold f_X1_days at H
  refine x_iload_n 1 rfl dX1_days_0 ?_
  refine x_iconst (1 : Int32) dX1_days_1 ic_1 ?_
  refine x_bipush (60 : Int32) dX1_days_2 bi_60 ?_
  obtain ⟨a1, g1, e1, H⟩ := obR H
  refine x_callS (M' := mi_X1_isIn) (n := 3) (As := [.int x1, .int (1 : Int32), .int (60 : Int32)]) (t_X1_isIn C _ e1) md_X1_isIn ⟨Nat.le_of_ble_eq_true rfl, Nat.le_of_ble_eq_true rfl⟩ q1126 q921 q120 q922 rfl (Nat.le_of_ble_eq_true rfl) dX1_days_4 ?_
  refine x_if_ne 12 dX1_days_7 (by decide) (fun c2 => ?_) (fun c2 => ?_)
  · rw [if_neg c2] at H
    refine x_aload_n 0 rfl dX1_days_12 ?_
    obtain ⟨v3, e3, H⟩ := ob H
    refine x_getf fg_X1_36 (gFr_spec e3) dX1_days_13 ?_
    obtain ⟨c4, H⟩ := oit H
    obtain ⟨a4, g4, e4, H⟩ := obR H
    refine x_callV (M' := mi_X3_isOver) (n := 0) (As := []) (t_X3_isOver C _ e4) c4 rfl rfl md_X3_isOver ⟨Nat.le_of_ble_eq_true rfl, Nat.le_of_ble_eq_true rfl⟩ q1363 q1282 q1283 q125 q1284 rfl (Nat.le_of_ble_eq_true rfl) dX1_days_16 ?_
    refine x_if_eq 24 dX1_days_19 (by decide) (fun c5 => ?_) (fun c5 => ?_)
    · rw [if_pos c5] at H
      refine x_aload_n 0 rfl dX1_days_24 ?_
      obtain ⟨c6, H⟩ := oit H
      obtain ⟨a6, g6, e6, H⟩ := obR H
      refine x_callV (M' := mi_X1_snap) (n := 0) (As := []) (t_X1_snap C _ e6) c6 rfl rfl md_X1_snap ⟨Nat.le_of_ble_eq_true rfl, Nat.le_of_ble_eq_true rfl⟩ q1314 q1316 qs25 q120 q1317 rfl (Nat.le_of_ble_eq_true rfl) dX1_days_25 ?_
      refine x_aload_n 0 rfl dX1_days_28 ?_
      obtain ⟨v7, e7, H⟩ := ob H
      refine x_getf fg_X1_36 (gFr_spec e7) dX1_days_29 ?_
      refine x_iload_n 1 rfl dX1_days_32 ?_
      obtain ⟨c8, H⟩ := oit H
      obtain ⟨a8, g8, e8, H⟩ := obR H
      refine x_callV (M' := mi_X3_passAll) (n := 1) (As := [.int x1]) (t_X3_passAll C _ e8) c8 rfl rfl md_X3_passAll ⟨Nat.le_of_ble_eq_true rfl, Nat.le_of_ble_eq_true rfl⟩ q1364 q1278 q1279 q125 q1280 rfl (Nat.le_of_ble_eq_true rfl) dX1_days_33 ?_
      obtain rfl := Option.some.inj H
      exact x_iret hE rfl rfl dX1_days_36
    · rw [if_neg c5] at H
      refine x_iconst (0 : Int32) dX1_days_22 ic_0 ?_
      obtain rfl := Option.some.inj H
      exact x_iret hE rfl rfl dX1_days_23
  · rw [if_pos c2] at H
    refine x_iconst (-1 : Int32) dX1_days_10 ic_m1 ?_
    obtain rfl := Option.some.inj H
    exact x_iret hE rfl rfl dX1_days_11
abbrev mi_X1_deals : xM := (cX1_deals, yX1_deals, 3, some .int, 4)
theorem md_X1_deals : xMD mi_X1_deals 2 := ⟨by decide, by decide, by decide +kernel⟩
def f_X1_deals (r0 : Nat) (x1 : Int32) (x2 : Int32) (h : mH) : Option (Int32 × mH) := if gC h r0 = 0 then bR (f_X1_isPerson r0 x1 h) fun a1 g1 => if a1 = 0 then some ((-1 : Int32), g1) else if gC g1 r0 = 0 then bR (f_X1_isPerson r0 x2 g1) fun a3 g3 => if a3 = 0 then some ((-1 : Int32), g3) else if x1 = x2 then some ((-1 : Int32), g3) else (gFr [0] 4 g3 r0).bind fun v6 => (gFr [2] 9 g3 v6).bind fun v7 => (aI .int g3 v7 (((7 : Int32) * x1) + x2)).bind fun v8 => some (v8, g3) else none else none
theorem t_X1_deals {G : xG} (C0 : xC) {l : Launch} {r0 : Nat} {x1 : Int32} {x2 : Int32} (h : mH) {o : Int32 × mH} (H : f_X1_deals r0 x1 x2 h = some o) : XR G l mi_X1_deals [.ref r0, .int x1, .int x2] h (some (.int o.1)) o.2 := by
  refine XR.of C0 (by decide) (Nat.le_of_ble_eq_true rfl) (fun C _ _ _ hE => ?_)
  show X G C mi_X1_deals 0 [(0, .ref r0), (1, .int x1), (2, .int x2)] [] h
  unfold f_X1_deals at H
  refine x_aload_n 0 rfl dX1_deals_0 ?_
  refine x_iload_n 1 rfl dX1_deals_1 ?_
  obtain ⟨c1, H⟩ := oit H
  obtain ⟨a1, g1, e1, H⟩ := obR H
  refine x_callV (M' := mi_X1_isPerson) (n := 1) (As := [.int x1]) (t_X1_isPerson C _ e1) c1 rfl rfl md_X1_isPerson ⟨Nat.le_of_ble_eq_true rfl, Nat.le_of_ble_eq_true rfl⟩ q1108 q1110 qs19 q120 q1111 rfl (Nat.le_of_ble_eq_true rfl) dX1_deals_2 ?_
  refine x_if_eq 38 dX1_deals_5 (by decide) (fun c2 => ?_) (fun c2 => ?_)
  · rw [if_pos c2] at H
    refine x_iconst (-1 : Int32) dX1_deals_38 ic_m1 ?_
    obtain rfl := Option.some.inj H
    exact x_iret hE rfl rfl dX1_deals_39
  · rw [if_neg c2] at H
    refine x_aload_n 0 rfl dX1_deals_8 ?_
    refine x_iload_n 2 rfl dX1_deals_9 ?_
    obtain ⟨c3, H⟩ := oit H
    obtain ⟨a3, g3, e3, H⟩ := obR H
    refine x_callV (M' := mi_X1_isPerson) (n := 1) (As := [.int x2]) (t_X1_isPerson C _ e3) c3 rfl rfl md_X1_isPerson ⟨Nat.le_of_ble_eq_true rfl, Nat.le_of_ble_eq_true rfl⟩ q1108 q1110 qs19 q120 q1111 rfl (Nat.le_of_ble_eq_true rfl) dX1_deals_10 ?_
    refine x_if_eq 38 dX1_deals_13 (by decide) (fun c4 => ?_) (fun c4 => ?_)
    · rw [if_pos c4] at H
      refine x_iconst (-1 : Int32) dX1_deals_38 ic_m1 ?_
      obtain rfl := Option.some.inj H
      exact x_iret hE rfl rfl dX1_deals_39
    · rw [if_neg c4] at H
      refine x_iload_n 1 rfl dX1_deals_16 ?_
      refine x_iload_n 2 rfl dX1_deals_17 ?_
      refine x_icmp_eq 38 dX1_deals_18 (by decide) (fun c5 => ?_) (fun c5 => ?_)
      · rw [if_pos c5] at H
        refine x_iconst (-1 : Int32) dX1_deals_38 ic_m1 ?_
        obtain rfl := Option.some.inj H
        exact x_iret hE rfl rfl dX1_deals_39
      · rw [if_neg c5] at H
        refine x_aload_n 0 rfl dX1_deals_21 ?_
        obtain ⟨v6, e6, H⟩ := ob H
        refine x_getf fg_X1_36 (gFr_spec e6) dX1_deals_22 ?_
        obtain ⟨v7, e7, H⟩ := ob H
        refine x_getf fg_X1_194 (gFr_spec e7) dX1_deals_25 ?_
        refine x_bipush (7 : Int32) dX1_deals_28 bi_7 ?_
        refine x_iload_n 1 rfl dX1_deals_30 ?_
        refine x_imul dX1_deals_31 ?_
        refine x_iload_n 2 rfl dX1_deals_32 ?_
        refine x_iadd dX1_deals_33 ?_
        obtain ⟨v8, e8, H⟩ := ob H
        refine x_iald e8 dX1_deals_34 ?_
        refine x_goto (tgt := 39) dX1_deals_35 (by decide) ?_
        obtain rfl := Option.some.inj H
        exact x_iret hE rfl rfl dX1_deals_39
abbrev mi_X3_draw : xM := (cX3_draw, yX3_draw, 2, some .int, 1)
theorem md_X3_draw : xMD mi_X3_draw 1 := ⟨by decide, by decide, by decide +kernel⟩
def f_X3_draw (r0 : Nat) (x1 : Int32) (h : mH) : Option (Int32 × mH) := (gFi [2] 12 h r0).bind fun v1 => (pF [2] 12 (.int ((v1 * (1103515245 : Int32)) + (12345 : Int32))) h r0).bind fun h2 => (gFi [2] 12 h2 r0).bind fun v3 => if x1 = 0 then none else some ((((v3.toUInt32 >>> ((8 : Int32).toUInt32 &&& Int32.toUInt32 31)).toInt32) - ((v3.toUInt32 >>> ((8 : Int32).toUInt32 &&& Int32.toUInt32 31)).toInt32) / x1 * x1), h2)
theorem t_X3_draw {G : xG} (C0 : xC) {l : Launch} {r0 : Nat} {x1 : Int32} (h : mH) {o : Int32 × mH} (H : f_X3_draw r0 x1 h = some o) : XR G l mi_X3_draw [.ref r0, .int x1] h (some (.int o.1)) o.2 := by
  refine XR.of C0 (by decide) (Nat.le_of_ble_eq_true rfl) (fun C _ _ _ hE => ?_)
  show X G C mi_X3_draw 0 [(0, .ref r0), (1, .int x1)] [] h
  unfold f_X3_draw at H
  refine x_aload_n 0 rfl dX3_draw_0 ?_
  refine x_aload_n 0 rfl dX3_draw_1 ?_
  obtain ⟨v1, e1, H⟩ := ob H
  refine x_getf fg_X3_166 (gFi_spec e1) dX3_draw_2 ?_
  refine x_ldc q1523 dX3_draw_5 ?_
  refine x_imul dX3_draw_7 ?_
  refine x_sipush (12345 : Int32) dX3_draw_8 si_12345 ?_
  refine x_iadd dX3_draw_11 ?_
  obtain ⟨h2, e2, H⟩ := ob H
  refine x_putf (fp_X3_166 _) rfl rfl e2 dX3_draw_12 ?_
  refine x_aload_n 0 rfl dX3_draw_15 ?_
  obtain ⟨v3, e3, H⟩ := ob H
  refine x_getf fg_X3_166 (gFi_spec e3) dX3_draw_16 ?_
  refine x_bipush (8 : Int32) dX3_draw_19 bi_8 ?_
  refine x_iushr dX3_draw_21 ?_
  refine x_iload_n 1 rfl dX3_draw_22 ?_
  obtain ⟨c4, H⟩ := oif H
  refine x_irem dX3_draw_23 c4 ?_
  obtain rfl := Option.some.inj H
  exact x_iret hE rfl rfl dX3_draw_24
abbrev mi_X3_goods : xM := (cX3_goods, yX3_goods, 1, some .int, 2)
theorem md_X3_goods : xMD mi_X3_goods 0 := ⟨by decide, by decide, by decide +kernel⟩
def f_X3_goods (r0 : Nat) (h : mH) : Option (Int32 × mH) := (gFr [2] 0 h r0).bind fun v1 => (gFr [1] 5 h v1).bind fun v2 => if gC h v2 = 21 then bR (f_J2_size v2  h) fun a3 g3 => some (a3, g3) else none
theorem t_X3_goods {G : xG} (C0 : xC) {l : Launch} {r0 : Nat} (h : mH) {o : Int32 × mH} (H : f_X3_goods r0 h = some o) : XR G l mi_X3_goods [.ref r0] h (some (.int o.1)) o.2 := by
  refine XR.of C0 (by decide) (Nat.le_of_ble_eq_true rfl) (fun C _ _ _ hE => ?_)
  show X G C mi_X3_goods 0 [(0, .ref r0)] [] h
  unfold f_X3_goods at H
  refine x_aload_n 0 rfl dX3_goods_0 ?_
  obtain ⟨v1, e1, H⟩ := ob H
  refine x_getf fg_X3_30 (gFr_spec e1) dX3_goods_1 ?_
  obtain ⟨v2, e2, H⟩ := ob H
  refine x_getf fg_X3_94 (gFr_spec e2) dX3_goods_4 ?_
  obtain ⟨c3, H⟩ := oit H
  obtain ⟨a3, g3, e3, H⟩ := obR H
  refine x_callV (M' := mi_J2_size) (n := 0) (As := []) (t_J2_size C _ e3) c3 rfl rfl md_J2_size ⟨Nat.le_of_ble_eq_true rfl, Nat.le_of_ble_eq_true rfl⟩ q316 q317 q318 q124 q319 rfl (Nat.le_of_ble_eq_true rfl) dX3_goods_7 ?_
  obtain rfl := Option.some.inj H
  exact x_iret hE rfl rfl dX3_goods_10
abbrev mi_X3_drawsFor : xM := (cX3_drawsFor, yX3_drawsFor, 5, none, 9)
theorem md_X3_drawsFor : xMD mi_X3_drawsFor 1 := ⟨by decide, by decide, by decide +kernel⟩
def f_X3_drawsFor_b86 (r0 : Nat) (x1 : Int32) (x2 : Int32) (h : mH) : Option (Unit × mH) := if x2 = (4 : Int32) then if gC h r0 = 2 then bR (f_X3_whyVeil r0 x1 h) fun a5 g5 => if a5 = 0 then if gC g5 r0 = 2 then bR (f_X3_veil r0 x1 g5) fun a7 g7 => some ((), g7) else none else some ((), g5) else none else some ((), h)
theorem t_X3_drawsFor_b86 {G : xG} {C : xC} {o : Unit × mH} (hE : xEnd G C none o.2) (r0 : Nat) (x1 : Int32) (x2 : Int32) (h : mH) (H : f_X3_drawsFor_b86 r0 x1 x2 h = some o) : X G C mi_X3_drawsFor 86 [(0, .ref r0), (1, .int x1), (2, .int x2)] [] h := by
  unfold f_X3_drawsFor_b86 at H
  refine x_iload_n 2 rfl dX3_drawsFor_86 ?_
  refine x_iconst (4 : Int32) dX3_drawsFor_87 ic_4 ?_
  refine x_icmp_ne 104 dX3_drawsFor_88 (by decide) (fun c4 => ?_) (fun c4 => ?_)
  · rw [if_neg c4] at H
    obtain rfl := Option.some.inj H
    exact x_vret hE rfl dX3_drawsFor_104
  · rw [if_pos c4] at H
    refine x_aload_n 0 rfl dX3_drawsFor_91 ?_
    refine x_iload_n 1 rfl dX3_drawsFor_92 ?_
    obtain ⟨c5, H⟩ := oit H
    obtain ⟨a5, g5, e5, H⟩ := obR H
    refine x_callV (M' := mi_X3_whyVeil) (n := 1) (As := [.int x1]) (t_X3_whyVeil C _ e5) c5 rfl rfl md_X3_whyVeil ⟨Nat.le_of_ble_eq_true rfl, Nat.le_of_ble_eq_true rfl⟩ q1532 q1305 q1306 q125 q1307 rfl (Nat.le_of_ble_eq_true rfl) dX3_drawsFor_93 ?_
    refine x_if_ne 104 dX3_drawsFor_96 (by decide) (fun c6 => ?_) (fun c6 => ?_)
    · rw [if_neg c6] at H
      obtain rfl := Option.some.inj H
      exact x_vret hE rfl dX3_drawsFor_104
    · rw [if_pos c6] at H
      refine x_aload_n 0 rfl dX3_drawsFor_99 ?_
      refine x_iload_n 1 rfl dX3_drawsFor_100 ?_
      obtain ⟨c7, H⟩ := oit H
      obtain ⟨a7, g7, e7, H⟩ := obR H
      refine x_callV (M' := mi_X3_veil) (n := 1) (As := [.int x1]) (t_X3_veil C _ e7) c7 rfl rfl md_X3_veil ⟨Nat.le_of_ble_eq_true rfl, Nat.le_of_ble_eq_true rfl⟩ q1533 q1309 q1310 q125 q1311 rfl (Nat.le_of_ble_eq_true rfl) dX3_drawsFor_101 ?_
      obtain rfl := Option.some.inj H
      exact x_vret hE rfl dX3_drawsFor_104
def f_X3_drawsFor_b57 (r0 : Nat) (x1 : Int32) (x2 : Int32) (h : mH) : Option (Unit × mH) := if x2 = (3 : Int32) then if gC h r0 = 2 then bR (f_X3_persons r0  h) fun a8 g8 => if gC g8 r0 = 2 then bR (f_X3_draw r0 a8 g8) fun a9 g9 => if gC g9 r0 = 2 then bR (f_X3_whyNod r0 x1 a9 g9) fun a10 g10 => if a10 = 0 then if gC g10 r0 = 2 then bR (f_X3_nod r0 x1 a9 g10) fun a12 g12 => f_X3_drawsFor_b86 r0 x1 x2 g12 else none else f_X3_drawsFor_b86 r0 x1 x2 g10 else none else none else none else f_X3_drawsFor_b86 r0 x1 x2 h
theorem t_X3_drawsFor_b57 {G : xG} {C : xC} {o : Unit × mH} (hE : xEnd G C none o.2) (r0 : Nat) (x1 : Int32) (x2 : Int32) (h : mH) (H : f_X3_drawsFor_b57 r0 x1 x2 h = some o) : X G C mi_X3_drawsFor 57 [(0, .ref r0), (1, .int x1), (2, .int x2)] [] h := by
  unfold f_X3_drawsFor_b57 at H
  refine x_iload_n 2 rfl dX3_drawsFor_57 ?_
  refine x_iconst (3 : Int32) dX3_drawsFor_58 ic_3 ?_
  refine x_icmp_ne 86 dX3_drawsFor_59 (by decide) (fun c3 => ?_) (fun c3 => ?_)
  · rw [if_neg c3] at H
    exact t_X3_drawsFor_b86 hE _ _ _ _ H
  · rw [if_pos c3] at H
    refine x_aload_n 0 rfl dX3_drawsFor_62 ?_
    refine x_aload_n 0 rfl dX3_drawsFor_63 ?_
    obtain ⟨c8, H⟩ := oit H
    obtain ⟨a8, g8, e8, H⟩ := obR H
    refine x_callV (M' := mi_X3_persons) (n := 0) (As := []) (t_X3_persons C _ e8) c8 rfl rfl md_X3_persons ⟨Nat.le_of_ble_eq_true rfl, Nat.le_of_ble_eq_true rfl⟩ q312 q313 q314 q125 q315 rfl (Nat.le_of_ble_eq_true rfl) dX3_drawsFor_64 ?_
    obtain ⟨c9, H⟩ := oit H
    obtain ⟨a9, g9, e9, H⟩ := obR H
    refine x_callV (M' := mi_X3_draw) (n := 1) (As := [.int a8]) (t_X3_draw C _ e9) c9 rfl rfl md_X3_draw ⟨Nat.le_of_ble_eq_true rfl, Nat.le_of_ble_eq_true rfl⟩ q1519 q1521 qs37 q125 q1522 rfl (Nat.le_of_ble_eq_true rfl) dX3_drawsFor_67 ?_
    refine x_istore_n [1, 2, 3, 0] dX3_drawsFor_70 (by decide) rfl ?_
    refine x_aload_n 0 rfl dX3_drawsFor_71 ?_
    refine x_iload_n 1 rfl dX3_drawsFor_72 ?_
    refine x_iload_n 3 rfl dX3_drawsFor_73 ?_
    obtain ⟨c10, H⟩ := oit H
    obtain ⟨a10, g10, e10, H⟩ := obR H
    refine x_callV (M' := mi_X3_whyNod) (n := 2) (As := [.int x1, .int a9]) (t_X3_whyNod C _ e10) c10 rfl rfl md_X3_whyNod ⟨Nat.le_of_ble_eq_true rfl, Nat.le_of_ble_eq_true rfl⟩ q1530 q1263 q1264 q125 q1265 rfl (Nat.le_of_ble_eq_true rfl) dX3_drawsFor_74 ?_
    refine x_if_ne 86 dX3_drawsFor_77 (by decide) (fun c11 => ?_) (fun c11 => ?_)
    · rw [if_neg c11] at H
      refine X.sub [0, 1, 2] rfl ?_
      exact t_X3_drawsFor_b86 hE _ _ _ _ H
    · rw [if_pos c11] at H
      refine x_aload_n 0 rfl dX3_drawsFor_80 ?_
      refine x_iload_n 1 rfl dX3_drawsFor_81 ?_
      refine x_iload_n 3 rfl dX3_drawsFor_82 ?_
      obtain ⟨c12, H⟩ := oit H
      obtain ⟨a12, g12, e12, H⟩ := obR H
      refine x_callV (M' := mi_X3_nod) (n := 2) (As := [.int x1, .int a9]) (t_X3_nod C _ e12) c12 rfl rfl md_X3_nod ⟨Nat.le_of_ble_eq_true rfl, Nat.le_of_ble_eq_true rfl⟩ q1531 q1267 q1268 q125 q1269 rfl (Nat.le_of_ble_eq_true rfl) dX3_drawsFor_83 ?_
      refine X.sub [0, 1, 2] rfl ?_
      exact t_X3_drawsFor_b86 hE _ _ _ _ H
def f_X3_drawsFor (r0 : Nat) (x1 : Int32) (h : mH) : Option (Unit × mH) := if gC h r0 = 2 then bR (f_X3_draw r0 (6 : Int32) h) fun a1 g1 => if (3 : Int32) ≤ a1 then f_X3_drawsFor_b57 r0 x1 a1 g1 else if gC g1 r0 = 2 then bR (f_X3_goods r0  g1) fun a13 g13 => if a13 ≤ 0 then f_X3_drawsFor_b57 r0 x1 a1 g13 else if gC g13 r0 = 2 then bR (f_X3_goods r0  g13) fun a15 g15 => if gC g15 r0 = 2 then bR (f_X3_draw r0 a15 g15) fun a16 g16 => if gC g16 r0 = 2 then bR (f_X3_persons r0  g16) fun a17 g17 => if gC g17 r0 = 2 then bR (f_X3_draw r0 a17 g17) fun a18 g18 => if gC g18 r0 = 2 then bR (f_X3_whyBuy r0 x1 a16 a18 g18) fun a19 g19 => if a19 = 0 then if gC g19 r0 = 2 then bR (f_X3_buy r0 x1 a16 a18 g19) fun a21 g21 => f_X3_drawsFor_b57 r0 x1 a1 g21 else none else f_X3_drawsFor_b57 r0 x1 a1 g19 else none else none else none else none else none else none else none
theorem t_X3_drawsFor {G : xG} (C0 : xC) {l : Launch} {r0 : Nat} {x1 : Int32} (h : mH) {o : Unit × mH} (H : f_X3_drawsFor r0 x1 h = some o) : XR G l mi_X3_drawsFor [.ref r0, .int x1] h none o.2 := by
  refine XR.of C0 (by decide) (Nat.le_of_ble_eq_true rfl) (fun C _ _ _ hE => ?_)
  show X G C mi_X3_drawsFor 0 [(0, .ref r0), (1, .int x1)] [] h
  unfold f_X3_drawsFor at H
  refine x_aload_n 0 rfl dX3_drawsFor_0 ?_
  refine x_bipush (6 : Int32) dX3_drawsFor_1 bi_6 ?_
  obtain ⟨c1, H⟩ := oit H
  obtain ⟨a1, g1, e1, H⟩ := obR H
  refine x_callV (M' := mi_X3_draw) (n := 1) (As := [.int (6 : Int32)]) (t_X3_draw C _ e1) c1 rfl rfl md_X3_draw ⟨Nat.le_of_ble_eq_true rfl, Nat.le_of_ble_eq_true rfl⟩ q1519 q1521 qs37 q125 q1522 rfl (Nat.le_of_ble_eq_true rfl) dX3_drawsFor_3 ?_
  refine x_istore_n [1, 2, 0] dX3_drawsFor_6 (by decide) rfl ?_
  refine x_iload_n 2 rfl dX3_drawsFor_7 ?_
  refine x_iconst (3 : Int32) dX3_drawsFor_8 ic_3 ?_
  refine x_icmp_ge 57 dX3_drawsFor_9 (by decide) (fun c2 => ?_) (fun c2 => ?_)
  · rw [if_pos c2] at H
    exact t_X3_drawsFor_b57 hE _ _ _ _ H
  · rw [if_neg c2] at H
    refine x_aload_n 0 rfl dX3_drawsFor_12 ?_
    obtain ⟨c13, H⟩ := oit H
    obtain ⟨a13, g13, e13, H⟩ := obR H
    refine x_callV (M' := mi_X3_goods) (n := 0) (As := []) (t_X3_goods C _ e13) c13 rfl rfl md_X3_goods ⟨Nat.le_of_ble_eq_true rfl, Nat.le_of_ble_eq_true rfl⟩ q1524 q1525 q1526 q125 q1527 rfl (Nat.le_of_ble_eq_true rfl) dX3_drawsFor_13 ?_
    refine x_if_le 57 dX3_drawsFor_16 (by decide) (fun c14 => ?_) (fun c14 => ?_)
    · rw [if_pos c14] at H
      exact t_X3_drawsFor_b57 hE _ _ _ _ H
    · rw [if_neg c14] at H
      refine x_aload_n 0 rfl dX3_drawsFor_19 ?_
      refine x_aload_n 0 rfl dX3_drawsFor_20 ?_
      obtain ⟨c15, H⟩ := oit H
      obtain ⟨a15, g15, e15, H⟩ := obR H
      refine x_callV (M' := mi_X3_goods) (n := 0) (As := []) (t_X3_goods C _ e15) c15 rfl rfl md_X3_goods ⟨Nat.le_of_ble_eq_true rfl, Nat.le_of_ble_eq_true rfl⟩ q1524 q1525 q1526 q125 q1527 rfl (Nat.le_of_ble_eq_true rfl) dX3_drawsFor_21 ?_
      obtain ⟨c16, H⟩ := oit H
      obtain ⟨a16, g16, e16, H⟩ := obR H
      refine x_callV (M' := mi_X3_draw) (n := 1) (As := [.int a15]) (t_X3_draw C _ e16) c16 rfl rfl md_X3_draw ⟨Nat.le_of_ble_eq_true rfl, Nat.le_of_ble_eq_true rfl⟩ q1519 q1521 qs37 q125 q1522 rfl (Nat.le_of_ble_eq_true rfl) dX3_drawsFor_24 ?_
      refine x_istore_n [1, 2, 3, 0] dX3_drawsFor_27 (by decide) rfl ?_
      refine x_aload_n 0 rfl dX3_drawsFor_28 ?_
      refine x_aload_n 0 rfl dX3_drawsFor_29 ?_
      obtain ⟨c17, H⟩ := oit H
      obtain ⟨a17, g17, e17, H⟩ := obR H
      refine x_callV (M' := mi_X3_persons) (n := 0) (As := []) (t_X3_persons C _ e17) c17 rfl rfl md_X3_persons ⟨Nat.le_of_ble_eq_true rfl, Nat.le_of_ble_eq_true rfl⟩ q312 q313 q314 q125 q315 rfl (Nat.le_of_ble_eq_true rfl) dX3_drawsFor_30 ?_
      obtain ⟨c18, H⟩ := oit H
      obtain ⟨a18, g18, e18, H⟩ := obR H
      refine x_callV (M' := mi_X3_draw) (n := 1) (As := [.int a17]) (t_X3_draw C _ e18) c18 rfl rfl md_X3_draw ⟨Nat.le_of_ble_eq_true rfl, Nat.le_of_ble_eq_true rfl⟩ q1519 q1521 qs37 q125 q1522 rfl (Nat.le_of_ble_eq_true rfl) dX3_drawsFor_33 ?_
      refine x_istore [1, 2, 3, 4, 0] dX3_drawsFor_36 (by decide) rfl ?_
      refine x_aload_n 0 rfl dX3_drawsFor_38 ?_
      refine x_iload_n 1 rfl dX3_drawsFor_39 ?_
      refine x_iload_n 3 rfl dX3_drawsFor_40 ?_
      refine x_iload 4 rfl dX3_drawsFor_41 ?_
      obtain ⟨c19, H⟩ := oit H
      obtain ⟨a19, g19, e19, H⟩ := obR H
      refine x_callV (M' := mi_X3_whyBuy) (n := 3) (As := [.int x1, .int a16, .int a18]) (t_X3_whyBuy C _ e19) c19 rfl rfl md_X3_whyBuy ⟨Nat.le_of_ble_eq_true rfl, Nat.le_of_ble_eq_true rfl⟩ q1528 q1223 q1224 q125 q1225 rfl (Nat.le_of_ble_eq_true rfl) dX3_drawsFor_43 ?_
      refine x_if_ne 57 dX3_drawsFor_46 (by decide) (fun c20 => ?_) (fun c20 => ?_)
      · rw [if_neg c20] at H
        refine X.sub [0, 1, 2] rfl ?_
        exact t_X3_drawsFor_b57 hE _ _ _ _ H
      · rw [if_pos c20] at H
        refine x_aload_n 0 rfl dX3_drawsFor_49 ?_
        refine x_iload_n 1 rfl dX3_drawsFor_50 ?_
        refine x_iload_n 3 rfl dX3_drawsFor_51 ?_
        refine x_iload 4 rfl dX3_drawsFor_52 ?_
        obtain ⟨c21, H⟩ := oit H
        obtain ⟨a21, g21, e21, H⟩ := obR H
        refine x_callV (M' := mi_X3_buy) (n := 3) (As := [.int x1, .int a16, .int a18]) (t_X3_buy C _ e21) c21 rfl rfl md_X3_buy ⟨Nat.le_of_ble_eq_true rfl, Nat.le_of_ble_eq_true rfl⟩ q1529 q1252 q1253 q125 q1254 rfl (Nat.le_of_ble_eq_true rfl) dX3_drawsFor_54 ?_
        refine X.sub [0, 1, 2] rfl ?_
        exact t_X3_drawsFor_b57 hE _ _ _ _ H
abbrev mi_X3_drawn : xM := (cX3_drawn, yX3_drawn, 5, some .int, 10)
theorem md_X3_drawn : xMD mi_X3_drawn 2 := ⟨by decide, by decide, by decide +kernel⟩
def f_X3_drawn_b43 (kb : Nat → Int32 → Int32 → mH → Option (Int32 × mH)) (r0 : Nat) (x1 : Int32) (x3 : Int32) (h : mH) : Option (Int32 × mH) := if gC h r0 = 2 then bR (f_X3_pass r0  h) fun a5 g5 => kb r0 x1 (x3 + (1 : Int32)) g5 else none
theorem t_X3_drawn_b43 {G : xG} {C : xC} {o : Int32 × mH} (hE : xEnd G C (some (.int o.1)) o.2) {kb : Nat → Int32 → Int32 → mH → Option (Int32 × mH)} (hkb : ∀ (r0 : Nat) (x1 : Int32) (x3 : Int32) (h : mH), kb r0 x1 x3 h = some o → X G C mi_X3_drawn 7 [(0, .ref r0), (1, .int x1), (3, .int x3)] [] h) (r0 : Nat) (x1 : Int32) (x3 : Int32) (h : mH) (H : f_X3_drawn_b43 kb r0 x1 x3 h = some o) : X G C mi_X3_drawn 43 [(0, .ref r0), (1, .int x1), (3, .int x3)] [] h := by
  unfold f_X3_drawn_b43 at H
  refine x_aload_n 0 rfl dX3_drawn_43 ?_
  obtain ⟨c5, H⟩ := oit H
  obtain ⟨a5, g5, e5, H⟩ := obR H
  refine x_callV (M' := mi_X3_pass) (n := 0) (As := []) (t_X3_pass C _ e5) c5 rfl rfl md_X3_pass ⟨Nat.le_of_ble_eq_true rfl, Nat.le_of_ble_eq_true rfl⟩ q1285 q1286 q1287 q125 q1288 rfl (Nat.le_of_ble_eq_true rfl) dX3_drawn_44 ?_
  refine x_iinc 2 (x3 + (1 : Int32)) [1, 2, 0] dX3_drawn_47 rfl (ii_1 _) (by decide) rfl ?_
  refine x_goto (tgt := 7) dX3_drawn_50 (by decide) ?_
  exact hkb _ _ _ _ H
def f_X3_drawn_L22 (k43 : Nat → Int32 → Int32 → mH → Option (Int32 × mH)) : Nat → Nat → Int32 → Int32 → Int32 → mH → Option (Int32 × mH)
  | 0, _, _, _, _, _ => none
  | n + 1, r0, x1, x3, x4, h => if gC h r0 = 2 then bR (f_X3_persons r0  h) fun a6 g6 => if a6 ≤ x4 then k43 r0 x1 x3 g6 else if gC g6 r0 = 2 then bR (f_X3_drawsFor r0 x4 g6) fun a8 g8 => (f_X3_drawn_L22 k43 n) r0 x1 x3 (x4 + (1 : Int32)) g8 else none else none
theorem t_X3_drawn_L22 {G : xG} {C : xC} {o : Int32 × mH} (hE : xEnd G C (some (.int o.1)) o.2) {k43 : Nat → Int32 → Int32 → mH → Option (Int32 × mH)} (hk43 : ∀ (r0 : Nat) (x1 : Int32) (x3 : Int32) (h : mH), k43 r0 x1 x3 h = some o → X G C mi_X3_drawn 43 [(0, .ref r0), (1, .int x1), (3, .int x3)] [] h) : ∀ (n : Nat) (r0 : Nat) (x1 : Int32) (x3 : Int32) (x4 : Int32) (h : mH), f_X3_drawn_L22 k43 n r0 x1 x3 x4 h = some o → X G C mi_X3_drawn 22 [(0, .ref r0), (1, .int x1), (3, .int x3), (4, .int x4)] [] h := by
  intro n
  induction n with
  | zero => intro r0 x1 x3 x4 h H; exact nomatch (show (none : Option (Int32 × mH)) = some o from H)
  | succ n ih =>
    intro r0 x1 x3 x4 h H
    rw [f_X3_drawn_L22] at H
    refine x_iload 3 rfl dX3_drawn_22 ?_
    refine x_aload_n 0 rfl dX3_drawn_24 ?_
    obtain ⟨c6, H⟩ := oit H
    obtain ⟨a6, g6, e6, H⟩ := obR H
    refine x_callV (M' := mi_X3_persons) (n := 0) (As := []) (t_X3_persons C _ e6) c6 rfl rfl md_X3_persons ⟨Nat.le_of_ble_eq_true rfl, Nat.le_of_ble_eq_true rfl⟩ q312 q313 q314 q125 q315 rfl (Nat.le_of_ble_eq_true rfl) dX3_drawn_25 ?_
    refine x_icmp_ge 43 dX3_drawn_28 (by decide) (fun c7 => ?_) (fun c7 => ?_)
    · rw [if_pos c7] at H
      refine X.sub [0, 1, 2] rfl ?_
      exact hk43 _ _ _ _ H
    · rw [if_neg c7] at H
      refine x_aload_n 0 rfl dX3_drawn_31 ?_
      refine x_iload 3 rfl dX3_drawn_32 ?_
      obtain ⟨c8, H⟩ := oit H
      obtain ⟨a8, g8, e8, H⟩ := obR H
      refine x_callV (M' := mi_X3_drawsFor) (n := 1) (As := [.int x4]) (t_X3_drawsFor C _ e8) c8 rfl rfl md_X3_drawsFor ⟨Nat.le_of_ble_eq_true rfl, Nat.le_of_ble_eq_true rfl⟩ q1515 q1517 qs36 q125 q1518 rfl (Nat.le_of_ble_eq_true rfl) dX3_drawn_34 ?_
      refine x_iinc 3 (x4 + (1 : Int32)) [1, 2, 3, 0] dX3_drawn_37 rfl (ii_1 _) (by decide) rfl ?_
      refine x_goto (tgt := 22) dX3_drawn_40 (by decide) ?_
      exact ih _ _ _ _ _ H
def f_X3_drawn_L7 : Nat → Nat → Int32 → Int32 → mH → Option (Int32 × mH)
  | 0, _, _, _, _ => none
  | n + 1, r0, x1, x3, h => if x1 ≤ x3 then some (x3, h) else if gC h r0 = 2 then bR (f_X3_isOver r0  h) fun a3 g3 => if a3 = 0 then f_X3_drawn_L22 (f_X3_drawn_b43 (f_X3_drawn_L7 n)) xFu r0 x1 x3 (0 : Int32) g3 else some (x3, g3) else none
theorem t_X3_drawn_L7 {G : xG} {C : xC} {o : Int32 × mH} (hE : xEnd G C (some (.int o.1)) o.2) : ∀ (n : Nat) (r0 : Nat) (x1 : Int32) (x3 : Int32) (h : mH), f_X3_drawn_L7 n r0 x1 x3 h = some o → X G C mi_X3_drawn 7 [(0, .ref r0), (1, .int x1), (3, .int x3)] [] h := by
  intro n
  induction n with
  | zero => intro r0 x1 x3 h H; exact nomatch (show (none : Option (Int32 × mH)) = some o from H)
  | succ n ih =>
    intro r0 x1 x3 h H
    rw [f_X3_drawn_L7] at H
    refine x_iload_n 2 rfl dX3_drawn_7 ?_
    refine x_iload_n 1 rfl dX3_drawn_8 ?_
    refine x_icmp_ge 53 dX3_drawn_9 (by decide) (fun c2 => ?_) (fun c2 => ?_)
    · rw [if_pos c2] at H
      refine x_iload_n 2 rfl dX3_drawn_53 ?_
      obtain rfl := Option.some.inj H
      exact x_iret hE rfl rfl dX3_drawn_54
    · rw [if_neg c2] at H
      refine x_aload_n 0 rfl dX3_drawn_12 ?_
      obtain ⟨c3, H⟩ := oit H
      obtain ⟨a3, g3, e3, H⟩ := obR H
      refine x_callV (M' := mi_X3_isOver) (n := 0) (As := []) (t_X3_isOver C _ e3) c3 rfl rfl md_X3_isOver ⟨Nat.le_of_ble_eq_true rfl, Nat.le_of_ble_eq_true rfl⟩ q1281 q1282 q1283 q125 q1284 rfl (Nat.le_of_ble_eq_true rfl) dX3_drawn_13 ?_
      refine x_if_ne 53 dX3_drawn_16 (by decide) (fun c4 => ?_) (fun c4 => ?_)
      · rw [if_neg c4] at H
        refine x_iload_n 2 rfl dX3_drawn_53 ?_
        obtain rfl := Option.some.inj H
        exact x_iret hE rfl rfl dX3_drawn_54
      · rw [if_pos c4] at H
        refine x_iconst (0 : Int32) dX3_drawn_19 ic_0 ?_
        refine x_istore [1, 2, 3, 0] dX3_drawn_20 (by decide) rfl ?_
        exact t_X3_drawn_L22 hE (t_X3_drawn_b43 hE ih) xFu _ _ _ _ _ H
def f_X3_drawn (r0 : Nat) (x1 : Int32) (x2 : Int32) (h : mH) : Option (Int32 × mH) := (pF [2] 12 (.int x2) h r0).bind fun h1 => f_X3_drawn_L7  xFu r0 x1 (0 : Int32) h1
theorem t_X3_drawn {G : xG} (C0 : xC) {l : Launch} {r0 : Nat} {x1 : Int32} {x2 : Int32} (h : mH) {o : Int32 × mH} (H : f_X3_drawn r0 x1 x2 h = some o) : XR G l mi_X3_drawn [.ref r0, .int x1, .int x2] h (some (.int o.1)) o.2 := by
  refine XR.of C0 (by decide) (Nat.le_of_ble_eq_true rfl) (fun C _ _ _ hE => ?_)
  show X G C mi_X3_drawn 0 [(0, .ref r0), (1, .int x1), (2, .int x2)] [] h
  unfold f_X3_drawn at H
  refine x_aload_n 0 rfl dX3_drawn_0 ?_
  refine x_iload_n 2 rfl dX3_drawn_1 ?_
  obtain ⟨h1, e1, H⟩ := ob H
  refine x_putf (fp_X3_166 _) rfl rfl e1 dX3_drawn_2 ?_
  refine x_iconst (0 : Int32) dX3_drawn_5 ic_0 ?_
  refine x_istore_n [1, 2, 3, 0] dX3_drawn_6 (by decide) rfl ?_
  refine X.sub [0, 1, 3] rfl ?_
  exact t_X3_drawn_L7 hE  xFu _ _ _ _ H
abbrev mi_X1_drawn : xM := (cX1_drawn, yX1_drawn, 3, some .int, 11)
theorem md_X1_drawn : xMD mi_X1_drawn 2 := ⟨by decide, by decide, by decide +kernel⟩
def f_X1_drawn (r0 : Nat) (x1 : Int32) (x2 : Int32) (h : mH) : Option (Int32 × mH) := bR (f_X1_isIn x1 (1 : Int32) (60 : Int32) h) fun a1 g1 => if a1 = 0 then some ((-1 : Int32), g1) else (gFr [0] 4 g1 r0).bind fun v3 => if gC g1 v3 = 2 then bR (f_X3_isOver v3  g1) fun a4 g4 => if a4 = 0 then if gC g4 r0 = 0 then bR (f_X1_snap r0  g4) fun a6 g6 => (gFr [0] 4 g6 r0).bind fun v7 => if gC g6 v7 = 2 then bR (f_X3_drawn v7 x1 x2 g6) fun a8 g8 => some (a8, g8) else none else none else some ((0 : Int32), g4) else none
theorem t_X1_drawn {G : xG} (C0 : xC) {l : Launch} {r0 : Nat} {x1 : Int32} {x2 : Int32} (h : mH) {o : Int32 × mH} (H : f_X1_drawn r0 x1 x2 h = some o) : XR G l mi_X1_drawn [.ref r0, .int x1, .int x2] h (some (.int o.1)) o.2 := by
  refine XR.of C0 (by decide) (Nat.le_of_ble_eq_true rfl) (fun C _ _ _ hE => ?_)
  show X G C mi_X1_drawn 0 [(0, .ref r0), (1, .int x1), (2, .int x2)] [] h
  unfold f_X1_drawn at H
  refine x_iload_n 1 rfl dX1_drawn_0 ?_
  refine x_iconst (1 : Int32) dX1_drawn_1 ic_1 ?_
  refine x_bipush (60 : Int32) dX1_drawn_2 bi_60 ?_
  obtain ⟨a1, g1, e1, H⟩ := obR H
  refine x_callS (M' := mi_X1_isIn) (n := 3) (As := [.int x1, .int (1 : Int32), .int (60 : Int32)]) (t_X1_isIn C _ e1) md_X1_isIn ⟨Nat.le_of_ble_eq_true rfl, Nat.le_of_ble_eq_true rfl⟩ q1126 q921 q120 q922 rfl (Nat.le_of_ble_eq_true rfl) dX1_drawn_4 ?_
  refine x_if_ne 12 dX1_drawn_7 (by decide) (fun c2 => ?_) (fun c2 => ?_)
  · rw [if_neg c2] at H
    refine x_aload_n 0 rfl dX1_drawn_12 ?_
    obtain ⟨v3, e3, H⟩ := ob H
    refine x_getf fg_X1_36 (gFr_spec e3) dX1_drawn_13 ?_
    obtain ⟨c4, H⟩ := oit H
    obtain ⟨a4, g4, e4, H⟩ := obR H
    refine x_callV (M' := mi_X3_isOver) (n := 0) (As := []) (t_X3_isOver C _ e4) c4 rfl rfl md_X3_isOver ⟨Nat.le_of_ble_eq_true rfl, Nat.le_of_ble_eq_true rfl⟩ q1363 q1282 q1283 q125 q1284 rfl (Nat.le_of_ble_eq_true rfl) dX1_drawn_16 ?_
    refine x_if_eq 24 dX1_drawn_19 (by decide) (fun c5 => ?_) (fun c5 => ?_)
    · rw [if_pos c5] at H
      refine x_aload_n 0 rfl dX1_drawn_24 ?_
      obtain ⟨c6, H⟩ := oit H
      obtain ⟨a6, g6, e6, H⟩ := obR H
      refine x_callV (M' := mi_X1_snap) (n := 0) (As := []) (t_X1_snap C _ e6) c6 rfl rfl md_X1_snap ⟨Nat.le_of_ble_eq_true rfl, Nat.le_of_ble_eq_true rfl⟩ q1314 q1316 qs25 q120 q1317 rfl (Nat.le_of_ble_eq_true rfl) dX1_drawn_25 ?_
      refine x_aload_n 0 rfl dX1_drawn_28 ?_
      obtain ⟨v7, e7, H⟩ := ob H
      refine x_getf fg_X1_36 (gFr_spec e7) dX1_drawn_29 ?_
      refine x_iload_n 1 rfl dX1_drawn_32 ?_
      refine x_iload_n 2 rfl dX1_drawn_33 ?_
      obtain ⟨c8, H⟩ := oit H
      obtain ⟨a8, g8, e8, H⟩ := obR H
      refine x_callV (M' := mi_X3_drawn) (n := 2) (As := [.int x1, .int x2]) (t_X3_drawn C _ e8) c8 rfl rfl md_X3_drawn ⟨Nat.le_of_ble_eq_true rfl, Nat.le_of_ble_eq_true rfl⟩ q1511 q1512 q1513 q125 q1514 rfl (Nat.le_of_ble_eq_true rfl) dX1_drawn_34 ?_
      obtain rfl := Option.some.inj H
      exact x_iret hE rfl rfl dX1_drawn_37
    · rw [if_neg c5] at H
      refine x_iconst (0 : Int32) dX1_drawn_22 ic_0 ?_
      obtain rfl := Option.some.inj H
      exact x_iret hE rfl rfl dX1_drawn_23
  · rw [if_pos c2] at H
    refine x_iconst (-1 : Int32) dX1_drawn_10 ic_m1 ?_
    obtain rfl := Option.some.inj H
    exact x_iret hE rfl rfl dX1_drawn_11
abbrev mi_X1_end : xM := (cX1_end, yX1_end, 2, some .boolean, 1)
theorem md_X1_end : xMD mi_X1_end 1 := ⟨by decide, by decide, by decide +kernel⟩
def f_X1_end (r0 : Nat) (x1 : Int32) (h : mH) : Option (Int32 × mH) := if x1 < 0 then some ((0 : Int32), h) else (gFi [0] 1 h r0).bind fun v2 => if x1 ≤ v2 then (pF [0] 1 (.int x1) h r0).bind fun h4 => some ((1 : Int32), h4) else some ((0 : Int32), h)
theorem t_X1_end {G : xG} (C0 : xC) {l : Launch} {r0 : Nat} {x1 : Int32} (h : mH) {o : Int32 × mH} (H : f_X1_end r0 x1 h = some o) : XR G l mi_X1_end [.ref r0, .int x1] h (some (.int o.1)) o.2 := by
  refine XR.of C0 (by decide) (Nat.le_of_ble_eq_true rfl) (fun C _ _ _ hE => ?_)
  show X G C mi_X1_end 0 [(0, .ref r0), (1, .int x1)] [] h
  unfold f_X1_end at H
  refine x_iload_n 1 rfl dX1_end_0 ?_
  refine x_if_lt 12 dX1_end_1 (by decide) (fun c1 => ?_) (fun c1 => ?_)
  · rw [if_pos c1] at H
    refine x_iconst (0 : Int32) dX1_end_12 ic_0 ?_
    obtain rfl := Option.some.inj H
    exact x_iret hE rfl rfl dX1_end_13
  · rw [if_neg c1] at H
    refine x_iload_n 1 rfl dX1_end_4 ?_
    refine x_aload_n 0 rfl dX1_end_5 ?_
    obtain ⟨v2, e2, H⟩ := ob H
    refine x_getf fg_X1_86 (gFi_spec e2) dX1_end_6 ?_
    refine x_icmp_le 14 dX1_end_9 (by decide) (fun c3 => ?_) (fun c3 => ?_)
    · rw [if_pos c3] at H
      refine x_aload_n 0 rfl dX1_end_14 ?_
      refine x_iload_n 1 rfl dX1_end_15 ?_
      obtain ⟨h4, e4, H⟩ := ob H
      refine x_putf (fp_X1_86 _) rfl rfl e4 dX1_end_16 ?_
      refine x_iconst (1 : Int32) dX1_end_19 ic_1 ?_
      obtain rfl := Option.some.inj H
      exact x_iret hE rfl rfl dX1_end_20
    · rw [if_neg c3] at H
      refine x_iconst (0 : Int32) dX1_end_12 ic_0 ?_
      obtain rfl := Option.some.inj H
      exact x_iret hE rfl rfl dX1_end_13
abbrev mi_J7_append_3 : xM := (cJ7_append_3, yJ7_append_3, 2, some (.object "java/lang/AbstractStringBuilder"), 10)
theorem md_J7_append_3 : xMD mi_J7_append_3 1 := ⟨by decide, by decide, by decide +kernel⟩
def f_J7_append_3 (r0 : Nat) (r1 : Nat) (h : mH) : Option (Nat × mH) := if gC h r0 = 22 then bR (f_J7_append_2 r0 r1 h) fun a1 g1 => some (a1, g1) else none
theorem t_J7_append_3 {G : xG} (C0 : xC) {l : Launch} {r0 : Nat} {r1 : Nat} (h : mH) {o : Nat × mH} (H : f_J7_append_3 r0 r1 h = some o) : XR G l mi_J7_append_3 [.ref r0, .ref r1] h (some (.ref o.1)) o.2 := by
  refine XR.of C0 (by decide) (Nat.le_of_ble_eq_true rfl) (fun C _ _ _ hE => ?_)
  show X G C mi_J7_append_3 0 [(0, .ref r0), (1, .ref r1)] [] h
  unfold f_J7_append_3 at H
  refine x_aload_n 0 rfl dJ7_append_3_0 ?_
  refine x_aload_n 1 rfl dJ7_append_3_1 ?_
  obtain ⟨c1, H⟩ := oit H
  obtain ⟨a1, g1, e1, H⟩ := obR H
  refine x_callV (M' := mi_J7_append_2) (n := 1) (As := [.ref r1]) (t_J7_append_2 C _ e1) c1 rfl rfl md_J7_append_2 ⟨Nat.le_of_ble_eq_true rfl, Nat.le_of_ble_eq_true rfl⟩ q1481 q831 q832 q135 q833 rfl (Nat.le_of_ble_eq_true rfl) dJ7_append_3_2 ?_
  obtain rfl := Option.some.inj H
  exact x_aret hE rfl (by first | exact Or.inl ⟨_, rfl⟩ | exact Or.inr ⟨_, rfl⟩) dJ7_append_3_5
abbrev mi_J6_init_2 : xM := (cJ6_init_2, yJ6_init_2, 5, none, 11)
theorem md_J6_init_2 : xMD mi_J6_init_2 1 := ⟨by decide, by decide, by decide +kernel⟩
def f_J6_init_2_b53 (r0 : Nat) (r1 : Nat) (s0 : Nat) (s1 : Nat) (h : mH) : Option (Unit × mH) := (pF [22] 0 (.ref s1) h s0).bind fun h8 => if gC h8 r0 ∈ [22] then bR (f_J7_append_3 r0 r1 h8) fun a9 g9 => some ((), g9) else none
theorem t_J6_init_2_b53 {G : xG} {C : xC} {o : Unit × mH} (hE : xEnd G C none o.2) (r0 : Nat) (r1 : Nat) (s0 : Nat) (s1 : Nat) (h : mH) (H : f_J6_init_2_b53 r0 r1 s0 s1 h = some o) : X G C mi_J6_init_2 53 [(0, .ref r0), (1, .ref r1)] [.ref s1, .ref s0] h := by
  unfold f_J6_init_2_b53 at H
  obtain ⟨h8, e8, H⟩ := ob H
  refine x_putf (fp_J6_15 _) rfl rfl e8 dJ6_init_2_53 ?_
  refine x_aload_n 0 rfl dJ6_init_2_56 ?_
  refine x_aload_n 1 rfl dJ6_init_2_57 ?_
  obtain ⟨c9, H⟩ := oit H
  obtain ⟨a9, g9, e9, H⟩ := obR H
  refine x_callU (M' := mi_J7_append_3) (n := 1) (As := [.ref r1]) (t_J7_append_3 C _ e9) c9 up_J6_43_22 (by decide +kernel) ⟨Nat.le_of_ble_eq_true rfl, Nat.le_of_ble_eq_true rfl⟩ q1480 rfl (Nat.le_of_ble_eq_true rfl) dJ6_init_2_58 ?_
  refine x_pop dJ6_init_2_61 rfl ?_
  obtain rfl := Option.some.inj H
  exact x_vret hE rfl dJ6_init_2_62
def f_J6_init_2_b24 (r0 : Nat) (r1 : Nat) (s0 : Int32) (h : mH) : Option (Unit × mH) := if gC h r1 = 23 then bR (f_J8_coder r1  h) fun a4 g4 => if a4.toInt8.toInt32 = a4 then (pF [22] 1 (.int a4) g4 r0).bind fun h5 => if a4 = 0 then bR (nA .byte h5 s0) fun a10 g10 => f_J6_init_2_b53 r0 r1 r0 a10 g10 else bR (f_J9_newBytesFor s0 h5) fun a7 g7 => f_J6_init_2_b53 r0 r1 r0 a7 g7 else none else none
theorem t_J6_init_2_b24 {G : xG} {C : xC} {o : Unit × mH} (hE : xEnd G C none o.2) (r0 : Nat) (r1 : Nat) (s0 : Int32) (h : mH) (H : f_J6_init_2_b24 r0 r1 s0 h = some o) : X G C mi_J6_init_2 24 [(0, .ref r0), (1, .ref r1)] [.int s0] h := by
  unfold f_J6_init_2_b24 at H
  refine x_istore_n [1, 2, 0] dJ6_init_2_24 (by decide) rfl ?_
  refine x_aload_n 1 rfl dJ6_init_2_25 ?_
  obtain ⟨c4, H⟩ := oit H
  obtain ⟨a4, g4, e4, H⟩ := obR H
  refine x_callV (M' := mi_J8_coder) (n := 0) (As := []) (t_J8_coder C _ e4) c4 rfl rfl md_J8_coder ⟨Nat.le_of_ble_eq_true rfl, Nat.le_of_ble_eq_true rfl⟩ q869 q858 q859 q136 q860 rfl (Nat.le_of_ble_eq_true rfl) dJ6_init_2_26 ?_
  refine x_istore [1, 2, 3, 0] dJ6_init_2_29 (by decide) rfl ?_
  refine x_aload_n 0 rfl dJ6_init_2_31 ?_
  refine x_iload 3 rfl dJ6_init_2_32 ?_
  obtain ⟨c5, H⟩ := oit H
  obtain ⟨h5, e5, H⟩ := ob H
  refine x_putf (fp_J6_22 _) (nzB c5) (fzB c5) e5 dJ6_init_2_34 ?_
  refine x_aload_n 0 rfl dJ6_init_2_37 ?_
  refine x_iload 3 rfl dJ6_init_2_38 ?_
  refine x_if_ne 49 dJ6_init_2_40 (by decide) (fun c6 => ?_) (fun c6 => ?_)
  · rw [if_neg c6] at H
    refine x_iload_n 2 rfl dJ6_init_2_49 ?_
    obtain ⟨a7, g7, e7, H⟩ := obR H
    refine x_callS (M' := mi_J9_newBytesFor) (n := 1) (As := [.int s0]) (t_J9_newBytesFor C _ e7) md_J9_newBytesFor ⟨Nat.le_of_ble_eq_true rfl, Nat.le_of_ble_eq_true rfl⟩ q544 q545 q137 q546 rfl (Nat.le_of_ble_eq_true rfl) dJ6_init_2_50 ?_
    refine X.sub [0, 1] rfl ?_
    exact t_J6_init_2_b53 hE _ _ _ _ _ H
  · rw [if_pos c6] at H
    refine x_iload_n 2 rfl dJ6_init_2_43 ?_
    obtain ⟨a10, g10, e10, H⟩ := obR H
    refine x_newa (at_ := .byte) (ty := .byte) rfl (by decide) q204 e10 dJ6_init_2_44 ?_
    refine x_goto (tgt := 53) dJ6_init_2_46 (by decide) ?_
    refine X.sub [0, 1] rfl ?_
    exact t_J6_init_2_b53 hE _ _ _ _ _ H
def f_J6_init_2 (r0 : Nat) (r1 : Nat) (h : mH) : Option (Unit × mH) := if 6 ≤ r0 then if gC h r1 = 23 then bR (f_J8_length r1  h) fun a2 g2 => if (2147483631 : Int32) ≤ a2 then f_J6_init_2_b24 r0 r1 (2147483647 : Int32) g2 else f_J6_init_2_b24 r0 r1 (a2 + (16 : Int32)) g2 else none else none
theorem t_J6_init_2 {G : xG} (C0 : xC) {l : Launch} {r0 : Nat} {r1 : Nat} (h : mH) {o : Unit × mH} (H : f_J6_init_2 r0 r1 h = some o) : XR G l mi_J6_init_2 [.ref r0, .ref r1] h none o.2 := by
  refine XR.of C0 (by decide) (Nat.le_of_ble_eq_true rfl) (fun C _ _ _ hE => ?_)
  show X G C mi_J6_init_2 0 [(0, .ref r0), (1, .ref r1)] [] h
  unfold f_J6_init_2 at H
  refine x_aload_n 0 rfl dJ6_init_2_0 ?_
  obtain ⟨c1, H⟩ := oit H
  refine x_oinit c1 (by decide) q541 q170 q171 (Nat.le_of_ble_eq_true rfl) dJ6_init_2_1 ?_
  refine x_aload_n 1 rfl dJ6_init_2_4 ?_
  obtain ⟨c2, H⟩ := oit H
  obtain ⟨a2, g2, e2, H⟩ := obR H
  refine x_callV (M' := mi_J8_length) (n := 0) (As := []) (t_J8_length C _ e2) c2 rfl rfl md_J8_length ⟨Nat.le_of_ble_eq_true rfl, Nat.le_of_ble_eq_true rfl⟩ q853 q854 q855 q136 q856 rfl (Nat.le_of_ble_eq_true rfl) dJ6_init_2_5 ?_
  refine x_istore_n [1, 2, 0] dJ6_init_2_8 (by decide) rfl ?_
  refine x_iload_n 2 rfl dJ6_init_2_9 ?_
  refine x_ldc q1477 dJ6_init_2_10 ?_
  refine x_icmp_ge 22 dJ6_init_2_12 (by decide) (fun c3 => ?_) (fun c3 => ?_)
  · rw [if_pos c3] at H
    refine x_ldc q589 dJ6_init_2_22 ?_
    refine X.sub [0, 1] rfl ?_
    exact t_J6_init_2_b24 hE _ _ _ _ H
  · rw [if_neg c3] at H
    refine x_iload_n 2 rfl dJ6_init_2_15 ?_
    refine x_bipush (16 : Int32) dJ6_init_2_16 bi_16 ?_
    refine x_iadd dJ6_init_2_18 ?_
    refine x_goto (tgt := 24) dJ6_init_2_19 (by decide) ?_
    refine X.sub [0, 1] rfl ?_
    exact t_J6_init_2_b24 hE _ _ _ _ H
abbrev mi_J7_init_2 : xM := (cJ7_init_2, yJ7_init_2, 2, none, 12)
theorem md_J7_init_2 : xMD mi_J7_init_2 1 := ⟨by decide, by decide, by decide +kernel⟩
def f_J7_init_2 (r0 : Nat) (r1 : Nat) (h : mH) : Option (Unit × mH) := if 6 ≤ r0 then bR (f_J6_init_2 r0 r1 h) fun a1 g1 => some ((), g1) else none
theorem t_J7_init_2 {G : xG} (C0 : xC) {l : Launch} {r0 : Nat} {r1 : Nat} (h : mH) {o : Unit × mH} (H : f_J7_init_2 r0 r1 h = some o) : XR G l mi_J7_init_2 [.ref r0, .ref r1] h none o.2 := by
  refine XR.of C0 (by decide) (Nat.le_of_ble_eq_true rfl) (fun C _ _ _ hE => ?_)
  show X G C mi_J7_init_2 0 [(0, .ref r0), (1, .ref r1)] [] h
  unfold f_J7_init_2 at H
  refine x_aload_n 0 rfl dJ7_init_2_0 ?_
  refine x_aload_n 1 rfl dJ7_init_2_1 ?_
  obtain ⟨c1, H⟩ := oit H
  obtain ⟨a1, g1, e1, H⟩ := obR H
  refine x_callI (M' := mi_J6_init_2) (n := 1) (As := [.ref r1]) (t_J6_init_2 C _ e1) c1 md_J6_init_2 ⟨Nat.le_of_ble_eq_true rfl, Nat.le_of_ble_eq_true rfl⟩ rfl rfl q1474 q1475 q134 q1476 rfl (Nat.le_of_ble_eq_true rfl) dJ7_init_2_2 ?_
  obtain rfl := Option.some.inj H
  exact x_vret hE rfl dJ7_init_2_5
abbrev mi_X1_face : xM := (cX1_face, yX1_face, 4, some .int, 13)
theorem md_X1_face : xMD mi_X1_face 1 := ⟨by decide, by decide, by decide +kernel⟩
def f_X1_face_b141 (r0 : Nat) (r2 : Nat) (h : mH) : Option (Int32 × mH) := if gC h r2 = 22 then bR (f_J7_toString r2  h) fun a17 g17 => (pF [0] 18 (.ref a17) g17 r0).bind fun h18 => (gFr [0] 18 h18 r0).bind fun v19 => if gC h18 v19 = 23 then bR (f_J8_length v19  h18) fun a20 g20 => some (a20, g20) else none else none
theorem t_X1_face_b141 {G : xG} {C : xC} {o : Int32 × mH} (hE : xEnd G C (some (.int o.1)) o.2) (r0 : Nat) (r2 : Nat) (h : mH) (H : f_X1_face_b141 r0 r2 h = some o) : X G C mi_X1_face 141 [(0, .ref r0), (2, .ref r2)] [] h := by
  unfold f_X1_face_b141 at H
  refine x_aload_n 0 rfl dX1_face_141 ?_
  refine x_aload_n 1 rfl dX1_face_142 ?_
  obtain ⟨c17, H⟩ := oit H
  obtain ⟨a17, g17, e17, H⟩ := obR H
  refine x_callV (M' := mi_J7_toString) (n := 0) (As := []) (t_J7_toString C _ e17) c17 rfl rfl md_J7_toString ⟨Nat.le_of_ble_eq_true rfl, Nat.le_of_ble_eq_true rfl⟩ q1490 q656 q657 q135 q658 rfl (Nat.le_of_ble_eq_true rfl) dX1_face_143 ?_
  obtain ⟨h18, e18, H⟩ := ob H
  refine x_putf (fp_X1_72 _) rfl rfl e18 dX1_face_146 ?_
  refine x_aload_n 0 rfl dX1_face_149 ?_
  obtain ⟨v19, e19, H⟩ := ob H
  refine x_getf fg_X1_72 (gFr_spec e19) dX1_face_150 ?_
  obtain ⟨c20, H⟩ := oit H
  obtain ⟨a20, g20, e20, H⟩ := obR H
  refine x_callV (M' := mi_J8_length) (n := 0) (As := []) (t_J8_length C _ e20) c20 rfl rfl md_J8_length ⟨Nat.le_of_ble_eq_true rfl, Nat.le_of_ble_eq_true rfl⟩ q1491 q854 q855 q136 q856 rfl (Nat.le_of_ble_eq_true rfl) dX1_face_153 ?_
  obtain rfl := Option.some.inj H
  exact x_iret hE rfl rfl dX1_face_156
def f_X1_face_b122 (r0 : Nat) (x1 : Int32) (r2 : Nat) (h : mH) : Option (Int32 × mH) := (gFr [0] 4 h r0).bind fun v14 => if gC h v14 = 2 then bR (f_X3_isHome v14 x1 h) fun a15 g15 => if a15 = 0 then f_X1_face_b141 r0 r2 g15 else if gC g15 r2 = 22 then bR (f_J7_append_2 r2 24 g15) fun a21 g21 => f_X1_face_b141 r0 r2 g21 else none else none
theorem t_X1_face_b122 {G : xG} {C : xC} {o : Int32 × mH} (hE : xEnd G C (some (.int o.1)) o.2) (r0 : Nat) (x1 : Int32) (r2 : Nat) (h : mH) (H : f_X1_face_b122 r0 x1 r2 h = some o) : X G C mi_X1_face 122 [(0, .ref r0), (1, .int x1), (2, .ref r2)] [] h := by
  unfold f_X1_face_b122 at H
  refine x_aload_n 0 rfl dX1_face_122 ?_
  obtain ⟨v14, e14, H⟩ := ob H
  refine x_getf fg_X1_36 (gFr_spec e14) dX1_face_123 ?_
  refine x_iload_n 1 rfl dX1_face_126 ?_
  obtain ⟨c15, H⟩ := oit H
  obtain ⟨a15, g15, e15, H⟩ := obR H
  refine x_callV (M' := mi_X3_isHome) (n := 1) (As := [.int x1]) (t_X3_isHome C _ e15) c15 rfl rfl md_X3_isHome ⟨Nat.le_of_ble_eq_true rfl, Nat.le_of_ble_eq_true rfl⟩ q1488 q1227 q1228 q125 q1229 rfl (Nat.le_of_ble_eq_true rfl) dX1_face_127 ?_
  refine x_if_eq 141 dX1_face_130 (by decide) (fun c16 => ?_) (fun c16 => ?_)
  · rw [if_pos c16] at H
    refine X.sub [0, 2] rfl ?_
    exact t_X1_face_b141 hE _ _ _ H
  · rw [if_neg c16] at H
    refine x_aload_n 2 rfl dX1_face_133 ?_
    refine x_ldcSw (tx := " home") (a := 24) (List.mem_of_getElem? (i := 16) rfl) (by decide) (by decide) dX1_face_134 ?_
    obtain ⟨c21, H⟩ := oit H
    obtain ⟨a21, g21, e21, H⟩ := obR H
    refine x_callV (M' := mi_J7_append_2) (n := 1) (As := [.ref 24]) (t_J7_append_2 C _ e21) c21 rfl rfl md_J7_append_2 ⟨Nat.le_of_ble_eq_true rfl, Nat.le_of_ble_eq_true rfl⟩ q1483 q831 q832 q135 q833 rfl (Nat.le_of_ble_eq_true rfl) dX1_face_137 ?_
    refine x_pop dX1_face_140 rfl ?_
    refine X.sub [0, 2] rfl ?_
    exact t_X1_face_b141 hE _ _ _ H
def f_X1_face_b103 (r0 : Nat) (x1 : Int32) (r2 : Nat) (h : mH) : Option (Int32 × mH) := (gFr [0] 4 h r0).bind fun v11 => if gC h v11 = 2 then bR (f_X3_isVeiled v11 x1 h) fun a12 g12 => if a12 = 0 then f_X1_face_b122 r0 x1 r2 g12 else if gC g12 r2 = 22 then bR (f_J7_append_2 r2 23 g12) fun a22 g22 => f_X1_face_b122 r0 x1 r2 g22 else none else none
theorem t_X1_face_b103 {G : xG} {C : xC} {o : Int32 × mH} (hE : xEnd G C (some (.int o.1)) o.2) (r0 : Nat) (x1 : Int32) (r2 : Nat) (h : mH) (H : f_X1_face_b103 r0 x1 r2 h = some o) : X G C mi_X1_face 103 [(0, .ref r0), (1, .int x1), (2, .ref r2)] [] h := by
  unfold f_X1_face_b103 at H
  refine x_aload_n 0 rfl dX1_face_103 ?_
  obtain ⟨v11, e11, H⟩ := ob H
  refine x_getf fg_X1_36 (gFr_spec e11) dX1_face_104 ?_
  refine x_iload_n 1 rfl dX1_face_107 ?_
  obtain ⟨c12, H⟩ := oit H
  obtain ⟨a12, g12, e12, H⟩ := obR H
  refine x_callV (M' := mi_X3_isVeiled) (n := 1) (As := [.int x1]) (t_X3_isVeiled C _ e12) c12 rfl rfl md_X3_isVeiled ⟨Nat.le_of_ble_eq_true rfl, Nat.le_of_ble_eq_true rfl⟩ q1486 q1248 q1249 q125 q1250 rfl (Nat.le_of_ble_eq_true rfl) dX1_face_108 ?_
  refine x_if_eq 122 dX1_face_111 (by decide) (fun c13 => ?_) (fun c13 => ?_)
  · rw [if_pos c13] at H
    exact t_X1_face_b122 hE _ _ _ _ H
  · rw [if_neg c13] at H
    refine x_aload_n 2 rfl dX1_face_114 ?_
    refine x_ldcSw (tx := " veiled") (a := 23) (List.mem_of_getElem? (i := 15) rfl) (by decide) (by decide) dX1_face_115 ?_
    obtain ⟨c22, H⟩ := oit H
    obtain ⟨a22, g22, e22, H⟩ := obR H
    refine x_callV (M' := mi_J7_append_2) (n := 1) (As := [.ref 23]) (t_J7_append_2 C _ e22) c22 rfl rfl md_J7_append_2 ⟨Nat.le_of_ble_eq_true rfl, Nat.le_of_ble_eq_true rfl⟩ q1483 q831 q832 q135 q833 rfl (Nat.le_of_ble_eq_true rfl) dX1_face_118 ?_
    refine x_pop dX1_face_121 rfl ?_
    exact t_X1_face_b122 hE _ _ _ _ H
def f_X1_face_b84 (r0 : Nat) (x1 : Int32) (r2 : Nat) (h : mH) : Option (Int32 × mH) := (gFr [0] 4 h r0).bind fun v8 => if gC h v8 = 2 then bR (f_X3_known v8 x1 h) fun a9 g9 => if a9 = 0 then if gC g9 r2 = 22 then bR (f_J7_append_2 r2 22 g9) fun a23 g23 => f_X1_face_b103 r0 x1 r2 g23 else none else f_X1_face_b103 r0 x1 r2 g9 else none
theorem t_X1_face_b84 {G : xG} {C : xC} {o : Int32 × mH} (hE : xEnd G C (some (.int o.1)) o.2) (r0 : Nat) (x1 : Int32) (r2 : Nat) (h : mH) (H : f_X1_face_b84 r0 x1 r2 h = some o) : X G C mi_X1_face 84 [(0, .ref r0), (1, .int x1), (2, .ref r2)] [] h := by
  unfold f_X1_face_b84 at H
  refine x_aload_n 0 rfl dX1_face_84 ?_
  obtain ⟨v8, e8, H⟩ := ob H
  refine x_getf fg_X1_36 (gFr_spec e8) dX1_face_85 ?_
  refine x_iload_n 1 rfl dX1_face_88 ?_
  obtain ⟨c9, H⟩ := oit H
  obtain ⟨a9, g9, e9, H⟩ := obR H
  refine x_callV (M' := mi_X3_known) (n := 1) (As := [.int x1]) (t_X3_known C _ e9) c9 rfl rfl md_X3_known ⟨Nat.le_of_ble_eq_true rfl, Nat.le_of_ble_eq_true rfl⟩ q1448 q1240 q1241 q125 q1242 rfl (Nat.le_of_ble_eq_true rfl) dX1_face_89 ?_
  refine x_if_ne 103 dX1_face_92 (by decide) (fun c10 => ?_) (fun c10 => ?_)
  · rw [if_neg c10] at H
    exact t_X1_face_b103 hE _ _ _ _ H
  · rw [if_pos c10] at H
    refine x_aload_n 2 rfl dX1_face_95 ?_
    refine x_ldcSw (tx := " nobody") (a := 22) (List.mem_of_getElem? (i := 14) rfl) (by decide) (by decide) dX1_face_96 ?_
    obtain ⟨c23, H⟩ := oit H
    obtain ⟨a23, g23, e23, H⟩ := obR H
    refine x_callV (M' := mi_J7_append_2) (n := 1) (As := [.ref 22]) (t_J7_append_2 C _ e23) c23 rfl rfl md_J7_append_2 ⟨Nat.le_of_ble_eq_true rfl, Nat.le_of_ble_eq_true rfl⟩ q1483 q831 q832 q135 q833 rfl (Nat.le_of_ble_eq_true rfl) dX1_face_99 ?_
    refine x_pop dX1_face_102 rfl ?_
    exact t_X1_face_b103 hE _ _ _ _ H
def f_X1_face_b78 (kb : Nat → Int32 → Nat → Int32 → mH → Option (Int32 × mH)) (k84 : Nat → Int32 → Nat → mH → Option (Int32 × mH)) (r0 : Nat) (x1 : Int32) (r2 : Nat) (x3 : Int32) (h : mH) : Option (Int32 × mH) := kb r0 x1 r2 (x3 + (1 : Int32)) h
theorem t_X1_face_b78 {G : xG} {C : xC} {o : Int32 × mH} (hE : xEnd G C (some (.int o.1)) o.2) {kb : Nat → Int32 → Nat → Int32 → mH → Option (Int32 × mH)} (hkb : ∀ (r0 : Nat) (x1 : Int32) (r2 : Nat) (x3 : Int32) (h : mH), kb r0 x1 r2 x3 h = some o → X G C mi_X1_face 37 [(0, .ref r0), (1, .int x1), (2, .ref r2), (3, .int x3)] [] h) {k84 : Nat → Int32 → Nat → mH → Option (Int32 × mH)} (hk84 : ∀ (r0 : Nat) (x1 : Int32) (r2 : Nat) (h : mH), k84 r0 x1 r2 h = some o → X G C mi_X1_face 84 [(0, .ref r0), (1, .int x1), (2, .ref r2)] [] h) (r0 : Nat) (x1 : Int32) (r2 : Nat) (x3 : Int32) (h : mH) (H : f_X1_face_b78 kb k84 r0 x1 r2 x3 h = some o) : X G C mi_X1_face 78 [(0, .ref r0), (1, .int x1), (2, .ref r2), (3, .int x3)] [] h := by
  unfold f_X1_face_b78 at H
  refine x_iinc 3 (x3 + (1 : Int32)) [1, 2, 3, 0] dX1_face_78 rfl (ii_1 _) (by decide) rfl ?_
  refine x_goto (tgt := 37) dX1_face_81 (by decide) ?_
  exact hkb _ _ _ _ _ H
def f_X1_face_L37 (k84 : Nat → Int32 → Nat → mH → Option (Int32 × mH)) : Nat → Nat → Int32 → Nat → Int32 → mH → Option (Int32 × mH)
  | 0, _, _, _, _, _ => none
  | n + 1, r0, x1, r2, x3, h => if gC h r0 = 0 then bR (f_X1_persons r0  h) fun a24 g24 => if a24 ≤ x3 then k84 r0 x1 r2 g24 else (gFr [0] 4 g24 r0).bind fun v26 => if gC g24 v26 = 2 then bR (f_X3_know v26 x1 x3 g24) fun a27 g27 => if a27 = 0 then f_X1_face_b78 (f_X1_face_L37 k84 n) k84 r0 x1 r2 x3 g27 else if gC g27 r2 = 22 then bR (f_J7_append r2 (32 : Int32) g27) fun a29 g29 => (gFr [0] 4 g29 r0).bind fun v30 => if gC g29 v30 = 2 then bR (f_X3_person v30 x3 g29) fun a31 g31 => (gFr [10] 0 g31 a31).bind fun v32 => if gC g31 a29 = 22 then bR (f_J7_append_2 a29 v32 g31) fun a33 g33 => f_X1_face_b78 (f_X1_face_L37 k84 n) k84 r0 x1 r2 x3 g33 else none else none else none else none else none
theorem t_X1_face_L37 {G : xG} {C : xC} {o : Int32 × mH} (hE : xEnd G C (some (.int o.1)) o.2) {k84 : Nat → Int32 → Nat → mH → Option (Int32 × mH)} (hk84 : ∀ (r0 : Nat) (x1 : Int32) (r2 : Nat) (h : mH), k84 r0 x1 r2 h = some o → X G C mi_X1_face 84 [(0, .ref r0), (1, .int x1), (2, .ref r2)] [] h) : ∀ (n : Nat) (r0 : Nat) (x1 : Int32) (r2 : Nat) (x3 : Int32) (h : mH), f_X1_face_L37 k84 n r0 x1 r2 x3 h = some o → X G C mi_X1_face 37 [(0, .ref r0), (1, .int x1), (2, .ref r2), (3, .int x3)] [] h := by
  intro n
  induction n with
  | zero => intro r0 x1 r2 x3 h H; exact nomatch (show (none : Option (Int32 × mH)) = some o from H)
  | succ n ih =>
    intro r0 x1 r2 x3 h H
    rw [f_X1_face_L37] at H
    refine x_iload_n 3 rfl dX1_face_37 ?_
    refine x_aload_n 0 rfl dX1_face_38 ?_
    obtain ⟨c24, H⟩ := oit H
    obtain ⟨a24, g24, e24, H⟩ := obR H
    refine x_callV (M' := mi_X1_persons) (n := 0) (As := []) (t_X1_persons C _ e24) c24 rfl rfl md_X1_persons ⟨Nat.le_of_ble_eq_true rfl, Nat.le_of_ble_eq_true rfl⟩ q1140 q1142 qs22 q120 q1143 rfl (Nat.le_of_ble_eq_true rfl) dX1_face_39 ?_
    refine x_icmp_ge 84 dX1_face_42 (by decide) (fun c25 => ?_) (fun c25 => ?_)
    · rw [if_pos c25] at H
      refine X.sub [0, 1, 2] rfl ?_
      exact hk84 _ _ _ _ H
    · rw [if_neg c25] at H
      refine x_aload_n 0 rfl dX1_face_45 ?_
      obtain ⟨v26, e26, H⟩ := ob H
      refine x_getf fg_X1_36 (gFr_spec e26) dX1_face_46 ?_
      refine x_iload_n 1 rfl dX1_face_49 ?_
      refine x_iload_n 3 rfl dX1_face_50 ?_
      obtain ⟨c27, H⟩ := oit H
      obtain ⟨a27, g27, e27, H⟩ := obR H
      refine x_callV (M' := mi_X3_know) (n := 2) (As := [.int x1, .int x3]) (t_X3_know C _ e27) c27 rfl rfl md_X3_know ⟨Nat.le_of_ble_eq_true rfl, Nat.le_of_ble_eq_true rfl⟩ q1453 q1236 q1237 q125 q1238 rfl (Nat.le_of_ble_eq_true rfl) dX1_face_51 ?_
      refine x_if_eq 78 dX1_face_54 (by decide) (fun c28 => ?_) (fun c28 => ?_)
      · rw [if_pos c28] at H
        exact t_X1_face_b78 hE ih hk84 _ _ _ _ _ H
      · rw [if_neg c28] at H
        refine x_aload_n 2 rfl dX1_face_57 ?_
        refine x_bipush (32 : Int32) dX1_face_58 bi_32 ?_
        obtain ⟨c29, H⟩ := oit H
        obtain ⟨a29, g29, e29, H⟩ := obR H
        refine x_callV (M' := mi_J7_append) (n := 1) (As := [.int (32 : Int32)]) (t_J7_append C _ e29) c29 rfl rfl md_J7_append ⟨Nat.le_of_ble_eq_true rfl, Nat.le_of_ble_eq_true rfl⟩ q1484 q565 q566 q135 q567 rfl (Nat.le_of_ble_eq_true rfl) dX1_face_60 ?_
        refine x_aload_n 0 rfl dX1_face_63 ?_
        obtain ⟨v30, e30, H⟩ := ob H
        refine x_getf fg_X1_36 (gFr_spec e30) dX1_face_64 ?_
        refine x_iload_n 3 rfl dX1_face_67 ?_
        obtain ⟨c31, H⟩ := oit H
        obtain ⟨a31, g31, e31, H⟩ := obR H
        refine x_callV (M' := mi_X3_person) (n := 1) (As := [.int x3]) (t_X3_person C _ e31) c31 rfl rfl md_X3_person ⟨Nat.le_of_ble_eq_true rfl, Nat.le_of_ble_eq_true rfl⟩ q1127 q321 q322 q125 q323 rfl (Nat.le_of_ble_eq_true rfl) dX1_face_68 ?_
        obtain ⟨v32, e32, H⟩ := ob H
        refine x_getf fg_X1_335 (gFr_spec e32) dX1_face_71 ?_
        obtain ⟨c33, H⟩ := oit H
        obtain ⟨a33, g33, e33, H⟩ := obR H
        refine x_callV (M' := mi_J7_append_2) (n := 1) (As := [.ref v32]) (t_J7_append_2 C _ e33) c33 rfl rfl md_J7_append_2 ⟨Nat.le_of_ble_eq_true rfl, Nat.le_of_ble_eq_true rfl⟩ q1483 q831 q832 q135 q833 rfl (Nat.le_of_ble_eq_true rfl) dX1_face_74 ?_
        refine x_pop dX1_face_77 rfl ?_
        exact t_X1_face_b78 hE ih hk84 _ _ _ _ _ H
def f_X1_face (r0 : Nat) (x1 : Int32) (h : mH) : Option (Int32 × mH) := if gC h r0 = 0 then bR (f_X1_isPerson r0 x1 h) fun a1 g1 => if a1 = 0 then some ((-1 : Int32), g1) else (gFr [0] 4 (xnw g1 (.inr (22, [.ref 0, .int 0, .int 0, .int 0])) 4) r0).bind fun v3 => if gC (xnw g1 (.inr (22, [.ref 0, .int 0, .int 0, .int 0])) 4) v3 = 2 then bR (f_X3_person v3 x1 (xnw g1 (.inr (22, [.ref 0, .int 0, .int 0, .int 0])) 4)) fun a4 g4 => (gFr [10] 0 g4 a4).bind fun v5 => if 6 ≤ g1.2.1 then bR (f_J7_init_2 g1.2.1 v5 g4) fun a6 g6 => if gC g6 g1.2.1 = 22 then bR (f_J7_append_2 g1.2.1 21 g6) fun a7 g7 => f_X1_face_L37 (f_X1_face_b84) xFu r0 x1 a7 (0 : Int32) g7 else none else none else none else none
theorem t_X1_face {G : xG} (C0 : xC) {l : Launch} {r0 : Nat} {x1 : Int32} (h : mH) {o : Int32 × mH} (H : f_X1_face r0 x1 h = some o) : XR G l mi_X1_face [.ref r0, .int x1] h (some (.int o.1)) o.2 := by
  refine XR.of C0 (by decide) (Nat.le_of_ble_eq_true rfl) (fun C _ _ _ hE => ?_)
  show X G C mi_X1_face 0 [(0, .ref r0), (1, .int x1)] [] h
  unfold f_X1_face at H
  refine x_aload_n 0 rfl dX1_face_0 ?_
  refine x_iload_n 1 rfl dX1_face_1 ?_
  obtain ⟨c1, H⟩ := oit H
  obtain ⟨a1, g1, e1, H⟩ := obR H
  refine x_callV (M' := mi_X1_isPerson) (n := 1) (As := [.int x1]) (t_X1_isPerson C _ e1) c1 rfl rfl md_X1_isPerson ⟨Nat.le_of_ble_eq_true rfl, Nat.le_of_ble_eq_true rfl⟩ q1108 q1110 qs19 q120 q1111 rfl (Nat.le_of_ble_eq_true rfl) dX1_face_2 ?_
  refine x_if_ne 10 dX1_face_5 (by decide) (fun c2 => ?_) (fun c2 => ?_)
  · rw [if_neg c2] at H
    refine x_new (fs := [.ref 0, .int 0, .int 0, .int 0]) ci_22 q1470 q534 q135 (nf_J7 G) rfl dX1_face_10 ?_
    refine x_dup dX1_face_13 rfl ?_
    refine x_aload_n 0 rfl dX1_face_14 ?_
    obtain ⟨v3, e3, H⟩ := ob H
    refine x_getf fg_X1_36 (gFr_spec e3) dX1_face_15 ?_
    refine x_iload_n 1 rfl dX1_face_18 ?_
    obtain ⟨c4, H⟩ := oit H
    obtain ⟨a4, g4, e4, H⟩ := obR H
    refine x_callV (M' := mi_X3_person) (n := 1) (As := [.int x1]) (t_X3_person C _ e4) c4 rfl rfl md_X3_person ⟨Nat.le_of_ble_eq_true rfl, Nat.le_of_ble_eq_true rfl⟩ q1127 q321 q322 q125 q323 rfl (Nat.le_of_ble_eq_true rfl) dX1_face_19 ?_
    obtain ⟨v5, e5, H⟩ := ob H
    refine x_getf fg_X1_335 (gFr_spec e5) dX1_face_22 ?_
    obtain ⟨c6, H⟩ := oit H
    obtain ⟨a6, g6, e6, H⟩ := obR H
    refine x_callI (M' := mi_J7_init_2) (n := 1) (As := [.ref v5]) (t_J7_init_2 C _ e6) c6 md_J7_init_2 ⟨Nat.le_of_ble_eq_true rfl, Nat.le_of_ble_eq_true rfl⟩ rfl rfl q1471 q1472 q135 q1473 rfl (Nat.le_of_ble_eq_true rfl) dX1_face_25 ?_
    refine x_ldcSw (tx := " knows") (a := 21) (List.mem_of_getElem? (i := 13) rfl) (by decide) (by decide) dX1_face_28 ?_
    obtain ⟨c7, H⟩ := oit H
    obtain ⟨a7, g7, e7, H⟩ := obR H
    refine x_callV (M' := mi_J7_append_2) (n := 1) (As := [.ref 21]) (t_J7_append_2 C _ e7) c7 rfl rfl md_J7_append_2 ⟨Nat.le_of_ble_eq_true rfl, Nat.le_of_ble_eq_true rfl⟩ q1483 q831 q832 q135 q833 rfl (Nat.le_of_ble_eq_true rfl) dX1_face_31 ?_
    refine x_astore_n [1, 2, 0] dX1_face_34 (by decide) rfl ?_
    refine x_iconst (0 : Int32) dX1_face_35 ic_0 ?_
    refine x_istore_n [1, 2, 3, 0] dX1_face_36 (by decide) rfl ?_
    exact t_X1_face_L37 hE (t_X1_face_b84 hE) xFu _ _ _ _ _ H
  · rw [if_pos c2] at H
    refine x_iconst (-1 : Int32) dX1_face_8 ic_m1 ?_
    obtain rfl := Option.some.inj H
    exact x_iret hE rfl rfl dX1_face_9
abbrev mi_X1_fault : xM := (cX1_fault, yX1_fault, 1, some .int, 1)
theorem md_X1_fault : xMD mi_X1_fault 0 := ⟨by decide, by decide, by decide +kernel⟩
def f_X1_fault (r0 : Nat) (h : mH) : Option (Int32 × mH) := (gFi [0] 2 h r0).bind fun v1 => some (v1, h)
theorem t_X1_fault {G : xG} (C0 : xC) {l : Launch} {r0 : Nat} (h : mH) {o : Int32 × mH} (H : f_X1_fault r0 h = some o) : XR G l mi_X1_fault [.ref r0] h (some (.int o.1)) o.2 := by
  refine XR.of C0 (by decide) (Nat.le_of_ble_eq_true rfl) (fun C _ _ _ hE => ?_)
  show X G C mi_X1_fault 0 [(0, .ref r0)] [] h
  unfold f_X1_fault at H
  refine x_aload_n 0 rfl dX1_fault_0 ?_
  obtain ⟨v1, e1, H⟩ := ob H
  refine x_getf fg_X1_97 (gFi_spec e1) dX1_fault_1 ?_
  obtain rfl := Option.some.inj H
  exact x_iret hE rfl rfl dX1_fault_4
abbrev mi_X1_feed : xM := (cX1_feed, yX1_feed, 6, some .int, 2)
theorem md_X1_feed : xMD mi_X1_feed 5 := ⟨by decide, by decide, by decide +kernel⟩
def f_X1_feed (r0 : Nat) (x1 : Int32) (x2 : Int32) (x3 : Int32) (x4 : Int32) (x5 : Int32) (h : mH) : Option (Int32 × mH) := (gFi [0] 1 h r0).bind fun v1 => if (v1 + (20 : Int32)) ≤ (940 : Int32) then if gC h r0 = 0 then bR (f_X1_come r0 x1 h) fun a3 g3 => if gC g3 r0 = 0 then bR (f_X1_come r0 x2 g3) fun a4 g4 => if gC g4 r0 = 0 then bR (f_X1_come r0 x3 g4) fun a5 g5 => if gC g5 r0 = 0 then bR (f_X1_come r0 x4 g5) fun a6 g6 => if gC g6 r0 = 0 then bR (f_X1_come r0 x5 g6) fun a7 g7 => (gFi [0] 1 g7 r0).bind fun v8 => some (v8, g7) else none else none else none else none else none else some ((-1 : Int32), h)
theorem t_X1_feed {G : xG} (C0 : xC) {l : Launch} {r0 : Nat} {x1 : Int32} {x2 : Int32} {x3 : Int32} {x4 : Int32} {x5 : Int32} (h : mH) {o : Int32 × mH} (H : f_X1_feed r0 x1 x2 x3 x4 x5 h = some o) : XR G l mi_X1_feed [.ref r0, .int x1, .int x2, .int x3, .int x4, .int x5] h (some (.int o.1)) o.2 := by
  refine XR.of C0 (by decide) (Nat.le_of_ble_eq_true rfl) (fun C _ _ _ hE => ?_)
  show X G C mi_X1_feed 0 [(0, .ref r0), (1, .int x1), (2, .int x2), (3, .int x3), (4, .int x4), (5, .int x5)] [] h
  unfold f_X1_feed at H
  refine x_aload_n 0 rfl dX1_feed_0 ?_
  obtain ⟨v1, e1, H⟩ := ob H
  refine x_getf fg_X1_86 (gFi_spec e1) dX1_feed_1 ?_
  refine x_bipush (20 : Int32) dX1_feed_4 bi_20 ?_
  refine x_iadd dX1_feed_6 ?_
  refine x_sipush (940 : Int32) dX1_feed_7 si_940 ?_
  refine x_icmp_le 15 dX1_feed_10 (by decide) (fun c2 => ?_) (fun c2 => ?_)
  · rw [if_pos c2] at H
    refine x_aload_n 0 rfl dX1_feed_15 ?_
    refine x_iload_n 1 rfl dX1_feed_16 ?_
    obtain ⟨c3, H⟩ := oit H
    obtain ⟨a3, g3, e3, H⟩ := obR H
    refine x_callV (M' := mi_X1_come) (n := 1) (As := [.int x1]) (t_X1_come C _ e3) c3 rfl rfl md_X1_come ⟨Nat.le_of_ble_eq_true rfl, Nat.le_of_ble_eq_true rfl⟩ q440 q442 qs2 q120 q443 rfl (Nat.le_of_ble_eq_true rfl) dX1_feed_17 ?_
    refine x_aload_n 0 rfl dX1_feed_20 ?_
    refine x_iload_n 2 rfl dX1_feed_21 ?_
    obtain ⟨c4, H⟩ := oit H
    obtain ⟨a4, g4, e4, H⟩ := obR H
    refine x_callV (M' := mi_X1_come) (n := 1) (As := [.int x2]) (t_X1_come C _ e4) c4 rfl rfl md_X1_come ⟨Nat.le_of_ble_eq_true rfl, Nat.le_of_ble_eq_true rfl⟩ q440 q442 qs2 q120 q443 rfl (Nat.le_of_ble_eq_true rfl) dX1_feed_22 ?_
    refine x_aload_n 0 rfl dX1_feed_25 ?_
    refine x_iload_n 3 rfl dX1_feed_26 ?_
    obtain ⟨c5, H⟩ := oit H
    obtain ⟨a5, g5, e5, H⟩ := obR H
    refine x_callV (M' := mi_X1_come) (n := 1) (As := [.int x3]) (t_X1_come C _ e5) c5 rfl rfl md_X1_come ⟨Nat.le_of_ble_eq_true rfl, Nat.le_of_ble_eq_true rfl⟩ q440 q442 qs2 q120 q443 rfl (Nat.le_of_ble_eq_true rfl) dX1_feed_27 ?_
    refine x_aload_n 0 rfl dX1_feed_30 ?_
    refine x_iload 4 rfl dX1_feed_31 ?_
    obtain ⟨c6, H⟩ := oit H
    obtain ⟨a6, g6, e6, H⟩ := obR H
    refine x_callV (M' := mi_X1_come) (n := 1) (As := [.int x4]) (t_X1_come C _ e6) c6 rfl rfl md_X1_come ⟨Nat.le_of_ble_eq_true rfl, Nat.le_of_ble_eq_true rfl⟩ q440 q442 qs2 q120 q443 rfl (Nat.le_of_ble_eq_true rfl) dX1_feed_33 ?_
    refine x_aload_n 0 rfl dX1_feed_36 ?_
    refine x_iload 5 rfl dX1_feed_37 ?_
    obtain ⟨c7, H⟩ := oit H
    obtain ⟨a7, g7, e7, H⟩ := obR H
    refine x_callV (M' := mi_X1_come) (n := 1) (As := [.int x5]) (t_X1_come C _ e7) c7 rfl rfl md_X1_come ⟨Nat.le_of_ble_eq_true rfl, Nat.le_of_ble_eq_true rfl⟩ q440 q442 qs2 q120 q443 rfl (Nat.le_of_ble_eq_true rfl) dX1_feed_39 ?_
    refine x_aload_n 0 rfl dX1_feed_42 ?_
    obtain ⟨v8, e8, H⟩ := ob H
    refine x_getf fg_X1_86 (gFi_spec e8) dX1_feed_43 ?_
    obtain rfl := Option.some.inj H
    exact x_iret hE rfl rfl dX1_feed_46
  · rw [if_neg c2] at H
    refine x_iconst (-1 : Int32) dX1_feed_13 ic_m1 ?_
    obtain rfl := Option.some.inj H
    exact x_iret hE rfl rfl dX1_feed_14
abbrev mi_X1_good : xM := (cX1_good, yX1_good, 4, some .int, 5)
theorem md_X1_good : xMD mi_X1_good 3 := ⟨by decide, by decide, by decide +kernel⟩
def f_X1_good (r0 : Nat) (x1 : Int32) (x2 : Int32) (x3 : Int32) (h : mH) : Option (Int32 × mH) := if gC h r0 = 0 then bR (f_X1_isPerson r0 x1 h) fun a1 g1 => if a1 = 0 then some ((-1 : Int32), g1) else if gC g1 r0 = 0 then bR (f_X1_isGood r0 x2 g1) fun a3 g3 => if a3 = 0 then some ((-1 : Int32), g3) else bR (f_X1_isIn x3 (0 : Int32) (2 : Int32) g3) fun a5 g5 => if a5 = 0 then some ((-1 : Int32), g5) else if x3 = 0 then (gFr [0] 4 g5 r0).bind fun v16 => (gFr [2] 10 g5 v16).bind fun v17 => (aI .int g5 v17 (((5 : Int32) * x1) + x2)).bind fun v18 => some (v18, g5) else if x3 = (1 : Int32) then (gFr [0] 4 g5 r0).bind fun v13 => (gFr [2] 11 g5 v13).bind fun v14 => (aI .int g5 v14 (((5 : Int32) * x1) + x2)).bind fun v15 => some (v15, g5) else (gFr [0] 4 g5 r0).bind fun v9 => if gC g5 v9 = 2 then bR (f_X3_person v9 x1 g5) fun a10 g10 => (gFr [10] 5 g10 a10).bind fun v11 => (aI .int g10 v11 x2).bind fun v12 => some (v12, g10) else none else none else none
theorem t_X1_good {G : xG} (C0 : xC) {l : Launch} {r0 : Nat} {x1 : Int32} {x2 : Int32} {x3 : Int32} (h : mH) {o : Int32 × mH} (H : f_X1_good r0 x1 x2 x3 h = some o) : XR G l mi_X1_good [.ref r0, .int x1, .int x2, .int x3] h (some (.int o.1)) o.2 := by
  refine XR.of C0 (by decide) (Nat.le_of_ble_eq_true rfl) (fun C _ _ _ hE => ?_)
  show X G C mi_X1_good 0 [(0, .ref r0), (1, .int x1), (2, .int x2), (3, .int x3)] [] h
  unfold f_X1_good at H
  refine x_aload_n 0 rfl dX1_good_0 ?_
  refine x_iload_n 1 rfl dX1_good_1 ?_
  obtain ⟨c1, H⟩ := oit H
  obtain ⟨a1, g1, e1, H⟩ := obR H
  refine x_callV (M' := mi_X1_isPerson) (n := 1) (As := [.int x1]) (t_X1_isPerson C _ e1) c1 rfl rfl md_X1_isPerson ⟨Nat.le_of_ble_eq_true rfl, Nat.le_of_ble_eq_true rfl⟩ q1108 q1110 qs19 q120 q1111 rfl (Nat.le_of_ble_eq_true rfl) dX1_good_2 ?_
  refine x_if_eq 25 dX1_good_5 (by decide) (fun c2 => ?_) (fun c2 => ?_)
  · rw [if_pos c2] at H
    refine x_iconst (-1 : Int32) dX1_good_25 ic_m1 ?_
    obtain rfl := Option.some.inj H
    exact x_iret hE rfl rfl dX1_good_26
  · rw [if_neg c2] at H
    refine x_aload_n 0 rfl dX1_good_8 ?_
    refine x_iload_n 2 rfl dX1_good_9 ?_
    obtain ⟨c3, H⟩ := oit H
    obtain ⟨a3, g3, e3, H⟩ := obR H
    refine x_callV (M' := mi_X1_isGood) (n := 1) (As := [.int x2]) (t_X1_isGood C _ e3) c3 rfl rfl md_X1_isGood ⟨Nat.le_of_ble_eq_true rfl, Nat.le_of_ble_eq_true rfl⟩ q1118 q1120 qs20 q120 q1121 rfl (Nat.le_of_ble_eq_true rfl) dX1_good_10 ?_
    refine x_if_eq 25 dX1_good_13 (by decide) (fun c4 => ?_) (fun c4 => ?_)
    · rw [if_pos c4] at H
      refine x_iconst (-1 : Int32) dX1_good_25 ic_m1 ?_
      obtain rfl := Option.some.inj H
      exact x_iret hE rfl rfl dX1_good_26
    · rw [if_neg c4] at H
      refine x_iload_n 3 rfl dX1_good_16 ?_
      refine x_iconst (0 : Int32) dX1_good_17 ic_0 ?_
      refine x_iconst (2 : Int32) dX1_good_18 ic_2 ?_
      obtain ⟨a5, g5, e5, H⟩ := obR H
      refine x_callS (M' := mi_X1_isIn) (n := 3) (As := [.int x3, .int (0 : Int32), .int (2 : Int32)]) (t_X1_isIn C _ e5) md_X1_isIn ⟨Nat.le_of_ble_eq_true rfl, Nat.le_of_ble_eq_true rfl⟩ q1126 q921 q120 q922 rfl (Nat.le_of_ble_eq_true rfl) dX1_good_19 ?_
      refine x_if_ne 27 dX1_good_22 (by decide) (fun c6 => ?_) (fun c6 => ?_)
      · rw [if_neg c6] at H
        refine x_iload_n 3 rfl dX1_good_27 ?_
        refine x_if_ne 47 dX1_good_28 (by decide) (fun c7 => ?_) (fun c7 => ?_)
        · rw [if_neg c7] at H
          refine x_iload_n 3 rfl dX1_good_47 ?_
          refine x_iconst (1 : Int32) dX1_good_48 ic_1 ?_
          refine x_icmp_ne 68 dX1_good_49 (by decide) (fun c8 => ?_) (fun c8 => ?_)
          · rw [if_neg c8] at H
            refine x_aload_n 0 rfl dX1_good_68 ?_
            obtain ⟨v9, e9, H⟩ := ob H
            refine x_getf fg_X1_36 (gFr_spec e9) dX1_good_69 ?_
            refine x_iload_n 1 rfl dX1_good_72 ?_
            obtain ⟨c10, H⟩ := oit H
            obtain ⟨a10, g10, e10, H⟩ := obR H
            refine x_callV (M' := mi_X3_person) (n := 1) (As := [.int x1]) (t_X3_person C _ e10) c10 rfl rfl md_X3_person ⟨Nat.le_of_ble_eq_true rfl, Nat.le_of_ble_eq_true rfl⟩ q1127 q321 q322 q125 q323 rfl (Nat.le_of_ble_eq_true rfl) dX1_good_73 ?_
            obtain ⟨v11, e11, H⟩ := ob H
            refine x_getf fg_X1_191 (gFr_spec e11) dX1_good_76 ?_
            refine x_iload_n 2 rfl dX1_good_79 ?_
            obtain ⟨v12, e12, H⟩ := ob H
            refine x_iald e12 dX1_good_80 ?_
            obtain rfl := Option.some.inj H
            exact x_iret hE rfl rfl dX1_good_81
          · rw [if_pos c8] at H
            refine x_aload_n 0 rfl dX1_good_52 ?_
            obtain ⟨v13, e13, H⟩ := ob H
            refine x_getf fg_X1_36 (gFr_spec e13) dX1_good_53 ?_
            obtain ⟨v14, e14, H⟩ := ob H
            refine x_getf fg_X1_188 (gFr_spec e14) dX1_good_56 ?_
            refine x_iconst (5 : Int32) dX1_good_59 ic_5 ?_
            refine x_iload_n 1 rfl dX1_good_60 ?_
            refine x_imul dX1_good_61 ?_
            refine x_iload_n 2 rfl dX1_good_62 ?_
            refine x_iadd dX1_good_63 ?_
            obtain ⟨v15, e15, H⟩ := ob H
            refine x_iald e15 dX1_good_64 ?_
            refine x_goto (tgt := 81) dX1_good_65 (by decide) ?_
            obtain rfl := Option.some.inj H
            exact x_iret hE rfl rfl dX1_good_81
        · rw [if_pos c7] at H
          refine x_aload_n 0 rfl dX1_good_31 ?_
          obtain ⟨v16, e16, H⟩ := ob H
          refine x_getf fg_X1_36 (gFr_spec e16) dX1_good_32 ?_
          obtain ⟨v17, e17, H⟩ := ob H
          refine x_getf fg_X1_185 (gFr_spec e17) dX1_good_35 ?_
          refine x_iconst (5 : Int32) dX1_good_38 ic_5 ?_
          refine x_iload_n 1 rfl dX1_good_39 ?_
          refine x_imul dX1_good_40 ?_
          refine x_iload_n 2 rfl dX1_good_41 ?_
          refine x_iadd dX1_good_42 ?_
          obtain ⟨v18, e18, H⟩ := ob H
          refine x_iald e18 dX1_good_43 ?_
          refine x_goto (tgt := 81) dX1_good_44 (by decide) ?_
          obtain rfl := Option.some.inj H
          exact x_iret hE rfl rfl dX1_good_81
      · rw [if_pos c6] at H
        refine x_iconst (-1 : Int32) dX1_good_25 ic_m1 ?_
        obtain rfl := Option.some.inj H
        exact x_iret hE rfl rfl dX1_good_26
abbrev mi_X1_image : xM := (cX1_image, yX1_image, 2, some .boolean, 4)
theorem md_X1_image : xMD mi_X1_image 1 := ⟨by decide, by decide, by decide +kernel⟩
def f_X1_image (r0 : Nat) (x1 : Int32) (h : mH) : Option (Int32 × mH) := bR (f_X1_isIn x1 (0 : Int32) (1 : Int32) h) fun a1 g1 => if a1 = 0 then some ((0 : Int32), g1) else (gFr [0] 20 g1 r0).bind fun v3 => (aR g1 v3 x1).bind fun v4 => (gFr [0] 3 g1 r0).bind fun v5 => (pF [3] 0 (.ref v5) g1 v4).bind fun h6 => (gFr [0] 20 h6 r0).bind fun v7 => (aR h6 v7 x1).bind fun v8 => (gFr [0] 6 h6 r0).bind fun v9 => (pF [3] 1 (.ref v9) h6 v8).bind fun h10 => (gFr [0] 20 h10 r0).bind fun v11 => (aR h10 v11 x1).bind fun v12 => (gFr [3] 2 h10 v12).bind fun v13 => (gFr [0] 4 h10 r0).bind fun v14 => if gC h10 v13 = 2 then bR (f_X3_as v13 v14 h10) fun a15 g15 => some ((1 : Int32), g15) else none
theorem t_X1_image {G : xG} (C0 : xC) {l : Launch} {r0 : Nat} {x1 : Int32} (h : mH) {o : Int32 × mH} (H : f_X1_image r0 x1 h = some o) : XR G l mi_X1_image [.ref r0, .int x1] h (some (.int o.1)) o.2 := by
  refine XR.of C0 (by decide) (Nat.le_of_ble_eq_true rfl) (fun C _ _ _ hE => ?_)
  show X G C mi_X1_image 0 [(0, .ref r0), (1, .int x1)] [] h
  unfold f_X1_image at H
  refine x_iload_n 1 rfl dX1_image_0 ?_
  refine x_iconst (0 : Int32) dX1_image_1 ic_0 ?_
  refine x_iconst (1 : Int32) dX1_image_2 ic_1 ?_
  obtain ⟨a1, g1, e1, H⟩ := obR H
  refine x_callS (M' := mi_X1_isIn) (n := 3) (As := [.int x1, .int (0 : Int32), .int (1 : Int32)]) (t_X1_isIn C _ e1) md_X1_isIn ⟨Nat.le_of_ble_eq_true rfl, Nat.le_of_ble_eq_true rfl⟩ q1126 q921 q120 q922 rfl (Nat.le_of_ble_eq_true rfl) dX1_image_3 ?_
  refine x_if_ne 11 dX1_image_6 (by decide) (fun c2 => ?_) (fun c2 => ?_)
  · rw [if_neg c2] at H
    refine x_aload_n 0 rfl dX1_image_11 ?_
    obtain ⟨v3, e3, H⟩ := ob H
    refine x_getf fg_X1_82 (gFr_spec e3) dX1_image_12 ?_
    refine x_iload_n 1 rfl dX1_image_15 ?_
    obtain ⟨v4, e4, H⟩ := ob H
    refine x_aald e4 dX1_image_16 ?_
    refine x_aload_n 0 rfl dX1_image_17 ?_
    obtain ⟨v5, e5, H⟩ := ob H
    refine x_getf fg_X1_25 (gFr_spec e5) dX1_image_18 ?_
    obtain ⟨h6, e6, H⟩ := ob H
    refine x_putf (fp_X1_409 _) rfl rfl e6 dX1_image_21 ?_
    refine x_aload_n 0 rfl dX1_image_24 ?_
    obtain ⟨v7, e7, H⟩ := ob H
    refine x_getf fg_X1_82 (gFr_spec e7) dX1_image_25 ?_
    refine x_iload_n 1 rfl dX1_image_28 ?_
    obtain ⟨v8, e8, H⟩ := ob H
    refine x_aald e8 dX1_image_29 ?_
    refine x_aload_n 0 rfl dX1_image_30 ?_
    obtain ⟨v9, e9, H⟩ := ob H
    refine x_getf fg_X1_109 (gFr_spec e9) dX1_image_31 ?_
    obtain ⟨h10, e10, H⟩ := ob H
    refine x_putf (fp_X1_410 _) rfl rfl e10 dX1_image_34 ?_
    refine x_aload_n 0 rfl dX1_image_37 ?_
    obtain ⟨v11, e11, H⟩ := ob H
    refine x_getf fg_X1_82 (gFr_spec e11) dX1_image_38 ?_
    refine x_iload_n 1 rfl dX1_image_41 ?_
    obtain ⟨v12, e12, H⟩ := ob H
    refine x_aald e12 dX1_image_42 ?_
    obtain ⟨v13, e13, H⟩ := ob H
    refine x_getf fg_X1_411 (gFr_spec e13) dX1_image_43 ?_
    refine x_aload_n 0 rfl dX1_image_46 ?_
    obtain ⟨v14, e14, H⟩ := ob H
    refine x_getf fg_X1_36 (gFr_spec e14) dX1_image_47 ?_
    obtain ⟨c15, H⟩ := oit H
    obtain ⟨a15, g15, e15, H⟩ := obR H
    refine x_callV (M' := mi_X3_as) (n := 1) (As := [.ref v14]) (t_X3_as C _ e15) c15 rfl rfl md_X3_as ⟨Nat.le_of_ble_eq_true rfl, Nat.le_of_ble_eq_true rfl⟩ q1209 q1210 q1211 q125 q1212 rfl (Nat.le_of_ble_eq_true rfl) dX1_image_50 ?_
    refine x_pop dX1_image_53 rfl ?_
    refine x_iconst (1 : Int32) dX1_image_54 ic_1 ?_
    obtain rfl := Option.some.inj H
    exact x_iret hE rfl rfl dX1_image_55
  · rw [if_pos c2] at H
    refine x_iconst (0 : Int32) dX1_image_9 ic_0 ?_
    obtain rfl := Option.some.inj H
    exact x_iret hE rfl rfl dX1_image_10
abbrev mi_X3_init : xM := (cX3_init, yX3_init, 1, none, 1)
theorem md_X3_init : xMD mi_X3_init 0 := ⟨by decide, by decide, by decide +kernel⟩
def f_X3_init (r0 : Nat) (h : mH) : Option (Unit × mH) := if 6 ≤ r0 then bR (nA .int h (7 : Int32)) fun a2 g2 => (pF [2] 6 (.ref a2) g2 r0).bind fun h3 => bR (nA .int h3 (7 : Int32)) fun a4 g4 => (pF [2] 7 (.ref a4) g4 r0).bind fun h5 => bR (nA .int h5 (7 : Int32)) fun a6 g6 => (pF [2] 8 (.ref a6) g6 r0).bind fun h7 => bR (nA .int h7 (49 : Int32)) fun a8 g8 => (pF [2] 9 (.ref a8) g8 r0).bind fun h9 => bR (nA .int h9 (35 : Int32)) fun a10 g10 => (pF [2] 10 (.ref a10) g10 r0).bind fun h11 => bR (nA .int h11 (35 : Int32)) fun a12 g12 => (pF [2] 11 (.ref a12) g12 r0).bind fun h13 => some ((), h13) else none
theorem t_X3_init {G : xG} (C0 : xC) {l : Launch} {r0 : Nat} (h : mH) {o : Unit × mH} (H : f_X3_init r0 h = some o) : XR G l mi_X3_init [.ref r0] h none o.2 := by
  refine XR.of C0 (by decide) (Nat.le_of_ble_eq_true rfl) (fun C _ _ _ hE => ?_)
  show X G C mi_X3_init 0 [(0, .ref r0)] [] h
  unfold f_X3_init at H
  refine x_aload_n 0 rfl dX3_init_0 ?_
  obtain ⟨c1, H⟩ := oit H
  refine x_oinit c1 (by decide) q248 q170 q171 (Nat.le_of_ble_eq_true rfl) dX3_init_1 ?_
  refine x_aload_n 0 rfl dX3_init_4 ?_
  refine x_bipush (7 : Int32) dX3_init_5 bi_7 ?_
  obtain ⟨a2, g2, e2, H⟩ := obR H
  refine x_newa (at_ := .int) (ty := .int) rfl (by decide) q304 e2 dX3_init_7 ?_
  obtain ⟨h3, e3, H⟩ := ob H
  refine x_putf fp_X3_9 rfl rfl e3 dX3_init_9 ?_
  refine x_aload_n 0 rfl dX3_init_12 ?_
  refine x_bipush (7 : Int32) dX3_init_13 bi_7 ?_
  obtain ⟨a4, g4, e4, H⟩ := obR H
  refine x_newa (at_ := .int) (ty := .int) rfl (by decide) q304 e4 dX3_init_15 ?_
  obtain ⟨h5, e5, H⟩ := ob H
  refine x_putf fp_X3_15 rfl rfl e5 dX3_init_17 ?_
  refine x_aload_n 0 rfl dX3_init_20 ?_
  refine x_bipush (7 : Int32) dX3_init_21 bi_7 ?_
  obtain ⟨a6, g6, e6, H⟩ := obR H
  refine x_newa (at_ := .int) (ty := .int) rfl (by decide) q304 e6 dX3_init_23 ?_
  obtain ⟨h7, e7, H⟩ := ob H
  refine x_putf fp_X3_18 rfl rfl e7 dX3_init_25 ?_
  refine x_aload_n 0 rfl dX3_init_28 ?_
  refine x_bipush (49 : Int32) dX3_init_29 bi_49 ?_
  obtain ⟨a8, g8, e8, H⟩ := obR H
  refine x_newa (at_ := .int) (ty := .int) rfl (by decide) q304 e8 dX3_init_31 ?_
  obtain ⟨h9, e9, H⟩ := ob H
  refine x_putf fp_X3_21 rfl rfl e9 dX3_init_33 ?_
  refine x_aload_n 0 rfl dX3_init_36 ?_
  refine x_bipush (35 : Int32) dX3_init_37 bi_35 ?_
  obtain ⟨a10, g10, e10, H⟩ := obR H
  refine x_newa (at_ := .int) (ty := .int) rfl (by decide) q304 e10 dX3_init_39 ?_
  obtain ⟨h11, e11, H⟩ := ob H
  refine x_putf fp_X3_24 rfl rfl e11 dX3_init_41 ?_
  refine x_aload_n 0 rfl dX3_init_44 ?_
  refine x_bipush (35 : Int32) dX3_init_45 bi_35 ?_
  obtain ⟨a12, g12, e12, H⟩ := obR H
  refine x_newa (at_ := .int) (ty := .int) rfl (by decide) q304 e12 dX3_init_47 ?_
  obtain ⟨h13, e13, H⟩ := ob H
  refine x_putf fp_X3_27 rfl rfl e13 dX3_init_49 ?_
  obtain rfl := Option.some.inj H
  exact x_vret hE rfl dX3_init_52
abbrev mi_X4_init : xM := (cX4_init, yX4_init, 1, none, 2)
theorem md_X4_init : xMD mi_X4_init 0 := ⟨by decide, by decide, by decide +kernel⟩
def f_X4_init (r0 : Nat) (h : mH) : Option (Unit × mH) := if 6 ≤ r0 then if 6 ≤ h.2.1 then bR (f_X3_init h.2.1  (xnw h (.inr (2, [.ref 0, .int 0, .int 0, .int 0, .int 0, .int 0, .ref 0, .ref 0, .ref 0, .ref 0, .ref 0, .ref 0, .int 0])) 13)) fun a2 g2 => (pF [3] 2 (.ref h.2.1) g2 r0).bind fun h3 => some ((), h3) else none else none
theorem t_X4_init {G : xG} (C0 : xC) {l : Launch} {r0 : Nat} (h : mH) {o : Unit × mH} (H : f_X4_init r0 h = some o) : XR G l mi_X4_init [.ref r0] h none o.2 := by
  refine XR.of C0 (by decide) (Nat.le_of_ble_eq_true rfl) (fun C _ _ _ hE => ?_)
  show X G C mi_X4_init 0 [(0, .ref r0)] [] h
  unfold f_X4_init at H
  refine x_aload_n 0 rfl dX4_init_0 ?_
  obtain ⟨c1, H⟩ := oit H
  refine x_oinit c1 (by decide) q358 q170 q171 (Nat.le_of_ble_eq_true rfl) dX4_init_1 ?_
  refine x_aload_n 0 rfl dX4_init_4 ?_
  refine x_new (fs := [.ref 0, .int 0, .int 0, .int 0, .int 0, .int 0, .ref 0, .ref 0, .ref 0, .ref 0, .ref 0, .ref 0, .int 0]) ci_2 q359 q244 q125 (nf_X3 G) rfl dX4_init_5 ?_
  refine x_dup dX4_init_8 rfl ?_
  obtain ⟨c2, H⟩ := oit H
  obtain ⟨a2, g2, e2, H⟩ := obR H
  refine x_callIN (M' := mi_X3_init) (n := 0) (As := []) (t_X3_init C _ e2) c2 md_X3_init ⟨Nat.le_of_ble_eq_true rfl, Nat.le_of_ble_eq_true rfl⟩ rfl rfl q360 q246 q125 q247 rfl (Nat.le_of_ble_eq_true rfl) dX4_init_9 ?_
  obtain ⟨h3, e3, H⟩ := ob H
  refine x_putf fp_X4_10 rfl rfl e3 dX4_init_12 ?_
  obtain rfl := Option.some.inj H
  exact x_vret hE rfl dX4_init_15
abbrev mi_X1_init : xM := (cX1_init, yX1_init, 2, none, 7)
theorem md_X1_init : xMD mi_X1_init 0 := ⟨by decide, by decide, by decide +kernel⟩
def f_X1_init_L175 : Nat → Nat → Int32 → mH → Option (Unit × mH)
  | 0, _, _, _ => none
  | n + 1, r0, x1, h => if (8 : Int32) ≤ x1 then some ((), h) else (gFr [0] 7 h r0).bind fun v41 => if 6 ≤ h.2.1 then bR (f_X3_init h.2.1  (xnw h (.inr (2, [.ref 0, .int 0, .int 0, .int 0, .int 0, .int 0, .ref 0, .ref 0, .ref 0, .ref 0, .ref 0, .ref 0, .int 0])) 13)) fun a42 g42 => (sR "StrangerMarket$Market" [2] g42 v41 x1 h.2.1).bind fun h43 => (f_X1_init_L175 n) r0 (x1 + (1 : Int32)) h43 else none
theorem t_X1_init_L175 {G : xG} {C : xC} {o : Unit × mH} (hE : xEnd G C none o.2) : ∀ (n : Nat) (r0 : Nat) (x1 : Int32) (h : mH), f_X1_init_L175 n r0 x1 h = some o → X G C mi_X1_init 175 [(0, .ref r0), (1, .int x1)] [] h := by
  intro n
  induction n with
  | zero => intro r0 x1 h H; exact nomatch (show (none : Option (Unit × mH)) = some o from H)
  | succ n ih =>
    intro r0 x1 h H
    rw [f_X1_init_L175] at H
    refine x_iload_n 1 rfl dX1_init_175 ?_
    refine x_bipush (8 : Int32) dX1_init_176 bi_8 ?_
    refine x_icmp_ge 200 dX1_init_178 (by decide) (fun c40 => ?_) (fun c40 => ?_)
    · rw [if_pos c40] at H
      obtain rfl := Option.some.inj H
      exact x_vret hE rfl dX1_init_200
    · rw [if_neg c40] at H
      refine x_aload_n 0 rfl dX1_init_181 ?_
      obtain ⟨v41, e41, H⟩ := ob H
      refine x_getf fg_X1_43 (gFr_spec e41) dX1_init_182 ?_
      refine x_iload_n 1 rfl dX1_init_185 ?_
      refine x_new (fs := [.ref 0, .int 0, .int 0, .int 0, .int 0, .int 0, .ref 0, .ref 0, .ref 0, .ref 0, .ref 0, .ref 0, .int 0]) ci_2 q243 q244 q125 (nf_X3 G) rfl dX1_init_186 ?_
      refine x_dup dX1_init_189 rfl ?_
      obtain ⟨c42, H⟩ := oit H
      obtain ⟨a42, g42, e42, H⟩ := obR H
      refine x_callIN (M' := mi_X3_init) (n := 0) (As := []) (t_X3_init C _ e42) c42 md_X3_init ⟨Nat.le_of_ble_eq_true rfl, Nat.le_of_ble_eq_true rfl⟩ rfl rfl q245 q246 q125 q247 rfl (Nat.le_of_ble_eq_true rfl) dX1_init_190 ?_
      obtain ⟨h43, e43, H⟩ := ob H
      refine x_aast (by decide) cs_StrangerMarket_Market e43 dX1_init_193 ?_
      refine x_iinc 1 (x1 + (1 : Int32)) [1, 0] dX1_init_194 rfl (ii_1 _) (by decide) rfl ?_
      refine x_goto (tgt := 175) dX1_init_197 (by decide) ?_
      exact ih _ _ _ H
def f_X1_init (r0 : Nat) (h : mH) : Option (Unit × mH) := if 6 ≤ r0 then bR (nA .byte h (940 : Int32)) fun a2 g2 => (pF [0] 0 (.ref a2) g2 r0).bind fun h3 => if 6 ≤ h3.2.1 then bR (f_X2_init h3.2.1  (xnw h3 (.inr (1, [.int 0, .int 0, .int 0, .int 0, .ref 0, .ref 0])) 6)) fun a4 g4 => (pF [0] 3 (.ref h3.2.1) g4 r0).bind fun h5 => if 6 ≤ h5.2.1 then bR (f_X3_init h5.2.1  (xnw h5 (.inr (2, [.ref 0, .int 0, .int 0, .int 0, .int 0, .int 0, .ref 0, .ref 0, .ref 0, .ref 0, .ref 0, .ref 0, .int 0])) 13)) fun a6 g6 => (gFr [0] 3 g6 r0).bind fun v7 => if gC g6 h5.2.1 = 2 then bR (f_X3_begin h5.2.1 v7 g6) fun a8 g8 => (pF [0] 4 (.ref a8) g8 r0).bind fun h9 => if 6 ≤ h9.2.1 then bR (f_X3_init h9.2.1  (xnw h9 (.inr (2, [.ref 0, .int 0, .int 0, .int 0, .int 0, .int 0, .ref 0, .ref 0, .ref 0, .ref 0, .ref 0, .ref 0, .int 0])) 13)) fun a10 g10 => (gFr [0] 3 g10 r0).bind fun v11 => if gC g10 h9.2.1 = 2 then bR (f_X3_begin h9.2.1 v11 g10) fun a12 g12 => (pF [0] 5 (.ref a12) g12 r0).bind fun h13 => bR (nR "StrangerMarket$Market" h13 (8 : Int32)) fun a14 g14 => (pF [0] 7 (.ref a14) g14 r0).bind fun h15 => bR (nA .int h15 (49 : Int32)) fun a16 g16 => (pF [0] 9 (.ref a16) g16 r0).bind fun h17 => bR (nA .int h17 (7 : Int32)) fun a18 g18 => (pF [0] 10 (.ref a18) g18 r0).bind fun h19 => (pF [0] 12 (.int (-1 : Int32)) h19 r0).bind fun h20 => (pF [0] 13 (.int (-1 : Int32)) h20 r0).bind fun h21 => bR (nA .int h21 (7 : Int32)) fun a22 g22 => (pF [0] 14 (.ref a22) g22 r0).bind fun h23 => bR (nA .int h23 (7 : Int32)) fun a24 g24 => (pF [0] 15 (.ref a24) g24 r0).bind fun h25 => (pF [0] 17 (.int (-1 : Int32)) h25 r0).bind fun h26 => (pF [0] 18 (.ref 8) h26 r0).bind fun h27 => bR (nA .int h27 (4 : Int32)) fun a28 g28 => (sI .int g28 a28 (0 : Int32) (-1 : Int32)).bind fun h29 => (sI .int h29 a28 (1 : Int32) (-1 : Int32)).bind fun h30 => (sI .int h30 a28 (2 : Int32) (-1 : Int32)).bind fun h31 => (sI .int h31 a28 (3 : Int32) (-1 : Int32)).bind fun h32 => (pF [0] 19 (.ref a28) h32 r0).bind fun h33 => bR (nR "StrangerMarket$Kept" h33 (2 : Int32)) fun a34 g34 => if 6 ≤ g34.2.1 then bR (f_X4_init g34.2.1  (xnw g34 (.inr (3, [.ref 0, .ref 0, .ref 0])) 3)) fun a35 g35 => (sR "StrangerMarket$Kept" [3] g35 a34 (0 : Int32) g34.2.1).bind fun h36 => if 6 ≤ h36.2.1 then bR (f_X4_init h36.2.1  (xnw h36 (.inr (3, [.ref 0, .ref 0, .ref 0])) 3)) fun a37 g37 => (sR "StrangerMarket$Kept" [3] g37 a34 (1 : Int32) h36.2.1).bind fun h38 => (pF [0] 20 (.ref a34) h38 r0).bind fun h39 => f_X1_init_L175  xFu r0 (0 : Int32) h39 else none else none else none else none else none else none else none else none
theorem t_X1_init {G : xG} (C0 : xC) {l : Launch} {r0 : Nat} (h : mH) {o : Unit × mH} (H : f_X1_init r0 h = some o) : XR G l mi_X1_init [.ref r0] h none o.2 := by
  refine XR.of C0 (by decide) (Nat.le_of_ble_eq_true rfl) (fun C _ _ _ hE => ?_)
  show X G C mi_X1_init 0 [(0, .ref r0)] [] h
  unfold f_X1_init at H
  refine x_aload_n 0 rfl dX1_init_0 ?_
  obtain ⟨c1, H⟩ := oit H
  refine x_oinit c1 (by decide) q169 q170 q171 (Nat.le_of_ble_eq_true rfl) dX1_init_1 ?_
  refine x_aload_n 0 rfl dX1_init_4 ?_
  refine x_sipush (940 : Int32) dX1_init_5 si_940 ?_
  obtain ⟨a2, g2, e2, H⟩ := obR H
  refine x_newa (at_ := .byte) (ty := .byte) rfl (by decide) q204 e2 dX1_init_8 ?_
  obtain ⟨h3, e3, H⟩ := ob H
  refine x_putf fp_X1_18 rfl rfl e3 dX1_init_10 ?_
  refine x_aload_n 0 rfl dX1_init_13 ?_
  refine x_new (fs := [.int 0, .int 0, .int 0, .int 0, .ref 0, .ref 0]) ci_1 q172 q173 q121 (nf_X2 G) rfl dX1_init_14 ?_
  refine x_dup dX1_init_17 rfl ?_
  obtain ⟨c4, H⟩ := oit H
  obtain ⟨a4, g4, e4, H⟩ := obR H
  refine x_callIN (M' := mi_X2_init) (n := 0) (As := []) (t_X2_init C _ e4) c4 md_X2_init ⟨Nat.le_of_ble_eq_true rfl, Nat.le_of_ble_eq_true rfl⟩ rfl rfl q174 q175 q121 q176 rfl (Nat.le_of_ble_eq_true rfl) dX1_init_18 ?_
  obtain ⟨h5, e5, H⟩ := ob H
  refine x_putf (fp_X1_25 _) rfl rfl e5 dX1_init_21 ?_
  refine x_aload_n 0 rfl dX1_init_24 ?_
  refine x_new (fs := [.ref 0, .int 0, .int 0, .int 0, .int 0, .int 0, .ref 0, .ref 0, .ref 0, .ref 0, .ref 0, .ref 0, .int 0]) ci_2 q243 q244 q125 (nf_X3 G) rfl dX1_init_25 ?_
  refine x_dup dX1_init_28 rfl ?_
  obtain ⟨c6, H⟩ := oit H
  obtain ⟨a6, g6, e6, H⟩ := obR H
  refine x_callIN (M' := mi_X3_init) (n := 0) (As := []) (t_X3_init C _ e6) c6 md_X3_init ⟨Nat.le_of_ble_eq_true rfl, Nat.le_of_ble_eq_true rfl⟩ rfl rfl q245 q246 q125 q247 rfl (Nat.le_of_ble_eq_true rfl) dX1_init_29 ?_
  refine x_aload_n 0 rfl dX1_init_32 ?_
  obtain ⟨v7, e7, H⟩ := ob H
  refine x_getf fg_X1_25 (gFr_spec e7) dX1_init_33 ?_
  obtain ⟨c8, H⟩ := oit H
  obtain ⟨a8, g8, e8, H⟩ := obR H
  refine x_callV (M' := mi_X3_begin) (n := 1) (As := [.ref v7]) (t_X3_begin C _ e8) c8 rfl rfl md_X3_begin ⟨Nat.le_of_ble_eq_true rfl, Nat.le_of_ble_eq_true rfl⟩ q305 q306 q307 q125 q308 rfl (Nat.le_of_ble_eq_true rfl) dX1_init_36 ?_
  obtain ⟨h9, e9, H⟩ := ob H
  refine x_putf fp_X1_36 rfl rfl e9 dX1_init_39 ?_
  refine x_aload_n 0 rfl dX1_init_42 ?_
  refine x_new (fs := [.ref 0, .int 0, .int 0, .int 0, .int 0, .int 0, .ref 0, .ref 0, .ref 0, .ref 0, .ref 0, .ref 0, .int 0]) ci_2 q243 q244 q125 (nf_X3 G) rfl dX1_init_43 ?_
  refine x_dup dX1_init_46 rfl ?_
  obtain ⟨c10, H⟩ := oit H
  obtain ⟨a10, g10, e10, H⟩ := obR H
  refine x_callIN (M' := mi_X3_init) (n := 0) (As := []) (t_X3_init C _ e10) c10 md_X3_init ⟨Nat.le_of_ble_eq_true rfl, Nat.le_of_ble_eq_true rfl⟩ rfl rfl q245 q246 q125 q247 rfl (Nat.le_of_ble_eq_true rfl) dX1_init_47 ?_
  refine x_aload_n 0 rfl dX1_init_50 ?_
  obtain ⟨v11, e11, H⟩ := ob H
  refine x_getf fg_X1_25 (gFr_spec e11) dX1_init_51 ?_
  obtain ⟨c12, H⟩ := oit H
  obtain ⟨a12, g12, e12, H⟩ := obR H
  refine x_callV (M' := mi_X3_begin) (n := 1) (As := [.ref v11]) (t_X3_begin C _ e12) c12 rfl rfl md_X3_begin ⟨Nat.le_of_ble_eq_true rfl, Nat.le_of_ble_eq_true rfl⟩ q305 q306 q307 q125 q308 rfl (Nat.le_of_ble_eq_true rfl) dX1_init_54 ?_
  obtain ⟨h13, e13, H⟩ := ob H
  refine x_putf fp_X1_40 rfl rfl e13 dX1_init_57 ?_
  refine x_aload_n 0 rfl dX1_init_60 ?_
  refine x_bipush (8 : Int32) dX1_init_61 bi_8 ?_
  obtain ⟨a14, g14, e14, H⟩ := obR H
  refine x_newq (by decide) q243 e14 dX1_init_63 ?_
  obtain ⟨h15, e15, H⟩ := ob H
  refine x_putf fp_X1_43 rfl rfl e15 dX1_init_66 ?_
  refine x_aload_n 0 rfl dX1_init_69 ?_
  refine x_bipush (49 : Int32) dX1_init_70 bi_49 ?_
  obtain ⟨a16, g16, e16, H⟩ := obR H
  refine x_newa (at_ := .int) (ty := .int) rfl (by decide) q304 e16 dX1_init_72 ?_
  obtain ⟨h17, e17, H⟩ := ob H
  refine x_putf fp_X1_47 rfl rfl e17 dX1_init_74 ?_
  refine x_aload_n 0 rfl dX1_init_77 ?_
  refine x_bipush (7 : Int32) dX1_init_78 bi_7 ?_
  obtain ⟨a18, g18, e18, H⟩ := obR H
  refine x_newa (at_ := .int) (ty := .int) rfl (by decide) q304 e18 dX1_init_80 ?_
  obtain ⟨h19, e19, H⟩ := ob H
  refine x_putf fp_X1_51 rfl rfl e19 dX1_init_82 ?_
  refine x_aload_n 0 rfl dX1_init_85 ?_
  refine x_iconst (-1 : Int32) dX1_init_86 ic_m1 ?_
  obtain ⟨h20, e20, H⟩ := ob H
  refine x_putf (fp_X1_54 _) rfl rfl e20 dX1_init_87 ?_
  refine x_aload_n 0 rfl dX1_init_90 ?_
  refine x_iconst (-1 : Int32) dX1_init_91 ic_m1 ?_
  obtain ⟨h21, e21, H⟩ := ob H
  refine x_putf (fp_X1_58 _) rfl rfl e21 dX1_init_92 ?_
  refine x_aload_n 0 rfl dX1_init_95 ?_
  refine x_bipush (7 : Int32) dX1_init_96 bi_7 ?_
  obtain ⟨a22, g22, e22, H⟩ := obR H
  refine x_newa (at_ := .int) (ty := .int) rfl (by decide) q304 e22 dX1_init_98 ?_
  obtain ⟨h23, e23, H⟩ := ob H
  refine x_putf fp_X1_61 rfl rfl e23 dX1_init_100 ?_
  refine x_aload_n 0 rfl dX1_init_103 ?_
  refine x_bipush (7 : Int32) dX1_init_104 bi_7 ?_
  obtain ⟨a24, g24, e24, H⟩ := obR H
  refine x_newa (at_ := .int) (ty := .int) rfl (by decide) q304 e24 dX1_init_106 ?_
  obtain ⟨h25, e25, H⟩ := ob H
  refine x_putf fp_X1_64 rfl rfl e25 dX1_init_108 ?_
  refine x_aload_n 0 rfl dX1_init_111 ?_
  refine x_iconst (-1 : Int32) dX1_init_112 ic_m1 ?_
  obtain ⟨h26, e26, H⟩ := ob H
  refine x_putf (fp_X1_67 _) rfl rfl e26 dX1_init_113 ?_
  refine x_aload_n 0 rfl dX1_init_116 ?_
  refine x_ldcS (tx := "") (a := 8) (List.mem_of_getElem? (i := 0) rfl) (by decide) (by decide) dX1_init_117 ?_
  obtain ⟨h27, e27, H⟩ := ob H
  refine x_putf (fp_X1_72 _) rfl rfl e27 dX1_init_119 ?_
  refine x_aload_n 0 rfl dX1_init_122 ?_
  refine x_iconst (4 : Int32) dX1_init_123 ic_4 ?_
  obtain ⟨a28, g28, e28, H⟩ := obR H
  refine x_newa (at_ := .int) (ty := .int) rfl (by decide) q304 e28 dX1_init_124 ?_
  refine x_dup dX1_init_126 rfl ?_
  refine x_iconst (0 : Int32) dX1_init_127 ic_0 ?_
  refine x_iconst (-1 : Int32) dX1_init_128 ic_m1 ?_
  obtain ⟨h29, e29, H⟩ := ob H
  refine x_iast e29 dX1_init_129 ?_
  refine x_dup dX1_init_130 rfl ?_
  refine x_iconst (1 : Int32) dX1_init_131 ic_1 ?_
  refine x_iconst (-1 : Int32) dX1_init_132 ic_m1 ?_
  obtain ⟨h30, e30, H⟩ := ob H
  refine x_iast e30 dX1_init_133 ?_
  refine x_dup dX1_init_134 rfl ?_
  refine x_iconst (2 : Int32) dX1_init_135 ic_2 ?_
  refine x_iconst (-1 : Int32) dX1_init_136 ic_m1 ?_
  obtain ⟨h31, e31, H⟩ := ob H
  refine x_iast e31 dX1_init_137 ?_
  refine x_dup dX1_init_138 rfl ?_
  refine x_iconst (3 : Int32) dX1_init_139 ic_3 ?_
  refine x_iconst (-1 : Int32) dX1_init_140 ic_m1 ?_
  obtain ⟨h32, e32, H⟩ := ob H
  refine x_iast e32 dX1_init_141 ?_
  obtain ⟨h33, e33, H⟩ := ob H
  refine x_putf fp_X1_76 rfl rfl e33 dX1_init_142 ?_
  refine x_aload_n 0 rfl dX1_init_145 ?_
  refine x_iconst (2 : Int32) dX1_init_146 ic_2 ?_
  obtain ⟨a34, g34, e34, H⟩ := obR H
  refine x_newq (by decide) q352 e34 dX1_init_147 ?_
  refine x_dup dX1_init_150 rfl ?_
  refine x_iconst (0 : Int32) dX1_init_151 ic_0 ?_
  refine x_new (fs := [.ref 0, .ref 0, .ref 0]) ci_3 q352 q354 q130 (nf_X4 G) rfl dX1_init_152 ?_
  refine x_dup dX1_init_155 rfl ?_
  obtain ⟨c35, H⟩ := oit H
  obtain ⟨a35, g35, e35, H⟩ := obR H
  refine x_callIN (M' := mi_X4_init) (n := 0) (As := []) (t_X4_init C _ e35) c35 md_X4_init ⟨Nat.le_of_ble_eq_true rfl, Nat.le_of_ble_eq_true rfl⟩ rfl rfl q355 q356 q130 q357 rfl (Nat.le_of_ble_eq_true rfl) dX1_init_156 ?_
  obtain ⟨h36, e36, H⟩ := ob H
  refine x_aast (by decide) cs_StrangerMarket_Kept e36 dX1_init_159 ?_
  refine x_dup dX1_init_160 rfl ?_
  refine x_iconst (1 : Int32) dX1_init_161 ic_1 ?_
  refine x_new (fs := [.ref 0, .ref 0, .ref 0]) ci_3 q352 q354 q130 (nf_X4 G) rfl dX1_init_162 ?_
  refine x_dup dX1_init_165 rfl ?_
  obtain ⟨c37, H⟩ := oit H
  obtain ⟨a37, g37, e37, H⟩ := obR H
  refine x_callIN (M' := mi_X4_init) (n := 0) (As := []) (t_X4_init C _ e37) c37 md_X4_init ⟨Nat.le_of_ble_eq_true rfl, Nat.le_of_ble_eq_true rfl⟩ rfl rfl q355 q356 q130 q357 rfl (Nat.le_of_ble_eq_true rfl) dX1_init_166 ?_
  obtain ⟨h38, e38, H⟩ := ob H
  refine x_aast (by decide) cs_StrangerMarket_Kept e38 dX1_init_169 ?_
  obtain ⟨h39, e39, H⟩ := ob H
  refine x_putf fp_X1_82 rfl rfl e39 dX1_init_170 ?_
  refine x_iconst (0 : Int32) dX1_init_173 ic_0 ?_
  refine x_istore_n [1, 0] dX1_init_174 (by decide) rfl ?_
  exact t_X1_init_L175 hE  xFu _ _ _ H
abbrev mi_X1_onTape : xM := (cX1_onTape, yX1_onTape, 2, some .int, 1)
theorem md_X1_onTape : xMD mi_X1_onTape 1 := ⟨by decide, by decide, by decide +kernel⟩
def f_X1_onTape (r0 : Nat) (x1 : Int32) (h : mH) : Option (Int32 × mH) := (gFr [0] 0 h r0).bind fun v1 => (aI .byte h v1 x1).bind fun v2 => some ((v2 &&& (255 : Int32)), h)
theorem t_X1_onTape {G : xG} (C0 : xC) {l : Launch} {r0 : Nat} {x1 : Int32} (h : mH) {o : Int32 × mH} (H : f_X1_onTape r0 x1 h = some o) : XR G l mi_X1_onTape [.ref r0, .int x1] h (some (.int o.1)) o.2 := by
  refine XR.of C0 (by decide) (Nat.le_of_ble_eq_true rfl) (fun C _ _ _ hE => ?_)
  show X G C mi_X1_onTape 0 [(0, .ref r0), (1, .int x1)] [] h
  unfold f_X1_onTape at H
  refine x_aload_n 0 rfl dX1_onTape_0 ?_
  obtain ⟨v1, e1, H⟩ := ob H
  refine x_getf fg_X1_18 (gFr_spec e1) dX1_onTape_1 ?_
  refine x_iload_n 1 rfl dX1_onTape_4 ?_
  obtain ⟨v2, e2, H⟩ := ob H
  refine x_bald e2 dX1_onTape_5 ?_
  refine x_sipush (255 : Int32) dX1_onTape_6 si_255 ?_
  refine x_iand dX1_onTape_9 ?_
  obtain rfl := Option.some.inj H
  exact x_iret hE rfl rfl dX1_onTape_10
abbrev mi_X1_isMasked : xM := (cX1_isMasked, yX1_isMasked, 4, some .boolean, 8)
theorem md_X1_isMasked : xMD mi_X1_isMasked 2 := ⟨by decide, by decide, by decide +kernel⟩
def f_X1_isMasked_b45 (kb : Nat → Int32 → Int32 → Int32 → mH → Option (Int32 × mH)) (r0 : Nat) (x1 : Int32) (x2 : Int32) (x3 : Int32) (s0 : Int32) (s1 : Int32) (h : mH) : Option (Int32 × mH) := if s0 = s1 then kb r0 x1 x2 (x3 + (2 : Int32)) h else some ((0 : Int32), h)
theorem t_X1_isMasked_b45 {G : xG} {C : xC} {o : Int32 × mH} (hE : xEnd G C (some (.int o.1)) o.2) {kb : Nat → Int32 → Int32 → Int32 → mH → Option (Int32 × mH)} (hkb : ∀ (r0 : Nat) (x1 : Int32) (x2 : Int32) (x3 : Int32) (h : mH), kb r0 x1 x2 x3 h = some o → X G C mi_X1_isMasked 2 [(0, .ref r0), (1, .int x1), (2, .int x2), (3, .int x3)] [] h) (r0 : Nat) (x1 : Int32) (x2 : Int32) (x3 : Int32) (s0 : Int32) (s1 : Int32) (h : mH) (H : f_X1_isMasked_b45 kb r0 x1 x2 x3 s0 s1 h = some o) : X G C mi_X1_isMasked 45 [(0, .ref r0), (1, .int x1), (2, .int x2), (3, .int x3)] [.int s1, .int s0] h := by
  unfold f_X1_isMasked_b45 at H
  refine x_icmp_eq 50 dX1_isMasked_45 (by decide) (fun c9 => ?_) (fun c9 => ?_)
  · rw [if_pos c9] at H
    refine x_iinc 3 (x3 + (2 : Int32)) [1, 2, 3, 0] dX1_isMasked_50 rfl (ii_2 _) (by decide) rfl ?_
    refine x_goto (tgt := 2) dX1_isMasked_53 (by decide) ?_
    exact hkb _ _ _ _ _ H
  · rw [if_neg c9] at H
    refine x_iconst (0 : Int32) dX1_isMasked_48 ic_0 ?_
    obtain rfl := Option.some.inj H
    exact x_iret hE rfl rfl dX1_isMasked_49
def f_X1_isMasked_L2 : Nat → Nat → Int32 → Int32 → Int32 → mH → Option (Int32 × mH)
  | 0, _, _, _, _, _ => none
  | n + 1, r0, x1, x2, x3, h => if x2 ≤ x3 then some ((1 : Int32), h) else if gC h r0 = 0 then bR (f_X1_onTape r0 x3 h) fun a2 g2 => if a2 = x1 then some ((0 : Int32), g2) else (gFr [0] 4 g2 r0).bind fun v4 => if gC g2 r0 = 0 then bR (f_X1_onTape r0 x3 g2) fun a5 g5 => if gC g5 v4 = 2 then bR (f_X3_may v4 x1 a5 g5) fun a6 g6 => if gC g6 r0 = 0 then bR (f_X1_onTape r0 (x3 + (1 : Int32)) g6) fun a7 g7 => if a7 = (1 : Int32) then f_X1_isMasked_b45 (f_X1_isMasked_L2 n) r0 x1 x2 x3 a6 (1 : Int32) g7 else f_X1_isMasked_b45 (f_X1_isMasked_L2 n) r0 x1 x2 x3 a6 (0 : Int32) g7 else none else none else none else none
theorem t_X1_isMasked_L2 {G : xG} {C : xC} {o : Int32 × mH} (hE : xEnd G C (some (.int o.1)) o.2) : ∀ (n : Nat) (r0 : Nat) (x1 : Int32) (x2 : Int32) (x3 : Int32) (h : mH), f_X1_isMasked_L2 n r0 x1 x2 x3 h = some o → X G C mi_X1_isMasked 2 [(0, .ref r0), (1, .int x1), (2, .int x2), (3, .int x3)] [] h := by
  intro n
  induction n with
  | zero => intro r0 x1 x2 x3 h H; exact nomatch (show (none : Option (Int32 × mH)) = some o from H)
  | succ n ih =>
    intro r0 x1 x2 x3 h H
    rw [f_X1_isMasked_L2] at H
    refine x_iload_n 3 rfl dX1_isMasked_2 ?_
    refine x_iload_n 2 rfl dX1_isMasked_3 ?_
    refine x_icmp_ge 56 dX1_isMasked_4 (by decide) (fun c1 => ?_) (fun c1 => ?_)
    · rw [if_pos c1] at H
      refine x_iconst (1 : Int32) dX1_isMasked_56 ic_1 ?_
      obtain rfl := Option.some.inj H
      exact x_iret hE rfl rfl dX1_isMasked_57
    · rw [if_neg c1] at H
      refine x_aload_n 0 rfl dX1_isMasked_7 ?_
      refine x_iload_n 3 rfl dX1_isMasked_8 ?_
      obtain ⟨c2, H⟩ := oit H
      obtain ⟨a2, g2, e2, H⟩ := obR H
      refine x_callV (M' := mi_X1_onTape) (n := 1) (As := [.int x3]) (t_X1_onTape C _ e2) c2 rfl rfl md_X1_onTape ⟨Nat.le_of_ble_eq_true rfl, Nat.le_of_ble_eq_true rfl⟩ q1389 q1391 qs28 q120 q1392 rfl (Nat.le_of_ble_eq_true rfl) dX1_isMasked_9 ?_
      refine x_iload_n 1 rfl dX1_isMasked_12 ?_
      refine x_icmp_eq 48 dX1_isMasked_13 (by decide) (fun c3 => ?_) (fun c3 => ?_)
      · rw [if_pos c3] at H
        refine x_iconst (0 : Int32) dX1_isMasked_48 ic_0 ?_
        obtain rfl := Option.some.inj H
        exact x_iret hE rfl rfl dX1_isMasked_49
      · rw [if_neg c3] at H
        refine x_aload_n 0 rfl dX1_isMasked_16 ?_
        obtain ⟨v4, e4, H⟩ := ob H
        refine x_getf fg_X1_36 (gFr_spec e4) dX1_isMasked_17 ?_
        refine x_iload_n 1 rfl dX1_isMasked_20 ?_
        refine x_aload_n 0 rfl dX1_isMasked_21 ?_
        refine x_iload_n 3 rfl dX1_isMasked_22 ?_
        obtain ⟨c5, H⟩ := oit H
        obtain ⟨a5, g5, e5, H⟩ := obR H
        refine x_callV (M' := mi_X1_onTape) (n := 1) (As := [.int x3]) (t_X1_onTape C _ e5) c5 rfl rfl md_X1_onTape ⟨Nat.le_of_ble_eq_true rfl, Nat.le_of_ble_eq_true rfl⟩ q1389 q1391 qs28 q120 q1392 rfl (Nat.le_of_ble_eq_true rfl) dX1_isMasked_23 ?_
        obtain ⟨c6, H⟩ := oit H
        obtain ⟨a6, g6, e6, H⟩ := obR H
        refine x_callV (M' := mi_X3_may) (n := 2) (As := [.int x1, .int a5]) (t_X3_may C _ e6) c6 rfl rfl md_X3_may ⟨Nat.le_of_ble_eq_true rfl, Nat.le_of_ble_eq_true rfl⟩ q1383 q1232 q1233 q125 q1234 rfl (Nat.le_of_ble_eq_true rfl) dX1_isMasked_26 ?_
        refine x_aload_n 0 rfl dX1_isMasked_29 ?_
        refine x_iload_n 3 rfl dX1_isMasked_30 ?_
        refine x_iconst (1 : Int32) dX1_isMasked_31 ic_1 ?_
        refine x_iadd dX1_isMasked_32 ?_
        obtain ⟨c7, H⟩ := oit H
        obtain ⟨a7, g7, e7, H⟩ := obR H
        refine x_callV (M' := mi_X1_onTape) (n := 1) (As := [.int (x3 + (1 : Int32))]) (t_X1_onTape C _ e7) c7 rfl rfl md_X1_onTape ⟨Nat.le_of_ble_eq_true rfl, Nat.le_of_ble_eq_true rfl⟩ q1389 q1391 qs28 q120 q1392 rfl (Nat.le_of_ble_eq_true rfl) dX1_isMasked_33 ?_
        refine x_iconst (1 : Int32) dX1_isMasked_36 ic_1 ?_
        refine x_icmp_ne 44 dX1_isMasked_37 (by decide) (fun c8 => ?_) (fun c8 => ?_)
        · rw [if_neg c8] at H
          refine x_iconst (0 : Int32) dX1_isMasked_44 ic_0 ?_
          exact t_X1_isMasked_b45 hE ih _ _ _ _ _ _ _ H
        · rw [if_pos c8] at H
          refine x_iconst (1 : Int32) dX1_isMasked_40 ic_1 ?_
          refine x_goto (tgt := 45) dX1_isMasked_41 (by decide) ?_
          exact t_X1_isMasked_b45 hE ih _ _ _ _ _ _ _ H
def f_X1_isMasked (r0 : Nat) (x1 : Int32) (x2 : Int32) (h : mH) : Option (Int32 × mH) := f_X1_isMasked_L2  xFu r0 x1 x2 (0 : Int32) h
theorem t_X1_isMasked {G : xG} (C0 : xC) {l : Launch} {r0 : Nat} {x1 : Int32} {x2 : Int32} (h : mH) {o : Int32 × mH} (H : f_X1_isMasked r0 x1 x2 h = some o) : XR G l mi_X1_isMasked [.ref r0, .int x1, .int x2] h (some (.int o.1)) o.2 := by
  refine XR.of C0 (by decide) (Nat.le_of_ble_eq_true rfl) (fun C _ _ _ hE => ?_)
  show X G C mi_X1_isMasked 0 [(0, .ref r0), (1, .int x1), (2, .int x2)] [] h
  unfold f_X1_isMasked at H
  refine x_iconst (0 : Int32) dX1_isMasked_0 ic_0 ?_
  refine x_istore_n [1, 2, 3, 0] dX1_isMasked_1 (by decide) rfl ?_
  exact t_X1_isMasked_L2 hE  xFu _ _ _ _ _ H
abbrev mi_X1_isServed : xM := (cX1_isServed, yX1_isServed, 4, some .boolean, 9)
theorem md_X1_isServed : xMD mi_X1_isServed 2 := ⟨by decide, by decide, by decide +kernel⟩
def f_X1_isServed_b41 (kb : Nat → Int32 → Int32 → Int32 → mH → Option (Int32 × mH)) (r0 : Nat) (x1 : Int32) (x2 : Int32) (x3 : Int32) (h : mH) : Option (Int32 × mH) := kb r0 x1 x2 (x3 + (1 : Int32)) h
theorem t_X1_isServed_b41 {G : xG} {C : xC} {o : Int32 × mH} (hE : xEnd G C (some (.int o.1)) o.2) {kb : Nat → Int32 → Int32 → Int32 → mH → Option (Int32 × mH)} (hkb : ∀ (r0 : Nat) (x1 : Int32) (x2 : Int32) (x3 : Int32) (h : mH), kb r0 x1 x2 x3 h = some o → X G C mi_X1_isServed 2 [(0, .ref r0), (1, .int x1), (2, .int x2), (3, .int x3)] [] h) (r0 : Nat) (x1 : Int32) (x2 : Int32) (x3 : Int32) (h : mH) (H : f_X1_isServed_b41 kb r0 x1 x2 x3 h = some o) : X G C mi_X1_isServed 41 [(0, .ref r0), (1, .int x1), (2, .int x2), (3, .int x3)] [] h := by
  unfold f_X1_isServed_b41 at H
  refine x_iinc 3 (x3 + (1 : Int32)) [1, 2, 3, 0] dX1_isServed_41 rfl (ii_1 _) (by decide) rfl ?_
  refine x_goto (tgt := 2) dX1_isServed_44 (by decide) ?_
  exact hkb _ _ _ _ _ H
def f_X1_isServed_L2 : Nat → Nat → Int32 → Int32 → Int32 → mH → Option (Int32 × mH)
  | 0, _, _, _, _, _ => none
  | n + 1, r0, x1, x2, x3, h => if gC h r0 = 0 then bR (f_X1_persons r0  h) fun a1 g1 => if a1 ≤ x3 then some ((1 : Int32), g1) else (gFr [0] 4 g1 r0).bind fun v3 => if gC g1 v3 = 2 then bR (f_X3_person v3 x3 g1) fun a4 g4 => (gFr [10] 6 g4 a4).bind fun v5 => (aI .int g4 v5 x2).bind fun v6 => if v6 ≤ 0 then f_X1_isServed_b41 (f_X1_isServed_L2 n) r0 x1 x2 x3 g4 else (gFr [0] 4 g4 r0).bind fun v8 => if gC g4 v8 = 2 then bR (f_X3_mays v8 x3 g4) fun a9 g9 => if (a9 &&& x1) = 0 then some ((0 : Int32), g9) else f_X1_isServed_b41 (f_X1_isServed_L2 n) r0 x1 x2 x3 g9 else none else none else none
theorem t_X1_isServed_L2 {G : xG} {C : xC} {o : Int32 × mH} (hE : xEnd G C (some (.int o.1)) o.2) : ∀ (n : Nat) (r0 : Nat) (x1 : Int32) (x2 : Int32) (x3 : Int32) (h : mH), f_X1_isServed_L2 n r0 x1 x2 x3 h = some o → X G C mi_X1_isServed 2 [(0, .ref r0), (1, .int x1), (2, .int x2), (3, .int x3)] [] h := by
  intro n
  induction n with
  | zero => intro r0 x1 x2 x3 h H; exact nomatch (show (none : Option (Int32 × mH)) = some o from H)
  | succ n ih =>
    intro r0 x1 x2 x3 h H
    rw [f_X1_isServed_L2] at H
    refine x_iload_n 3 rfl dX1_isServed_2 ?_
    refine x_aload_n 0 rfl dX1_isServed_3 ?_
    obtain ⟨c1, H⟩ := oit H
    obtain ⟨a1, g1, e1, H⟩ := obR H
    refine x_callV (M' := mi_X1_persons) (n := 0) (As := []) (t_X1_persons C _ e1) c1 rfl rfl md_X1_persons ⟨Nat.le_of_ble_eq_true rfl, Nat.le_of_ble_eq_true rfl⟩ q1140 q1142 qs22 q120 q1143 rfl (Nat.le_of_ble_eq_true rfl) dX1_isServed_4 ?_
    refine x_icmp_ge 47 dX1_isServed_7 (by decide) (fun c2 => ?_) (fun c2 => ?_)
    · rw [if_pos c2] at H
      refine x_iconst (1 : Int32) dX1_isServed_47 ic_1 ?_
      obtain rfl := Option.some.inj H
      exact x_iret hE rfl rfl dX1_isServed_48
    · rw [if_neg c2] at H
      refine x_aload_n 0 rfl dX1_isServed_10 ?_
      obtain ⟨v3, e3, H⟩ := ob H
      refine x_getf fg_X1_36 (gFr_spec e3) dX1_isServed_11 ?_
      refine x_iload_n 3 rfl dX1_isServed_14 ?_
      obtain ⟨c4, H⟩ := oit H
      obtain ⟨a4, g4, e4, H⟩ := obR H
      refine x_callV (M' := mi_X3_person) (n := 1) (As := [.int x3]) (t_X3_person C _ e4) c4 rfl rfl md_X3_person ⟨Nat.le_of_ble_eq_true rfl, Nat.le_of_ble_eq_true rfl⟩ q1127 q321 q322 q125 q323 rfl (Nat.le_of_ble_eq_true rfl) dX1_isServed_15 ?_
      obtain ⟨v5, e5, H⟩ := ob H
      refine x_getf fg_X1_301 (gFr_spec e5) dX1_isServed_18 ?_
      refine x_iload_n 2 rfl dX1_isServed_21 ?_
      obtain ⟨v6, e6, H⟩ := ob H
      refine x_iald e6 dX1_isServed_22 ?_
      refine x_if_le 41 dX1_isServed_23 (by decide) (fun c7 => ?_) (fun c7 => ?_)
      · rw [if_pos c7] at H
        exact t_X1_isServed_b41 hE ih _ _ _ _ _ H
      · rw [if_neg c7] at H
        refine x_aload_n 0 rfl dX1_isServed_26 ?_
        obtain ⟨v8, e8, H⟩ := ob H
        refine x_getf fg_X1_36 (gFr_spec e8) dX1_isServed_27 ?_
        refine x_iload_n 3 rfl dX1_isServed_30 ?_
        obtain ⟨c9, H⟩ := oit H
        obtain ⟨a9, g9, e9, H⟩ := obR H
        refine x_callV (M' := mi_X3_mays) (n := 1) (As := [.int x3]) (t_X3_mays C _ e9) c9 rfl rfl md_X3_mays ⟨Nat.le_of_ble_eq_true rfl, Nat.le_of_ble_eq_true rfl⟩ q1401 q1402 q1403 q125 q1404 rfl (Nat.le_of_ble_eq_true rfl) dX1_isServed_31 ?_
        refine x_iload_n 1 rfl dX1_isServed_34 ?_
        refine x_iand dX1_isServed_35 ?_
        refine x_if_ne 41 dX1_isServed_36 (by decide) (fun c10 => ?_) (fun c10 => ?_)
        · rw [if_neg c10] at H
          exact t_X1_isServed_b41 hE ih _ _ _ _ _ H
        · rw [if_pos c10] at H
          refine x_iconst (0 : Int32) dX1_isServed_39 ic_0 ?_
          obtain rfl := Option.some.inj H
          exact x_iret hE rfl rfl dX1_isServed_40
def f_X1_isServed (r0 : Nat) (x1 : Int32) (x2 : Int32) (h : mH) : Option (Int32 × mH) := f_X1_isServed_L2  xFu r0 x1 x2 (0 : Int32) h
theorem t_X1_isServed {G : xG} (C0 : xC) {l : Launch} {r0 : Nat} {x1 : Int32} {x2 : Int32} (h : mH) {o : Int32 × mH} (H : f_X1_isServed r0 x1 x2 h = some o) : XR G l mi_X1_isServed [.ref r0, .int x1, .int x2] h (some (.int o.1)) o.2 := by
  refine XR.of C0 (by decide) (Nat.le_of_ble_eq_true rfl) (fun C _ _ _ hE => ?_)
  show X G C mi_X1_isServed 0 [(0, .ref r0), (1, .int x1), (2, .int x2)] [] h
  unfold f_X1_isServed at H
  refine x_iconst (0 : Int32) dX1_isServed_0 ic_0 ?_
  refine x_istore_n [1, 2, 3, 0] dX1_isServed_1 (by decide) rfl ?_
  exact t_X1_isServed_L2 hE  xFu _ _ _ _ _ H
abbrev mi_X1_leftBy : xM := (cX1_leftBy, yX1_leftBy, 4, some .int, 9)
theorem md_X1_leftBy : xMD mi_X1_leftBy 2 := ⟨by decide, by decide, by decide +kernel⟩
def f_X1_leftBy (r0 : Nat) (x1 : Int32) (x2 : Int32) (h : mH) : Option (Int32 × mH) := (gFr [0] 4 h r0).bind fun v1 => if gC h v1 = 2 then bR (f_X3_mays v1 x2 h) fun a2 g2 => bR (f_X1_many (x1 &&& a2) g2) fun a3 g3 => bR (f_X1_many x1 g3) fun a4 g4 => some ((if a3 < (a4 - a3) then (a4 - a3) else a3), g4) else none
theorem t_X1_leftBy {G : xG} (C0 : xC) {l : Launch} {r0 : Nat} {x1 : Int32} {x2 : Int32} (h : mH) {o : Int32 × mH} (H : f_X1_leftBy r0 x1 x2 h = some o) : XR G l mi_X1_leftBy [.ref r0, .int x1, .int x2] h (some (.int o.1)) o.2 := by
  refine XR.of C0 (by decide) (Nat.le_of_ble_eq_true rfl) (fun C _ _ _ hE => ?_)
  show X G C mi_X1_leftBy 0 [(0, .ref r0), (1, .int x1), (2, .int x2)] [] h
  unfold f_X1_leftBy at H
  refine x_iload_n 1 rfl dX1_leftBy_0 ?_
  refine x_aload_n 0 rfl dX1_leftBy_1 ?_
  obtain ⟨v1, e1, H⟩ := ob H
  refine x_getf fg_X1_36 (gFr_spec e1) dX1_leftBy_2 ?_
  refine x_iload_n 2 rfl dX1_leftBy_5 ?_
  obtain ⟨c2, H⟩ := oit H
  obtain ⟨a2, g2, e2, H⟩ := obR H
  refine x_callV (M' := mi_X3_mays) (n := 1) (As := [.int x2]) (t_X3_mays C _ e2) c2 rfl rfl md_X3_mays ⟨Nat.le_of_ble_eq_true rfl, Nat.le_of_ble_eq_true rfl⟩ q1401 q1402 q1403 q125 q1404 rfl (Nat.le_of_ble_eq_true rfl) dX1_leftBy_6 ?_
  refine x_iand dX1_leftBy_9 ?_
  obtain ⟨a3, g3, e3, H⟩ := obR H
  refine x_callS (M' := mi_X1_many) (n := 1) (As := [.int (x1 &&& a2)]) (t_X1_many C _ e3) md_X1_many ⟨Nat.le_of_ble_eq_true rfl, Nat.le_of_ble_eq_true rfl⟩ q1153 q1154 q120 q1155 rfl (Nat.le_of_ble_eq_true rfl) dX1_leftBy_10 ?_
  refine x_istore_n [1, 2, 3, 0] dX1_leftBy_13 (by decide) rfl ?_
  refine x_iload_n 3 rfl dX1_leftBy_14 ?_
  refine x_iload_n 1 rfl dX1_leftBy_15 ?_
  obtain ⟨a4, g4, e4, H⟩ := obR H
  refine x_callS (M' := mi_X1_many) (n := 1) (As := [.int x1]) (t_X1_many C _ e4) md_X1_many ⟨Nat.le_of_ble_eq_true rfl, Nat.le_of_ble_eq_true rfl⟩ q1153 q1154 q120 q1155 rfl (Nat.le_of_ble_eq_true rfl) dX1_leftBy_16 ?_
  refine x_iload_n 3 rfl dX1_leftBy_19 ?_
  refine x_isub dX1_leftBy_20 ?_
  refine x_mmax (by decide) q1405 q583 q139 q584 (Nat.le_of_ble_eq_true rfl) dX1_leftBy_21 ?_
  obtain rfl := Option.some.inj H
  exact x_iret hE rfl rfl dX1_leftBy_24
abbrev mi_X1_most : xM := (cX1_most, yX1_most, 5, some .int, 26)
theorem md_X1_most : xMD mi_X1_most 1 := ⟨by decide, by decide, by decide +kernel⟩
def f_X1_most_b107 (kb : Nat → Int32 → Int32 → Int32 → mH → Option (Int32 × mH)) (r0 : Nat) (x1 : Int32) (x2 : Int32) (x3 : Int32) (h : mH) : Option (Int32 × mH) := kb r0 x1 x2 (x3 + (1 : Int32)) h
theorem t_X1_most_b107 {G : xG} {C : xC} {o : Int32 × mH} (hE : xEnd G C (some (.int o.1)) o.2) {kb : Nat → Int32 → Int32 → Int32 → mH → Option (Int32 × mH)} (hkb : ∀ (r0 : Nat) (x1 : Int32) (x2 : Int32) (x3 : Int32) (h : mH), kb r0 x1 x2 x3 h = some o → X G C mi_X1_most 57 [(0, .ref r0), (1, .int x1), (2, .int x2), (3, .int x3)] [] h) (r0 : Nat) (x1 : Int32) (x2 : Int32) (x3 : Int32) (h : mH) (H : f_X1_most_b107 kb r0 x1 x2 x3 h = some o) : X G C mi_X1_most 107 [(0, .ref r0), (1, .int x1), (2, .int x2), (3, .int x3)] [] h := by
  unfold f_X1_most_b107 at H
  refine x_iinc 3 (x3 + (1 : Int32)) [1, 2, 3, 0] dX1_most_107 rfl (ii_1 _) (by decide) rfl ?_
  refine x_goto (tgt := 57) dX1_most_110 (by decide) ?_
  exact hkb _ _ _ _ _ H
def f_X1_most_b101 (kb : Nat → Int32 → Int32 → Int32 → Int32 → mH → Option (Int32 × mH)) (k107 : Nat → Int32 → Int32 → Int32 → mH → Option (Int32 × mH)) (r0 : Nat) (x1 : Int32) (x2 : Int32) (x3 : Int32) (x4 : Int32) (h : mH) : Option (Int32 × mH) := kb r0 x1 x2 x3 (x4 + (-1 : Int32)) h
theorem t_X1_most_b101 {G : xG} {C : xC} {o : Int32 × mH} (hE : xEnd G C (some (.int o.1)) o.2) {kb : Nat → Int32 → Int32 → Int32 → Int32 → mH → Option (Int32 × mH)} (hkb : ∀ (r0 : Nat) (x1 : Int32) (x2 : Int32) (x3 : Int32) (x4 : Int32) (h : mH), kb r0 x1 x2 x3 x4 h = some o → X G C mi_X1_most 80 [(0, .ref r0), (1, .int x1), (2, .int x2), (3, .int x3), (4, .int x4)] [] h) {k107 : Nat → Int32 → Int32 → Int32 → mH → Option (Int32 × mH)} (hk107 : ∀ (r0 : Nat) (x1 : Int32) (x2 : Int32) (x3 : Int32) (h : mH), k107 r0 x1 x2 x3 h = some o → X G C mi_X1_most 107 [(0, .ref r0), (1, .int x1), (2, .int x2), (3, .int x3)] [] h) (r0 : Nat) (x1 : Int32) (x2 : Int32) (x3 : Int32) (x4 : Int32) (h : mH) (H : f_X1_most_b101 kb k107 r0 x1 x2 x3 x4 h = some o) : X G C mi_X1_most 101 [(0, .ref r0), (1, .int x1), (2, .int x2), (3, .int x3), (4, .int x4)] [] h := by
  unfold f_X1_most_b101 at H
  refine x_iinc 4 (x4 + (-1 : Int32)) [1, 2, 3, 4, 0] dX1_most_101 rfl (ii_m1 _) (by decide) rfl ?_
  refine x_goto (tgt := 80) dX1_most_104 (by decide) ?_
  exact hkb _ _ _ _ _ _ H
def f_X1_most_L80 (k107 : Nat → Int32 → Int32 → Int32 → mH → Option (Int32 × mH)) : Nat → Nat → Int32 → Int32 → Int32 → Int32 → mH → Option (Int32 × mH)
  | 0, _, _, _, _, _, _ => none
  | n + 1, r0, x1, x2, x3, x4, h => if x4 ≤ 0 then k107 r0 x1 x2 x3 h else (pF [0] 11 (.int (0 : Int32)) h r0).bind fun h11 => if gC h11 r0 = 0 then bR (f_X1_comes 16 r0 x3 h11) fun a12 g12 => if a12 = 0 then f_X1_most_b101 (f_X1_most_L80 k107 n) k107 r0 x1 x2 x3 x4 g12 else f_X1_most_b101 (f_X1_most_L80 k107 n) k107 r0 x1 (x2 + (1 : Int32)) x3 x4 g12 else none
theorem t_X1_most_L80 {G : xG} {C : xC} {o : Int32 × mH} (hE : xEnd G C (some (.int o.1)) o.2) {k107 : Nat → Int32 → Int32 → Int32 → mH → Option (Int32 × mH)} (hk107 : ∀ (r0 : Nat) (x1 : Int32) (x2 : Int32) (x3 : Int32) (h : mH), k107 r0 x1 x2 x3 h = some o → X G C mi_X1_most 107 [(0, .ref r0), (1, .int x1), (2, .int x2), (3, .int x3)] [] h) : ∀ (n : Nat) (r0 : Nat) (x1 : Int32) (x2 : Int32) (x3 : Int32) (x4 : Int32) (h : mH), f_X1_most_L80 k107 n r0 x1 x2 x3 x4 h = some o → X G C mi_X1_most 80 [(0, .ref r0), (1, .int x1), (2, .int x2), (3, .int x3), (4, .int x4)] [] h := by
  intro n
  induction n with
  | zero => intro r0 x1 x2 x3 x4 h H; exact nomatch (show (none : Option (Int32 × mH)) = some o from H)
  | succ n ih =>
    intro r0 x1 x2 x3 x4 h H
    rw [f_X1_most_L80] at H
    refine x_iload 4 rfl dX1_most_80 ?_
    refine x_if_le 107 dX1_most_82 (by decide) (fun c10 => ?_) (fun c10 => ?_)
    · rw [if_pos c10] at H
      refine X.sub [0, 1, 2, 3] rfl ?_
      exact hk107 _ _ _ _ _ H
    · rw [if_neg c10] at H
      refine x_aload_n 0 rfl dX1_most_85 ?_
      refine x_iconst (0 : Int32) dX1_most_86 ic_0 ?_
      obtain ⟨h11, e11, H⟩ := ob H
      refine x_putf (fp_X1_268 _) rfl rfl e11 dX1_most_87 ?_
      refine x_aload_n 0 rfl dX1_most_90 ?_
      refine x_iload_n 3 rfl dX1_most_91 ?_
      obtain ⟨c12, H⟩ := oit H
      obtain ⟨a12, g12, e12, H⟩ := obR H
      refine x_callV (M' := (mi_X1_comes 16)) (n := 1) (As := [.int x3]) (t_X1_comes C 16 _ e12) c12 rfl rfl (md_X1_comes 16) ⟨Nat.le_of_ble_eq_true rfl, Nat.le_of_ble_eq_true rfl⟩ q1374 q1376 qs26 q120 q1377 rfl (Nat.le_of_ble_eq_true rfl) dX1_most_92 ?_
      refine x_if_eq 101 dX1_most_95 (by decide) (fun c13 => ?_) (fun c13 => ?_)
      · rw [if_pos c13] at H
        exact t_X1_most_b101 hE ih hk107 _ _ _ _ _ _ H
      · rw [if_neg c13] at H
        refine x_iinc 2 (x2 + (1 : Int32)) [1, 2, 0, 3, 4] dX1_most_98 rfl (ii_1 _) (by decide) rfl ?_
        exact t_X1_most_b101 hE ih hk107 _ _ _ _ _ _ H
def f_X1_most_L57 : Nat → Nat → Int32 → Int32 → Int32 → mH → Option (Int32 × mH)
  | 0, _, _, _, _, _ => none
  | n + 1, r0, x1, x2, x3, h => if gC h r0 = 0 then bR (f_X1_persons r0  h) fun a5 g5 => if a5 ≤ x3 then some (x2, g5) else (gFr [0] 4 g5 r0).bind fun v7 => (gFr [2] 11 g5 v7).bind fun v8 => (aI .int g5 v8 (((5 : Int32) * x3) + x1)).bind fun v9 => f_X1_most_L80 (f_X1_most_b107 (f_X1_most_L57 n)) xFu r0 x1 x2 x3 v9 g5 else none
theorem t_X1_most_L57 {G : xG} {C : xC} {o : Int32 × mH} (hE : xEnd G C (some (.int o.1)) o.2) : ∀ (n : Nat) (r0 : Nat) (x1 : Int32) (x2 : Int32) (x3 : Int32) (h : mH), f_X1_most_L57 n r0 x1 x2 x3 h = some o → X G C mi_X1_most 57 [(0, .ref r0), (1, .int x1), (2, .int x2), (3, .int x3)] [] h := by
  intro n
  induction n with
  | zero => intro r0 x1 x2 x3 h H; exact nomatch (show (none : Option (Int32 × mH)) = some o from H)
  | succ n ih =>
    intro r0 x1 x2 x3 h H
    rw [f_X1_most_L57] at H
    refine x_iload_n 3 rfl dX1_most_57 ?_
    refine x_aload_n 0 rfl dX1_most_58 ?_
    obtain ⟨c5, H⟩ := oit H
    obtain ⟨a5, g5, e5, H⟩ := obR H
    refine x_callV (M' := mi_X1_persons) (n := 0) (As := []) (t_X1_persons C _ e5) c5 rfl rfl md_X1_persons ⟨Nat.le_of_ble_eq_true rfl, Nat.le_of_ble_eq_true rfl⟩ q1140 q1142 qs22 q120 q1143 rfl (Nat.le_of_ble_eq_true rfl) dX1_most_59 ?_
    refine x_icmp_ge 113 dX1_most_62 (by decide) (fun c6 => ?_) (fun c6 => ?_)
    · rw [if_pos c6] at H
      refine x_iload_n 2 rfl dX1_most_113 ?_
      obtain rfl := Option.some.inj H
      exact x_iret hE rfl rfl dX1_most_114
    · rw [if_neg c6] at H
      refine x_aload_n 0 rfl dX1_most_65 ?_
      obtain ⟨v7, e7, H⟩ := ob H
      refine x_getf fg_X1_36 (gFr_spec e7) dX1_most_66 ?_
      obtain ⟨v8, e8, H⟩ := ob H
      refine x_getf fg_X1_188 (gFr_spec e8) dX1_most_69 ?_
      refine x_iconst (5 : Int32) dX1_most_72 ic_5 ?_
      refine x_iload_n 3 rfl dX1_most_73 ?_
      refine x_imul dX1_most_74 ?_
      refine x_iload_n 1 rfl dX1_most_75 ?_
      refine x_iadd dX1_most_76 ?_
      obtain ⟨v9, e9, H⟩ := ob H
      refine x_iald e9 dX1_most_77 ?_
      refine x_istore [1, 2, 3, 4, 0] dX1_most_78 (by decide) rfl ?_
      exact t_X1_most_L80 hE (t_X1_most_b107 hE ih) xFu _ _ _ _ _ _ H
def f_X1_most_b53 (r0 : Nat) (x1 : Int32) (h : mH) : Option (Int32 × mH) := f_X1_most_L57  xFu r0 x1 (0 : Int32) (0 : Int32) h
theorem t_X1_most_b53 {G : xG} {C : xC} {o : Int32 × mH} (hE : xEnd G C (some (.int o.1)) o.2) (r0 : Nat) (x1 : Int32) (h : mH) (H : f_X1_most_b53 r0 x1 h = some o) : X G C mi_X1_most 53 [(0, .ref r0), (1, .int x1)] [] h := by
  unfold f_X1_most_b53 at H
  refine x_iconst (0 : Int32) dX1_most_53 ic_0 ?_
  refine x_istore_n [1, 2, 0] dX1_most_54 (by decide) rfl ?_
  refine x_iconst (0 : Int32) dX1_most_55 ic_0 ?_
  refine x_istore_n [1, 2, 3, 0] dX1_most_56 (by decide) rfl ?_
  exact t_X1_most_L57 hE  xFu _ _ _ _ _ H
def f_X1_most_L20 (k53 : Nat → Int32 → mH → Option (Int32 × mH)) : Nat → Nat → Int32 → Int32 → mH → Option (Int32 × mH)
  | 0, _, _, _, _ => none
  | n + 1, r0, x1, x2, h => if gC h r0 = 0 then bR (f_X1_persons r0  h) fun a14 g14 => if a14 ≤ x2 then k53 r0 x1 g14 else (gFr [0] 10 g14 r0).bind fun v16 => (gFr [0] 4 g14 r0).bind fun v17 => (gFr [2] 10 g14 v17).bind fun v18 => (aI .int g14 v18 (((5 : Int32) * x2) + x1)).bind fun v19 => (sI .int g14 v16 x2 v19).bind fun h20 => (f_X1_most_L20 k53 n) r0 x1 (x2 + (1 : Int32)) h20 else none
theorem t_X1_most_L20 {G : xG} {C : xC} {o : Int32 × mH} (hE : xEnd G C (some (.int o.1)) o.2) {k53 : Nat → Int32 → mH → Option (Int32 × mH)} (hk53 : ∀ (r0 : Nat) (x1 : Int32) (h : mH), k53 r0 x1 h = some o → X G C mi_X1_most 53 [(0, .ref r0), (1, .int x1)] [] h) : ∀ (n : Nat) (r0 : Nat) (x1 : Int32) (x2 : Int32) (h : mH), f_X1_most_L20 k53 n r0 x1 x2 h = some o → X G C mi_X1_most 20 [(0, .ref r0), (1, .int x1), (2, .int x2)] [] h := by
  intro n
  induction n with
  | zero => intro r0 x1 x2 h H; exact nomatch (show (none : Option (Int32 × mH)) = some o from H)
  | succ n ih =>
    intro r0 x1 x2 h H
    rw [f_X1_most_L20] at H
    refine x_iload_n 2 rfl dX1_most_20 ?_
    refine x_aload_n 0 rfl dX1_most_21 ?_
    obtain ⟨c14, H⟩ := oit H
    obtain ⟨a14, g14, e14, H⟩ := obR H
    refine x_callV (M' := mi_X1_persons) (n := 0) (As := []) (t_X1_persons C _ e14) c14 rfl rfl md_X1_persons ⟨Nat.le_of_ble_eq_true rfl, Nat.le_of_ble_eq_true rfl⟩ q1140 q1142 qs22 q120 q1143 rfl (Nat.le_of_ble_eq_true rfl) dX1_most_22 ?_
    refine x_icmp_ge 53 dX1_most_25 (by decide) (fun c15 => ?_) (fun c15 => ?_)
    · rw [if_pos c15] at H
      refine X.sub [0, 1] rfl ?_
      exact hk53 _ _ _ H
    · rw [if_neg c15] at H
      refine x_aload_n 0 rfl dX1_most_28 ?_
      obtain ⟨v16, e16, H⟩ := ob H
      refine x_getf fg_X1_51 (gFr_spec e16) dX1_most_29 ?_
      refine x_iload_n 2 rfl dX1_most_32 ?_
      refine x_aload_n 0 rfl dX1_most_33 ?_
      obtain ⟨v17, e17, H⟩ := ob H
      refine x_getf fg_X1_36 (gFr_spec e17) dX1_most_34 ?_
      obtain ⟨v18, e18, H⟩ := ob H
      refine x_getf fg_X1_185 (gFr_spec e18) dX1_most_37 ?_
      refine x_iconst (5 : Int32) dX1_most_40 ic_5 ?_
      refine x_iload_n 2 rfl dX1_most_41 ?_
      refine x_imul dX1_most_42 ?_
      refine x_iload_n 1 rfl dX1_most_43 ?_
      refine x_iadd dX1_most_44 ?_
      obtain ⟨v19, e19, H⟩ := ob H
      refine x_iald e19 dX1_most_45 ?_
      obtain ⟨h20, e20, H⟩ := ob H
      refine x_iast e20 dX1_most_46 ?_
      refine x_iinc 2 (x2 + (1 : Int32)) [1, 2, 0] dX1_most_47 rfl (ii_1 _) (by decide) rfl ?_
      refine x_goto (tgt := 20) dX1_most_50 (by decide) ?_
      exact ih _ _ _ _ H
def f_X1_most (r0 : Nat) (x1 : Int32) (h : mH) : Option (Int32 × mH) := if gC h r0 = 0 then bR (f_X1_isGood r0 x1 h) fun a1 g1 => if a1 = 0 then some ((-1 : Int32), g1) else (gFr [0] 9 g1 r0).bind fun v3 => bR (f_J3_fill v3 (0 : Int32) g1) fun a4 g4 => f_X1_most_L20 (f_X1_most_b53) xFu r0 x1 (0 : Int32) g4 else none
theorem t_X1_most {G : xG} (C0 : xC) {l : Launch} {r0 : Nat} {x1 : Int32} (h : mH) {o : Int32 × mH} (H : f_X1_most r0 x1 h = some o) : XR G l mi_X1_most [.ref r0, .int x1] h (some (.int o.1)) o.2 := by
  refine XR.of C0 (by decide) (Nat.le_of_ble_eq_true rfl) (fun C _ _ _ hE => ?_)
  show X G C mi_X1_most 0 [(0, .ref r0), (1, .int x1)] [] h
  unfold f_X1_most at H
  refine x_aload_n 0 rfl dX1_most_0 ?_
  refine x_iload_n 1 rfl dX1_most_1 ?_
  obtain ⟨c1, H⟩ := oit H
  obtain ⟨a1, g1, e1, H⟩ := obR H
  refine x_callV (M' := mi_X1_isGood) (n := 1) (As := [.int x1]) (t_X1_isGood C _ e1) c1 rfl rfl md_X1_isGood ⟨Nat.le_of_ble_eq_true rfl, Nat.le_of_ble_eq_true rfl⟩ q1118 q1120 qs20 q120 q1121 rfl (Nat.le_of_ble_eq_true rfl) dX1_most_2 ?_
  refine x_if_ne 10 dX1_most_5 (by decide) (fun c2 => ?_) (fun c2 => ?_)
  · rw [if_neg c2] at H
    refine x_aload_n 0 rfl dX1_most_10 ?_
    obtain ⟨v3, e3, H⟩ := ob H
    refine x_getf fg_X1_47 (gFr_spec e3) dX1_most_11 ?_
    refine x_iconst (0 : Int32) dX1_most_14 ic_0 ?_
    obtain ⟨a4, g4, e4, H⟩ := obR H
    refine x_callS (M' := mi_J3_fill) (n := 2) (As := [.ref v3, .int (0 : Int32)]) (t_J3_fill C _ e4) md_J3_fill ⟨Nat.le_of_ble_eq_true rfl, Nat.le_of_ble_eq_true rfl⟩ q1373 q310 q126 q311 rfl (Nat.le_of_ble_eq_true rfl) dX1_most_15 ?_
    refine x_iconst (0 : Int32) dX1_most_18 ic_0 ?_
    refine x_istore_n [1, 2, 0] dX1_most_19 (by decide) rfl ?_
    exact t_X1_most_L20 hE (t_X1_most_b53 hE) xFu _ _ _ _ H
  · rw [if_pos c2] at H
    refine x_iconst (-1 : Int32) dX1_most_8 ic_m1 ?_
    obtain rfl := Option.some.inj H
    exact x_iret hE rfl rfl dX1_most_9
abbrev mi_X1_nod : xM := (cX1_nod, yX1_nod, 3, some .int, 11)
theorem md_X1_nod : xMD mi_X1_nod 2 := ⟨by decide, by decide, by decide +kernel⟩
def f_X1_nod (r0 : Nat) (x1 : Int32) (x2 : Int32) (h : mH) : Option (Int32 × mH) := if gC h r0 = 0 then bR (f_X1_isPerson r0 x1 h) fun a1 g1 => if a1 = 0 then some ((-1 : Int32), g1) else if gC g1 r0 = 0 then bR (f_X1_isPerson r0 x2 g1) fun a3 g3 => if a3 = 0 then some ((-1 : Int32), g3) else if 6 ≤ g3.2.1 then bR (f_X14_init g3.2.1 x1 x2 (xnw g3 (.inr (12, [.int 0, .int 0])) 2)) fun a5 g5 => if gC g5 r0 = 0 then bR (f_X1_does r0 g3.2.1 g5) fun a6 g6 => some (a6, g6) else none else none else none else none
theorem t_X1_nod {G : xG} (C0 : xC) {l : Launch} {r0 : Nat} {x1 : Int32} {x2 : Int32} (h : mH) {o : Int32 × mH} (H : f_X1_nod r0 x1 x2 h = some o) : XR G l mi_X1_nod [.ref r0, .int x1, .int x2] h (some (.int o.1)) o.2 := by
  refine XR.of C0 (by decide) (Nat.le_of_ble_eq_true rfl) (fun C _ _ _ hE => ?_)
  show X G C mi_X1_nod 0 [(0, .ref r0), (1, .int x1), (2, .int x2)] [] h
  unfold f_X1_nod at H
  refine x_aload_n 0 rfl dX1_nod_0 ?_
  refine x_iload_n 1 rfl dX1_nod_1 ?_
  obtain ⟨c1, H⟩ := oit H
  obtain ⟨a1, g1, e1, H⟩ := obR H
  refine x_callV (M' := mi_X1_isPerson) (n := 1) (As := [.int x1]) (t_X1_isPerson C _ e1) c1 rfl rfl md_X1_isPerson ⟨Nat.le_of_ble_eq_true rfl, Nat.le_of_ble_eq_true rfl⟩ q1108 q1110 qs19 q120 q1111 rfl (Nat.le_of_ble_eq_true rfl) dX1_nod_2 ?_
  refine x_if_eq 32 dX1_nod_5 (by decide) (fun c2 => ?_) (fun c2 => ?_)
  · rw [if_pos c2] at H
    refine x_iconst (-1 : Int32) dX1_nod_32 ic_m1 ?_
    obtain rfl := Option.some.inj H
    exact x_iret hE rfl rfl dX1_nod_33
  · rw [if_neg c2] at H
    refine x_aload_n 0 rfl dX1_nod_8 ?_
    refine x_iload_n 2 rfl dX1_nod_9 ?_
    obtain ⟨c3, H⟩ := oit H
    obtain ⟨a3, g3, e3, H⟩ := obR H
    refine x_callV (M' := mi_X1_isPerson) (n := 1) (As := [.int x2]) (t_X1_isPerson C _ e3) c3 rfl rfl md_X1_isPerson ⟨Nat.le_of_ble_eq_true rfl, Nat.le_of_ble_eq_true rfl⟩ q1108 q1110 qs19 q120 q1111 rfl (Nat.le_of_ble_eq_true rfl) dX1_nod_10 ?_
    refine x_if_eq 32 dX1_nod_13 (by decide) (fun c4 => ?_) (fun c4 => ?_)
    · rw [if_pos c4] at H
      refine x_iconst (-1 : Int32) dX1_nod_32 ic_m1 ?_
      obtain rfl := Option.some.inj H
      exact x_iret hE rfl rfl dX1_nod_33
    · rw [if_neg c4] at H
      refine x_aload_n 0 rfl dX1_nod_16 ?_
      refine x_new (fs := [.int 0, .int 0]) ci_12 q1322 q1323 q152 (nf_X14 G) rfl dX1_nod_17 ?_
      refine x_dup dX1_nod_20 rfl ?_
      refine x_iload_n 1 rfl dX1_nod_21 ?_
      refine x_iload_n 2 rfl dX1_nod_22 ?_
      obtain ⟨c5, H⟩ := oit H
      obtain ⟨a5, g5, e5, H⟩ := obR H
      refine x_callI (M' := mi_X14_init) (n := 2) (As := [.int x1, .int x2]) (t_X14_init C _ e5) c5 md_X14_init ⟨Nat.le_of_ble_eq_true rfl, Nat.le_of_ble_eq_true rfl⟩ rfl rfl q1324 q1325 q152 q1326 rfl (Nat.le_of_ble_eq_true rfl) dX1_nod_23 ?_
      obtain ⟨c6, H⟩ := oit H
      obtain ⟨a6, g6, e6, H⟩ := obR H
      refine x_callV (M' := mi_X1_does) (n := 1) (As := [.ref g3.2.1]) (t_X1_does C _ e6) c6 rfl rfl md_X1_does ⟨Nat.le_of_ble_eq_true rfl, Nat.le_of_ble_eq_true rfl⟩ q1205 q1207 qs24 q120 q1208 rfl (Nat.le_of_ble_eq_true rfl) dX1_nod_26 ?_
      refine x_goto (tgt := 33) dX1_nod_29 (by decide) ?_
      obtain rfl := Option.some.inj H
      exact x_iret hE rfl rfl dX1_nod_33
