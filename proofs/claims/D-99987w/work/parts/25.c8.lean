set_option maxRecDepth 100000
set_option maxHeartbeats 4000000
abbrev mi_X1_who : xM := (cX1_who, yX1_who, 4, some .int, 10)
theorem md_X1_who : xMD mi_X1_who 0 := ⟨by decide, by decide, by decide +kernel⟩
def f_X1_who_b140 (kb : Nat → Int32 → Int32 → mH → Option (Int32 × mH)) (r0 : Nat) (x2 : Int32) (x3 : Int32) (h : mH) : Option (Int32 × mH) := kb r0 x2 (x3 + (1 : Int32)) h
theorem t_X1_who_b140 {G : xG} {C : xC} {o : Int32 × mH} (hE : xEnd G C (some (.int o.1)) o.2) {kb : Nat → Int32 → Int32 → mH → Option (Int32 × mH)} (hkb : ∀ (r0 : Nat) (x2 : Int32) (x3 : Int32) (h : mH), kb r0 x2 x3 h = some o → X G C mi_X1_who 109 [(0, .ref r0), (2, .int x2), (3, .int x3)] [] h) (r0 : Nat) (x2 : Int32) (x3 : Int32) (h : mH) (H : f_X1_who_b140 kb r0 x2 x3 h = some o) : X G C mi_X1_who 140 [(0, .ref r0), (2, .int x2), (3, .int x3)] [] h := by
  unfold f_X1_who_b140 at H
  refine x_iinc 2 (x3 + (1 : Int32)) [1, 2, 0] dX1_who_140 rfl (ii_1 _) (by decide) rfl ?_
  refine x_goto (tgt := 109) dX1_who_143 (by decide) ?_
  exact hkb _ _ _ _ H
def f_X1_who_L109 : Nat → Nat → Int32 → Int32 → mH → Option (Int32 × mH)
  | 0, _, _, _, _ => none
  | n + 1, r0, x2, x3, h => if gC h r0 = 0 then bR (f_X1_persons r0  h) fun a7 g7 => if a7 ≤ x3 then some (x2, g7) else if gC g7 r0 = 0 then bR (f_X1_leftBy r0 x2 x3 g7) fun a9 g9 => (gFi [0] 12 g9 r0).bind fun v10 => if gC g9 r0 = 0 then bR (f_X1_leftBy r0 x2 v10 g9) fun a11 g11 => if a11 ≤ a9 then f_X1_who_b140 (f_X1_who_L109 n) r0 x2 x3 g11 else (pF [0] 12 (.int x3) g11 r0).bind fun h13 => f_X1_who_b140 (f_X1_who_L109 n) r0 x2 x3 h13 else none else none else none
theorem t_X1_who_L109 {G : xG} {C : xC} {o : Int32 × mH} (hE : xEnd G C (some (.int o.1)) o.2) : ∀ (n : Nat) (r0 : Nat) (x2 : Int32) (x3 : Int32) (h : mH), f_X1_who_L109 n r0 x2 x3 h = some o → X G C mi_X1_who 109 [(0, .ref r0), (2, .int x2), (3, .int x3)] [] h := by
  intro n
  induction n with
  | zero => intro r0 x2 x3 h H; exact nomatch (show (none : Option (Int32 × mH)) = some o from H)
  | succ n ih =>
    intro r0 x2 x3 h H
    rw [f_X1_who_L109] at H
    refine x_iload_n 2 rfl dX1_who_109 ?_
    refine x_aload_n 0 rfl dX1_who_110 ?_
    obtain ⟨c7, H⟩ := oit H
    obtain ⟨a7, g7, e7, H⟩ := obR H
    refine x_callV (M' := mi_X1_persons) (n := 0) (As := []) (t_X1_persons C _ e7) c7 rfl rfl md_X1_persons ⟨Nat.le_of_ble_eq_true rfl, Nat.le_of_ble_eq_true rfl⟩ q1140 q1142 qs22 q120 q1143 rfl (Nat.le_of_ble_eq_true rfl) dX1_who_111 ?_
    refine x_icmp_ge 146 dX1_who_114 (by decide) (fun c8 => ?_) (fun c8 => ?_)
    · rw [if_pos c8] at H
      refine x_iload_n 1 rfl dX1_who_146 ?_
      obtain rfl := Option.some.inj H
      exact x_iret hE rfl rfl dX1_who_147
    · rw [if_neg c8] at H
      refine x_aload_n 0 rfl dX1_who_117 ?_
      refine x_iload_n 1 rfl dX1_who_118 ?_
      refine x_iload_n 2 rfl dX1_who_119 ?_
      obtain ⟨c9, H⟩ := oit H
      obtain ⟨a9, g9, e9, H⟩ := obR H
      refine x_callV (M' := mi_X1_leftBy) (n := 2) (As := [.int x2, .int x3]) (t_X1_leftBy C _ e9) c9 rfl rfl md_X1_leftBy ⟨Nat.le_of_ble_eq_true rfl, Nat.le_of_ble_eq_true rfl⟩ q1397 q1399 qs30 q120 q1400 rfl (Nat.le_of_ble_eq_true rfl) dX1_who_120 ?_
      refine x_aload_n 0 rfl dX1_who_123 ?_
      refine x_iload_n 1 rfl dX1_who_124 ?_
      refine x_aload_n 0 rfl dX1_who_125 ?_
      obtain ⟨v10, e10, H⟩ := ob H
      refine x_getf fg_X1_54 (gFi_spec e10) dX1_who_126 ?_
      obtain ⟨c11, H⟩ := oit H
      obtain ⟨a11, g11, e11, H⟩ := obR H
      refine x_callV (M' := mi_X1_leftBy) (n := 2) (As := [.int x2, .int v10]) (t_X1_leftBy C _ e11) c11 rfl rfl md_X1_leftBy ⟨Nat.le_of_ble_eq_true rfl, Nat.le_of_ble_eq_true rfl⟩ q1397 q1399 qs30 q120 q1400 rfl (Nat.le_of_ble_eq_true rfl) dX1_who_129 ?_
      refine x_icmp_ge 140 dX1_who_132 (by decide) (fun c12 => ?_) (fun c12 => ?_)
      · rw [if_pos c12] at H
        exact t_X1_who_b140 hE ih _ _ _ _ H
      · rw [if_neg c12] at H
        refine x_aload_n 0 rfl dX1_who_135 ?_
        refine x_iload_n 2 rfl dX1_who_136 ?_
        obtain ⟨h13, e13, H⟩ := ob H
        refine x_putf (fp_X1_54 _) rfl rfl e13 dX1_who_137 ?_
        exact t_X1_who_b140 hE ih _ _ _ _ H
def f_X1_who_b96 (r0 : Nat) (x2 : Int32) (h : mH) : Option (Int32 × mH) := if x2 = 0 then some ((0 : Int32), h) else (pF [0] 12 (.int (0 : Int32)) h r0).bind fun h6 => f_X1_who_L109  xFu r0 x2 (1 : Int32) h6
theorem t_X1_who_b96 {G : xG} {C : xC} {o : Int32 × mH} (hE : xEnd G C (some (.int o.1)) o.2) (r0 : Nat) (x2 : Int32) (h : mH) (H : f_X1_who_b96 r0 x2 h = some o) : X G C mi_X1_who 96 [(0, .ref r0), (2, .int x2)] [] h := by
  unfold f_X1_who_b96 at H
  refine x_iload_n 1 rfl dX1_who_96 ?_
  refine x_if_ne 102 dX1_who_97 (by decide) (fun c5 => ?_) (fun c5 => ?_)
  · rw [if_neg c5] at H
    refine x_aload_n 0 rfl dX1_who_102 ?_
    refine x_iconst (0 : Int32) dX1_who_103 ic_0 ?_
    obtain ⟨h6, e6, H⟩ := ob H
    refine x_putf (fp_X1_54 _) rfl rfl e6 dX1_who_104 ?_
    refine x_iconst (1 : Int32) dX1_who_107 ic_1 ?_
    refine x_istore_n [1, 2, 0] dX1_who_108 (by decide) rfl ?_
    exact t_X1_who_L109 hE  xFu _ _ _ _ H
  · rw [if_pos c5] at H
    refine x_iconst (0 : Int32) dX1_who_100 ic_0 ?_
    obtain rfl := Option.some.inj H
    exact x_iret hE rfl rfl dX1_who_101
def f_X1_who_b90 (kb : Nat → Int32 → Int32 → Int32 → mH → Option (Int32 × mH)) (k96 : Nat → Int32 → mH → Option (Int32 × mH)) (r0 : Nat) (x1 : Int32) (x2 : Int32) (x3 : Int32) (h : mH) : Option (Int32 × mH) := kb r0 x1 x2 (x3 + (1 : Int32)) h
theorem t_X1_who_b90 {G : xG} {C : xC} {o : Int32 × mH} (hE : xEnd G C (some (.int o.1)) o.2) {kb : Nat → Int32 → Int32 → Int32 → mH → Option (Int32 × mH)} (hkb : ∀ (r0 : Nat) (x1 : Int32) (x2 : Int32) (x3 : Int32) (h : mH), kb r0 x1 x2 x3 h = some o → X G C mi_X1_who 67 [(0, .ref r0), (1, .int x1), (2, .int x2), (3, .int x3)] [] h) {k96 : Nat → Int32 → mH → Option (Int32 × mH)} (hk96 : ∀ (r0 : Nat) (x2 : Int32) (h : mH), k96 r0 x2 h = some o → X G C mi_X1_who 96 [(0, .ref r0), (2, .int x2)] [] h) (r0 : Nat) (x1 : Int32) (x2 : Int32) (x3 : Int32) (h : mH) (H : f_X1_who_b90 kb k96 r0 x1 x2 x3 h = some o) : X G C mi_X1_who 90 [(0, .ref r0), (1, .int x1), (2, .int x2), (3, .int x3)] [] h := by
  unfold f_X1_who_b90 at H
  refine x_iinc 3 (x3 + (1 : Int32)) [1, 2, 3, 0] dX1_who_90 rfl (ii_1 _) (by decide) rfl ?_
  refine x_goto (tgt := 67) dX1_who_93 (by decide) ?_
  exact hkb _ _ _ _ _ H
def f_X1_who_L67 (k96 : Nat → Int32 → mH → Option (Int32 × mH)) : Nat → Nat → Int32 → Int32 → Int32 → mH → Option (Int32 × mH)
  | 0, _, _, _, _, _ => none
  | n + 1, r0, x1, x2, x3, h => if gC h r0 = 0 then bR (f_X1_persons r0  h) fun a14 g14 => if a14 ≤ x3 then k96 r0 x2 g14 else if gC g14 r0 = 0 then bR (f_X1_isMasked r0 x3 x1 g14) fun a16 g16 => if a16 = 0 then f_X1_who_b90 (f_X1_who_L67 k96 n) k96 r0 x1 x2 x3 g16 else f_X1_who_b90 (f_X1_who_L67 k96 n) k96 r0 x1 (x2 ||| ((1 : Int32) <<< (x3 &&& 31))) x3 g16 else none else none
theorem t_X1_who_L67 {G : xG} {C : xC} {o : Int32 × mH} (hE : xEnd G C (some (.int o.1)) o.2) {k96 : Nat → Int32 → mH → Option (Int32 × mH)} (hk96 : ∀ (r0 : Nat) (x2 : Int32) (h : mH), k96 r0 x2 h = some o → X G C mi_X1_who 96 [(0, .ref r0), (2, .int x2)] [] h) : ∀ (n : Nat) (r0 : Nat) (x1 : Int32) (x2 : Int32) (x3 : Int32) (h : mH), f_X1_who_L67 k96 n r0 x1 x2 x3 h = some o → X G C mi_X1_who 67 [(0, .ref r0), (1, .int x1), (2, .int x2), (3, .int x3)] [] h := by
  intro n
  induction n with
  | zero => intro r0 x1 x2 x3 h H; exact nomatch (show (none : Option (Int32 × mH)) = some o from H)
  | succ n ih =>
    intro r0 x1 x2 x3 h H
    rw [f_X1_who_L67] at H
    refine x_iload_n 3 rfl dX1_who_67 ?_
    refine x_aload_n 0 rfl dX1_who_68 ?_
    obtain ⟨c14, H⟩ := oit H
    obtain ⟨a14, g14, e14, H⟩ := obR H
    refine x_callV (M' := mi_X1_persons) (n := 0) (As := []) (t_X1_persons C _ e14) c14 rfl rfl md_X1_persons ⟨Nat.le_of_ble_eq_true rfl, Nat.le_of_ble_eq_true rfl⟩ q1140 q1142 qs22 q120 q1143 rfl (Nat.le_of_ble_eq_true rfl) dX1_who_69 ?_
    refine x_icmp_ge 96 dX1_who_72 (by decide) (fun c15 => ?_) (fun c15 => ?_)
    · rw [if_pos c15] at H
      refine X.sub [0, 2] rfl ?_
      exact hk96 _ _ _ H
    · rw [if_neg c15] at H
      refine x_aload_n 0 rfl dX1_who_75 ?_
      refine x_iload_n 3 rfl dX1_who_76 ?_
      refine x_iload_n 1 rfl dX1_who_77 ?_
      obtain ⟨c16, H⟩ := oit H
      obtain ⟨a16, g16, e16, H⟩ := obR H
      refine x_callV (M' := mi_X1_isMasked) (n := 2) (As := [.int x3, .int x1]) (t_X1_isMasked C _ e16) c16 rfl rfl md_X1_isMasked ⟨Nat.le_of_ble_eq_true rfl, Nat.le_of_ble_eq_true rfl⟩ q1393 q1395 qs29 q120 q1396 rfl (Nat.le_of_ble_eq_true rfl) dX1_who_78 ?_
      refine x_if_eq 90 dX1_who_81 (by decide) (fun c17 => ?_) (fun c17 => ?_)
      · rw [if_pos c17] at H
        exact t_X1_who_b90 hE ih hk96 _ _ _ _ _ H
      · rw [if_neg c17] at H
        refine x_iload_n 2 rfl dX1_who_84 ?_
        refine x_iconst (1 : Int32) dX1_who_85 ic_1 ?_
        refine x_iload_n 3 rfl dX1_who_86 ?_
        refine x_ishl dX1_who_87 ?_
        refine x_ior dX1_who_88 ?_
        refine x_istore_n [1, 2, 0, 3] dX1_who_89 (by decide) rfl ?_
        exact t_X1_who_b90 hE ih hk96 _ _ _ _ _ H
def f_X1_who_b63 (r0 : Nat) (x1 : Int32) (h : mH) : Option (Int32 × mH) := f_X1_who_L67 (f_X1_who_b96) xFu r0 x1 (0 : Int32) (0 : Int32) h
theorem t_X1_who_b63 {G : xG} {C : xC} {o : Int32 × mH} (hE : xEnd G C (some (.int o.1)) o.2) (r0 : Nat) (x1 : Int32) (h : mH) (H : f_X1_who_b63 r0 x1 h = some o) : X G C mi_X1_who 63 [(0, .ref r0), (1, .int x1)] [] h := by
  unfold f_X1_who_b63 at H
  refine x_iconst (0 : Int32) dX1_who_63 ic_0 ?_
  refine x_istore_n [1, 2, 0] dX1_who_64 (by decide) rfl ?_
  refine x_iconst (0 : Int32) dX1_who_65 ic_0 ?_
  refine x_istore_n [1, 2, 3, 0] dX1_who_66 (by decide) rfl ?_
  exact t_X1_who_L67 hE (t_X1_who_b96 hE) xFu _ _ _ _ _ H
def f_X1_who_L27 (k63 : Nat → Int32 → mH → Option (Int32 × mH)) : Nat → Nat → Int32 → Int32 → mH → Option (Int32 × mH)
  | 0, _, _, _, _ => none
  | n + 1, r0, x1, x2, h => if x1 ≤ x2 then k63 r0 x1 h else if gC h r0 = 0 then bR (f_X1_onTape r0 x2 h) fun a19 g19 => if gC g19 r0 = 0 then bR (f_X1_isPerson r0 a19 g19) fun a20 g20 => if a20 = 0 then some ((-1 : Int32), g20) else if gC g20 r0 = 0 then bR (f_X1_onTape r0 (x2 + (1 : Int32)) g20) fun a22 g22 => if a22 ≤ (1 : Int32) then (f_X1_who_L27 k63 n) r0 x1 (x2 + (2 : Int32)) g22 else some ((-1 : Int32), g22) else none else none else none
theorem t_X1_who_L27 {G : xG} {C : xC} {o : Int32 × mH} (hE : xEnd G C (some (.int o.1)) o.2) {k63 : Nat → Int32 → mH → Option (Int32 × mH)} (hk63 : ∀ (r0 : Nat) (x1 : Int32) (h : mH), k63 r0 x1 h = some o → X G C mi_X1_who 63 [(0, .ref r0), (1, .int x1)] [] h) : ∀ (n : Nat) (r0 : Nat) (x1 : Int32) (x2 : Int32) (h : mH), f_X1_who_L27 k63 n r0 x1 x2 h = some o → X G C mi_X1_who 27 [(0, .ref r0), (1, .int x1), (2, .int x2)] [] h := by
  intro n
  induction n with
  | zero => intro r0 x1 x2 h H; exact nomatch (show (none : Option (Int32 × mH)) = some o from H)
  | succ n ih =>
    intro r0 x1 x2 h H
    rw [f_X1_who_L27] at H
    refine x_iload_n 2 rfl dX1_who_27 ?_
    refine x_iload_n 1 rfl dX1_who_28 ?_
    refine x_icmp_ge 63 dX1_who_29 (by decide) (fun c18 => ?_) (fun c18 => ?_)
    · rw [if_pos c18] at H
      refine X.sub [0, 1] rfl ?_
      exact hk63 _ _ _ H
    · rw [if_neg c18] at H
      refine x_aload_n 0 rfl dX1_who_32 ?_
      refine x_aload_n 0 rfl dX1_who_33 ?_
      refine x_iload_n 2 rfl dX1_who_34 ?_
      obtain ⟨c19, H⟩ := oit H
      obtain ⟨a19, g19, e19, H⟩ := obR H
      refine x_callV (M' := mi_X1_onTape) (n := 1) (As := [.int x2]) (t_X1_onTape C _ e19) c19 rfl rfl md_X1_onTape ⟨Nat.le_of_ble_eq_true rfl, Nat.le_of_ble_eq_true rfl⟩ q1389 q1391 qs28 q120 q1392 rfl (Nat.le_of_ble_eq_true rfl) dX1_who_35 ?_
      obtain ⟨c20, H⟩ := oit H
      obtain ⟨a20, g20, e20, H⟩ := obR H
      refine x_callV (M' := mi_X1_isPerson) (n := 1) (As := [.int a19]) (t_X1_isPerson C _ e20) c20 rfl rfl md_X1_isPerson ⟨Nat.le_of_ble_eq_true rfl, Nat.le_of_ble_eq_true rfl⟩ q1108 q1110 qs19 q120 q1111 rfl (Nat.le_of_ble_eq_true rfl) dX1_who_38 ?_
      refine x_if_eq 55 dX1_who_41 (by decide) (fun c21 => ?_) (fun c21 => ?_)
      · rw [if_pos c21] at H
        refine x_iconst (-1 : Int32) dX1_who_55 ic_m1 ?_
        obtain rfl := Option.some.inj H
        exact x_iret hE rfl rfl dX1_who_56
      · rw [if_neg c21] at H
        refine x_aload_n 0 rfl dX1_who_44 ?_
        refine x_iload_n 2 rfl dX1_who_45 ?_
        refine x_iconst (1 : Int32) dX1_who_46 ic_1 ?_
        refine x_iadd dX1_who_47 ?_
        obtain ⟨c22, H⟩ := oit H
        obtain ⟨a22, g22, e22, H⟩ := obR H
        refine x_callV (M' := mi_X1_onTape) (n := 1) (As := [.int (x2 + (1 : Int32))]) (t_X1_onTape C _ e22) c22 rfl rfl md_X1_onTape ⟨Nat.le_of_ble_eq_true rfl, Nat.le_of_ble_eq_true rfl⟩ q1389 q1391 qs28 q120 q1392 rfl (Nat.le_of_ble_eq_true rfl) dX1_who_48 ?_
        refine x_iconst (1 : Int32) dX1_who_51 ic_1 ?_
        refine x_icmp_le 57 dX1_who_52 (by decide) (fun c23 => ?_) (fun c23 => ?_)
        · rw [if_pos c23] at H
          refine x_iinc 2 (x2 + (2 : Int32)) [1, 2, 0] dX1_who_57 rfl (ii_2 _) (by decide) rfl ?_
          refine x_goto (tgt := 27) dX1_who_60 (by decide) ?_
          exact ih _ _ _ _ H
        · rw [if_neg c23] at H
          refine x_iconst (-1 : Int32) dX1_who_55 ic_m1 ?_
          obtain rfl := Option.some.inj H
          exact x_iret hE rfl rfl dX1_who_56
def f_X1_who (r0 : Nat) (h : mH) : Option (Int32 × mH) := if gC h r0 = 0 then bR (f_X1_take r0  h) fun a1 g1 => if (a1 - a1 / (2 : Int32) * (2 : Int32)) = 0 then bR (f_X1_isIn (a1 / (2 : Int32)) (1 : Int32) (8 : Int32) g1) fun a3 g3 => if a3 = 0 then some ((-1 : Int32), g3) else f_X1_who_L27 (f_X1_who_b63) xFu r0 a1 (0 : Int32) g3 else some ((-1 : Int32), g1) else none
theorem t_X1_who {G : xG} (C0 : xC) {l : Launch} {r0 : Nat} (h : mH) {o : Int32 × mH} (H : f_X1_who r0 h = some o) : XR G l mi_X1_who [.ref r0] h (some (.int o.1)) o.2 := by
  refine XR.of C0 (by decide) (Nat.le_of_ble_eq_true rfl) (fun C _ _ _ hE => ?_)
  show X G C mi_X1_who 0 [(0, .ref r0)] [] h
  unfold f_X1_who at H
  refine x_aload_n 0 rfl dX1_who_0 ?_
  obtain ⟨c1, H⟩ := oit H
  obtain ⟨a1, g1, e1, H⟩ := obR H
  refine x_callV (M' := mi_X1_take) (n := 0) (As := []) (t_X1_take C _ e1) c1 rfl rfl md_X1_take ⟨Nat.le_of_ble_eq_true rfl, Nat.le_of_ble_eq_true rfl⟩ q453 q455 qs3 q120 q456 rfl (Nat.le_of_ble_eq_true rfl) dX1_who_1 ?_
  refine x_istore_n [1, 0] dX1_who_4 (by decide) rfl ?_
  refine x_iload_n 1 rfl dX1_who_5 ?_
  refine x_iconst (2 : Int32) dX1_who_6 ic_2 ?_
  refine x_irem dX1_who_7 (by decide) ?_
  refine x_if_ne 23 dX1_who_8 (by decide) (fun c2 => ?_) (fun c2 => ?_)
  · rw [if_neg c2] at H
    refine x_iconst (-1 : Int32) dX1_who_23 ic_m1 ?_
    obtain rfl := Option.some.inj H
    exact x_iret hE rfl rfl dX1_who_24
  · rw [if_pos c2] at H
    refine x_iload_n 1 rfl dX1_who_11 ?_
    refine x_iconst (2 : Int32) dX1_who_12 ic_2 ?_
    refine x_idiv dX1_who_13 (by decide) ?_
    refine x_iconst (1 : Int32) dX1_who_14 ic_1 ?_
    refine x_bipush (8 : Int32) dX1_who_15 bi_8 ?_
    obtain ⟨a3, g3, e3, H⟩ := obR H
    refine x_callS (M' := mi_X1_isIn) (n := 3) (As := [.int (a1 / (2 : Int32)), .int (1 : Int32), .int (8 : Int32)]) (t_X1_isIn C _ e3) md_X1_isIn ⟨Nat.le_of_ble_eq_true rfl, Nat.le_of_ble_eq_true rfl⟩ q1126 q921 q120 q922 rfl (Nat.le_of_ble_eq_true rfl) dX1_who_17 ?_
    refine x_if_ne 25 dX1_who_20 (by decide) (fun c4 => ?_) (fun c4 => ?_)
    · rw [if_neg c4] at H
      refine x_iconst (0 : Int32) dX1_who_25 ic_0 ?_
      refine x_istore_n [1, 2, 0] dX1_who_26 (by decide) rfl ?_
      exact t_X1_who_L27 hE (t_X1_who_b63 hE) xFu _ _ _ _ H
    · rw [if_pos c4] at H
      refine x_iconst (-1 : Int32) dX1_who_23 ic_m1 ?_
      obtain rfl := Option.some.inj H
      exact x_iret hE rfl rfl dX1_who_24
