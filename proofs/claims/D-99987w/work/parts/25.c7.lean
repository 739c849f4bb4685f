set_option maxRecDepth 100000
set_option maxHeartbeats 4000000
abbrev mi_X1_sum : xM := (cX1_sum, yX1_sum, 6, some .int, 1)
theorem md_X1_sum : xMD mi_X1_sum 1 := ⟨by decide, by decide, by decide +kernel⟩
def f_X1_sum_L10 : Nat → Int32 → Nat → Int32 → Int32 → mH → Option (Int32 × mH)
  | 0, _, _, _, _, _ => none
  | n + 1, x1, r2, x3, x4, h => if x3 ≤ x4 then some (x1, h) else (aI .int h r2 x4).bind fun v3 => (f_X1_sum_L10 n) (x1 + v3) r2 x3 (x4 + (1 : Int32)) h
theorem t_X1_sum_L10 {G : xG} {C : xC} {o : Int32 × mH} (hE : xEnd G C (some (.int o.1)) o.2) : ∀ (n : Nat) (x1 : Int32) (r2 : Nat) (x3 : Int32) (x4 : Int32) (h : mH), f_X1_sum_L10 n x1 r2 x3 x4 h = some o → X G C mi_X1_sum 10 [(1, .int x1), (2, .ref r2), (3, .int x3), (4, .int x4)] [] h := by
  intro n
  induction n with
  | zero => intro x1 r2 x3 x4 h H; exact nomatch (show (none : Option (Int32 × mH)) = some o from H)
  | succ n ih =>
    intro x1 r2 x3 x4 h H
    rw [f_X1_sum_L10] at H
    refine x_iload 3 rfl dX1_sum_10 ?_
    refine x_iload_n 2 rfl dX1_sum_12 ?_
    refine x_icmp_ge 33 dX1_sum_13 (by decide) (fun c2 => ?_) (fun c2 => ?_)
    · rw [if_pos c2] at H
      refine x_iload_n 0 rfl dX1_sum_33 ?_
      obtain rfl := Option.some.inj H
      exact x_iret hE rfl rfl dX1_sum_34
    · rw [if_neg c2] at H
      refine x_aload_n 1 rfl dX1_sum_16 ?_
      refine x_iload 3 rfl dX1_sum_17 ?_
      obtain ⟨v3, e3, H⟩ := ob H
      refine x_iald e3 dX1_sum_19 ?_
      refine x_istore [1, 2, 3, 4, 0] dX1_sum_20 (by decide) rfl ?_
      refine x_iload_n 0 rfl dX1_sum_22 ?_
      refine x_iload 4 rfl dX1_sum_23 ?_
      refine x_iadd dX1_sum_25 ?_
      refine x_istore_n [0, 1, 2, 3, 4] dX1_sum_26 (by decide) rfl ?_
      refine x_iinc 3 (x4 + (1 : Int32)) [1, 2, 3, 0, 4] dX1_sum_27 rfl (ii_1 _) (by decide) rfl ?_
      refine x_goto (tgt := 10) dX1_sum_30 (by decide) ?_
      refine X.sub [0, 1, 2, 3] rfl ?_
      exact ih _ _ _ _ _ H
def f_X1_sum (r0 : Nat) (h : mH) : Option (Int32 × mH) := (aN h r0).bind fun v1 => f_X1_sum_L10  xFu (0 : Int32) r0 v1 (0 : Int32) h
theorem t_X1_sum {G : xG} (C0 : xC) {l : Launch} {r0 : Nat} (h : mH) {o : Int32 × mH} (H : f_X1_sum r0 h = some o) : XR G l mi_X1_sum [.ref r0] h (some (.int o.1)) o.2 := by
  refine XR.of C0 (by decide) (Nat.le_of_ble_eq_true rfl) (fun C _ _ _ hE => ?_)
  show X G C mi_X1_sum 0 [(0, .ref r0)] [] h
  unfold f_X1_sum at H
  refine x_iconst (0 : Int32) dX1_sum_0 ic_0 ?_
  refine x_istore_n [1, 0] dX1_sum_1 (by decide) rfl ?_
  refine x_aload_n 0 rfl dX1_sum_2 ?_
  refine x_astore_n [1, 2, 0] dX1_sum_3 (by decide) rfl ?_
  refine x_aload_n 2 rfl dX1_sum_4 ?_
  obtain ⟨v1, e1, H⟩ := ob H
  refine x_alen e1 dX1_sum_5 ?_
  refine x_istore_n [1, 2, 3, 0] dX1_sum_6 (by decide) rfl ?_
  refine x_iconst (0 : Int32) dX1_sum_7 ic_0 ?_
  refine x_istore [1, 2, 3, 4, 0] dX1_sum_8 (by decide) rfl ?_
  refine X.sub [1, 2, 3, 4] rfl ?_
  exact t_X1_sum_L10 hE  xFu _ _ _ _ _ H
abbrev mi_X1_now : xM := (cX1_now, yX1_now, 7, some .int, 4)
theorem md_X1_now : xMD mi_X1_now 1 := ⟨by decide, by decide, by decide +kernel⟩
def f_X1_now_b141 (x2 : Int32) (h : mH) : Option (Int32 × mH) := some ((x2 / (2 : Int32)), h)
theorem t_X1_now_b141 {G : xG} {C : xC} {o : Int32 × mH} (hE : xEnd G C (some (.int o.1)) o.2) (x2 : Int32) (h : mH) (H : f_X1_now_b141 x2 h = some o) : X G C mi_X1_now 141 [(2, .int x2)] [] h := by
  unfold f_X1_now_b141 at H
  refine x_iload_n 0 rfl dX1_now_141 ?_
  refine x_iconst (2 : Int32) dX1_now_142 ic_2 ?_
  refine x_idiv dX1_now_143 (by decide) ?_
  obtain rfl := Option.some.inj H
  exact x_iret hE rfl rfl dX1_now_144
def f_X1_now_L114 (k141 : Int32 → mH → Option (Int32 × mH)) : Nat → Int32 → Nat → Int32 → Int32 → mH → Option (Int32 × mH)
  | 0, _, _, _, _, _ => none
  | n + 1, x2, r3, x4, x5, h => if x4 ≤ x5 then k141 x2 h else (aI .int h r3 x5).bind fun v24 => bR (f_X1_many v24 h) fun a25 g25 => (f_X1_now_L114 k141 n) (x2 + a25) r3 x4 (x5 + (1 : Int32)) g25
theorem t_X1_now_L114 {G : xG} {C : xC} {o : Int32 × mH} (hE : xEnd G C (some (.int o.1)) o.2) {k141 : Int32 → mH → Option (Int32 × mH)} (hk141 : ∀ (x2 : Int32) (h : mH), k141 x2 h = some o → X G C mi_X1_now 141 [(2, .int x2)] [] h) : ∀ (n : Nat) (x2 : Int32) (r3 : Nat) (x4 : Int32) (x5 : Int32) (h : mH), f_X1_now_L114 k141 n x2 r3 x4 x5 h = some o → X G C mi_X1_now 114 [(2, .int x2), (3, .ref r3), (4, .int x4), (5, .int x5)] [] h := by
  intro n
  induction n with
  | zero => intro x2 r3 x4 x5 h H; exact nomatch (show (none : Option (Int32 × mH)) = some o from H)
  | succ n ih =>
    intro x2 r3 x4 x5 h H
    rw [f_X1_now_L114] at H
    refine x_iload 3 rfl dX1_now_114 ?_
    refine x_iload 2 rfl dX1_now_116 ?_
    refine x_icmp_ge 141 dX1_now_118 (by decide) (fun c23 => ?_) (fun c23 => ?_)
    · rw [if_pos c23] at H
      refine X.sub [0] rfl ?_
      exact hk141 _ _ H
    · rw [if_neg c23] at H
      refine x_aload_n 1 rfl dX1_now_121 ?_
      refine x_iload 3 rfl dX1_now_122 ?_
      obtain ⟨v24, e24, H⟩ := ob H
      refine x_iald e24 dX1_now_124 ?_
      refine x_istore [1, 2, 3, 4, 0] dX1_now_125 (by decide) rfl ?_
      refine x_iload_n 0 rfl dX1_now_127 ?_
      refine x_iload 4 rfl dX1_now_128 ?_
      obtain ⟨a25, g25, e25, H⟩ := obR H
      refine x_callS (M' := mi_X1_many) (n := 1) (As := [.int v24]) (t_X1_many C _ e25) md_X1_many ⟨Nat.le_of_ble_eq_true rfl, Nat.le_of_ble_eq_true rfl⟩ q1153 q1154 q120 q1155 rfl (Nat.le_of_ble_eq_true rfl) dX1_now_130 ?_
      refine x_iadd dX1_now_133 ?_
      refine x_istore_n [0, 1, 2, 3, 4] dX1_now_134 (by decide) rfl ?_
      refine x_iinc 3 (x5 + (1 : Int32)) [1, 2, 3, 0, 4] dX1_now_135 rfl (ii_1 _) (by decide) rfl ?_
      refine x_goto (tgt := 114) dX1_now_138 (by decide) ?_
      refine X.sub [0, 1, 2, 3] rfl ?_
      exact ih _ _ _ _ _ H
def f_X1_now (r0 : Nat) (x1 : Int32) (h : mH) : Option (Int32 × mH) := if x1 = (0 : Int32) then (gFr [0] 4 h r0).bind fun v2 => (gFi [2] 1 h v2).bind fun v3 => some (v3, h) else if x1 = (1 : Int32) then (gFr [0] 4 h r0).bind fun v5 => (gFi [2] 4 h v5).bind fun v6 => some (v6, h) else if x1 = (2 : Int32) then (gFr [0] 4 h r0).bind fun v8 => (gFi [2] 5 h v8).bind fun v9 => some (v9, h) else if x1 = (3 : Int32) then (gFr [0] 4 h r0).bind fun v11 => if gC h r0 = 0 then bR (f_X1_fed r0 v11 h) fun a12 g12 => some (a12, g12) else none else if x1 = (4 : Int32) then (gFr [0] 4 h r0).bind fun v14 => (gFi [2] 3 h v14).bind fun v15 => some (v15, h) else if x1 = (5 : Int32) then (gFr [0] 4 h r0).bind fun v17 => (gFi [2] 2 h v17).bind fun v18 => some (v18, h) else if x1 = (6 : Int32) then (gFr [0] 4 h r0).bind fun v20 => (gFr [2] 8 h v20).bind fun v21 => (aN h v21).bind fun v22 => f_X1_now_L114 (f_X1_now_b141) xFu (0 : Int32) v21 v22 (0 : Int32) h else if x1 = (7 : Int32) then (gFr [0] 4 h r0).bind fun v27 => (gFr [2] 7 h v27).bind fun v28 => bR (f_X1_sum v28 h) fun a29 g29 => some (a29, g29) else some ((-1 : Int32), h)
theorem t_X1_now {G : xG} (C0 : xC) {l : Launch} {r0 : Nat} {x1 : Int32} (h : mH) {o : Int32 × mH} (H : f_X1_now r0 x1 h = some o) : XR G l mi_X1_now [.ref r0, .int x1] h (some (.int o.1)) o.2 := by
  refine XR.of C0 (by decide) (Nat.le_of_ble_eq_true rfl) (fun C _ _ _ hE => ?_)
  show X G C mi_X1_now 0 [(0, .ref r0), (1, .int x1)] [] h
  unfold f_X1_now at H
  refine x_iload_n 1 rfl dX1_now_0 ?_
  by_cases c1 : x1 = (0 : Int32)
  · rw [if_pos c1] at H
    refine x_tsw (off := 47) 48 dX1_now_1 c1 (by decide) (by decide) (by decide) (by decide) ?_
    refine x_aload_n 0 rfl dX1_now_48 ?_
    obtain ⟨v2, e2, H⟩ := ob H
    refine x_getf fg_X1_36 (gFr_spec e2) dX1_now_49 ?_
    obtain ⟨v3, e3, H⟩ := ob H
    refine x_getf fg_X1_197 (gFi_spec e3) dX1_now_52 ?_
    obtain rfl := Option.some.inj H
    exact x_iret hE rfl rfl dX1_now_55
  rw [if_neg c1] at H
  by_cases c4 : x1 = (1 : Int32)
  · rw [if_pos c4] at H
    refine x_tsw (off := 55) 56 dX1_now_1 c4 (by decide) (by decide) (by decide) (by decide) ?_
    refine x_aload_n 0 rfl dX1_now_56 ?_
    obtain ⟨v5, e5, H⟩ := ob H
    refine x_getf fg_X1_36 (gFr_spec e5) dX1_now_57 ?_
    obtain ⟨v6, e6, H⟩ := ob H
    refine x_getf fg_X1_172 (gFi_spec e6) dX1_now_60 ?_
    obtain rfl := Option.some.inj H
    exact x_iret hE rfl rfl dX1_now_63
  rw [if_neg c4] at H
  by_cases c7 : x1 = (2 : Int32)
  · rw [if_pos c7] at H
    refine x_tsw (off := 63) 64 dX1_now_1 c7 (by decide) (by decide) (by decide) (by decide) ?_
    refine x_aload_n 0 rfl dX1_now_64 ?_
    obtain ⟨v8, e8, H⟩ := ob H
    refine x_getf fg_X1_36 (gFr_spec e8) dX1_now_65 ?_
    obtain ⟨v9, e9, H⟩ := ob H
    refine x_getf fg_X1_175 (gFi_spec e9) dX1_now_68 ?_
    obtain rfl := Option.some.inj H
    exact x_iret hE rfl rfl dX1_now_71
  rw [if_neg c7] at H
  by_cases c10 : x1 = (3 : Int32)
  · rw [if_pos c10] at H
    refine x_tsw (off := 71) 72 dX1_now_1 c10 (by decide) (by decide) (by decide) (by decide) ?_
    refine x_aload_n 0 rfl dX1_now_72 ?_
    refine x_aload_n 0 rfl dX1_now_73 ?_
    obtain ⟨v11, e11, H⟩ := ob H
    refine x_getf fg_X1_36 (gFr_spec e11) dX1_now_74 ?_
    obtain ⟨c12, H⟩ := oit H
    obtain ⟨a12, g12, e12, H⟩ := obR H
    refine x_callV (M' := mi_X1_fed) (n := 1) (As := [.ref v11]) (t_X1_fed C _ e12) c12 rfl rfl md_X1_fed ⟨Nat.le_of_ble_eq_true rfl, Nat.le_of_ble_eq_true rfl⟩ q1136 q1138 qs21 q120 q1139 rfl (Nat.le_of_ble_eq_true rfl) dX1_now_77 ?_
    obtain rfl := Option.some.inj H
    exact x_iret hE rfl rfl dX1_now_80
  rw [if_neg c10] at H
  by_cases c13 : x1 = (4 : Int32)
  · rw [if_pos c13] at H
    refine x_tsw (off := 80) 81 dX1_now_1 c13 (by decide) (by decide) (by decide) (by decide) ?_
    refine x_aload_n 0 rfl dX1_now_81 ?_
    obtain ⟨v14, e14, H⟩ := ob H
    refine x_getf fg_X1_36 (gFr_spec e14) dX1_now_82 ?_
    obtain ⟨v15, e15, H⟩ := ob H
    refine x_getf fg_X1_204 (gFi_spec e15) dX1_now_85 ?_
    obtain rfl := Option.some.inj H
    exact x_iret hE rfl rfl dX1_now_88
  rw [if_neg c13] at H
  by_cases c16 : x1 = (5 : Int32)
  · rw [if_pos c16] at H
    refine x_tsw (off := 88) 89 dX1_now_1 c16 (by decide) (by decide) (by decide) (by decide) ?_
    refine x_aload_n 0 rfl dX1_now_89 ?_
    obtain ⟨v17, e17, H⟩ := ob H
    refine x_getf fg_X1_36 (gFr_spec e17) dX1_now_90 ?_
    obtain ⟨v18, e18, H⟩ := ob H
    refine x_getf fg_X1_207 (gFi_spec e18) dX1_now_93 ?_
    obtain rfl := Option.some.inj H
    exact x_iret hE rfl rfl dX1_now_96
  rw [if_neg c16] at H
  by_cases c19 : x1 = (6 : Int32)
  · rw [if_pos c19] at H
    refine x_tsw (off := 96) 97 dX1_now_1 c19 (by decide) (by decide) (by decide) (by decide) ?_
    refine x_iconst (0 : Int32) dX1_now_97 ic_0 ?_
    refine x_istore_n [1, 2, 0] dX1_now_98 (by decide) rfl ?_
    refine x_aload_n 0 rfl dX1_now_99 ?_
    obtain ⟨v20, e20, H⟩ := ob H
    refine x_getf fg_X1_36 (gFr_spec e20) dX1_now_100 ?_
    obtain ⟨v21, e21, H⟩ := ob H
    refine x_getf fg_X1_210 (gFr_spec e21) dX1_now_103 ?_
    refine x_astore_n [1, 2, 3, 0] dX1_now_106 (by decide) rfl ?_
    refine x_aload_n 3 rfl dX1_now_107 ?_
    obtain ⟨v22, e22, H⟩ := ob H
    refine x_alen e22 dX1_now_108 ?_
    refine x_istore [1, 2, 3, 4, 0] dX1_now_109 (by decide) rfl ?_
    refine x_iconst (0 : Int32) dX1_now_111 ic_0 ?_
    refine x_istore [1, 2, 3, 4, 5, 0] dX1_now_112 (by decide) rfl ?_
    refine X.sub [2, 3, 4, 5] rfl ?_
    exact t_X1_now_L114 hE (t_X1_now_b141 hE) xFu _ _ _ _ _ H
  rw [if_neg c19] at H
  by_cases c26 : x1 = (7 : Int32)
  · rw [if_pos c26] at H
    refine x_tsw (off := 144) 145 dX1_now_1 c26 (by decide) (by decide) (by decide) (by decide) ?_
    refine x_aload_n 0 rfl dX1_now_145 ?_
    obtain ⟨v27, e27, H⟩ := ob H
    refine x_getf fg_X1_36 (gFr_spec e27) dX1_now_146 ?_
    obtain ⟨v28, e28, H⟩ := ob H
    refine x_getf fg_X1_178 (gFr_spec e28) dX1_now_149 ?_
    obtain ⟨a29, g29, e29, H⟩ := obR H
    refine x_callS (M' := mi_X1_sum) (n := 1) (As := [.ref v28]) (t_X1_sum C _ e29) md_X1_sum ⟨Nat.le_of_ble_eq_true rfl, Nat.le_of_ble_eq_true rfl⟩ q1162 q1163 q120 q1164 rfl (Nat.le_of_ble_eq_true rfl) dX1_now_152 ?_
    obtain rfl := Option.some.inj H
    exact x_iret hE rfl rfl dX1_now_155
  rw [if_neg c26] at H
  refine x_tswd 156 dX1_now_1 (xts0_8 c1 c4 c7 c10 c13 c16 c19 c26) (by decide) ?_
  refine x_iconst (-1 : Int32) dX1_now_156 ic_m1 ?_
  obtain rfl := Option.some.inj H
  exact x_iret hE rfl rfl dX1_now_157
abbrev mi_X1_odds : xM := (cX1_odds, yX1_odds, 6, some .int, 11)
theorem md_X1_odds : xMD mi_X1_odds 3 := ⟨by decide, by decide, by decide +kernel⟩
def f_X1_odds_b77 (kb : Nat → Int32 → Int32 → Int32 → Int32 → Int32 → mH → Option (Int32 × mH)) (r0 : Nat) (x1 : Int32) (x2 : Int32) (x3 : Int32) (x4 : Int32) (x5 : Int32) (h : mH) : Option (Int32 × mH) := kb r0 x1 x2 x3 x4 (x5 + (1 : Int32)) h
theorem t_X1_odds_b77 {G : xG} {C : xC} {o : Int32 × mH} (hE : xEnd G C (some (.int o.1)) o.2) {kb : Nat → Int32 → Int32 → Int32 → Int32 → Int32 → mH → Option (Int32 × mH)} (hkb : ∀ (r0 : Nat) (x1 : Int32) (x2 : Int32) (x3 : Int32) (x4 : Int32) (x5 : Int32) (h : mH), kb r0 x1 x2 x3 x4 x5 h = some o → X G C mi_X1_odds 26 [(0, .ref r0), (1, .int x1), (2, .int x2), (3, .int x3), (4, .int x4), (5, .int x5)] [] h) (r0 : Nat) (x1 : Int32) (x2 : Int32) (x3 : Int32) (x4 : Int32) (x5 : Int32) (h : mH) (H : f_X1_odds_b77 kb r0 x1 x2 x3 x4 x5 h = some o) : X G C mi_X1_odds 77 [(0, .ref r0), (1, .int x1), (2, .int x2), (3, .int x3), (4, .int x4), (5, .int x5)] [] h := by
  unfold f_X1_odds_b77 at H
  refine x_iinc 5 (x5 + (1 : Int32)) [1, 2, 3, 4, 5, 0] dX1_odds_77 rfl (ii_1 _) (by decide) rfl ?_
  refine x_goto (tgt := 26) dX1_odds_80 (by decide) ?_
  exact hkb _ _ _ _ _ _ _ H
def f_X1_odds_L26 : Nat → Nat → Int32 → Int32 → Int32 → Int32 → Int32 → mH → Option (Int32 × mH)
  | 0, _, _, _, _, _, _, _ => none
  | n + 1, r0, x1, x2, x3, x4, x5, h => if x2 ≤ x5 then some (x4, h) else (gFr [0] 5 h r0).bind fun v6 => (gFr [0] 4 h r0).bind fun v7 => if gC h v6 = 2 then bR (f_X3_as v6 v7 h) fun a8 g8 => if gC g8 a8 = 2 then bR (f_X3_drawn a8 (10 : Int32) (x3 + x5) g8) fun a9 g9 => (gFr [0] 5 g9 r0).bind fun v10 => (gFr [2] 6 g9 v10).bind fun v11 => (aI .int g9 v11 x1).bind fun v12 => (gFr [0] 4 g9 r0).bind fun v13 => (gFr [2] 6 g9 v13).bind fun v14 => (aI .int g9 v14 x1).bind fun v15 => if v12 ≤ v15 then f_X1_odds_b77 (f_X1_odds_L26 n) r0 x1 x2 x3 x4 x5 g9 else f_X1_odds_b77 (f_X1_odds_L26 n) r0 x1 x2 x3 (x4 + (1 : Int32)) x5 g9 else none else none
theorem t_X1_odds_L26 {G : xG} {C : xC} {o : Int32 × mH} (hE : xEnd G C (some (.int o.1)) o.2) : ∀ (n : Nat) (r0 : Nat) (x1 : Int32) (x2 : Int32) (x3 : Int32) (x4 : Int32) (x5 : Int32) (h : mH), f_X1_odds_L26 n r0 x1 x2 x3 x4 x5 h = some o → X G C mi_X1_odds 26 [(0, .ref r0), (1, .int x1), (2, .int x2), (3, .int x3), (4, .int x4), (5, .int x5)] [] h := by
  intro n
  induction n with
  | zero => intro r0 x1 x2 x3 x4 x5 h H; exact nomatch (show (none : Option (Int32 × mH)) = some o from H)
  | succ n ih =>
    intro r0 x1 x2 x3 x4 x5 h H
    rw [f_X1_odds_L26] at H
    refine x_iload 5 rfl dX1_odds_26 ?_
    refine x_iload_n 2 rfl dX1_odds_28 ?_
    refine x_icmp_ge 83 dX1_odds_29 (by decide) (fun c5 => ?_) (fun c5 => ?_)
    · rw [if_pos c5] at H
      refine x_iload 4 rfl dX1_odds_83 ?_
      obtain rfl := Option.some.inj H
      exact x_iret hE rfl rfl dX1_odds_85
    · rw [if_neg c5] at H
      refine x_aload_n 0 rfl dX1_odds_32 ?_
      obtain ⟨v6, e6, H⟩ := ob H
      refine x_getf fg_X1_40 (gFr_spec e6) dX1_odds_33 ?_
      refine x_aload_n 0 rfl dX1_odds_36 ?_
      obtain ⟨v7, e7, H⟩ := ob H
      refine x_getf fg_X1_36 (gFr_spec e7) dX1_odds_37 ?_
      obtain ⟨c8, H⟩ := oit H
      obtain ⟨a8, g8, e8, H⟩ := obR H
      refine x_callV (M' := mi_X3_as) (n := 1) (As := [.ref v7]) (t_X3_as C _ e8) c8 rfl rfl md_X3_as ⟨Nat.le_of_ble_eq_true rfl, Nat.le_of_ble_eq_true rfl⟩ q1209 q1210 q1211 q125 q1212 rfl (Nat.le_of_ble_eq_true rfl) dX1_odds_40 ?_
      refine x_bipush (10 : Int32) dX1_odds_43 bi_10 ?_
      refine x_iload_n 3 rfl dX1_odds_45 ?_
      refine x_iload 5 rfl dX1_odds_46 ?_
      refine x_iadd dX1_odds_48 ?_
      obtain ⟨c9, H⟩ := oit H
      obtain ⟨a9, g9, e9, H⟩ := obR H
      refine x_callV (M' := mi_X3_drawn) (n := 2) (As := [.int (10 : Int32), .int (x3 + x5)]) (t_X3_drawn C _ e9) c9 rfl rfl md_X3_drawn ⟨Nat.le_of_ble_eq_true rfl, Nat.le_of_ble_eq_true rfl⟩ q1511 q1512 q1513 q125 q1514 rfl (Nat.le_of_ble_eq_true rfl) dX1_odds_49 ?_
      refine x_pop dX1_odds_52 rfl ?_
      refine x_aload_n 0 rfl dX1_odds_53 ?_
      obtain ⟨v10, e10, H⟩ := ob H
      refine x_getf fg_X1_40 (gFr_spec e10) dX1_odds_54 ?_
      obtain ⟨v11, e11, H⟩ := ob H
      refine x_getf fg_X1_154 (gFr_spec e11) dX1_odds_57 ?_
      refine x_iload_n 1 rfl dX1_odds_60 ?_
      obtain ⟨v12, e12, H⟩ := ob H
      refine x_iald e12 dX1_odds_61 ?_
      refine x_aload_n 0 rfl dX1_odds_62 ?_
      obtain ⟨v13, e13, H⟩ := ob H
      refine x_getf fg_X1_36 (gFr_spec e13) dX1_odds_63 ?_
      obtain ⟨v14, e14, H⟩ := ob H
      refine x_getf fg_X1_154 (gFr_spec e14) dX1_odds_66 ?_
      refine x_iload_n 1 rfl dX1_odds_69 ?_
      obtain ⟨v15, e15, H⟩ := ob H
      refine x_iald e15 dX1_odds_70 ?_
      refine x_icmp_le 77 dX1_odds_71 (by decide) (fun c16 => ?_) (fun c16 => ?_)
      · rw [if_pos c16] at H
        exact t_X1_odds_b77 hE ih _ _ _ _ _ _ _ H
      · rw [if_neg c16] at H
        refine x_iinc 4 (x4 + (1 : Int32)) [1, 2, 3, 4, 0, 5] dX1_odds_74 rfl (ii_1 _) (by decide) rfl ?_
        exact t_X1_odds_b77 hE ih _ _ _ _ _ _ _ H
def f_X1_odds (r0 : Nat) (x1 : Int32) (x2 : Int32) (x3 : Int32) (h : mH) : Option (Int32 × mH) := if gC h r0 = 0 then bR (f_X1_isPerson r0 x1 h) fun a1 g1 => if a1 = 0 then some ((-1 : Int32), g1) else bR (f_X1_isIn x2 (1 : Int32) (30 : Int32) g1) fun a3 g3 => if a3 = 0 then some ((-1 : Int32), g3) else f_X1_odds_L26  xFu r0 x1 x2 x3 (0 : Int32) (0 : Int32) g3 else none
theorem t_X1_odds {G : xG} (C0 : xC) {l : Launch} {r0 : Nat} {x1 : Int32} {x2 : Int32} {x3 : Int32} (h : mH) {o : Int32 × mH} (H : f_X1_odds r0 x1 x2 x3 h = some o) : XR G l mi_X1_odds [.ref r0, .int x1, .int x2, .int x3] h (some (.int o.1)) o.2 := by
  refine XR.of C0 (by decide) (Nat.le_of_ble_eq_true rfl) (fun C _ _ _ hE => ?_)
  show X G C mi_X1_odds 0 [(0, .ref r0), (1, .int x1), (2, .int x2), (3, .int x3)] [] h
  unfold f_X1_odds at H
  refine x_aload_n 0 rfl dX1_odds_0 ?_
  refine x_iload_n 1 rfl dX1_odds_1 ?_
  obtain ⟨c1, H⟩ := oit H
  obtain ⟨a1, g1, e1, H⟩ := obR H
  refine x_callV (M' := mi_X1_isPerson) (n := 1) (As := [.int x1]) (t_X1_isPerson C _ e1) c1 rfl rfl md_X1_isPerson ⟨Nat.le_of_ble_eq_true rfl, Nat.le_of_ble_eq_true rfl⟩ q1108 q1110 qs19 q120 q1111 rfl (Nat.le_of_ble_eq_true rfl) dX1_odds_2 ?_
  refine x_if_eq 18 dX1_odds_5 (by decide) (fun c2 => ?_) (fun c2 => ?_)
  · rw [if_pos c2] at H
    refine x_iconst (-1 : Int32) dX1_odds_18 ic_m1 ?_
    obtain rfl := Option.some.inj H
    exact x_iret hE rfl rfl dX1_odds_19
  · rw [if_neg c2] at H
    refine x_iload_n 2 rfl dX1_odds_8 ?_
    refine x_iconst (1 : Int32) dX1_odds_9 ic_1 ?_
    refine x_bipush (30 : Int32) dX1_odds_10 bi_30 ?_
    obtain ⟨a3, g3, e3, H⟩ := obR H
    refine x_callS (M' := mi_X1_isIn) (n := 3) (As := [.int x2, .int (1 : Int32), .int (30 : Int32)]) (t_X1_isIn C _ e3) md_X1_isIn ⟨Nat.le_of_ble_eq_true rfl, Nat.le_of_ble_eq_true rfl⟩ q1126 q921 q120 q922 rfl (Nat.le_of_ble_eq_true rfl) dX1_odds_12 ?_
    refine x_if_ne 20 dX1_odds_15 (by decide) (fun c4 => ?_) (fun c4 => ?_)
    · rw [if_neg c4] at H
      refine x_iconst (0 : Int32) dX1_odds_20 ic_0 ?_
      refine x_istore [1, 2, 3, 4, 0] dX1_odds_21 (by decide) rfl ?_
      refine x_iconst (0 : Int32) dX1_odds_23 ic_0 ?_
      refine x_istore [1, 2, 3, 4, 5, 0] dX1_odds_24 (by decide) rfl ?_
      exact t_X1_odds_L26 hE  xFu _ _ _ _ _ _ _ H
    · rw [if_pos c4] at H
      refine x_iconst (-1 : Int32) dX1_odds_18 ic_m1 ?_
      obtain rfl := Option.some.inj H
      exact x_iret hE rfl rfl dX1_odds_19
abbrev mi_X1_out : xM := (cX1_out, yX1_out, 4, some .int, 7)
theorem md_X1_out : xMD mi_X1_out 1 := ⟨by decide, by decide, by decide +kernel⟩
def f_X1_out_L16 : Nat → Nat → Int32 → Int32 → mH → Option (Int32 × mH)
  | 0, _, _, _, _ => none
  | n + 1, r0, x2, x3, h => if (7 : Int32) ≤ x3 then some ((-1 : Int32), h) else if gC h r0 = 0 then bR (f_X1_all r0  h) fun a4 g4 => if x2 = a4 then some (x3, g4) else if gC g4 r0 = 0 then bR (f_X1_tellsOn r0 x2 (0 : Int32) g4) fun a6 g6 => (f_X1_out_L16 n) r0 a6 (x3 + (1 : Int32)) g6 else none else none
theorem t_X1_out_L16 {G : xG} {C : xC} {o : Int32 × mH} (hE : xEnd G C (some (.int o.1)) o.2) : ∀ (n : Nat) (r0 : Nat) (x2 : Int32) (x3 : Int32) (h : mH), f_X1_out_L16 n r0 x2 x3 h = some o → X G C mi_X1_out 16 [(0, .ref r0), (2, .int x2), (3, .int x3)] [] h := by
  intro n
  induction n with
  | zero => intro r0 x2 x3 h H; exact nomatch (show (none : Option (Int32 × mH)) = some o from H)
  | succ n ih =>
    intro r0 x2 x3 h H
    rw [f_X1_out_L16] at H
    refine x_iload_n 2 rfl dX1_out_16 ?_
    refine x_bipush (7 : Int32) dX1_out_17 bi_7 ?_
    refine x_icmp_ge 45 dX1_out_19 (by decide) (fun c3 => ?_) (fun c3 => ?_)
    · rw [if_pos c3] at H
      refine x_iconst (-1 : Int32) dX1_out_45 ic_m1 ?_
      obtain rfl := Option.some.inj H
      exact x_iret hE rfl rfl dX1_out_46
    · rw [if_neg c3] at H
      refine x_iload_n 1 rfl dX1_out_22 ?_
      refine x_aload_n 0 rfl dX1_out_23 ?_
      obtain ⟨c4, H⟩ := oit H
      obtain ⟨a4, g4, e4, H⟩ := obR H
      refine x_callV (M' := mi_X1_all) (n := 0) (As := []) (t_X1_all C _ e4) c4 rfl rfl md_X1_all ⟨Nat.le_of_ble_eq_true rfl, Nat.le_of_ble_eq_true rfl⟩ q1440 q1442 qs33 q120 q1443 rfl (Nat.le_of_ble_eq_true rfl) dX1_out_24 ?_
      refine x_icmp_ne 32 dX1_out_27 (by decide) (fun c5 => ?_) (fun c5 => ?_)
      · rw [if_neg c5] at H
        refine x_aload_n 0 rfl dX1_out_32 ?_
        refine x_iload_n 1 rfl dX1_out_33 ?_
        refine x_iconst (0 : Int32) dX1_out_34 ic_0 ?_
        obtain ⟨c6, H⟩ := oit H
        obtain ⟨a6, g6, e6, H⟩ := obR H
        refine x_callV (M' := mi_X1_tellsOn) (n := 2) (As := [.int x2, .int (0 : Int32)]) (t_X1_tellsOn C _ e6) c6 rfl rfl md_X1_tellsOn ⟨Nat.le_of_ble_eq_true rfl, Nat.le_of_ble_eq_true rfl⟩ q1444 q1446 qs34 q120 q1447 rfl (Nat.le_of_ble_eq_true rfl) dX1_out_35 ?_
        refine x_istore_n [1, 0, 2] dX1_out_38 (by decide) rfl ?_
        refine x_iinc 2 (x3 + (1 : Int32)) [1, 2, 0] dX1_out_39 rfl (ii_1 _) (by decide) rfl ?_
        refine x_goto (tgt := 16) dX1_out_42 (by decide) ?_
        exact ih _ _ _ _ H
      · rw [if_pos c5] at H
        refine x_iload_n 2 rfl dX1_out_30 ?_
        obtain rfl := Option.some.inj H
        exact x_iret hE rfl rfl dX1_out_31
def f_X1_out (r0 : Nat) (x1 : Int32) (h : mH) : Option (Int32 × mH) := if gC h r0 = 0 then bR (f_X1_isPerson r0 x1 h) fun a1 g1 => if a1 = 0 then some ((-1 : Int32), g1) else f_X1_out_L16  xFu r0 ((1 : Int32) <<< (x1 &&& 31)) (0 : Int32) g1 else none
theorem t_X1_out {G : xG} (C0 : xC) {l : Launch} {r0 : Nat} {x1 : Int32} (h : mH) {o : Int32 × mH} (H : f_X1_out r0 x1 h = some o) : XR G l mi_X1_out [.ref r0, .int x1] h (some (.int o.1)) o.2 := by
  refine XR.of C0 (by decide) (Nat.le_of_ble_eq_true rfl) (fun C _ _ _ hE => ?_)
  show X G C mi_X1_out 0 [(0, .ref r0), (1, .int x1)] [] h
  unfold f_X1_out at H
  refine x_aload_n 0 rfl dX1_out_0 ?_
  refine x_iload_n 1 rfl dX1_out_1 ?_
  obtain ⟨c1, H⟩ := oit H
  obtain ⟨a1, g1, e1, H⟩ := obR H
  refine x_callV (M' := mi_X1_isPerson) (n := 1) (As := [.int x1]) (t_X1_isPerson C _ e1) c1 rfl rfl md_X1_isPerson ⟨Nat.le_of_ble_eq_true rfl, Nat.le_of_ble_eq_true rfl⟩ q1108 q1110 qs19 q120 q1111 rfl (Nat.le_of_ble_eq_true rfl) dX1_out_2 ?_
  refine x_if_ne 10 dX1_out_5 (by decide) (fun c2 => ?_) (fun c2 => ?_)
  · rw [if_neg c2] at H
    refine x_iconst (1 : Int32) dX1_out_10 ic_1 ?_
    refine x_iload_n 1 rfl dX1_out_11 ?_
    refine x_ishl dX1_out_12 ?_
    refine x_istore_n [1, 2, 0] dX1_out_13 (by decide) rfl ?_
    refine x_iconst (0 : Int32) dX1_out_14 ic_0 ?_
    refine x_istore_n [1, 2, 3, 0] dX1_out_15 (by decide) rfl ?_
    refine X.sub [0, 2, 3] rfl ?_
    exact t_X1_out_L16 hE  xFu _ _ _ _ H
  · rw [if_pos c2] at H
    refine x_iconst (-1 : Int32) dX1_out_8 ic_m1 ?_
    obtain rfl := Option.some.inj H
    exact x_iret hE rfl rfl dX1_out_9
abbrev mi_X1_parting : xM := (cX1_parting, yX1_parting, 1, some .int, 1)
theorem md_X1_parting : xMD mi_X1_parting 0 := ⟨by decide, by decide, by decide +kernel⟩
def f_X1_parting (r0 : Nat) (h : mH) : Option (Int32 × mH) := (gFi [0] 17 h r0).bind fun v1 => some (v1, h)
theorem t_X1_parting {G : xG} (C0 : xC) {l : Launch} {r0 : Nat} (h : mH) {o : Int32 × mH} (H : f_X1_parting r0 h = some o) : XR G l mi_X1_parting [.ref r0] h (some (.int o.1)) o.2 := by
  refine XR.of C0 (by decide) (Nat.le_of_ble_eq_true rfl) (fun C _ _ _ hE => ?_)
  show X G C mi_X1_parting 0 [(0, .ref r0)] [] h
  unfold f_X1_parting at H
  refine x_aload_n 0 rfl dX1_parting_0 ?_
  obtain ⟨v1, e1, H⟩ := ob H
  refine x_getf fg_X1_67 (gFi_spec e1) dX1_parting_1 ?_
  obtain rfl := Option.some.inj H
  exact x_iret hE rfl rfl dX1_parting_4
abbrev mi_X1_recluse : xM := (cX1_recluse, yX1_recluse, 3, some .int, 6)
theorem md_X1_recluse : xMD mi_X1_recluse 0 := ⟨by decide, by decide, by decide +kernel⟩
def f_X1_recluse_b44 (kb : Nat → Int32 → Int32 → mH → Option (Int32 × mH)) (r0 : Nat) (x1 : Int32) (x2 : Int32) (h : mH) : Option (Int32 × mH) := kb r0 x1 (x2 + (1 : Int32)) h
theorem t_X1_recluse_b44 {G : xG} {C : xC} {o : Int32 × mH} (hE : xEnd G C (some (.int o.1)) o.2) {kb : Nat → Int32 → Int32 → mH → Option (Int32 × mH)} (hkb : ∀ (r0 : Nat) (x1 : Int32) (x2 : Int32) (h : mH), kb r0 x1 x2 h = some o → X G C mi_X1_recluse 4 [(0, .ref r0), (1, .int x1), (2, .int x2)] [] h) (r0 : Nat) (x1 : Int32) (x2 : Int32) (h : mH) (H : f_X1_recluse_b44 kb r0 x1 x2 h = some o) : X G C mi_X1_recluse 44 [(0, .ref r0), (1, .int x1), (2, .int x2)] [] h := by
  unfold f_X1_recluse_b44 at H
  refine x_iinc 2 (x2 + (1 : Int32)) [1, 2, 0] dX1_recluse_44 rfl (ii_1 _) (by decide) rfl ?_
  refine x_goto (tgt := 4) dX1_recluse_47 (by decide) ?_
  exact hkb _ _ _ _ H
def f_X1_recluse_b42 (kb : Nat → Int32 → Int32 → mH → Option (Int32 × mH)) (r0 : Nat) (x2 : Int32) (h : mH) : Option (Int32 × mH) := f_X1_recluse_b44 kb r0 x2 x2 h
theorem t_X1_recluse_b42 {G : xG} {C : xC} {o : Int32 × mH} (hE : xEnd G C (some (.int o.1)) o.2) {kb : Nat → Int32 → Int32 → mH → Option (Int32 × mH)} (hkb : ∀ (r0 : Nat) (x1 : Int32) (x2 : Int32) (h : mH), kb r0 x1 x2 h = some o → X G C mi_X1_recluse 4 [(0, .ref r0), (1, .int x1), (2, .int x2)] [] h) (r0 : Nat) (x2 : Int32) (h : mH) (H : f_X1_recluse_b42 kb r0 x2 h = some o) : X G C mi_X1_recluse 42 [(0, .ref r0), (2, .int x2)] [] h := by
  unfold f_X1_recluse_b42 at H
  refine x_iload_n 1 rfl dX1_recluse_42 ?_
  refine x_istore_n [1, 0, 2] dX1_recluse_43 (by decide) rfl ?_
  exact t_X1_recluse_b44 hE hkb _ _ _ _ H
def f_X1_recluse_L4 : Nat → Nat → Int32 → Int32 → mH → Option (Int32 × mH)
  | 0, _, _, _, _ => none
  | n + 1, r0, x1, x2, h => if gC h r0 = 0 then bR (f_X1_persons r0  h) fun a1 g1 => if a1 ≤ x2 then some (x1, g1) else if x1 = (-1 : Int32) then f_X1_recluse_b42 (f_X1_recluse_L4 n) r0 x2 g1 else (gFr [0] 4 g1 r0).bind fun v4 => if gC g1 v4 = 2 then bR (f_X3_known v4 x2 g1) fun a5 g5 => bR (f_X1_many a5 g5) fun a6 g6 => (gFr [0] 4 g6 r0).bind fun v7 => if gC g6 v7 = 2 then bR (f_X3_known v7 x1 g6) fun a8 g8 => bR (f_X1_many a8 g8) fun a9 g9 => if a9 ≤ a6 then f_X1_recluse_b44 (f_X1_recluse_L4 n) r0 x1 x2 g9 else f_X1_recluse_b42 (f_X1_recluse_L4 n) r0 x2 g9 else none else none else none
theorem t_X1_recluse_L4 {G : xG} {C : xC} {o : Int32 × mH} (hE : xEnd G C (some (.int o.1)) o.2) : ∀ (n : Nat) (r0 : Nat) (x1 : Int32) (x2 : Int32) (h : mH), f_X1_recluse_L4 n r0 x1 x2 h = some o → X G C mi_X1_recluse 4 [(0, .ref r0), (1, .int x1), (2, .int x2)] [] h := by
  intro n
  induction n with
  | zero => intro r0 x1 x2 h H; exact nomatch (show (none : Option (Int32 × mH)) = some o from H)
  | succ n ih =>
    intro r0 x1 x2 h H
    rw [f_X1_recluse_L4] at H
    refine x_iload_n 2 rfl dX1_recluse_4 ?_
    refine x_aload_n 0 rfl dX1_recluse_5 ?_
    obtain ⟨c1, H⟩ := oit H
    obtain ⟨a1, g1, e1, H⟩ := obR H
    refine x_callV (M' := mi_X1_persons) (n := 0) (As := []) (t_X1_persons C _ e1) c1 rfl rfl md_X1_persons ⟨Nat.le_of_ble_eq_true rfl, Nat.le_of_ble_eq_true rfl⟩ q1140 q1142 qs22 q120 q1143 rfl (Nat.le_of_ble_eq_true rfl) dX1_recluse_6 ?_
    refine x_icmp_ge 50 dX1_recluse_9 (by decide) (fun c2 => ?_) (fun c2 => ?_)
    · rw [if_pos c2] at H
      refine x_iload_n 1 rfl dX1_recluse_50 ?_
      obtain rfl := Option.some.inj H
      exact x_iret hE rfl rfl dX1_recluse_51
    · rw [if_neg c2] at H
      refine x_iload_n 1 rfl dX1_recluse_12 ?_
      refine x_iconst (-1 : Int32) dX1_recluse_13 ic_m1 ?_
      refine x_icmp_eq 42 dX1_recluse_14 (by decide) (fun c3 => ?_) (fun c3 => ?_)
      · rw [if_pos c3] at H
        refine X.sub [0, 2] rfl ?_
        exact t_X1_recluse_b42 hE ih _ _ _ H
      · rw [if_neg c3] at H
        refine x_aload_n 0 rfl dX1_recluse_17 ?_
        obtain ⟨v4, e4, H⟩ := ob H
        refine x_getf fg_X1_36 (gFr_spec e4) dX1_recluse_18 ?_
        refine x_iload_n 2 rfl dX1_recluse_21 ?_
        obtain ⟨c5, H⟩ := oit H
        obtain ⟨a5, g5, e5, H⟩ := obR H
        refine x_callV (M' := mi_X3_known) (n := 1) (As := [.int x2]) (t_X3_known C _ e5) c5 rfl rfl md_X3_known ⟨Nat.le_of_ble_eq_true rfl, Nat.le_of_ble_eq_true rfl⟩ q1448 q1240 q1241 q125 q1242 rfl (Nat.le_of_ble_eq_true rfl) dX1_recluse_22 ?_
        obtain ⟨a6, g6, e6, H⟩ := obR H
        refine x_callS (M' := mi_X1_many) (n := 1) (As := [.int a5]) (t_X1_many C _ e6) md_X1_many ⟨Nat.le_of_ble_eq_true rfl, Nat.le_of_ble_eq_true rfl⟩ q1153 q1154 q120 q1155 rfl (Nat.le_of_ble_eq_true rfl) dX1_recluse_25 ?_
        refine x_aload_n 0 rfl dX1_recluse_28 ?_
        obtain ⟨v7, e7, H⟩ := ob H
        refine x_getf fg_X1_36 (gFr_spec e7) dX1_recluse_29 ?_
        refine x_iload_n 1 rfl dX1_recluse_32 ?_
        obtain ⟨c8, H⟩ := oit H
        obtain ⟨a8, g8, e8, H⟩ := obR H
        refine x_callV (M' := mi_X3_known) (n := 1) (As := [.int x1]) (t_X3_known C _ e8) c8 rfl rfl md_X3_known ⟨Nat.le_of_ble_eq_true rfl, Nat.le_of_ble_eq_true rfl⟩ q1448 q1240 q1241 q125 q1242 rfl (Nat.le_of_ble_eq_true rfl) dX1_recluse_33 ?_
        obtain ⟨a9, g9, e9, H⟩ := obR H
        refine x_callS (M' := mi_X1_many) (n := 1) (As := [.int a8]) (t_X1_many C _ e9) md_X1_many ⟨Nat.le_of_ble_eq_true rfl, Nat.le_of_ble_eq_true rfl⟩ q1153 q1154 q120 q1155 rfl (Nat.le_of_ble_eq_true rfl) dX1_recluse_36 ?_
        refine x_icmp_ge 44 dX1_recluse_39 (by decide) (fun c10 => ?_) (fun c10 => ?_)
        · rw [if_pos c10] at H
          exact t_X1_recluse_b44 hE ih _ _ _ _ H
        · rw [if_neg c10] at H
          refine X.sub [0, 2] rfl ?_
          exact t_X1_recluse_b42 hE ih _ _ _ H
def f_X1_recluse (r0 : Nat) (h : mH) : Option (Int32 × mH) := f_X1_recluse_L4  xFu r0 (-1 : Int32) (0 : Int32) h
theorem t_X1_recluse {G : xG} (C0 : xC) {l : Launch} {r0 : Nat} (h : mH) {o : Int32 × mH} (H : f_X1_recluse r0 h = some o) : XR G l mi_X1_recluse [.ref r0] h (some (.int o.1)) o.2 := by
  refine XR.of C0 (by decide) (Nat.le_of_ble_eq_true rfl) (fun C _ _ _ hE => ?_)
  show X G C mi_X1_recluse 0 [(0, .ref r0)] [] h
  unfold f_X1_recluse at H
  refine x_iconst (-1 : Int32) dX1_recluse_0 ic_m1 ?_
  refine x_istore_n [1, 0] dX1_recluse_1 (by decide) rfl ?_
  refine x_iconst (0 : Int32) dX1_recluse_2 ic_0 ?_
  refine x_istore_n [1, 2, 0] dX1_recluse_3 (by decide) rfl ?_
  exact t_X1_recluse_L4 hE  xFu _ _ _ _ H
abbrev mi_X1_restore : xM := (cX1_restore, yX1_restore, 2, some .boolean, 4)
theorem md_X1_restore : xMD mi_X1_restore 1 := ⟨by decide, by decide, by decide +kernel⟩
def f_X1_restore (r0 : Nat) (x1 : Int32) (h : mH) : Option (Int32 × mH) := bR (f_X1_isIn x1 (0 : Int32) (1 : Int32) h) fun a1 g1 => if a1 = 0 then some ((0 : Int32), g1) else (gFr [0] 20 g1 r0).bind fun v3 => (aR g1 v3 x1).bind fun v4 => (gFr [3] 0 g1 v4).bind fun v5 => if v5 = 0 ∨ 6 ≤ v5 then if v5 = 0 then some ((0 : Int32), g1) else (gFr [0] 20 g1 r0).bind fun v7 => (aR g1 v7 x1).bind fun v8 => (gFr [3] 0 g1 v8).bind fun v9 => (pF [0] 3 (.ref v9) g1 r0).bind fun h10 => (gFr [0] 20 h10 r0).bind fun v11 => (aR h10 v11 x1).bind fun v12 => (gFr [3] 1 h10 v12).bind fun v13 => (pF [0] 6 (.ref v13) h10 r0).bind fun h14 => (gFr [0] 4 h14 r0).bind fun v15 => (gFr [0] 20 h14 r0).bind fun v16 => (aR h14 v16 x1).bind fun v17 => (gFr [3] 2 h14 v17).bind fun v18 => if gC h14 v15 = 2 then bR (f_X3_as v15 v18 h14) fun a19 g19 => (pF [0] 8 (.int (0 : Int32)) g19 r0).bind fun h20 => some ((1 : Int32), h20) else none else none
theorem t_X1_restore {G : xG} (C0 : xC) {l : Launch} {r0 : Nat} {x1 : Int32} (h : mH) {o : Int32 × mH} (H : f_X1_restore r0 x1 h = some o) : XR G l mi_X1_restore [.ref r0, .int x1] h (some (.int o.1)) o.2 := by
  refine XR.of C0 (by decide) (Nat.le_of_ble_eq_true rfl) (fun C _ _ _ hE => ?_)
  show X G C mi_X1_restore 0 [(0, .ref r0), (1, .int x1)] [] h
  unfold f_X1_restore at H
  refine x_iload_n 1 rfl dX1_restore_0 ?_
  refine x_iconst (0 : Int32) dX1_restore_1 ic_0 ?_
  refine x_iconst (1 : Int32) dX1_restore_2 ic_1 ?_
  obtain ⟨a1, g1, e1, H⟩ := obR H
  refine x_callS (M' := mi_X1_isIn) (n := 3) (As := [.int x1, .int (0 : Int32), .int (1 : Int32)]) (t_X1_isIn C _ e1) md_X1_isIn ⟨Nat.le_of_ble_eq_true rfl, Nat.le_of_ble_eq_true rfl⟩ q1126 q921 q120 q922 rfl (Nat.le_of_ble_eq_true rfl) dX1_restore_3 ?_
  refine x_if_eq 21 dX1_restore_6 (by decide) (fun c2 => ?_) (fun c2 => ?_)
  · rw [if_pos c2] at H
    refine x_iconst (0 : Int32) dX1_restore_21 ic_0 ?_
    obtain rfl := Option.some.inj H
    exact x_iret hE rfl rfl dX1_restore_22
  · rw [if_neg c2] at H
    refine x_aload_n 0 rfl dX1_restore_9 ?_
    obtain ⟨v3, e3, H⟩ := ob H
    refine x_getf fg_X1_82 (gFr_spec e3) dX1_restore_10 ?_
    refine x_iload_n 1 rfl dX1_restore_13 ?_
    obtain ⟨v4, e4, H⟩ := ob H
    refine x_aald e4 dX1_restore_14 ?_
    obtain ⟨v5, e5, H⟩ := ob H
    refine x_getf fg_X1_409 (gFr_spec e5) dX1_restore_15 ?_
    obtain ⟨g6, H⟩ := oit H
    refine x_ifnonnull 23 g6 dX1_restore_18 (by decide) (fun c6 => ?_) (fun c6 => ?_)
    · rw [if_neg c6] at H
      refine x_aload_n 0 rfl dX1_restore_23 ?_
      refine x_aload_n 0 rfl dX1_restore_24 ?_
      obtain ⟨v7, e7, H⟩ := ob H
      refine x_getf fg_X1_82 (gFr_spec e7) dX1_restore_25 ?_
      refine x_iload_n 1 rfl dX1_restore_28 ?_
      obtain ⟨v8, e8, H⟩ := ob H
      refine x_aald e8 dX1_restore_29 ?_
      obtain ⟨v9, e9, H⟩ := ob H
      refine x_getf fg_X1_409 (gFr_spec e9) dX1_restore_30 ?_
      obtain ⟨h10, e10, H⟩ := ob H
      refine x_putf (fp_X1_25 _) rfl rfl e10 dX1_restore_33 ?_
      refine x_aload_n 0 rfl dX1_restore_36 ?_
      refine x_aload_n 0 rfl dX1_restore_37 ?_
      obtain ⟨v11, e11, H⟩ := ob H
      refine x_getf fg_X1_82 (gFr_spec e11) dX1_restore_38 ?_
      refine x_iload_n 1 rfl dX1_restore_41 ?_
      obtain ⟨v12, e12, H⟩ := ob H
      refine x_aald e12 dX1_restore_42 ?_
      obtain ⟨v13, e13, H⟩ := ob H
      refine x_getf fg_X1_410 (gFr_spec e13) dX1_restore_43 ?_
      obtain ⟨h14, e14, H⟩ := ob H
      refine x_putf (fp_X1_109 _) rfl rfl e14 dX1_restore_46 ?_
      refine x_aload_n 0 rfl dX1_restore_49 ?_
      obtain ⟨v15, e15, H⟩ := ob H
      refine x_getf fg_X1_36 (gFr_spec e15) dX1_restore_50 ?_
      refine x_aload_n 0 rfl dX1_restore_53 ?_
      obtain ⟨v16, e16, H⟩ := ob H
      refine x_getf fg_X1_82 (gFr_spec e16) dX1_restore_54 ?_
      refine x_iload_n 1 rfl dX1_restore_57 ?_
      obtain ⟨v17, e17, H⟩ := ob H
      refine x_aald e17 dX1_restore_58 ?_
      obtain ⟨v18, e18, H⟩ := ob H
      refine x_getf fg_X1_411 (gFr_spec e18) dX1_restore_59 ?_
      obtain ⟨c19, H⟩ := oit H
      obtain ⟨a19, g19, e19, H⟩ := obR H
      refine x_callV (M' := mi_X3_as) (n := 1) (As := [.ref v18]) (t_X3_as C _ e19) c19 rfl rfl md_X3_as ⟨Nat.le_of_ble_eq_true rfl, Nat.le_of_ble_eq_true rfl⟩ q1209 q1210 q1211 q125 q1212 rfl (Nat.le_of_ble_eq_true rfl) dX1_restore_62 ?_
      refine x_pop dX1_restore_65 rfl ?_
      refine x_aload_n 0 rfl dX1_restore_66 ?_
      refine x_iconst (0 : Int32) dX1_restore_67 ic_0 ?_
      obtain ⟨h20, e20, H⟩ := ob H
      refine x_putf (fp_X1_113 _) rfl rfl e20 dX1_restore_68 ?_
      refine x_iconst (1 : Int32) dX1_restore_71 ic_1 ?_
      obtain rfl := Option.some.inj H
      exact x_iret hE rfl rfl dX1_restore_72
    · rw [if_pos c6] at H
      refine x_iconst (0 : Int32) dX1_restore_21 ic_0 ?_
      obtain rfl := Option.some.inj H
      exact x_iret hE rfl rfl dX1_restore_22
abbrev mi_X22_holds : xM := (cX22_holds, yX22_holds, 3, some .boolean, 7)
theorem md_X22_holds : xMD mi_X22_holds 2 := ⟨by decide, by decide, by decide +kernel⟩
def f_X22_holds (r0 : Nat) (r1 : Nat) (x2 : Int32) (h : mH) : Option (Int32 × mH) := (gFi [17] 0 h r0).bind fun v1 => if v1 = 0 then (gFr [2] 11 h r1).bind fun v3 => (gFi [17] 1 h r0).bind fun v4 => (aI .int h v3 (((5 : Int32) * x2) + v4)).bind fun v5 => if v5 ≤ 0 then some ((0 : Int32), h) else some ((1 : Int32), h) else (gFi [17] 1 h r0).bind fun v7 => if gC h r1 = 2 then bR (f_X3_know r1 x2 v7 h) fun a8 g8 => rZ a8 g8 else none
theorem t_X22_holds {G : xG} (C0 : xC) {l : Launch} {r0 : Nat} {r1 : Nat} {x2 : Int32} (h : mH) {o : Int32 × mH} (H : f_X22_holds r0 r1 x2 h = some o) : XR G l mi_X22_holds [.ref r0, .ref r1, .int x2] h (some (.int o.1)) o.2 := by
  refine XR.of C0 (by decide) (Nat.le_of_ble_eq_true rfl) (fun C _ _ _ hE => ?_)
  show X G C mi_X22_holds 0 [(0, .ref r0), (1, .ref r1), (2, .int x2)] [] h
  unfold f_X22_holds at H
  refine x_aload_n 0 rfl dX22_holds_0 ?_
  obtain ⟨v1, e1, H⟩ := ob H
  refine x_getf fg_X22_9 (gFi_spec e1) dX22_holds_1 ?_
  refine x_if_eq 19 dX22_holds_4 (by decide) (fun c2 => ?_) (fun c2 => ?_)
  · rw [if_pos c2] at H
    refine x_aload_n 1 rfl dX22_holds_19 ?_
    obtain ⟨v3, e3, H⟩ := ob H
    refine x_getf fg_X22_25 (gFr_spec e3) dX22_holds_20 ?_
    refine x_iconst (5 : Int32) dX22_holds_23 ic_5 ?_
    refine x_iload_n 2 rfl dX22_holds_24 ?_
    refine x_imul dX22_holds_25 ?_
    refine x_aload_n 0 rfl dX22_holds_26 ?_
    obtain ⟨v4, e4, H⟩ := ob H
    refine x_getf fg_X22_15 (gFi_spec e4) dX22_holds_27 ?_
    refine x_iadd dX22_holds_30 ?_
    obtain ⟨v5, e5, H⟩ := ob H
    refine x_iald e5 dX22_holds_31 ?_
    refine x_if_le 39 dX22_holds_32 (by decide) (fun c6 => ?_) (fun c6 => ?_)
    · rw [if_pos c6] at H
      refine x_iconst (0 : Int32) dX22_holds_39 ic_0 ?_
      obtain rfl := Option.some.inj H
      exact x_iret hE rfl rfl dX22_holds_40
    · rw [if_neg c6] at H
      refine x_iconst (1 : Int32) dX22_holds_35 ic_1 ?_
      refine x_goto (tgt := 40) dX22_holds_36 (by decide) ?_
      obtain rfl := Option.some.inj H
      exact x_iret hE rfl rfl dX22_holds_40
  · rw [if_neg c2] at H
    refine x_aload_n 1 rfl dX22_holds_7 ?_
    refine x_iload_n 2 rfl dX22_holds_8 ?_
    refine x_aload_n 0 rfl dX22_holds_9 ?_
    obtain ⟨v7, e7, H⟩ := ob H
    refine x_getf fg_X22_15 (gFi_spec e7) dX22_holds_10 ?_
    obtain ⟨c8, H⟩ := oit H
    obtain ⟨a8, g8, e8, H⟩ := obR H
    refine x_callV (M' := mi_X3_know) (n := 2) (As := [.int x2, .int v7]) (t_X3_know C _ e8) c8 rfl rfl md_X3_know ⟨Nat.le_of_ble_eq_true rfl, Nat.le_of_ble_eq_true rfl⟩ q1826 q1236 q1237 q125 q1238 rfl (Nat.le_of_ble_eq_true rfl) dX22_holds_13 ?_
    refine x_goto (tgt := 40) dX22_holds_16 (by decide) ?_
    obtain ⟨c, rfl⟩ := rZ_spec H
    exact x_iret hE rfl c dX22_holds_40
abbrev mi_X3_left : xM := (cX3_left, yX3_left, 2, some .int, 2)
theorem md_X3_left : xMD mi_X3_left 1 := ⟨by decide, by decide, by decide +kernel⟩
def f_X3_left (r0 : Nat) (x1 : Int32) (h : mH) : Option (Int32 × mH) := (gFr [2] 10 h r0).bind fun v1 => if gC h r0 = 2 then bR (f_X3_sum r0 v1 x1 h) fun a2 g2 => some (a2, g2) else none
theorem t_X3_left {G : xG} (C0 : xC) {l : Launch} {r0 : Nat} {x1 : Int32} (h : mH) {o : Int32 × mH} (H : f_X3_left r0 x1 h = some o) : XR G l mi_X3_left [.ref r0, .int x1] h (some (.int o.1)) o.2 := by
  refine XR.of C0 (by decide) (Nat.le_of_ble_eq_true rfl) (fun C _ _ _ hE => ?_)
  show X G C mi_X3_left 0 [(0, .ref r0), (1, .int x1)] [] h
  unfold f_X3_left at H
  refine x_aload_n 0 rfl dX3_left_0 ?_
  refine x_aload_n 0 rfl dX3_left_1 ?_
  obtain ⟨v1, e1, H⟩ := ob H
  refine x_getf fg_X3_24 (gFr_spec e1) dX3_left_2 ?_
  refine x_iload_n 1 rfl dX3_left_5 ?_
  obtain ⟨c2, H⟩ := oit H
  obtain ⟨a2, g2, e2, H⟩ := obR H
  refine x_callV (M' := mi_X3_sum) (n := 2) (As := [.ref v1, .int x1]) (t_X3_sum C _ e2) c2 rfl rfl md_X3_sum ⟨Nat.le_of_ble_eq_true rfl, Nat.le_of_ble_eq_true rfl⟩ q1149 q1151 qs23 q125 q1152 rfl (Nat.le_of_ble_eq_true rfl) dX3_left_6 ?_
  obtain rfl := Option.some.inj H
  exact x_iret hE rfl rfl dX3_left_9
abbrev mi_X23_isSold : xM := (cX23_isSold, yX23_isSold, 4, some .boolean, 5)
theorem md_X23_isSold : xMD mi_X23_isSold 2 := ⟨by decide, by decide, by decide +kernel⟩
def f_X23_isSold_b40 (r0 : Nat) (x1 : Int32) (x2 : Int32) (h : mH) : Option (Int32 × mH) := if x2 = 0 then some ((0 : Int32), h) else if gC h r0 = 2 then bR (f_X3_left r0 x1 h) fun a2 g2 => if a2 = 0 then some ((1 : Int32), g2) else some ((0 : Int32), g2) else none
theorem t_X23_isSold_b40 {G : xG} {C : xC} {o : Int32 × mH} (hE : xEnd G C (some (.int o.1)) o.2) (r0 : Nat) (x1 : Int32) (x2 : Int32) (h : mH) (H : f_X23_isSold_b40 r0 x1 x2 h = some o) : X G C mi_X23_isSold 40 [(0, .ref r0), (1, .int x1), (2, .int x2)] [] h := by
  unfold f_X23_isSold_b40 at H
  refine x_iload_n 2 rfl dX23_isSold_40 ?_
  refine x_if_eq 56 dX23_isSold_41 (by decide) (fun c1 => ?_) (fun c1 => ?_)
  · rw [if_pos c1] at H
    refine x_iconst (0 : Int32) dX23_isSold_56 ic_0 ?_
    obtain rfl := Option.some.inj H
    exact x_iret hE rfl rfl dX23_isSold_57
  · rw [if_neg c1] at H
    refine x_aload_n 0 rfl dX23_isSold_44 ?_
    refine x_iload_n 1 rfl dX23_isSold_45 ?_
    obtain ⟨c2, H⟩ := oit H
    obtain ⟨a2, g2, e2, H⟩ := obR H
    refine x_callV (M' := mi_X3_left) (n := 1) (As := [.int x1]) (t_X3_left C _ e2) c2 rfl rfl md_X3_left ⟨Nat.le_of_ble_eq_true rfl, Nat.le_of_ble_eq_true rfl⟩ q1816 q1817 q1818 q125 q1819 rfl (Nat.le_of_ble_eq_true rfl) dX23_isSold_46 ?_
    refine x_if_ne 56 dX23_isSold_49 (by decide) (fun c3 => ?_) (fun c3 => ?_)
    · rw [if_neg c3] at H
      refine x_iconst (0 : Int32) dX23_isSold_56 ic_0 ?_
      obtain rfl := Option.some.inj H
      exact x_iret hE rfl rfl dX23_isSold_57
    · rw [if_pos c3] at H
      refine x_iconst (1 : Int32) dX23_isSold_52 ic_1 ?_
      refine x_goto (tgt := 57) dX23_isSold_53 (by decide) ?_
      obtain rfl := Option.some.inj H
      exact x_iret hE rfl rfl dX23_isSold_57
def f_X23_isSold_b33 (kb : Nat → Int32 → Int32 → Int32 → mH → Option (Int32 × mH)) (k40 : Nat → Int32 → Int32 → mH → Option (Int32 × mH)) (r0 : Nat) (x1 : Int32) (x3 : Int32) (s0 : Int32) (h : mH) : Option (Int32 × mH) := kb r0 x1 s0 (x3 + (1 : Int32)) h
theorem t_X23_isSold_b33 {G : xG} {C : xC} {o : Int32 × mH} (hE : xEnd G C (some (.int o.1)) o.2) {kb : Nat → Int32 → Int32 → Int32 → mH → Option (Int32 × mH)} (hkb : ∀ (r0 : Nat) (x1 : Int32) (x2 : Int32) (x3 : Int32) (h : mH), kb r0 x1 x2 x3 h = some o → X G C mi_X23_isSold 4 [(0, .ref r0), (1, .int x1), (2, .int x2), (3, .int x3)] [] h) {k40 : Nat → Int32 → Int32 → mH → Option (Int32 × mH)} (hk40 : ∀ (r0 : Nat) (x1 : Int32) (x2 : Int32) (h : mH), k40 r0 x1 x2 h = some o → X G C mi_X23_isSold 40 [(0, .ref r0), (1, .int x1), (2, .int x2)] [] h) (r0 : Nat) (x1 : Int32) (x3 : Int32) (s0 : Int32) (h : mH) (H : f_X23_isSold_b33 kb k40 r0 x1 x3 s0 h = some o) : X G C mi_X23_isSold 33 [(0, .ref r0), (1, .int x1), (3, .int x3)] [.int s0] h := by
  unfold f_X23_isSold_b33 at H
  refine x_istore_n [1, 2, 0, 3] dX23_isSold_33 (by decide) rfl ?_
  refine x_iinc 3 (x3 + (1 : Int32)) [1, 2, 3, 0] dX23_isSold_34 rfl (ii_1 _) (by decide) rfl ?_
  refine x_goto (tgt := 4) dX23_isSold_37 (by decide) ?_
  exact hkb _ _ _ _ _ H
def f_X23_isSold_b28 (kb : Nat → Int32 → Int32 → Int32 → mH → Option (Int32 × mH)) (k40 : Nat → Int32 → Int32 → mH → Option (Int32 × mH)) (r0 : Nat) (x1 : Int32) (x3 : Int32) (h : mH) : Option (Int32 × mH) := f_X23_isSold_b33 kb k40 r0 x1 x3 (1 : Int32) h
theorem t_X23_isSold_b28 {G : xG} {C : xC} {o : Int32 × mH} (hE : xEnd G C (some (.int o.1)) o.2) {kb : Nat → Int32 → Int32 → Int32 → mH → Option (Int32 × mH)} (hkb : ∀ (r0 : Nat) (x1 : Int32) (x2 : Int32) (x3 : Int32) (h : mH), kb r0 x1 x2 x3 h = some o → X G C mi_X23_isSold 4 [(0, .ref r0), (1, .int x1), (2, .int x2), (3, .int x3)] [] h) {k40 : Nat → Int32 → Int32 → mH → Option (Int32 × mH)} (hk40 : ∀ (r0 : Nat) (x1 : Int32) (x2 : Int32) (h : mH), k40 r0 x1 x2 h = some o → X G C mi_X23_isSold 40 [(0, .ref r0), (1, .int x1), (2, .int x2)] [] h) (r0 : Nat) (x1 : Int32) (x3 : Int32) (h : mH) (H : f_X23_isSold_b28 kb k40 r0 x1 x3 h = some o) : X G C mi_X23_isSold 28 [(0, .ref r0), (1, .int x1), (3, .int x3)] [] h := by
  unfold f_X23_isSold_b28 at H
  refine x_iconst (1 : Int32) dX23_isSold_28 ic_1 ?_
  refine x_goto (tgt := 33) dX23_isSold_29 (by decide) ?_
  exact t_X23_isSold_b33 hE hkb hk40 _ _ _ _ _ H
def f_X23_isSold_L4 (k40 : Nat → Int32 → Int32 → mH → Option (Int32 × mH)) : Nat → Nat → Int32 → Int32 → Int32 → mH → Option (Int32 × mH)
  | 0, _, _, _, _, _ => none
  | n + 1, r0, x1, x2, x3, h => if gC h r0 = 2 then bR (f_X3_goods r0  h) fun a4 g4 => if a4 ≤ x3 then k40 r0 x1 x2 g4 else if x2 = 0 then if gC g4 r0 = 2 then bR (f_X3_person r0 x1 g4) fun a7 g7 => if gC g7 a7 = 10 then bR (f_X10_sells a7 x3 g7) fun a8 g8 => if a8 = 0 then f_X23_isSold_b33 (f_X23_isSold_L4 k40 n) k40 r0 x1 x3 (0 : Int32) g8 else f_X23_isSold_b28 (f_X23_isSold_L4 k40 n) k40 r0 x1 x3 g8 else none else none else f_X23_isSold_b28 (f_X23_isSold_L4 k40 n) k40 r0 x1 x3 g4 else none
theorem t_X23_isSold_L4 {G : xG} {C : xC} {o : Int32 × mH} (hE : xEnd G C (some (.int o.1)) o.2) {k40 : Nat → Int32 → Int32 → mH → Option (Int32 × mH)} (hk40 : ∀ (r0 : Nat) (x1 : Int32) (x2 : Int32) (h : mH), k40 r0 x1 x2 h = some o → X G C mi_X23_isSold 40 [(0, .ref r0), (1, .int x1), (2, .int x2)] [] h) : ∀ (n : Nat) (r0 : Nat) (x1 : Int32) (x2 : Int32) (x3 : Int32) (h : mH), f_X23_isSold_L4 k40 n r0 x1 x2 x3 h = some o → X G C mi_X23_isSold 4 [(0, .ref r0), (1, .int x1), (2, .int x2), (3, .int x3)] [] h := by
  intro n
  induction n with
  | zero => intro r0 x1 x2 x3 h H; exact nomatch (show (none : Option (Int32 × mH)) = some o from H)
  | succ n ih =>
    intro r0 x1 x2 x3 h H
    rw [f_X23_isSold_L4] at H
    refine x_iload_n 3 rfl dX23_isSold_4 ?_
    refine x_aload_n 0 rfl dX23_isSold_5 ?_
    obtain ⟨c4, H⟩ := oit H
    obtain ⟨a4, g4, e4, H⟩ := obR H
    refine x_callV (M' := mi_X3_goods) (n := 0) (As := []) (t_X3_goods C _ e4) c4 rfl rfl md_X3_goods ⟨Nat.le_of_ble_eq_true rfl, Nat.le_of_ble_eq_true rfl⟩ q1813 q1525 q1526 q125 q1527 rfl (Nat.le_of_ble_eq_true rfl) dX23_isSold_6 ?_
    refine x_icmp_ge 40 dX23_isSold_9 (by decide) (fun c5 => ?_) (fun c5 => ?_)
    · rw [if_pos c5] at H
      refine X.sub [0, 1, 2] rfl ?_
      exact hk40 _ _ _ _ H
    · rw [if_neg c5] at H
      refine x_iload_n 2 rfl dX23_isSold_12 ?_
      refine x_if_ne 28 dX23_isSold_13 (by decide) (fun c6 => ?_) (fun c6 => ?_)
      · rw [if_neg c6] at H
        refine X.sub [0, 1, 3] rfl ?_
        exact t_X23_isSold_b28 hE ih hk40 _ _ _ _ H
      · rw [if_pos c6] at H
        refine x_aload_n 0 rfl dX23_isSold_16 ?_
        refine x_iload_n 1 rfl dX23_isSold_17 ?_
        obtain ⟨c7, H⟩ := oit H
        obtain ⟨a7, g7, e7, H⟩ := obR H
        refine x_callV (M' := mi_X3_person) (n := 1) (As := [.int x1]) (t_X3_person C _ e7) c7 rfl rfl md_X3_person ⟨Nat.le_of_ble_eq_true rfl, Nat.le_of_ble_eq_true rfl⟩ q1814 q321 q322 q125 q323 rfl (Nat.le_of_ble_eq_true rfl) dX23_isSold_18 ?_
        refine x_iload_n 3 rfl dX23_isSold_21 ?_
        obtain ⟨c8, H⟩ := oit H
        obtain ⟨a8, g8, e8, H⟩ := obR H
        refine x_callV (M' := mi_X10_sells) (n := 1) (As := [.int x3]) (t_X10_sells C _ e8) c8 rfl rfl md_X10_sells ⟨Nat.le_of_ble_eq_true rfl, Nat.le_of_ble_eq_true rfl⟩ q1815 q1066 q1067 q145 q1068 rfl (Nat.le_of_ble_eq_true rfl) dX23_isSold_22 ?_
        refine x_if_eq 32 dX23_isSold_25 (by decide) (fun c9 => ?_) (fun c9 => ?_)
        · rw [if_pos c9] at H
          refine x_iconst (0 : Int32) dX23_isSold_32 ic_0 ?_
          refine X.sub [0, 1, 3] rfl ?_
          exact t_X23_isSold_b33 hE ih hk40 _ _ _ _ _ H
        · rw [if_neg c9] at H
          refine X.sub [0, 1, 3] rfl ?_
          exact t_X23_isSold_b28 hE ih hk40 _ _ _ _ H
def f_X23_isSold (r0 : Nat) (x1 : Int32) (h : mH) : Option (Int32 × mH) := f_X23_isSold_L4 (f_X23_isSold_b40) xFu r0 x1 (0 : Int32) (0 : Int32) h
theorem t_X23_isSold {G : xG} (C0 : xC) {l : Launch} {r0 : Nat} {x1 : Int32} (h : mH) {o : Int32 × mH} (H : f_X23_isSold r0 x1 h = some o) : XR G l mi_X23_isSold [.ref r0, .int x1] h (some (.int o.1)) o.2 := by
  refine XR.of C0 (by decide) (Nat.le_of_ble_eq_true rfl) (fun C _ _ _ hE => ?_)
  show X G C mi_X23_isSold 0 [(0, .ref r0), (1, .int x1)] [] h
  unfold f_X23_isSold at H
  refine x_iconst (0 : Int32) dX23_isSold_0 ic_0 ?_
  refine x_istore_n [1, 2, 0] dX23_isSold_1 (by decide) rfl ?_
  refine x_iconst (0 : Int32) dX23_isSold_2 ic_0 ?_
  refine x_istore_n [1, 2, 3, 0] dX23_isSold_3 (by decide) rfl ?_
  exact t_X23_isSold_L4 hE (t_X23_isSold_b40 hE) xFu _ _ _ _ _ H
abbrev mi_X23_holds : xM := (cX23_holds, yX23_holds, 3, some .boolean, 6)
theorem md_X23_holds : xMD mi_X23_holds 2 := ⟨by decide, by decide, by decide +kernel⟩
def f_X23_holds (r0 : Nat) (r1 : Nat) (x2 : Int32) (h : mH) : Option (Int32 × mH) := (gFi [18] 0 h r0).bind fun v1 => if v1 = 0 then if gC h r1 = 2 then bR (f_X3_isHome r1 x2 h) fun a11 g11 => rZ a11 g11 else none else (gFi [18] 0 h r0).bind fun v3 => if v3 = (1 : Int32) then if gC h r1 = 2 then bR (f_X3_isVeiled r1 x2 h) fun a10 g10 => rZ a10 g10 else none else (gFi [18] 0 h r0).bind fun v5 => if v5 = (2 : Int32) then if gC h r1 = 2 then bR (f_X3_wanted r1 x2 h) fun a8 g8 => if a8 = 0 then some ((1 : Int32), g8) else some ((0 : Int32), g8) else none else bR (f_X23_isSold r1 x2 h) fun a7 g7 => rZ a7 g7
theorem t_X23_holds {G : xG} (C0 : xC) {l : Launch} {r0 : Nat} {r1 : Nat} {x2 : Int32} (h : mH) {o : Int32 × mH} (H : f_X23_holds r0 r1 x2 h = some o) : XR G l mi_X23_holds [.ref r0, .ref r1, .int x2] h (some (.int o.1)) o.2 := by
  refine XR.of C0 (by decide) (Nat.le_of_ble_eq_true rfl) (fun C _ _ _ hE => ?_)
  show X G C mi_X23_holds 0 [(0, .ref r0), (1, .ref r1), (2, .int x2)] [] h
  unfold f_X23_holds at H
  refine x_aload_n 0 rfl dX23_holds_0 ?_
  obtain ⟨v1, e1, H⟩ := ob H
  refine x_getf fg_X23_7 (gFi_spec e1) dX23_holds_1 ?_
  refine x_if_ne 15 dX23_holds_4 (by decide) (fun c2 => ?_) (fun c2 => ?_)
  · rw [if_neg c2] at H
    refine x_aload_n 0 rfl dX23_holds_15 ?_
    obtain ⟨v3, e3, H⟩ := ob H
    refine x_getf fg_X23_7 (gFi_spec e3) dX23_holds_16 ?_
    refine x_iconst (1 : Int32) dX23_holds_19 ic_1 ?_
    refine x_icmp_ne 31 dX23_holds_20 (by decide) (fun c4 => ?_) (fun c4 => ?_)
    · rw [if_neg c4] at H
      refine x_aload_n 0 rfl dX23_holds_31 ?_
      obtain ⟨v5, e5, H⟩ := ob H
      refine x_getf fg_X23_7 (gFi_spec e5) dX23_holds_32 ?_
      refine x_iconst (2 : Int32) dX23_holds_35 ic_2 ?_
      refine x_icmp_ne 55 dX23_holds_36 (by decide) (fun c6 => ?_) (fun c6 => ?_)
      · rw [if_neg c6] at H
        refine x_aload_n 1 rfl dX23_holds_55 ?_
        refine x_iload_n 2 rfl dX23_holds_56 ?_
        obtain ⟨a7, g7, e7, H⟩ := obR H
        refine x_callS (M' := mi_X23_isSold) (n := 2) (As := [.ref r1, .int x2]) (t_X23_isSold C _ e7) md_X23_isSold ⟨Nat.le_of_ble_eq_true rfl, Nat.le_of_ble_eq_true rfl⟩ q1810 q1811 q161 q1812 rfl (Nat.le_of_ble_eq_true rfl) dX23_holds_57 ?_
        obtain ⟨c, rfl⟩ := rZ_spec H
        exact x_iret hE rfl c dX23_holds_60
      · rw [if_pos c6] at H
        refine x_aload_n 1 rfl dX23_holds_39 ?_
        refine x_iload_n 2 rfl dX23_holds_40 ?_
        obtain ⟨c8, H⟩ := oit H
        obtain ⟨a8, g8, e8, H⟩ := obR H
        refine x_callV (M' := mi_X3_wanted) (n := 1) (As := [.int x2]) (t_X3_wanted C _ e8) c8 rfl rfl md_X3_wanted ⟨Nat.le_of_ble_eq_true rfl, Nat.le_of_ble_eq_true rfl⟩ q1809 q1146 q1147 q125 q1148 rfl (Nat.le_of_ble_eq_true rfl) dX23_holds_41 ?_
        refine x_if_ne 51 dX23_holds_44 (by decide) (fun c9 => ?_) (fun c9 => ?_)
        · rw [if_neg c9] at H
          refine x_iconst (0 : Int32) dX23_holds_51 ic_0 ?_
          refine x_goto (tgt := 60) dX23_holds_52 (by decide) ?_
          obtain rfl := Option.some.inj H
          exact x_iret hE rfl rfl dX23_holds_60
        · rw [if_pos c9] at H
          refine x_iconst (1 : Int32) dX23_holds_47 ic_1 ?_
          refine x_goto (tgt := 60) dX23_holds_48 (by decide) ?_
          obtain rfl := Option.some.inj H
          exact x_iret hE rfl rfl dX23_holds_60
    · rw [if_pos c4] at H
      refine x_aload_n 1 rfl dX23_holds_23 ?_
      refine x_iload_n 2 rfl dX23_holds_24 ?_
      obtain ⟨c10, H⟩ := oit H
      obtain ⟨a10, g10, e10, H⟩ := obR H
      refine x_callV (M' := mi_X3_isVeiled) (n := 1) (As := [.int x2]) (t_X3_isVeiled C _ e10) c10 rfl rfl md_X3_isVeiled ⟨Nat.le_of_ble_eq_true rfl, Nat.le_of_ble_eq_true rfl⟩ q1808 q1248 q1249 q125 q1250 rfl (Nat.le_of_ble_eq_true rfl) dX23_holds_25 ?_
      refine x_goto (tgt := 60) dX23_holds_28 (by decide) ?_
      obtain ⟨c, rfl⟩ := rZ_spec H
      exact x_iret hE rfl c dX23_holds_60
  · rw [if_pos c2] at H
    refine x_aload_n 1 rfl dX23_holds_7 ?_
    refine x_iload_n 2 rfl dX23_holds_8 ?_
    obtain ⟨c11, H⟩ := oit H
    obtain ⟨a11, g11, e11, H⟩ := obR H
    refine x_callV (M' := mi_X3_isHome) (n := 1) (As := [.int x2]) (t_X3_isHome C _ e11) c11 rfl rfl md_X3_isHome ⟨Nat.le_of_ble_eq_true rfl, Nat.le_of_ble_eq_true rfl⟩ q1807 q1227 q1228 q125 q1229 rfl (Nat.le_of_ble_eq_true rfl) dX23_holds_9 ?_
    refine x_goto (tgt := 60) dX23_holds_12 (by decide) ?_
    obtain ⟨c, rfl⟩ := rZ_spec H
    exact x_iret hE rfl c dX23_holds_60
abbrev mi_X24_holds : xM := (cX24_holds, yX24_holds, 4, some .boolean, 6)
theorem md_X24_holds : xMD mi_X24_holds 2 := ⟨by decide, by decide, by decide +kernel⟩
def f_X24_holds_b53 (r0 : Nat) (s0 : Int32) (h : mH) : Option (Int32 × mH) := (gFi [19] 1 h r0).bind fun v7 => if v7 = (60 : Int32) then (gFi [19] 2 h r0).bind fun v15 => if v15 ≤ s0 then some ((0 : Int32), h) else some ((1 : Int32), h) else (gFi [19] 1 h r0).bind fun v9 => if v9 = (61 : Int32) then (gFi [19] 2 h r0).bind fun v13 => if s0 = v13 then some ((1 : Int32), h) else some ((0 : Int32), h) else (gFi [19] 2 h r0).bind fun v11 => if s0 ≤ v11 then some ((0 : Int32), h) else some ((1 : Int32), h)
theorem t_X24_holds_b53 {G : xG} {C : xC} {o : Int32 × mH} (hE : xEnd G C (some (.int o.1)) o.2) (r0 : Nat) (s0 : Int32) (h : mH) (H : f_X24_holds_b53 r0 s0 h = some o) : X G C mi_X24_holds 53 [(0, .ref r0)] [.int s0] h := by
  unfold f_X24_holds_b53 at H
  refine x_istore_n [1, 0] dX24_holds_53 (by decide) rfl ?_
  refine x_aload_n 0 rfl dX24_holds_54 ?_
  obtain ⟨v7, e7, H⟩ := ob H
  refine x_getf fg_X24_13 (gFi_spec e7) dX24_holds_55 ?_
  refine x_bipush (60 : Int32) dX24_holds_58 bi_60 ?_
  refine x_icmp_ne 79 dX24_holds_60 (by decide) (fun c8 => ?_) (fun c8 => ?_)
  · rw [if_neg c8] at H
    refine x_aload_n 0 rfl dX24_holds_79 ?_
    obtain ⟨v9, e9, H⟩ := ob H
    refine x_getf fg_X24_13 (gFi_spec e9) dX24_holds_80 ?_
    refine x_bipush (61 : Int32) dX24_holds_83 bi_61 ?_
    refine x_icmp_ne 104 dX24_holds_85 (by decide) (fun c10 => ?_) (fun c10 => ?_)
    · rw [if_neg c10] at H
      refine x_iload_n 1 rfl dX24_holds_104 ?_
      refine x_aload_n 0 rfl dX24_holds_105 ?_
      obtain ⟨v11, e11, H⟩ := ob H
      refine x_getf fg_X24_16 (gFi_spec e11) dX24_holds_106 ?_
      refine x_icmp_le 116 dX24_holds_109 (by decide) (fun c12 => ?_) (fun c12 => ?_)
      · rw [if_pos c12] at H
        refine x_iconst (0 : Int32) dX24_holds_116 ic_0 ?_
        obtain rfl := Option.some.inj H
        exact x_iret hE rfl rfl dX24_holds_117
      · rw [if_neg c12] at H
        refine x_iconst (1 : Int32) dX24_holds_112 ic_1 ?_
        refine x_goto (tgt := 117) dX24_holds_113 (by decide) ?_
        obtain rfl := Option.some.inj H
        exact x_iret hE rfl rfl dX24_holds_117
    · rw [if_pos c10] at H
      refine x_iload_n 1 rfl dX24_holds_88 ?_
      refine x_aload_n 0 rfl dX24_holds_89 ?_
      obtain ⟨v13, e13, H⟩ := ob H
      refine x_getf fg_X24_16 (gFi_spec e13) dX24_holds_90 ?_
      refine x_icmp_ne 100 dX24_holds_93 (by decide) (fun c14 => ?_) (fun c14 => ?_)
      · rw [if_neg c14] at H
        refine x_iconst (0 : Int32) dX24_holds_100 ic_0 ?_
        refine x_goto (tgt := 117) dX24_holds_101 (by decide) ?_
        obtain rfl := Option.some.inj H
        exact x_iret hE rfl rfl dX24_holds_117
      · rw [if_pos c14] at H
        refine x_iconst (1 : Int32) dX24_holds_96 ic_1 ?_
        refine x_goto (tgt := 117) dX24_holds_97 (by decide) ?_
        obtain rfl := Option.some.inj H
        exact x_iret hE rfl rfl dX24_holds_117
  · rw [if_pos c8] at H
    refine x_iload_n 1 rfl dX24_holds_63 ?_
    refine x_aload_n 0 rfl dX24_holds_64 ?_
    obtain ⟨v15, e15, H⟩ := ob H
    refine x_getf fg_X24_16 (gFi_spec e15) dX24_holds_65 ?_
    refine x_icmp_ge 75 dX24_holds_68 (by decide) (fun c16 => ?_) (fun c16 => ?_)
    · rw [if_pos c16] at H
      refine x_iconst (0 : Int32) dX24_holds_75 ic_0 ?_
      refine x_goto (tgt := 117) dX24_holds_76 (by decide) ?_
      obtain rfl := Option.some.inj H
      exact x_iret hE rfl rfl dX24_holds_117
    · rw [if_neg c16] at H
      refine x_iconst (1 : Int32) dX24_holds_71 ic_1 ?_
      refine x_goto (tgt := 117) dX24_holds_72 (by decide) ?_
      obtain rfl := Option.some.inj H
      exact x_iret hE rfl rfl dX24_holds_117
def f_X24_holds (r0 : Nat) (r1 : Nat) (x2 : Int32) (h : mH) : Option (Int32 × mH) := (gFi [19] 0 h r0).bind fun v1 => if v1 = 0 then (gFr [2] 6 h r1).bind fun v21 => (aI .int h v21 x2).bind fun v22 => f_X24_holds_b53 r0 v22 h else (gFi [19] 0 h r0).bind fun v3 => if v3 = (1 : Int32) then if gC h r1 = 2 then bR (f_X3_known r1 x2 h) fun a19 g19 => bR (f_X1_many a19 g19) fun a20 g20 => f_X24_holds_b53 r0 a20 g20 else none else (gFi [19] 0 h r0).bind fun v5 => if v5 = (2 : Int32) then (gFr [2] 7 h r1).bind fun v17 => (aI .int h v17 x2).bind fun v18 => f_X24_holds_b53 r0 v18 h else f_X24_holds_b53 r0 x2 h
theorem t_X24_holds {G : xG} (C0 : xC) {l : Launch} {r0 : Nat} {r1 : Nat} {x2 : Int32} (h : mH) {o : Int32 × mH} (H : f_X24_holds r0 r1 x2 h = some o) : XR G l mi_X24_holds [.ref r0, .ref r1, .int x2] h (some (.int o.1)) o.2 := by
  refine XR.of C0 (by decide) (Nat.le_of_ble_eq_true rfl) (fun C _ _ _ hE => ?_)
  show X G C mi_X24_holds 0 [(0, .ref r0), (1, .ref r1), (2, .int x2)] [] h
  unfold f_X24_holds at H
  refine x_aload_n 0 rfl dX24_holds_0 ?_
  obtain ⟨v1, e1, H⟩ := ob H
  refine x_getf fg_X24_7 (gFi_spec e1) dX24_holds_1 ?_
  refine x_if_ne 16 dX24_holds_4 (by decide) (fun c2 => ?_) (fun c2 => ?_)
  · rw [if_neg c2] at H
    refine x_aload_n 0 rfl dX24_holds_16 ?_
    obtain ⟨v3, e3, H⟩ := ob H
    refine x_getf fg_X24_7 (gFi_spec e3) dX24_holds_17 ?_
    refine x_iconst (1 : Int32) dX24_holds_20 ic_1 ?_
    refine x_icmp_ne 35 dX24_holds_21 (by decide) (fun c4 => ?_) (fun c4 => ?_)
    · rw [if_neg c4] at H
      refine x_aload_n 0 rfl dX24_holds_35 ?_
      obtain ⟨v5, e5, H⟩ := ob H
      refine x_getf fg_X24_7 (gFi_spec e5) dX24_holds_36 ?_
      refine x_iconst (2 : Int32) dX24_holds_39 ic_2 ?_
      refine x_icmp_ne 52 dX24_holds_40 (by decide) (fun c6 => ?_) (fun c6 => ?_)
      · rw [if_neg c6] at H
        refine x_iload_n 2 rfl dX24_holds_52 ?_
        refine X.sub [0] rfl ?_
        exact t_X24_holds_b53 hE _ _ _ H
      · rw [if_pos c6] at H
        refine x_aload_n 1 rfl dX24_holds_43 ?_
        obtain ⟨v17, e17, H⟩ := ob H
        refine x_getf fg_X24_34 (gFr_spec e17) dX24_holds_44 ?_
        refine x_iload_n 2 rfl dX24_holds_47 ?_
        obtain ⟨v18, e18, H⟩ := ob H
        refine x_iald e18 dX24_holds_48 ?_
        refine x_goto (tgt := 53) dX24_holds_49 (by decide) ?_
        refine X.sub [0] rfl ?_
        exact t_X24_holds_b53 hE _ _ _ H
    · rw [if_pos c4] at H
      refine x_aload_n 1 rfl dX24_holds_24 ?_
      refine x_iload_n 2 rfl dX24_holds_25 ?_
      obtain ⟨c19, H⟩ := oit H
      obtain ⟨a19, g19, e19, H⟩ := obR H
      refine x_callV (M' := mi_X3_known) (n := 1) (As := [.int x2]) (t_X3_known C _ e19) c19 rfl rfl md_X3_known ⟨Nat.le_of_ble_eq_true rfl, Nat.le_of_ble_eq_true rfl⟩ q1829 q1240 q1241 q125 q1242 rfl (Nat.le_of_ble_eq_true rfl) dX24_holds_26 ?_
      obtain ⟨a20, g20, e20, H⟩ := obR H
      refine x_callSN (M' := mi_X1_many) (n := 1) (As := [.int a19]) (t_X1_many C _ e20) md_X1_many ⟨Nat.le_of_ble_eq_true rfl, Nat.le_of_ble_eq_true rfl⟩ q1830 q1154 q120 q1155 rfl (Nat.le_of_ble_eq_true rfl) dX24_holds_29 ?_
      refine x_goto (tgt := 53) dX24_holds_32 (by decide) ?_
      refine X.sub [0] rfl ?_
      exact t_X24_holds_b53 hE _ _ _ H
  · rw [if_pos c2] at H
    refine x_aload_n 1 rfl dX24_holds_7 ?_
    obtain ⟨v21, e21, H⟩ := ob H
    refine x_getf fg_X24_19 (gFr_spec e21) dX24_holds_8 ?_
    refine x_iload_n 2 rfl dX24_holds_11 ?_
    obtain ⟨v22, e22, H⟩ := ob H
    refine x_iald e22 dX24_holds_12 ?_
    refine x_goto (tgt := 53) dX24_holds_13 (by decide) ?_
    refine X.sub [0] rfl ?_
    exact t_X24_holds_b53 hE _ _ _ H
abbrev mi_X21_holds (d : Nat) : xM := (cX21_holds, yX21_holds, 3, some .boolean, 8 + d)
abbrev mi_X25_holds (d : Nat) : xM := (cX25_holds, yX25_holds, 3, some .boolean, 8 + d)
theorem md_X21_holds (d : Nat) : xMD (mi_X21_holds d) 2 := ⟨by first | decide | (dsimp only [mi_X21_holds, mi_X25_holds]; decide), by first | decide | (dsimp only [mi_X21_holds, mi_X25_holds]; decide), by first | decide +kernel | (dsimp only [mi_X21_holds, mi_X25_holds]; decide +kernel)⟩
theorem md_X25_holds (d : Nat) : xMD (mi_X25_holds d) 2 := ⟨by first | decide | (dsimp only [mi_X21_holds, mi_X25_holds]; decide), by first | decide | (dsimp only [mi_X21_holds, mi_X25_holds]; decide), by first | decide +kernel | (dsimp only [mi_X21_holds, mi_X25_holds]; decide +kernel)⟩
def xHolds (G : xG) (l : Launch) (d : Nat) (r0 r1 : Nat) (x2 : Int32) (h : mH) (o : Int32 × mH) : Prop := (gC h r0 = 16 ∧ XR G l (mi_X21_holds d) [.ref r0, .ref r1, .int x2] h (some (.int o.1)) o.2) ∨ (gC h r0 = 17 ∧ XR G l mi_X22_holds [.ref r0, .ref r1, .int x2] h (some (.int o.1)) o.2) ∨ (gC h r0 = 18 ∧ XR G l mi_X23_holds [.ref r0, .ref r1, .int x2] h (some (.int o.1)) o.2) ∨ (gC h r0 = 19 ∧ XR G l mi_X24_holds [.ref r0, .ref r1, .int x2] h (some (.int o.1)) o.2) ∨ (gC h r0 = 20 ∧ XR G l (mi_X25_holds d) [.ref r0, .ref r1, .int x2] h (some (.int o.1)) o.2)
def fb_X21_holds (rc : Nat → Nat → Int32 → mH → Option (Int32 × mH)) (r0 : Nat) (r1 : Nat) (x2 : Int32) (h : mH) : Option (Int32 × mH) := (gFr [16] 0 h r0).bind fun v1 => bR (rc v1 r1 x2 h) fun a2 g2 => if a2 = 0 then some ((1 : Int32), g2) else some ((0 : Int32), g2)
theorem tb_X21_holds {G : xG} (C0 : xC) {d : Nat} {rc : Nat → Nat → Int32 → mH → Option (Int32 × mH)} (hrc : ∀ {l : Launch} (r0 r1 : Nat) (x2 : Int32) (h : mH) (o : Int32 × mH), rc r0 r1 x2 h = some o → xHolds G l d r0 r1 x2 h o) {l : Launch} {r0 : Nat} {r1 : Nat} {x2 : Int32} (h : mH) {o : Int32 × mH} (H : fb_X21_holds rc r0 r1 x2 h = some o) : XR G l (mi_X21_holds (d + 1)) [.ref r0, .ref r1, .int x2] h (some (.int o.1)) o.2 := by
  refine XR.of C0 (by first | decide | (dsimp only [mi_X21_holds, mi_X25_holds]; decide)) (Nat.le_of_ble_eq_true rfl) (fun C _ _ _ hE => ?_)
  show X G C (mi_X21_holds (d + 1)) 0 [(0, .ref r0), (1, .ref r1), (2, .int x2)] [] h
  unfold fb_X21_holds at H
  refine x_aload_n 0 rfl dX21_holds_0 ?_
  obtain ⟨v1, e1, H⟩ := ob H
  refine x_getf fg_X21_7 (gFr_spec e1) dX21_holds_1 ?_
  refine x_aload_n 1 rfl dX21_holds_4 ?_
  refine x_iload_n 2 rfl dX21_holds_5 ?_
  obtain ⟨a2, g2, e2, H⟩ := obR H
  suffices kk : X G C (mi_X21_holds (d + 1)) 9 [(0, .ref r0), (1, .ref r1), (2, .int x2)] [.int a2] g2 by
    rcases hrc _ _ _ _ _ e2 with ⟨c, hx⟩ | ⟨c, hx⟩ | ⟨c, hx⟩ | ⟨c, hx⟩ | ⟨c, hx⟩
    · exact x_callU (M' := (mi_X21_holds d)) (n := 2) (As := [.ref r1, .int x2]) (S := [16]) hx (by rw [c]; decide) up_X21_13_16 (by first | decide +kernel | (dsimp only [mi_X21_holds, mi_X25_holds]; decide +kernel)) ⟨by show 8 + d + 1 ≤ 8 + (d + 1); omega, Nat.le_of_ble_eq_true rfl⟩ q1822 rfl (Nat.le_of_ble_eq_true rfl) dX21_holds_6 kk
    · exact x_callU (M' := mi_X22_holds) (n := 2) (As := [.ref r1, .int x2]) (S := [17]) hx (by rw [c]; decide) up_X21_13_17 (by first | decide +kernel | (dsimp only [mi_X21_holds, mi_X25_holds]; decide +kernel)) ⟨by show 7 + 1 ≤ 8 + (d + 1); omega, Nat.le_of_ble_eq_true rfl⟩ q1825 rfl (Nat.le_of_ble_eq_true rfl) dX21_holds_6 kk
    · exact x_callU (M' := mi_X23_holds) (n := 2) (As := [.ref r1, .int x2]) (S := [18]) hx (by rw [c]; decide) up_X21_13_18 (by first | decide +kernel | (dsimp only [mi_X21_holds, mi_X25_holds]; decide +kernel)) ⟨by show 6 + 1 ≤ 8 + (d + 1); omega, Nat.le_of_ble_eq_true rfl⟩ q1806 rfl (Nat.le_of_ble_eq_true rfl) dX21_holds_6 kk
    · exact x_callU (M' := mi_X24_holds) (n := 2) (As := [.ref r1, .int x2]) (S := [19]) hx (by rw [c]; decide) up_X21_13_19 (by first | decide +kernel | (dsimp only [mi_X21_holds, mi_X25_holds]; decide +kernel)) ⟨by show 6 + 1 ≤ 8 + (d + 1); omega, Nat.le_of_ble_eq_true rfl⟩ q1828 rfl (Nat.le_of_ble_eq_true rfl) dX21_holds_6 kk
    · exact x_callU (M' := (mi_X25_holds d)) (n := 2) (As := [.ref r1, .int x2]) (S := [20]) hx (by rw [c]; decide) up_X21_13_20 (by first | decide +kernel | (dsimp only [mi_X21_holds, mi_X25_holds]; decide +kernel)) ⟨by show 8 + d + 1 ≤ 8 + (d + 1); omega, Nat.le_of_ble_eq_true rfl⟩ q1832 rfl (Nat.le_of_ble_eq_true rfl) dX21_holds_6 kk
  refine x_if_ne 16 dX21_holds_9 (by first | decide | (dsimp only [mi_X21_holds, mi_X25_holds]; decide)) (fun c3 => ?_) (fun c3 => ?_)
  · rw [if_neg c3] at H
    refine x_iconst (0 : Int32) dX21_holds_16 ic_0 ?_
    obtain rfl := Option.some.inj H
    exact x_iret hE rfl rfl dX21_holds_17
  · rw [if_pos c3] at H
    refine x_iconst (1 : Int32) dX21_holds_12 ic_1 ?_
    refine x_goto (tgt := 17) dX21_holds_13 (by first | decide | (dsimp only [mi_X21_holds, mi_X25_holds]; decide)) ?_
    obtain rfl := Option.some.inj H
    exact x_iret hE rfl rfl dX21_holds_17
def f_X25_holds_b63 (rc : Nat → Nat → Int32 → mH → Option (Int32 × mH)) (h : mH) : Option (Int32 × mH) := some ((1 : Int32), h)
theorem t_X25_holds_b63 {G : xG} {C : xC} {d : Nat} {rc : Nat → Nat → Int32 → mH → Option (Int32 × mH)} (hrc : ∀ {l : Launch} (r0 r1 : Nat) (x2 : Int32) (h : mH) (o : Int32 × mH), rc r0 r1 x2 h = some o → xHolds G l d r0 r1 x2 h o) {o : Int32 × mH} (hE : xEnd G C (some (.int o.1)) o.2) (h : mH) (H : f_X25_holds_b63 rc h = some o) : X G C (mi_X25_holds (d + 1)) 63 [] [] h := by
  unfold f_X25_holds_b63 at H
  refine x_iconst (1 : Int32) dX25_holds_63 ic_1 ?_
  refine x_goto (tgt := 68) dX25_holds_64 (by first | decide | (dsimp only [mi_X21_holds, mi_X25_holds]; decide)) ?_
  obtain rfl := Option.some.inj H
  exact x_iret hE rfl rfl dX25_holds_68
def f_X25_holds_b35 (rc : Nat → Nat → Int32 → mH → Option (Int32 × mH)) (h : mH) : Option (Int32 × mH) := some ((0 : Int32), h)
theorem t_X25_holds_b35 {G : xG} {C : xC} {d : Nat} {rc : Nat → Nat → Int32 → mH → Option (Int32 × mH)} (hrc : ∀ {l : Launch} (r0 r1 : Nat) (x2 : Int32) (h : mH) (o : Int32 × mH), rc r0 r1 x2 h = some o → xHolds G l d r0 r1 x2 h o) {o : Int32 × mH} (hE : xEnd G C (some (.int o.1)) o.2) (h : mH) (H : f_X25_holds_b35 rc h = some o) : X G C (mi_X25_holds (d + 1)) 35 [] [] h := by
  unfold f_X25_holds_b35 at H
  refine x_iconst (0 : Int32) dX25_holds_35 ic_0 ?_
  refine x_goto (tgt := 68) dX25_holds_36 (by first | decide | (dsimp only [mi_X21_holds, mi_X25_holds]; decide)) ?_
  obtain rfl := Option.some.inj H
  exact x_iret hE rfl rfl dX25_holds_68
def fb_X25_holds (rc : Nat → Nat → Int32 → mH → Option (Int32 × mH)) (r0 : Nat) (r1 : Nat) (x2 : Int32) (h : mH) : Option (Int32 × mH) := (gFi [20] 2 h r0).bind fun v1 => if v1 = 0 then (gFr [20] 0 h r0).bind fun v3 => bR (rc v3 r1 x2 h) fun a4 g4 => if a4 = 0 then (gFr [20] 1 g4 r0).bind fun v6 => bR (rc v6 r1 x2 g4) fun a7 g7 => if a7 = 0 then some ((0 : Int32), g7) else f_X25_holds_b63 rc  g7 else f_X25_holds_b63 rc  g4 else (gFr [20] 0 h r0).bind fun v9 => bR (rc v9 r1 x2 h) fun a10 g10 => if a10 = 0 then f_X25_holds_b35 rc  g10 else (gFr [20] 1 g10 r0).bind fun v12 => bR (rc v12 r1 x2 g10) fun a13 g13 => if a13 = 0 then f_X25_holds_b35 rc  g13 else some ((1 : Int32), g13)
theorem tb_X25_holds {G : xG} (C0 : xC) {d : Nat} {rc : Nat → Nat → Int32 → mH → Option (Int32 × mH)} (hrc : ∀ {l : Launch} (r0 r1 : Nat) (x2 : Int32) (h : mH) (o : Int32 × mH), rc r0 r1 x2 h = some o → xHolds G l d r0 r1 x2 h o) {l : Launch} {r0 : Nat} {r1 : Nat} {x2 : Int32} (h : mH) {o : Int32 × mH} (H : fb_X25_holds rc r0 r1 x2 h = some o) : XR G l (mi_X25_holds (d + 1)) [.ref r0, .ref r1, .int x2] h (some (.int o.1)) o.2 := by
  refine XR.of C0 (by first | decide | (dsimp only [mi_X21_holds, mi_X25_holds]; decide)) (Nat.le_of_ble_eq_true rfl) (fun C _ _ _ hE => ?_)
  show X G C (mi_X25_holds (d + 1)) 0 [(0, .ref r0), (1, .ref r1), (2, .int x2)] [] h
  unfold fb_X25_holds at H
  refine x_aload_n 0 rfl dX25_holds_0 ?_
  obtain ⟨v1, e1, H⟩ := ob H
  refine x_getf fg_X25_16 (gFi_spec e1) dX25_holds_1 ?_
  refine x_if_eq 39 dX25_holds_4 (by first | decide | (dsimp only [mi_X21_holds, mi_X25_holds]; decide)) (fun c2 => ?_) (fun c2 => ?_)
  · rw [if_pos c2] at H
    refine x_aload_n 0 rfl dX25_holds_39 ?_
    obtain ⟨v3, e3, H⟩ := ob H
    refine x_getf fg_X25_7 (gFr_spec e3) dX25_holds_40 ?_
    refine x_aload_n 1 rfl dX25_holds_43 ?_
    refine x_iload_n 2 rfl dX25_holds_44 ?_
    obtain ⟨a4, g4, e4, H⟩ := obR H
    suffices kk : X G C (mi_X25_holds (d + 1)) 48 [(0, .ref r0), (1, .ref r1), (2, .int x2)] [.int a4] g4 by
      rcases hrc _ _ _ _ _ e4 with ⟨c, hx⟩ | ⟨c, hx⟩ | ⟨c, hx⟩ | ⟨c, hx⟩ | ⟨c, hx⟩
      · exact x_callU (M' := (mi_X21_holds d)) (n := 2) (As := [.ref r1, .int x2]) (S := [16]) hx (by rw [c]; decide) up_X25_20_16 (by first | decide +kernel | (dsimp only [mi_X21_holds, mi_X25_holds]; decide +kernel)) ⟨by show 8 + d + 1 ≤ 8 + (d + 1); omega, Nat.le_of_ble_eq_true rfl⟩ q1822 rfl (Nat.le_of_ble_eq_true rfl) dX25_holds_45 kk
      · exact x_callU (M' := mi_X22_holds) (n := 2) (As := [.ref r1, .int x2]) (S := [17]) hx (by rw [c]; decide) up_X25_20_17 (by first | decide +kernel | (dsimp only [mi_X21_holds, mi_X25_holds]; decide +kernel)) ⟨by show 7 + 1 ≤ 8 + (d + 1); omega, Nat.le_of_ble_eq_true rfl⟩ q1825 rfl (Nat.le_of_ble_eq_true rfl) dX25_holds_45 kk
      · exact x_callU (M' := mi_X23_holds) (n := 2) (As := [.ref r1, .int x2]) (S := [18]) hx (by rw [c]; decide) up_X25_20_18 (by first | decide +kernel | (dsimp only [mi_X21_holds, mi_X25_holds]; decide +kernel)) ⟨by show 6 + 1 ≤ 8 + (d + 1); omega, Nat.le_of_ble_eq_true rfl⟩ q1806 rfl (Nat.le_of_ble_eq_true rfl) dX25_holds_45 kk
      · exact x_callU (M' := mi_X24_holds) (n := 2) (As := [.ref r1, .int x2]) (S := [19]) hx (by rw [c]; decide) up_X25_20_19 (by first | decide +kernel | (dsimp only [mi_X21_holds, mi_X25_holds]; decide +kernel)) ⟨by show 6 + 1 ≤ 8 + (d + 1); omega, Nat.le_of_ble_eq_true rfl⟩ q1828 rfl (Nat.le_of_ble_eq_true rfl) dX25_holds_45 kk
      · exact x_callU (M' := (mi_X25_holds d)) (n := 2) (As := [.ref r1, .int x2]) (S := [20]) hx (by rw [c]; decide) up_X25_20_20 (by first | decide +kernel | (dsimp only [mi_X21_holds, mi_X25_holds]; decide +kernel)) ⟨by show 8 + d + 1 ≤ 8 + (d + 1); omega, Nat.le_of_ble_eq_true rfl⟩ q1832 rfl (Nat.le_of_ble_eq_true rfl) dX25_holds_45 kk
    refine x_if_ne 63 dX25_holds_48 (by first | decide | (dsimp only [mi_X21_holds, mi_X25_holds]; decide)) (fun c5 => ?_) (fun c5 => ?_)
    · rw [if_neg c5] at H
      refine X.sub [] rfl ?_
      exact t_X25_holds_b63 hrc hE  _ H
    · rw [if_pos c5] at H
      refine x_aload_n 0 rfl dX25_holds_51 ?_
      obtain ⟨v6, e6, H⟩ := ob H
      refine x_getf fg_X25_13 (gFr_spec e6) dX25_holds_52 ?_
      refine x_aload_n 1 rfl dX25_holds_55 ?_
      refine x_iload_n 2 rfl dX25_holds_56 ?_
      obtain ⟨a7, g7, e7, H⟩ := obR H
      suffices kk : X G C (mi_X25_holds (d + 1)) 60 [(0, .ref r0), (1, .ref r1), (2, .int x2)] [.int a7] g7 by
        rcases hrc _ _ _ _ _ e7 with ⟨c, hx⟩ | ⟨c, hx⟩ | ⟨c, hx⟩ | ⟨c, hx⟩ | ⟨c, hx⟩
        · exact x_callU (M' := (mi_X21_holds d)) (n := 2) (As := [.ref r1, .int x2]) (S := [16]) hx (by rw [c]; decide) up_X25_20_16 (by first | decide +kernel | (dsimp only [mi_X21_holds, mi_X25_holds]; decide +kernel)) ⟨by show 8 + d + 1 ≤ 8 + (d + 1); omega, Nat.le_of_ble_eq_true rfl⟩ q1822 rfl (Nat.le_of_ble_eq_true rfl) dX25_holds_57 kk
        · exact x_callU (M' := mi_X22_holds) (n := 2) (As := [.ref r1, .int x2]) (S := [17]) hx (by rw [c]; decide) up_X25_20_17 (by first | decide +kernel | (dsimp only [mi_X21_holds, mi_X25_holds]; decide +kernel)) ⟨by show 7 + 1 ≤ 8 + (d + 1); omega, Nat.le_of_ble_eq_true rfl⟩ q1825 rfl (Nat.le_of_ble_eq_true rfl) dX25_holds_57 kk
        · exact x_callU (M' := mi_X23_holds) (n := 2) (As := [.ref r1, .int x2]) (S := [18]) hx (by rw [c]; decide) up_X25_20_18 (by first | decide +kernel | (dsimp only [mi_X21_holds, mi_X25_holds]; decide +kernel)) ⟨by show 6 + 1 ≤ 8 + (d + 1); omega, Nat.le_of_ble_eq_true rfl⟩ q1806 rfl (Nat.le_of_ble_eq_true rfl) dX25_holds_57 kk
        · exact x_callU (M' := mi_X24_holds) (n := 2) (As := [.ref r1, .int x2]) (S := [19]) hx (by rw [c]; decide) up_X25_20_19 (by first | decide +kernel | (dsimp only [mi_X21_holds, mi_X25_holds]; decide +kernel)) ⟨by show 6 + 1 ≤ 8 + (d + 1); omega, Nat.le_of_ble_eq_true rfl⟩ q1828 rfl (Nat.le_of_ble_eq_true rfl) dX25_holds_57 kk
        · exact x_callU (M' := (mi_X25_holds d)) (n := 2) (As := [.ref r1, .int x2]) (S := [20]) hx (by rw [c]; decide) up_X25_20_20 (by first | decide +kernel | (dsimp only [mi_X21_holds, mi_X25_holds]; decide +kernel)) ⟨by show 8 + d + 1 ≤ 8 + (d + 1); omega, Nat.le_of_ble_eq_true rfl⟩ q1832 rfl (Nat.le_of_ble_eq_true rfl) dX25_holds_57 kk
      refine x_if_eq 67 dX25_holds_60 (by first | decide | (dsimp only [mi_X21_holds, mi_X25_holds]; decide)) (fun c8 => ?_) (fun c8 => ?_)
      · rw [if_pos c8] at H
        refine x_iconst (0 : Int32) dX25_holds_67 ic_0 ?_
        obtain rfl := Option.some.inj H
        exact x_iret hE rfl rfl dX25_holds_68
      · rw [if_neg c8] at H
        refine X.sub [] rfl ?_
        exact t_X25_holds_b63 hrc hE  _ H
  · rw [if_neg c2] at H
    refine x_aload_n 0 rfl dX25_holds_7 ?_
    obtain ⟨v9, e9, H⟩ := ob H
    refine x_getf fg_X25_7 (gFr_spec e9) dX25_holds_8 ?_
    refine x_aload_n 1 rfl dX25_holds_11 ?_
    refine x_iload_n 2 rfl dX25_holds_12 ?_
    obtain ⟨a10, g10, e10, H⟩ := obR H
    suffices kk : X G C (mi_X25_holds (d + 1)) 16 [(0, .ref r0), (1, .ref r1), (2, .int x2)] [.int a10] g10 by
      rcases hrc _ _ _ _ _ e10 with ⟨c, hx⟩ | ⟨c, hx⟩ | ⟨c, hx⟩ | ⟨c, hx⟩ | ⟨c, hx⟩
      · exact x_callU (M' := (mi_X21_holds d)) (n := 2) (As := [.ref r1, .int x2]) (S := [16]) hx (by rw [c]; decide) up_X25_20_16 (by first | decide +kernel | (dsimp only [mi_X21_holds, mi_X25_holds]; decide +kernel)) ⟨by show 8 + d + 1 ≤ 8 + (d + 1); omega, Nat.le_of_ble_eq_true rfl⟩ q1822 rfl (Nat.le_of_ble_eq_true rfl) dX25_holds_13 kk
      · exact x_callU (M' := mi_X22_holds) (n := 2) (As := [.ref r1, .int x2]) (S := [17]) hx (by rw [c]; decide) up_X25_20_17 (by first | decide +kernel | (dsimp only [mi_X21_holds, mi_X25_holds]; decide +kernel)) ⟨by show 7 + 1 ≤ 8 + (d + 1); omega, Nat.le_of_ble_eq_true rfl⟩ q1825 rfl (Nat.le_of_ble_eq_true rfl) dX25_holds_13 kk
      · exact x_callU (M' := mi_X23_holds) (n := 2) (As := [.ref r1, .int x2]) (S := [18]) hx (by rw [c]; decide) up_X25_20_18 (by first | decide +kernel | (dsimp only [mi_X21_holds, mi_X25_holds]; decide +kernel)) ⟨by show 6 + 1 ≤ 8 + (d + 1); omega, Nat.le_of_ble_eq_true rfl⟩ q1806 rfl (Nat.le_of_ble_eq_true rfl) dX25_holds_13 kk
      · exact x_callU (M' := mi_X24_holds) (n := 2) (As := [.ref r1, .int x2]) (S := [19]) hx (by rw [c]; decide) up_X25_20_19 (by first | decide +kernel | (dsimp only [mi_X21_holds, mi_X25_holds]; decide +kernel)) ⟨by show 6 + 1 ≤ 8 + (d + 1); omega, Nat.le_of_ble_eq_true rfl⟩ q1828 rfl (Nat.le_of_ble_eq_true rfl) dX25_holds_13 kk
      · exact x_callU (M' := (mi_X25_holds d)) (n := 2) (As := [.ref r1, .int x2]) (S := [20]) hx (by rw [c]; decide) up_X25_20_20 (by first | decide +kernel | (dsimp only [mi_X21_holds, mi_X25_holds]; decide +kernel)) ⟨by show 8 + d + 1 ≤ 8 + (d + 1); omega, Nat.le_of_ble_eq_true rfl⟩ q1832 rfl (Nat.le_of_ble_eq_true rfl) dX25_holds_13 kk
    refine x_if_eq 35 dX25_holds_16 (by first | decide | (dsimp only [mi_X21_holds, mi_X25_holds]; decide)) (fun c11 => ?_) (fun c11 => ?_)
    · rw [if_pos c11] at H
      refine X.sub [] rfl ?_
      exact t_X25_holds_b35 hrc hE  _ H
    · rw [if_neg c11] at H
      refine x_aload_n 0 rfl dX25_holds_19 ?_
      obtain ⟨v12, e12, H⟩ := ob H
      refine x_getf fg_X25_13 (gFr_spec e12) dX25_holds_20 ?_
      refine x_aload_n 1 rfl dX25_holds_23 ?_
      refine x_iload_n 2 rfl dX25_holds_24 ?_
      obtain ⟨a13, g13, e13, H⟩ := obR H
      suffices kk : X G C (mi_X25_holds (d + 1)) 28 [(0, .ref r0), (1, .ref r1), (2, .int x2)] [.int a13] g13 by
        rcases hrc _ _ _ _ _ e13 with ⟨c, hx⟩ | ⟨c, hx⟩ | ⟨c, hx⟩ | ⟨c, hx⟩ | ⟨c, hx⟩
        · exact x_callU (M' := (mi_X21_holds d)) (n := 2) (As := [.ref r1, .int x2]) (S := [16]) hx (by rw [c]; decide) up_X25_20_16 (by first | decide +kernel | (dsimp only [mi_X21_holds, mi_X25_holds]; decide +kernel)) ⟨by show 8 + d + 1 ≤ 8 + (d + 1); omega, Nat.le_of_ble_eq_true rfl⟩ q1822 rfl (Nat.le_of_ble_eq_true rfl) dX25_holds_25 kk
        · exact x_callU (M' := mi_X22_holds) (n := 2) (As := [.ref r1, .int x2]) (S := [17]) hx (by rw [c]; decide) up_X25_20_17 (by first | decide +kernel | (dsimp only [mi_X21_holds, mi_X25_holds]; decide +kernel)) ⟨by show 7 + 1 ≤ 8 + (d + 1); omega, Nat.le_of_ble_eq_true rfl⟩ q1825 rfl (Nat.le_of_ble_eq_true rfl) dX25_holds_25 kk
        · exact x_callU (M' := mi_X23_holds) (n := 2) (As := [.ref r1, .int x2]) (S := [18]) hx (by rw [c]; decide) up_X25_20_18 (by first | decide +kernel | (dsimp only [mi_X21_holds, mi_X25_holds]; decide +kernel)) ⟨by show 6 + 1 ≤ 8 + (d + 1); omega, Nat.le_of_ble_eq_true rfl⟩ q1806 rfl (Nat.le_of_ble_eq_true rfl) dX25_holds_25 kk
        · exact x_callU (M' := mi_X24_holds) (n := 2) (As := [.ref r1, .int x2]) (S := [19]) hx (by rw [c]; decide) up_X25_20_19 (by first | decide +kernel | (dsimp only [mi_X21_holds, mi_X25_holds]; decide +kernel)) ⟨by show 6 + 1 ≤ 8 + (d + 1); omega, Nat.le_of_ble_eq_true rfl⟩ q1828 rfl (Nat.le_of_ble_eq_true rfl) dX25_holds_25 kk
        · exact x_callU (M' := (mi_X25_holds d)) (n := 2) (As := [.ref r1, .int x2]) (S := [20]) hx (by rw [c]; decide) up_X25_20_20 (by first | decide +kernel | (dsimp only [mi_X21_holds, mi_X25_holds]; decide +kernel)) ⟨by show 8 + d + 1 ≤ 8 + (d + 1); omega, Nat.le_of_ble_eq_true rfl⟩ q1832 rfl (Nat.le_of_ble_eq_true rfl) dX25_holds_25 kk
      refine x_if_eq 35 dX25_holds_28 (by first | decide | (dsimp only [mi_X21_holds, mi_X25_holds]; decide)) (fun c14 => ?_) (fun c14 => ?_)
      · rw [if_pos c14] at H
        refine X.sub [] rfl ?_
        exact t_X25_holds_b35 hrc hE  _ H
      · rw [if_neg c14] at H
        refine x_iconst (1 : Int32) dX25_holds_31 ic_1 ?_
        refine x_goto (tgt := 68) dX25_holds_32 (by first | decide | (dsimp only [mi_X21_holds, mi_X25_holds]; decide)) ?_
        obtain rfl := Option.some.inj H
        exact x_iret hE rfl rfl dX25_holds_68
def f_holds : Nat → Nat → Nat → Int32 → mH → Option (Int32 × mH)
  | 0, _, _, _, _ => none
  | d + 1, r0, r1, x2, h => if gC h r0 = 16 then fb_X21_holds (f_holds d) r0 r1 x2 h else if gC h r0 = 17 then f_X22_holds r0 r1 x2 h else if gC h r0 = 18 then f_X23_holds r0 r1 x2 h else if gC h r0 = 19 then f_X24_holds r0 r1 x2 h else if gC h r0 = 20 then fb_X25_holds (f_holds d) r0 r1 x2 h else none
theorem t_holds {G : xG} (C0 : xC) : ∀ (d : Nat) {l : Launch} (r0 r1 : Nat) (x2 : Int32) (h : mH) (o : Int32 × mH), f_holds d r0 r1 x2 h = some o → xHolds G l d r0 r1 x2 h o := by
  intro d
  induction d with
  | zero => intro l r0 r1 x2 h o H; exact nomatch (show (none : Option (Int32 × mH)) = some o from H)
  | succ d ih =>
    intro l r0 r1 x2 h o H
    rw [f_holds] at H
    by_cases c16 : gC h r0 = 16
    · rw [if_pos c16] at H
      exact Or.inl ⟨c16, tb_X21_holds C0 ih h H⟩
    rw [if_neg c16] at H
    by_cases c17 : gC h r0 = 17
    · rw [if_pos c17] at H
      exact Or.inr (Or.inl ⟨c17, t_X22_holds C0 h H⟩)
    rw [if_neg c17] at H
    by_cases c18 : gC h r0 = 18
    · rw [if_pos c18] at H
      exact Or.inr (Or.inr (Or.inl ⟨c18, t_X23_holds C0 h H⟩))
    rw [if_neg c18] at H
    by_cases c19 : gC h r0 = 19
    · rw [if_pos c19] at H
      exact Or.inr (Or.inr (Or.inr (Or.inl ⟨c19, t_X24_holds C0 h H⟩)))
    rw [if_neg c19] at H
    by_cases c20 : gC h r0 = 20
    · rw [if_pos c20] at H
      exact Or.inr (Or.inr (Or.inr (Or.inr (⟨c20, tb_X25_holds C0 ih h H⟩))))
    rw [if_neg c20] at H
    cases H
abbrev mi_X1_said : xM := (cX1_said, yX1_said, 4, some .int, 89)
theorem md_X1_said : xMD mi_X1_said 1 := ⟨by decide, by decide, by decide +kernel⟩
def f_X1_said_b55 (x1 : Int32) (x2 : Int32) (h : mH) : Option (Int32 × mH) := if x1 = (-1 : Int32) then some (x2, h) else some ((-1 : Int32), h)
theorem t_X1_said_b55 {G : xG} {C : xC} {o : Int32 × mH} (hE : xEnd G C (some (.int o.1)) o.2) (x1 : Int32) (x2 : Int32) (h : mH) (H : f_X1_said_b55 x1 x2 h = some o) : X G C mi_X1_said 55 [(1, .int x1), (2, .int x2)] [] h := by
  unfold f_X1_said_b55 at H
  refine x_iload_n 0 rfl dX1_said_55 ?_
  refine x_iconst (-1 : Int32) dX1_said_56 ic_m1 ?_
  refine x_icmp_ne 64 dX1_said_57 (by decide) (fun c3 => ?_) (fun c3 => ?_)
  · rw [if_neg c3] at H
    refine x_iconst (-1 : Int32) dX1_said_64 ic_m1 ?_
    obtain rfl := Option.some.inj H
    exact x_iret hE rfl rfl dX1_said_65
  · rw [if_pos c3] at H
    refine x_iload_n 1 rfl dX1_said_60 ?_
    refine x_goto (tgt := 65) dX1_said_61 (by decide) ?_
    obtain rfl := Option.some.inj H
    exact x_iret hE rfl rfl dX1_said_65
def f_X1_said_b49 (kb : Nat → Int32 → Int32 → Int32 → mH → Option (Int32 × mH)) (k55 : Int32 → Int32 → mH → Option (Int32 × mH)) (r0 : Nat) (x1 : Int32) (x2 : Int32) (x3 : Int32) (h : mH) : Option (Int32 × mH) := kb r0 x1 x2 (x3 + (1 : Int32)) h
theorem t_X1_said_b49 {G : xG} {C : xC} {o : Int32 × mH} (hE : xEnd G C (some (.int o.1)) o.2) {kb : Nat → Int32 → Int32 → Int32 → mH → Option (Int32 × mH)} (hkb : ∀ (r0 : Nat) (x1 : Int32) (x2 : Int32) (x3 : Int32) (h : mH), kb r0 x1 x2 x3 h = some o → X G C mi_X1_said 13 [(0, .ref r0), (1, .int x1), (2, .int x2), (3, .int x3)] [] h) {k55 : Int32 → Int32 → mH → Option (Int32 × mH)} (hk55 : ∀ (x1 : Int32) (x2 : Int32) (h : mH), k55 x1 x2 h = some o → X G C mi_X1_said 55 [(1, .int x1), (2, .int x2)] [] h) (r0 : Nat) (x1 : Int32) (x2 : Int32) (x3 : Int32) (h : mH) (H : f_X1_said_b49 kb k55 r0 x1 x2 x3 h = some o) : X G C mi_X1_said 49 [(0, .ref r0), (1, .int x1), (2, .int x2), (3, .int x3)] [] h := by
  unfold f_X1_said_b49 at H
  refine x_iinc 3 (x3 + (1 : Int32)) [1, 2, 3, 0] dX1_said_49 rfl (ii_1 _) (by decide) rfl ?_
  refine x_goto (tgt := 13) dX1_said_52 (by decide) ?_
  exact hkb _ _ _ _ _ H
def f_X1_said_L13 (k55 : Int32 → Int32 → mH → Option (Int32 × mH)) : Nat → Nat → Int32 → Int32 → Int32 → mH → Option (Int32 × mH)
  | 0, _, _, _, _, _ => none
  | n + 1, r0, x1, x2, x3, h => if gC h r0 = 0 then bR (f_X1_persons r0  h) fun a4 g4 => if a4 ≤ x3 then k55 x1 x2 g4 else (gFr [0] 6 g4 r0).bind fun v6 => (gFr [0] 4 g4 r0).bind fun v7 => bR (f_holds 80 v6 v7 x3 g4) fun a8 g8 => if a8 = 0 then f_X1_said_b49 (f_X1_said_L13 k55 n) k55 r0 x1 x2 x3 g8 else if x2 = x1 then some (x3, g8) else f_X1_said_b49 (f_X1_said_L13 k55 n) k55 r0 x1 (x2 + (1 : Int32)) x3 g8 else none
theorem t_X1_said_L13 {G : xG} {C : xC} {o : Int32 × mH} (hE : xEnd G C (some (.int o.1)) o.2) {k55 : Int32 → Int32 → mH → Option (Int32 × mH)} (hk55 : ∀ (x1 : Int32) (x2 : Int32) (h : mH), k55 x1 x2 h = some o → X G C mi_X1_said 55 [(1, .int x1), (2, .int x2)] [] h) : ∀ (n : Nat) (r0 : Nat) (x1 : Int32) (x2 : Int32) (x3 : Int32) (h : mH), f_X1_said_L13 k55 n r0 x1 x2 x3 h = some o → X G C mi_X1_said 13 [(0, .ref r0), (1, .int x1), (2, .int x2), (3, .int x3)] [] h := by
  intro n
  induction n with
  | zero => intro r0 x1 x2 x3 h H; exact nomatch (show (none : Option (Int32 × mH)) = some o from H)
  | succ n ih =>
    intro r0 x1 x2 x3 h H
    rw [f_X1_said_L13] at H
    refine x_iload_n 3 rfl dX1_said_13 ?_
    refine x_aload_n 0 rfl dX1_said_14 ?_
    obtain ⟨c4, H⟩ := oit H
    obtain ⟨a4, g4, e4, H⟩ := obR H
    refine x_callV (M' := mi_X1_persons) (n := 0) (As := []) (t_X1_persons C _ e4) c4 rfl rfl md_X1_persons ⟨Nat.le_of_ble_eq_true rfl, Nat.le_of_ble_eq_true rfl⟩ q1140 q1142 qs22 q120 q1143 rfl (Nat.le_of_ble_eq_true rfl) dX1_said_15 ?_
    refine x_icmp_ge 55 dX1_said_18 (by decide) (fun c5 => ?_) (fun c5 => ?_)
    · rw [if_pos c5] at H
      refine X.sub [1, 2] rfl ?_
      exact hk55 _ _ _ H
    · rw [if_neg c5] at H
      refine x_aload_n 0 rfl dX1_said_21 ?_
      obtain ⟨v6, e6, H⟩ := ob H
      refine x_getf fg_X1_109 (gFr_spec e6) dX1_said_22 ?_
      refine x_aload_n 0 rfl dX1_said_25 ?_
      obtain ⟨v7, e7, H⟩ := ob H
      refine x_getf fg_X1_36 (gFr_spec e7) dX1_said_26 ?_
      refine x_iload_n 3 rfl dX1_said_29 ?_
      obtain ⟨a8, g8, e8, H⟩ := obR H
      suffices kk : X G C mi_X1_said 33 [(0, .ref r0), (1, .int x1), (2, .int x2), (3, .int x3)] [.int a8] g8 by
        rcases t_holds C 80 _ _ _ _ _ e8 with ⟨c, hx⟩ | ⟨c, hx⟩ | ⟨c, hx⟩ | ⟨c, hx⟩ | ⟨c, hx⟩
        · exact x_callU (M' := (mi_X21_holds 80)) (n := 2) (As := [.ref v7, .int x3]) (S := [16]) hx (by rw [c]; decide) up_X1_403_16 (by decide +kernel) ⟨Nat.le_of_ble_eq_true rfl, Nat.le_of_ble_eq_true rfl⟩ q1822 rfl (Nat.le_of_ble_eq_true rfl) dX1_said_30 kk
        · exact x_callU (M' := mi_X22_holds) (n := 2) (As := [.ref v7, .int x3]) (S := [17]) hx (by rw [c]; decide) up_X1_403_17 (by decide +kernel) ⟨Nat.le_of_ble_eq_true rfl, Nat.le_of_ble_eq_true rfl⟩ q1825 rfl (Nat.le_of_ble_eq_true rfl) dX1_said_30 kk
        · exact x_callU (M' := mi_X23_holds) (n := 2) (As := [.ref v7, .int x3]) (S := [18]) hx (by rw [c]; decide) up_X1_403_18 (by decide +kernel) ⟨Nat.le_of_ble_eq_true rfl, Nat.le_of_ble_eq_true rfl⟩ q1806 rfl (Nat.le_of_ble_eq_true rfl) dX1_said_30 kk
        · exact x_callU (M' := mi_X24_holds) (n := 2) (As := [.ref v7, .int x3]) (S := [19]) hx (by rw [c]; decide) up_X1_403_19 (by decide +kernel) ⟨Nat.le_of_ble_eq_true rfl, Nat.le_of_ble_eq_true rfl⟩ q1828 rfl (Nat.le_of_ble_eq_true rfl) dX1_said_30 kk
        · exact x_callU (M' := (mi_X25_holds 80)) (n := 2) (As := [.ref v7, .int x3]) (S := [20]) hx (by rw [c]; decide) up_X1_403_20 (by decide +kernel) ⟨Nat.le_of_ble_eq_true rfl, Nat.le_of_ble_eq_true rfl⟩ q1832 rfl (Nat.le_of_ble_eq_true rfl) dX1_said_30 kk
      refine x_if_ne 39 dX1_said_33 (by decide) (fun c9 => ?_) (fun c9 => ?_)
      · rw [if_neg c9] at H
        refine x_iload_n 2 rfl dX1_said_39 ?_
        refine x_iload_n 1 rfl dX1_said_40 ?_
        refine x_icmp_ne 46 dX1_said_41 (by decide) (fun c10 => ?_) (fun c10 => ?_)
        · rw [if_neg c10] at H
          refine x_iinc 2 (x2 + (1 : Int32)) [1, 2, 0, 3] dX1_said_46 rfl (ii_1 _) (by decide) rfl ?_
          exact t_X1_said_b49 hE ih hk55 _ _ _ _ _ H
        · rw [if_pos c10] at H
          refine x_iload_n 3 rfl dX1_said_44 ?_
          obtain rfl := Option.some.inj H
          exact x_iret hE rfl rfl dX1_said_45
      · rw [if_pos c9] at H
        refine x_goto (tgt := 49) dX1_said_36 (by decide) ?_
        exact t_X1_said_b49 hE ih hk55 _ _ _ _ _ H
def f_X1_said (r0 : Nat) (x1 : Int32) (h : mH) : Option (Int32 × mH) := (gFr [0] 6 h r0).bind fun v1 => if v1 = 0 ∨ 6 ≤ v1 then if v1 = 0 then some ((-1 : Int32), h) else f_X1_said_L13 (f_X1_said_b55) xFu r0 x1 (0 : Int32) (0 : Int32) h else none
theorem t_X1_said {G : xG} (C0 : xC) {l : Launch} {r0 : Nat} {x1 : Int32} (h : mH) {o : Int32 × mH} (H : f_X1_said r0 x1 h = some o) : XR G l mi_X1_said [.ref r0, .int x1] h (some (.int o.1)) o.2 := by
  refine XR.of C0 (by decide) (Nat.le_of_ble_eq_true rfl) (fun C _ _ _ hE => ?_)
  show X G C mi_X1_said 0 [(0, .ref r0), (1, .int x1)] [] h
  unfold f_X1_said at H
  refine x_aload_n 0 rfl dX1_said_0 ?_
  obtain ⟨v1, e1, H⟩ := ob H
  refine x_getf fg_X1_109 (gFr_spec e1) dX1_said_1 ?_
  obtain ⟨g2, H⟩ := oit H
  refine x_ifnonnull 9 g2 dX1_said_4 (by decide) (fun c2 => ?_) (fun c2 => ?_)
  · rw [if_neg c2] at H
    refine x_iconst (0 : Int32) dX1_said_9 ic_0 ?_
    refine x_istore_n [1, 2, 0] dX1_said_10 (by decide) rfl ?_
    refine x_iconst (0 : Int32) dX1_said_11 ic_0 ?_
    refine x_istore_n [1, 2, 3, 0] dX1_said_12 (by decide) rfl ?_
    exact t_X1_said_L13 hE (t_X1_said_b55 hE) xFu _ _ _ _ _ H
  · rw [if_pos c2] at H
    refine x_iconst (-1 : Int32) dX1_said_7 ic_m1 ?_
    obtain rfl := Option.some.inj H
    exact x_iret hE rfl rfl dX1_said_8
abbrev mi_X1_sentence : xM := (cX1_sentence, yX1_sentence, 3, some .int, 95)
theorem md_X1_sentence : xMD mi_X1_sentence 0 := ⟨by decide, by decide, by decide +kernel⟩
def f_X1_sentence_b40 (r0 : Nat) (s0 : Nat) (h : mH) : Option (Int32 × mH) := (gFi [8] 6 h s0).bind fun v7 => (pF [0] 2 (.int v7) h r0).bind fun h8 => (gFi [8] 7 h8 s0).bind fun v9 => some (((-1 : Int32) - v9), h8)
theorem t_X1_sentence_b40 {G : xG} {C : xC} {o : Int32 × mH} (hE : xEndT G C (tableOf [(10, 39, 40, 119)]) (.inl (some (.int o.1))) o.2) (r0 : Nat) (s0 : Nat) (h : mH) (H : f_X1_sentence_b40 r0 s0 h = some o) : X G C mi_X1_sentence 40 [(0, .ref r0)] [.ref s0] h := by
  unfold f_X1_sentence_b40 at H
  refine x_astore_n [1, 0] dX1_sentence_40 (by decide) rfl ?_
  refine x_aload_n 0 rfl dX1_sentence_41 ?_
  refine x_aload_n 1 rfl dX1_sentence_42 ?_
  obtain ⟨v7, e7, H⟩ := ob H
  refine x_getf fg_X1_121 (gFi_spec e7) dX1_sentence_43 ?_
  obtain ⟨h8, e8, H⟩ := ob H
  refine x_putf (fp_X1_97 _) rfl rfl e8 dX1_sentence_46 ?_
  refine x_iconst (-1 : Int32) dX1_sentence_49 ic_m1 ?_
  refine x_aload_n 1 rfl dX1_sentence_50 ?_
  obtain ⟨v9, e9, H⟩ := ob H
  refine x_getf fg_X1_124 (gFi_spec e9) dX1_sentence_51 ?_
  refine x_isub dX1_sentence_54 ?_
  obtain rfl := Option.some.inj H
  exact x_iretT hE rfl rfl dX1_sentence_55
def f_X1_sentence (r0 : Nat) (h : mH) : Option (Int32 × mH) := if gC h r0 = 0 then bR (f_X1_take r0  h) fun a1 g1 => (pF [0] 2 (.int (0 : Int32)) g1 r0).bind fun h2 => (gFr [0] 0 (xnw h2 (.inr (7, [.ref 0, .int 0, .int 0, .int 0, .int 0, .int 0, .int 0, .int 0, .ref 0, .ref 0, .int 0, .int 0])) 12) r0).bind fun v3 => (gFr [0] 3 (xnw h2 (.inr (7, [.ref 0, .int 0, .int 0, .int 0, .int 0, .int 0, .int 0, .int 0, .ref 0, .ref 0, .int 0, .int 0])) 12) r0).bind fun v4 => if 6 ≤ h2.2.1 then bR (f_X19_init h2.2.1 v3 a1 v4 (xnw h2 (.inr (7, [.ref 0, .int 0, .int 0, .int 0, .int 0, .int 0, .int 0, .int 0, .ref 0, .ref 0, .int 0, .int 0])) 12)) fun a5 g5 => if gC g5 h2.2.1 = 7 then bH (f_X19_read h2.2.1  g5) (fun a6 h6 => if 6 ≤ a6 then f_X1_sentence_b40 r0 a6 h6 else none) fun v6 h6 => (pF [0] 6 (.ref v6) h6 r0).bind fun h10 => (gFi [7] 10 h10 h2.2.1).bind fun v11 => some (v11, h10) else none else none else none
theorem t_X1_sentence {G : xG} (C0 : xC) {l : Launch} {r0 : Nat} (h : mH) {o : Int32 × mH} (H : f_X1_sentence r0 h = some o) : XRW G l mi_X1_sentence [(10, 39, 40, 119)] [.ref r0] h (some (.int o.1)) o.2 := by
  refine XRW.of C0 (by decide) (Nat.le_of_ble_eq_true rfl) (fun C _ _ _ hE => ?_)
  show X G C mi_X1_sentence 0 [(0, .ref r0)] [] h
  unfold f_X1_sentence at H
  refine x_aload_n 0 rfl dX1_sentence_0 ?_
  obtain ⟨c1, H⟩ := oit H
  obtain ⟨a1, g1, e1, H⟩ := obR H
  refine x_callV (M' := mi_X1_take) (n := 0) (As := []) (t_X1_take C _ e1) c1 rfl rfl md_X1_take ⟨Nat.le_of_ble_eq_true rfl, Nat.le_of_ble_eq_true rfl⟩ q453 q455 qs3 q120 q456 rfl (Nat.le_of_ble_eq_true rfl) dX1_sentence_1 ?_
  refine x_istore_n [1, 0] dX1_sentence_4 (by decide) rfl ?_
  refine x_aload_n 0 rfl dX1_sentence_5 ?_
  refine x_iconst (0 : Int32) dX1_sentence_6 ic_0 ?_
  obtain ⟨h2, e2, H⟩ := ob H
  refine x_putf (fp_X1_97 _) rfl rfl e2 dX1_sentence_7 ?_
  refine x_new (fs := [.ref 0, .int 0, .int 0, .int 0, .int 0, .int 0, .int 0, .int 0, .ref 0, .ref 0, .int 0, .int 0]) ci_7 q1643 q1644 q157 (nf_X19 G) rfl dX1_sentence_10 ?_
  refine x_dup dX1_sentence_13 rfl ?_
  refine x_aload_n 0 rfl dX1_sentence_14 ?_
  obtain ⟨v3, e3, H⟩ := ob H
  refine x_getf fg_X1_18 (gFr_spec e3) dX1_sentence_15 ?_
  refine x_iload_n 1 rfl dX1_sentence_18 ?_
  refine x_aload_n 0 rfl dX1_sentence_19 ?_
  obtain ⟨v4, e4, H⟩ := ob H
  refine x_getf fg_X1_25 (gFr_spec e4) dX1_sentence_20 ?_
  obtain ⟨c5, H⟩ := oit H
  obtain ⟨a5, g5, e5, H⟩ := obR H
  refine x_callI (M' := mi_X19_init) (n := 3) (As := [.ref v3, .int a1, .ref v4]) (t_X19_init C _ e5) c5 md_X19_init ⟨Nat.le_of_ble_eq_true rfl, Nat.le_of_ble_eq_true rfl⟩ rfl rfl q1645 q1646 q157 q1647 rfl (Nat.le_of_ble_eq_true rfl) dX1_sentence_23 ?_
  refine x_astore_n [1, 2, 0] dX1_sentence_26 (by decide) rfl ?_
  refine x_aload_n 0 rfl dX1_sentence_27 ?_
  refine x_aload_n 2 rfl dX1_sentence_28 ?_
  obtain ⟨c6, H⟩ := oit H
  rcases obH H with ⟨a6, h6, e6, H⟩ | ⟨v6, h6, e6, H⟩
  · obtain ⟨c, H⟩ := oit H
    refine x_goH (x := ⟨10, 39, 40, 119⟩) (t_X19_read C _ e6) (x_rV (M' := mi_X19_read) (n := 0) (As := []) (t_X19_read C _ e6) c6 rfl rfl md_X19_read ⟨Nat.le_of_ble_eq_true rfl, Nat.le_of_ble_eq_true rfl⟩ q1669 q1670 q1671 q157 q1672 rfl (Nat.le_of_ble_eq_true rfl) dX1_sentence_29) c hE.2.2.2 (by decide) (by decide) q452 ?_
    refine X.sub [0] rfl ?_
    exact t_X1_sentence_b40 hE _ _ _ H
  refine x_goR (r := (some (.ref v6))) (t_X19_read C _ e6) (x_rV (M' := mi_X19_read) (n := 0) (As := []) (t_X19_read C _ e6) c6 rfl rfl md_X19_read ⟨Nat.le_of_ble_eq_true rfl, Nat.le_of_ble_eq_true rfl⟩ q1669 q1670 q1671 q157 q1672 rfl (Nat.le_of_ble_eq_true rfl) dX1_sentence_29) ?_
  obtain ⟨h10, e10, H⟩ := ob H
  refine x_putf (fp_X1_109 _) rfl rfl e10 dX1_sentence_32 ?_
  refine x_aload_n 2 rfl dX1_sentence_35 ?_
  obtain ⟨v11, e11, H⟩ := ob H
  refine x_getf fg_X1_400 (gFi_spec e11) dX1_sentence_36 ?_
  obtain rfl := Option.some.inj H
  exact x_iretT hE rfl rfl dX1_sentence_39
abbrev mi_X1_serve : xM := (cX1_serve, yX1_serve, 5, some .int, 10)
theorem md_X1_serve : xMD mi_X1_serve 1 := ⟨by decide, by decide, by decide +kernel⟩
def f_X1_serve_b105 (r0 : Nat) (x3 : Int32) (h : mH) : Option (Int32 × mH) := if x3 = (-1 : Int32) then some ((-1 : Int32), h) else (pF [0] 13 (.int x3) h r0).bind fun h4 => bR (f_X1_many x3 h4) fun a5 g5 => some (a5, g5)
theorem t_X1_serve_b105 {G : xG} {C : xC} {o : Int32 × mH} (hE : xEnd G C (some (.int o.1)) o.2) (r0 : Nat) (x3 : Int32) (h : mH) (H : f_X1_serve_b105 r0 x3 h = some o) : X G C mi_X1_serve 105 [(0, .ref r0), (3, .int x3)] [] h := by
  unfold f_X1_serve_b105 at H
  refine x_iload_n 1 rfl dX1_serve_105 ?_
  refine x_iconst (-1 : Int32) dX1_serve_106 ic_m1 ?_
  refine x_icmp_ne 112 dX1_serve_107 (by decide) (fun c3 => ?_) (fun c3 => ?_)
  · rw [if_neg c3] at H
    refine x_aload_n 0 rfl dX1_serve_112 ?_
    refine x_iload_n 1 rfl dX1_serve_113 ?_
    obtain ⟨h4, e4, H⟩ := ob H
    refine x_putf (fp_X1_58 _) rfl rfl e4 dX1_serve_114 ?_
    refine x_iload_n 1 rfl dX1_serve_117 ?_
    obtain ⟨a5, g5, e5, H⟩ := obR H
    refine x_callS (M' := mi_X1_many) (n := 1) (As := [.int x3]) (t_X1_many C _ e5) md_X1_many ⟨Nat.le_of_ble_eq_true rfl, Nat.le_of_ble_eq_true rfl⟩ q1153 q1154 q120 q1155 rfl (Nat.le_of_ble_eq_true rfl) dX1_serve_118 ?_
    obtain rfl := Option.some.inj H
    exact x_iret hE rfl rfl dX1_serve_121
  · rw [if_pos c3] at H
    refine x_iconst (-1 : Int32) dX1_serve_110 ic_m1 ?_
    obtain rfl := Option.some.inj H
    exact x_iret hE rfl rfl dX1_serve_111
def f_X1_serve_b99 (kb : Nat → Int32 → Int32 → Int32 → Int32 → mH → Option (Int32 × mH)) (k105 : Nat → Int32 → mH → Option (Int32 × mH)) (r0 : Nat) (x1 : Int32) (x2 : Int32) (x3 : Int32) (x4 : Int32) (h : mH) : Option (Int32 × mH) := kb r0 x1 x2 x3 (x4 + (1 : Int32)) h
theorem t_X1_serve_b99 {G : xG} {C : xC} {o : Int32 × mH} (hE : xEnd G C (some (.int o.1)) o.2) {kb : Nat → Int32 → Int32 → Int32 → Int32 → mH → Option (Int32 × mH)} (hkb : ∀ (r0 : Nat) (x1 : Int32) (x2 : Int32) (x3 : Int32) (x4 : Int32) (h : mH), kb r0 x1 x2 x3 x4 h = some o → X G C mi_X1_serve 54 [(0, .ref r0), (1, .int x1), (2, .int x2), (3, .int x3), (4, .int x4)] [] h) {k105 : Nat → Int32 → mH → Option (Int32 × mH)} (hk105 : ∀ (r0 : Nat) (x3 : Int32) (h : mH), k105 r0 x3 h = some o → X G C mi_X1_serve 105 [(0, .ref r0), (3, .int x3)] [] h) (r0 : Nat) (x1 : Int32) (x2 : Int32) (x3 : Int32) (x4 : Int32) (h : mH) (H : f_X1_serve_b99 kb k105 r0 x1 x2 x3 x4 h = some o) : X G C mi_X1_serve 99 [(0, .ref r0), (1, .int x1), (2, .int x2), (3, .int x3), (4, .int x4)] [] h := by
  unfold f_X1_serve_b99 at H
  refine x_iinc 4 (x4 + (1 : Int32)) [1, 2, 3, 4, 0] dX1_serve_99 rfl (ii_1 _) (by decide) rfl ?_
  refine x_goto (tgt := 54) dX1_serve_102 (by decide) ?_
  exact hkb _ _ _ _ _ _ H
def f_X1_serve_b86 (kb : Nat → Int32 → Int32 → Int32 → Int32 → mH → Option (Int32 × mH)) (k105 : Nat → Int32 → mH → Option (Int32 × mH)) (r0 : Nat) (x1 : Int32) (x2 : Int32) (x3 : Int32) (x4 : Int32) (h : mH) : Option (Int32 × mH) := if gC h r0 = 0 then bR (f_X1_isServed r0 x4 x1 h) fun a9 g9 => if a9 = 0 then f_X1_serve_b99 kb k105 r0 x1 x2 x3 x4 g9 else f_X1_serve_b99 kb k105 r0 x1 x2 x4 x4 g9 else none
theorem t_X1_serve_b86 {G : xG} {C : xC} {o : Int32 × mH} (hE : xEnd G C (some (.int o.1)) o.2) {kb : Nat → Int32 → Int32 → Int32 → Int32 → mH → Option (Int32 × mH)} (hkb : ∀ (r0 : Nat) (x1 : Int32) (x2 : Int32) (x3 : Int32) (x4 : Int32) (h : mH), kb r0 x1 x2 x3 x4 h = some o → X G C mi_X1_serve 54 [(0, .ref r0), (1, .int x1), (2, .int x2), (3, .int x3), (4, .int x4)] [] h) {k105 : Nat → Int32 → mH → Option (Int32 × mH)} (hk105 : ∀ (r0 : Nat) (x3 : Int32) (h : mH), k105 r0 x3 h = some o → X G C mi_X1_serve 105 [(0, .ref r0), (3, .int x3)] [] h) (r0 : Nat) (x1 : Int32) (x2 : Int32) (x3 : Int32) (x4 : Int32) (h : mH) (H : f_X1_serve_b86 kb k105 r0 x1 x2 x3 x4 h = some o) : X G C mi_X1_serve 86 [(0, .ref r0), (1, .int x1), (2, .int x2), (3, .int x3), (4, .int x4)] [] h := by
  unfold f_X1_serve_b86 at H
  refine x_aload_n 0 rfl dX1_serve_86 ?_
  refine x_iload 4 rfl dX1_serve_87 ?_
  refine x_iload_n 1 rfl dX1_serve_89 ?_
  obtain ⟨c9, H⟩ := oit H
  obtain ⟨a9, g9, e9, H⟩ := obR H
  refine x_callV (M' := mi_X1_isServed) (n := 2) (As := [.int x4, .int x1]) (t_X1_isServed C _ e9) c9 rfl rfl md_X1_isServed ⟨Nat.le_of_ble_eq_true rfl, Nat.le_of_ble_eq_true rfl⟩ q1415 q1417 qs31 q120 q1418 rfl (Nat.le_of_ble_eq_true rfl) dX1_serve_90 ?_
  refine x_if_eq 99 dX1_serve_93 (by decide) (fun c10 => ?_) (fun c10 => ?_)
  · rw [if_pos c10] at H
    exact t_X1_serve_b99 hE hkb hk105 _ _ _ _ _ _ H
  · rw [if_neg c10] at H
    refine x_iload 4 rfl dX1_serve_96 ?_
    refine x_istore_n [1, 2, 3, 0, 4] dX1_serve_98 (by decide) rfl ?_
    exact t_X1_serve_b99 hE hkb hk105 _ _ _ _ _ _ H
def f_X1_serve_L54 (k105 : Nat → Int32 → mH → Option (Int32 × mH)) : Nat → Nat → Int32 → Int32 → Int32 → Int32 → mH → Option (Int32 × mH)
  | 0, _, _, _, _, _, _ => none
  | n + 1, r0, x1, x2, x3, x4, h => if x2 < x4 then k105 r0 x3 h else if (x4 &&& (x2 ^^^ (-1 : Int32))) = 0 then if x3 = (-1 : Int32) then f_X1_serve_b86 (f_X1_serve_L54 k105 n) k105 r0 x1 x2 x3 x4 h else bR (f_X1_many x4 h) fun a11 g11 => bR (f_X1_many x3 g11) fun a12 g12 => if a12 ≤ a11 then f_X1_serve_b99 (f_X1_serve_L54 k105 n) k105 r0 x1 x2 x3 x4 g12 else f_X1_serve_b86 (f_X1_serve_L54 k105 n) k105 r0 x1 x2 x3 x4 g12 else f_X1_serve_b99 (f_X1_serve_L54 k105 n) k105 r0 x1 x2 x3 x4 h
theorem t_X1_serve_L54 {G : xG} {C : xC} {o : Int32 × mH} (hE : xEnd G C (some (.int o.1)) o.2) {k105 : Nat → Int32 → mH → Option (Int32 × mH)} (hk105 : ∀ (r0 : Nat) (x3 : Int32) (h : mH), k105 r0 x3 h = some o → X G C mi_X1_serve 105 [(0, .ref r0), (3, .int x3)] [] h) : ∀ (n : Nat) (r0 : Nat) (x1 : Int32) (x2 : Int32) (x3 : Int32) (x4 : Int32) (h : mH), f_X1_serve_L54 k105 n r0 x1 x2 x3 x4 h = some o → X G C mi_X1_serve 54 [(0, .ref r0), (1, .int x1), (2, .int x2), (3, .int x3), (4, .int x4)] [] h := by
  intro n
  induction n with
  | zero => intro r0 x1 x2 x3 x4 h H; exact nomatch (show (none : Option (Int32 × mH)) = some o from H)
  | succ n ih =>
    intro r0 x1 x2 x3 x4 h H
    rw [f_X1_serve_L54] at H
    refine x_iload 4 rfl dX1_serve_54 ?_
    refine x_iload_n 2 rfl dX1_serve_56 ?_
    refine x_icmp_gt 105 dX1_serve_57 (by decide) (fun c6 => ?_) (fun c6 => ?_)
    · rw [if_pos c6] at H
      refine X.sub [0, 3] rfl ?_
      exact hk105 _ _ _ H
    · rw [if_neg c6] at H
      refine x_iload 4 rfl dX1_serve_60 ?_
      refine x_iload_n 2 rfl dX1_serve_62 ?_
      refine x_iconst (-1 : Int32) dX1_serve_63 ic_m1 ?_
      refine x_ixor dX1_serve_64 ?_
      refine x_iand dX1_serve_65 ?_
      refine x_if_ne 99 dX1_serve_66 (by decide) (fun c7 => ?_) (fun c7 => ?_)
      · rw [if_neg c7] at H
        exact t_X1_serve_b99 hE ih hk105 _ _ _ _ _ _ H
      · rw [if_pos c7] at H
        refine x_iload_n 3 rfl dX1_serve_69 ?_
        refine x_iconst (-1 : Int32) dX1_serve_70 ic_m1 ?_
        refine x_icmp_eq 86 dX1_serve_71 (by decide) (fun c8 => ?_) (fun c8 => ?_)
        · rw [if_pos c8] at H
          exact t_X1_serve_b86 hE ih hk105 _ _ _ _ _ _ H
        · rw [if_neg c8] at H
          refine x_iload 4 rfl dX1_serve_74 ?_
          obtain ⟨a11, g11, e11, H⟩ := obR H
          refine x_callS (M' := mi_X1_many) (n := 1) (As := [.int x4]) (t_X1_many C _ e11) md_X1_many ⟨Nat.le_of_ble_eq_true rfl, Nat.le_of_ble_eq_true rfl⟩ q1153 q1154 q120 q1155 rfl (Nat.le_of_ble_eq_true rfl) dX1_serve_76 ?_
          refine x_iload_n 3 rfl dX1_serve_79 ?_
          obtain ⟨a12, g12, e12, H⟩ := obR H
          refine x_callS (M' := mi_X1_many) (n := 1) (As := [.int x3]) (t_X1_many C _ e12) md_X1_many ⟨Nat.le_of_ble_eq_true rfl, Nat.le_of_ble_eq_true rfl⟩ q1153 q1154 q120 q1155 rfl (Nat.le_of_ble_eq_true rfl) dX1_serve_80 ?_
          refine x_icmp_ge 99 dX1_serve_83 (by decide) (fun c13 => ?_) (fun c13 => ?_)
          · rw [if_pos c13] at H
            exact t_X1_serve_b99 hE ih hk105 _ _ _ _ _ _ H
          · rw [if_neg c13] at H
            exact t_X1_serve_b86 hE ih hk105 _ _ _ _ _ _ H
def f_X1_serve_b49 (r0 : Nat) (x1 : Int32) (x2 : Int32) (h : mH) : Option (Int32 × mH) := f_X1_serve_L54 (f_X1_serve_b105) xFu r0 x1 x2 (-1 : Int32) (0 : Int32) h
theorem t_X1_serve_b49 {G : xG} {C : xC} {o : Int32 × mH} (hE : xEnd G C (some (.int o.1)) o.2) (r0 : Nat) (x1 : Int32) (x2 : Int32) (h : mH) (H : f_X1_serve_b49 r0 x1 x2 h = some o) : X G C mi_X1_serve 49 [(0, .ref r0), (1, .int x1), (2, .int x2)] [] h := by
  unfold f_X1_serve_b49 at H
  refine x_iconst (-1 : Int32) dX1_serve_49 ic_m1 ?_
  refine x_istore_n [1, 2, 3, 0] dX1_serve_50 (by decide) rfl ?_
  refine x_iconst (0 : Int32) dX1_serve_51 ic_0 ?_
  refine x_istore [1, 2, 3, 4, 0] dX1_serve_52 (by decide) rfl ?_
  exact t_X1_serve_L54 hE (t_X1_serve_b105 hE) xFu _ _ _ _ _ _ H
def f_X1_serve_b43 (kb : Nat → Int32 → Int32 → Int32 → mH → Option (Int32 × mH)) (k49 : Nat → Int32 → Int32 → mH → Option (Int32 × mH)) (r0 : Nat) (x1 : Int32) (x2 : Int32) (x3 : Int32) (h : mH) : Option (Int32 × mH) := kb r0 x1 x2 (x3 + (1 : Int32)) h
theorem t_X1_serve_b43 {G : xG} {C : xC} {o : Int32 × mH} (hE : xEnd G C (some (.int o.1)) o.2) {kb : Nat → Int32 → Int32 → Int32 → mH → Option (Int32 × mH)} (hkb : ∀ (r0 : Nat) (x1 : Int32) (x2 : Int32) (x3 : Int32) (h : mH), kb r0 x1 x2 x3 h = some o → X G C mi_X1_serve 14 [(0, .ref r0), (1, .int x1), (2, .int x2), (3, .int x3)] [] h) {k49 : Nat → Int32 → Int32 → mH → Option (Int32 × mH)} (hk49 : ∀ (r0 : Nat) (x1 : Int32) (x2 : Int32) (h : mH), k49 r0 x1 x2 h = some o → X G C mi_X1_serve 49 [(0, .ref r0), (1, .int x1), (2, .int x2)] [] h) (r0 : Nat) (x1 : Int32) (x2 : Int32) (x3 : Int32) (h : mH) (H : f_X1_serve_b43 kb k49 r0 x1 x2 x3 h = some o) : X G C mi_X1_serve 43 [(0, .ref r0), (1, .int x1), (2, .int x2), (3, .int x3)] [] h := by
  unfold f_X1_serve_b43 at H
  refine x_iinc 3 (x3 + (1 : Int32)) [1, 2, 3, 0] dX1_serve_43 rfl (ii_1 _) (by decide) rfl ?_
  refine x_goto (tgt := 14) dX1_serve_46 (by decide) ?_
  exact hkb _ _ _ _ _ H
def f_X1_serve_L14 (k49 : Nat → Int32 → Int32 → mH → Option (Int32 × mH)) : Nat → Nat → Int32 → Int32 → Int32 → mH → Option (Int32 × mH)
  | 0, _, _, _, _, _ => none
  | n + 1, r0, x1, x2, x3, h => if gC h r0 = 0 then bR (f_X1_persons r0  h) fun a14 g14 => if a14 ≤ x3 then k49 r0 x1 x2 g14 else (gFr [0] 4 g14 r0).bind fun v16 => if gC g14 v16 = 2 then bR (f_X3_person v16 x3 g14) fun a17 g17 => if gC g17 a17 = 10 then bR (f_X10_sells a17 x1 g17) fun a18 g18 => if a18 = 0 then f_X1_serve_b43 (f_X1_serve_L14 k49 n) k49 r0 x1 x2 x3 g18 else f_X1_serve_b43 (f_X1_serve_L14 k49 n) k49 r0 x1 (x2 ||| ((1 : Int32) <<< (x3 &&& 31))) x3 g18 else none else none else none
theorem t_X1_serve_L14 {G : xG} {C : xC} {o : Int32 × mH} (hE : xEnd G C (some (.int o.1)) o.2) {k49 : Nat → Int32 → Int32 → mH → Option (Int32 × mH)} (hk49 : ∀ (r0 : Nat) (x1 : Int32) (x2 : Int32) (h : mH), k49 r0 x1 x2 h = some o → X G C mi_X1_serve 49 [(0, .ref r0), (1, .int x1), (2, .int x2)] [] h) : ∀ (n : Nat) (r0 : Nat) (x1 : Int32) (x2 : Int32) (x3 : Int32) (h : mH), f_X1_serve_L14 k49 n r0 x1 x2 x3 h = some o → X G C mi_X1_serve 14 [(0, .ref r0), (1, .int x1), (2, .int x2), (3, .int x3)] [] h := by
  intro n
  induction n with
  | zero => intro r0 x1 x2 x3 h H; exact nomatch (show (none : Option (Int32 × mH)) = some o from H)
  | succ n ih =>
    intro r0 x1 x2 x3 h H
    rw [f_X1_serve_L14] at H
    refine x_iload_n 3 rfl dX1_serve_14 ?_
    refine x_aload_n 0 rfl dX1_serve_15 ?_
    obtain ⟨c14, H⟩ := oit H
    obtain ⟨a14, g14, e14, H⟩ := obR H
    refine x_callV (M' := mi_X1_persons) (n := 0) (As := []) (t_X1_persons C _ e14) c14 rfl rfl md_X1_persons ⟨Nat.le_of_ble_eq_true rfl, Nat.le_of_ble_eq_true rfl⟩ q1140 q1142 qs22 q120 q1143 rfl (Nat.le_of_ble_eq_true rfl) dX1_serve_16 ?_
    refine x_icmp_ge 49 dX1_serve_19 (by decide) (fun c15 => ?_) (fun c15 => ?_)
    · rw [if_pos c15] at H
      refine X.sub [0, 1, 2] rfl ?_
      exact hk49 _ _ _ _ H
    · rw [if_neg c15] at H
      refine x_aload_n 0 rfl dX1_serve_22 ?_
      obtain ⟨v16, e16, H⟩ := ob H
      refine x_getf fg_X1_36 (gFr_spec e16) dX1_serve_23 ?_
      refine x_iload_n 3 rfl dX1_serve_26 ?_
      obtain ⟨c17, H⟩ := oit H
      obtain ⟨a17, g17, e17, H⟩ := obR H
      refine x_callV (M' := mi_X3_person) (n := 1) (As := [.int x3]) (t_X3_person C _ e17) c17 rfl rfl md_X3_person ⟨Nat.le_of_ble_eq_true rfl, Nat.le_of_ble_eq_true rfl⟩ q1127 q321 q322 q125 q323 rfl (Nat.le_of_ble_eq_true rfl) dX1_serve_27 ?_
      refine x_iload_n 1 rfl dX1_serve_30 ?_
      obtain ⟨c18, H⟩ := oit H
      obtain ⟨a18, g18, e18, H⟩ := obR H
      refine x_callV (M' := mi_X10_sells) (n := 1) (As := [.int x1]) (t_X10_sells C _ e18) c18 rfl rfl md_X10_sells ⟨Nat.le_of_ble_eq_true rfl, Nat.le_of_ble_eq_true rfl⟩ q1414 q1066 q1067 q145 q1068 rfl (Nat.le_of_ble_eq_true rfl) dX1_serve_31 ?_
      refine x_if_eq 43 dX1_serve_34 (by decide) (fun c19 => ?_) (fun c19 => ?_)
      · rw [if_pos c19] at H
        exact t_X1_serve_b43 hE ih hk49 _ _ _ _ _ H
      · rw [if_neg c19] at H
        refine x_iload_n 2 rfl dX1_serve_37 ?_
        refine x_iconst (1 : Int32) dX1_serve_38 ic_1 ?_
        refine x_iload_n 3 rfl dX1_serve_39 ?_
        refine x_ishl dX1_serve_40 ?_
        refine x_ior dX1_serve_41 ?_
        refine x_istore_n [1, 2, 0, 3] dX1_serve_42 (by decide) rfl ?_
        exact t_X1_serve_b43 hE ih hk49 _ _ _ _ _ H
def f_X1_serve (r0 : Nat) (x1 : Int32) (h : mH) : Option (Int32 × mH) := if gC h r0 = 0 then bR (f_X1_isGood r0 x1 h) fun a1 g1 => if a1 = 0 then some ((-1 : Int32), g1) else f_X1_serve_L14 (f_X1_serve_b49) xFu r0 x1 (0 : Int32) (0 : Int32) g1 else none
theorem t_X1_serve {G : xG} (C0 : xC) {l : Launch} {r0 : Nat} {x1 : Int32} (h : mH) {o : Int32 × mH} (H : f_X1_serve r0 x1 h = some o) : XR G l mi_X1_serve [.ref r0, .int x1] h (some (.int o.1)) o.2 := by
  refine XR.of C0 (by decide) (Nat.le_of_ble_eq_true rfl) (fun C _ _ _ hE => ?_)
  show X G C mi_X1_serve 0 [(0, .ref r0), (1, .int x1)] [] h
  unfold f_X1_serve at H
  refine x_aload_n 0 rfl dX1_serve_0 ?_
  refine x_iload_n 1 rfl dX1_serve_1 ?_
  obtain ⟨c1, H⟩ := oit H
  obtain ⟨a1, g1, e1, H⟩ := obR H
  refine x_callV (M' := mi_X1_isGood) (n := 1) (As := [.int x1]) (t_X1_isGood C _ e1) c1 rfl rfl md_X1_isGood ⟨Nat.le_of_ble_eq_true rfl, Nat.le_of_ble_eq_true rfl⟩ q1118 q1120 qs20 q120 q1121 rfl (Nat.le_of_ble_eq_true rfl) dX1_serve_2 ?_
  refine x_if_ne 10 dX1_serve_5 (by decide) (fun c2 => ?_) (fun c2 => ?_)
  · rw [if_neg c2] at H
    refine x_iconst (0 : Int32) dX1_serve_10 ic_0 ?_
    refine x_istore_n [1, 2, 0] dX1_serve_11 (by decide) rfl ?_
    refine x_iconst (0 : Int32) dX1_serve_12 ic_0 ?_
    refine x_istore_n [1, 2, 3, 0] dX1_serve_13 (by decide) rfl ?_
    exact t_X1_serve_L14 hE (t_X1_serve_b49 hE) xFu _ _ _ _ _ H
  · rw [if_pos c2] at H
    refine x_iconst (-1 : Int32) dX1_serve_8 ic_m1 ?_
    obtain rfl := Option.some.inj H
    exact x_iret hE rfl rfl dX1_serve_9
abbrev mi_X1_serving : xM := (cX1_serving, yX1_serving, 1, some .int, 1)
theorem md_X1_serving : xMD mi_X1_serving 0 := ⟨by decide, by decide, by decide +kernel⟩
def f_X1_serving (r0 : Nat) (h : mH) : Option (Int32 × mH) := (gFi [0] 13 h r0).bind fun v1 => some (v1, h)
theorem t_X1_serving {G : xG} (C0 : xC) {l : Launch} {r0 : Nat} (h : mH) {o : Int32 × mH} (H : f_X1_serving r0 h = some o) : XR G l mi_X1_serving [.ref r0] h (some (.int o.1)) o.2 := by
  refine XR.of C0 (by decide) (Nat.le_of_ble_eq_true rfl) (fun C _ _ _ hE => ?_)
  show X G C mi_X1_serving 0 [(0, .ref r0)] [] h
  unfold f_X1_serving at H
  refine x_aload_n 0 rfl dX1_serving_0 ?_
  obtain ⟨v1, e1, H⟩ := ob H
  refine x_getf fg_X1_58 (gFi_spec e1) dX1_serving_1 ?_
  obtain rfl := Option.some.inj H
  exact x_iret hE rfl rfl dX1_serving_4
abbrev mi_X1_tell : xM := (cX1_tell, yX1_tell, 4, some .int, 11)
theorem md_X1_tell : xMD mi_X1_tell 3 := ⟨by decide, by decide, by decide +kernel⟩
def f_X1_tell (r0 : Nat) (x1 : Int32) (x2 : Int32) (x3 : Int32) (h : mH) : Option (Int32 × mH) := if gC h r0 = 0 then bR (f_X1_isPerson r0 x1 h) fun a1 g1 => if a1 = 0 then some ((-1 : Int32), g1) else if gC g1 r0 = 0 then bR (f_X1_isPerson r0 x2 g1) fun a3 g3 => if a3 = 0 then some ((-1 : Int32), g3) else if gC g3 r0 = 0 then bR (f_X1_isPerson r0 x3 g3) fun a5 g5 => if a5 = 0 then some ((-1 : Int32), g5) else if 6 ≤ g5.2.1 then bR (f_X15_init g5.2.1 x1 x2 x3 (xnw g5 (.inr (13, [.int 0, .int 0, .int 0])) 3)) fun a7 g7 => if gC g7 r0 = 0 then bR (f_X1_does r0 g5.2.1 g7) fun a8 g8 => some (a8, g8) else none else none else none else none else none
theorem t_X1_tell {G : xG} (C0 : xC) {l : Launch} {r0 : Nat} {x1 : Int32} {x2 : Int32} {x3 : Int32} (h : mH) {o : Int32 × mH} (H : f_X1_tell r0 x1 x2 x3 h = some o) : XR G l mi_X1_tell [.ref r0, .int x1, .int x2, .int x3] h (some (.int o.1)) o.2 := by
  refine XR.of C0 (by decide) (Nat.le_of_ble_eq_true rfl) (fun C _ _ _ hE => ?_)
  show X G C mi_X1_tell 0 [(0, .ref r0), (1, .int x1), (2, .int x2), (3, .int x3)] [] h
  unfold f_X1_tell at H
  refine x_aload_n 0 rfl dX1_tell_0 ?_
  refine x_iload_n 1 rfl dX1_tell_1 ?_
  obtain ⟨c1, H⟩ := oit H
  obtain ⟨a1, g1, e1, H⟩ := obR H
  refine x_callV (M' := mi_X1_isPerson) (n := 1) (As := [.int x1]) (t_X1_isPerson C _ e1) c1 rfl rfl md_X1_isPerson ⟨Nat.le_of_ble_eq_true rfl, Nat.le_of_ble_eq_true rfl⟩ q1108 q1110 qs19 q120 q1111 rfl (Nat.le_of_ble_eq_true rfl) dX1_tell_2 ?_
  refine x_if_eq 41 dX1_tell_5 (by decide) (fun c2 => ?_) (fun c2 => ?_)
  · rw [if_pos c2] at H
    refine x_iconst (-1 : Int32) dX1_tell_41 ic_m1 ?_
    obtain rfl := Option.some.inj H
    exact x_iret hE rfl rfl dX1_tell_42
  · rw [if_neg c2] at H
    refine x_aload_n 0 rfl dX1_tell_8 ?_
    refine x_iload_n 2 rfl dX1_tell_9 ?_
    obtain ⟨c3, H⟩ := oit H
    obtain ⟨a3, g3, e3, H⟩ := obR H
    refine x_callV (M' := mi_X1_isPerson) (n := 1) (As := [.int x2]) (t_X1_isPerson C _ e3) c3 rfl rfl md_X1_isPerson ⟨Nat.le_of_ble_eq_true rfl, Nat.le_of_ble_eq_true rfl⟩ q1108 q1110 qs19 q120 q1111 rfl (Nat.le_of_ble_eq_true rfl) dX1_tell_10 ?_
    refine x_if_eq 41 dX1_tell_13 (by decide) (fun c4 => ?_) (fun c4 => ?_)
    · rw [if_pos c4] at H
      refine x_iconst (-1 : Int32) dX1_tell_41 ic_m1 ?_
      obtain rfl := Option.some.inj H
      exact x_iret hE rfl rfl dX1_tell_42
    · rw [if_neg c4] at H
      refine x_aload_n 0 rfl dX1_tell_16 ?_
      refine x_iload_n 3 rfl dX1_tell_17 ?_
      obtain ⟨c5, H⟩ := oit H
      obtain ⟨a5, g5, e5, H⟩ := obR H
      refine x_callV (M' := mi_X1_isPerson) (n := 1) (As := [.int x3]) (t_X1_isPerson C _ e5) c5 rfl rfl md_X1_isPerson ⟨Nat.le_of_ble_eq_true rfl, Nat.le_of_ble_eq_true rfl⟩ q1108 q1110 qs19 q120 q1111 rfl (Nat.le_of_ble_eq_true rfl) dX1_tell_18 ?_
      refine x_if_eq 41 dX1_tell_21 (by decide) (fun c6 => ?_) (fun c6 => ?_)
      · rw [if_pos c6] at H
        refine x_iconst (-1 : Int32) dX1_tell_41 ic_m1 ?_
        obtain rfl := Option.some.inj H
        exact x_iret hE rfl rfl dX1_tell_42
      · rw [if_neg c6] at H
        refine x_aload_n 0 rfl dX1_tell_24 ?_
        refine x_new (fs := [.int 0, .int 0, .int 0]) ci_13 q1347 q1348 q153 (nf_X15 G) rfl dX1_tell_25 ?_
        refine x_dup dX1_tell_28 rfl ?_
        refine x_iload_n 1 rfl dX1_tell_29 ?_
        refine x_iload_n 2 rfl dX1_tell_30 ?_
        refine x_iload_n 3 rfl dX1_tell_31 ?_
        obtain ⟨c7, H⟩ := oit H
        obtain ⟨a7, g7, e7, H⟩ := obR H
        refine x_callI (M' := mi_X15_init) (n := 3) (As := [.int x1, .int x2, .int x3]) (t_X15_init C _ e7) c7 md_X15_init ⟨Nat.le_of_ble_eq_true rfl, Nat.le_of_ble_eq_true rfl⟩ rfl rfl q1349 q1350 q153 q1351 rfl (Nat.le_of_ble_eq_true rfl) dX1_tell_32 ?_
        obtain ⟨c8, H⟩ := oit H
        obtain ⟨a8, g8, e8, H⟩ := obR H
        refine x_callV (M' := mi_X1_does) (n := 1) (As := [.ref g5.2.1]) (t_X1_does C _ e8) c8 rfl rfl md_X1_does ⟨Nat.le_of_ble_eq_true rfl, Nat.le_of_ble_eq_true rfl⟩ q1205 q1207 qs24 q120 q1208 rfl (Nat.le_of_ble_eq_true rfl) dX1_tell_35 ?_
        refine x_goto (tgt := 42) dX1_tell_38 (by decide) ?_
        obtain rfl := Option.some.inj H
        exact x_iret hE rfl rfl dX1_tell_42
abbrev mi_X1_told : xM := (cX1_told, yX1_told, 2, some .int, 2)
theorem md_X1_told : xMD mi_X1_told 1 := ⟨by decide, by decide, by decide +kernel⟩
def f_X1_told (r0 : Nat) (x1 : Int32) (h : mH) : Option (Int32 × mH) := bR (f_X1_isIn x1 (0 : Int32) (3 : Int32) h) fun a1 g1 => if a1 = 0 then some ((-1 : Int32), g1) else (gFr [0] 19 g1 r0).bind fun v3 => (aI .int g1 v3 x1).bind fun v4 => some (v4, g1)
theorem t_X1_told {G : xG} (C0 : xC) {l : Launch} {r0 : Nat} {x1 : Int32} (h : mH) {o : Int32 × mH} (H : f_X1_told r0 x1 h = some o) : XR G l mi_X1_told [.ref r0, .int x1] h (some (.int o.1)) o.2 := by
  refine XR.of C0 (by decide) (Nat.le_of_ble_eq_true rfl) (fun C _ _ _ hE => ?_)
  show X G C mi_X1_told 0 [(0, .ref r0), (1, .int x1)] [] h
  unfold f_X1_told at H
  refine x_iload_n 1 rfl dX1_told_0 ?_
  refine x_iconst (0 : Int32) dX1_told_1 ic_0 ?_
  refine x_iconst (3 : Int32) dX1_told_2 ic_3 ?_
  obtain ⟨a1, g1, e1, H⟩ := obR H
  refine x_callS (M' := mi_X1_isIn) (n := 3) (As := [.int x1, .int (0 : Int32), .int (3 : Int32)]) (t_X1_isIn C _ e1) md_X1_isIn ⟨Nat.le_of_ble_eq_true rfl, Nat.le_of_ble_eq_true rfl⟩ q1126 q921 q120 q922 rfl (Nat.le_of_ble_eq_true rfl) dX1_told_3 ?_
  refine x_if_eq 18 dX1_told_6 (by decide) (fun c2 => ?_) (fun c2 => ?_)
  · rw [if_pos c2] at H
    refine x_iconst (-1 : Int32) dX1_told_18 ic_m1 ?_
    obtain rfl := Option.some.inj H
    exact x_iret hE rfl rfl dX1_told_19
  · rw [if_neg c2] at H
    refine x_aload_n 0 rfl dX1_told_9 ?_
    obtain ⟨v3, e3, H⟩ := ob H
    refine x_getf fg_X1_76 (gFr_spec e3) dX1_told_10 ?_
    refine x_iload_n 1 rfl dX1_told_13 ?_
    obtain ⟨v4, e4, H⟩ := ob H
    refine x_iald e4 dX1_told_14 ?_
    refine x_goto (tgt := 19) dX1_told_15 (by decide) ?_
    obtain rfl := Option.some.inj H
    exact x_iret hE rfl rfl dX1_told_19
abbrev mi_X1_undo : xM := (cX1_undo, yX1_undo, 1, some .int, 4)
theorem md_X1_undo : xMD mi_X1_undo 0 := ⟨by decide, by decide, by decide +kernel⟩
def f_X1_undo (r0 : Nat) (h : mH) : Option (Int32 × mH) := (gFi [0] 8 h r0).bind fun v1 => if v1 = 0 then some ((-1 : Int32), h) else (gFi [0] 8 h r0).bind fun v3 => (pF [0] 8 (.int (v3 - (1 : Int32))) h r0).bind fun h4 => (gFr [0] 4 h4 r0).bind fun v5 => (gFr [0] 7 h4 r0).bind fun v6 => (gFi [0] 8 h4 r0).bind fun v7 => (aR h4 v6 v7).bind fun v8 => if gC h4 v5 = 2 then bR (f_X3_as v5 v8 h4) fun a9 g9 => (gFi [0] 8 g9 r0).bind fun v10 => some (v10, g9) else none
theorem t_X1_undo {G : xG} (C0 : xC) {l : Launch} {r0 : Nat} (h : mH) {o : Int32 × mH} (H : f_X1_undo r0 h = some o) : XR G l mi_X1_undo [.ref r0] h (some (.int o.1)) o.2 := by
  refine XR.of C0 (by decide) (Nat.le_of_ble_eq_true rfl) (fun C _ _ _ hE => ?_)
  show X G C mi_X1_undo 0 [(0, .ref r0)] [] h
  unfold f_X1_undo at H
  refine x_aload_n 0 rfl dX1_undo_0 ?_
  obtain ⟨v1, e1, H⟩ := ob H
  refine x_getf fg_X1_113 (gFi_spec e1) dX1_undo_1 ?_
  refine x_if_ne 9 dX1_undo_4 (by decide) (fun c2 => ?_) (fun c2 => ?_)
  · rw [if_neg c2] at H
    refine x_aload_n 0 rfl dX1_undo_9 ?_
    refine x_dup dX1_undo_10 rfl ?_
    obtain ⟨v3, e3, H⟩ := ob H
    refine x_getf fg_X1_113 (gFi_spec e3) dX1_undo_11 ?_
    refine x_iconst (1 : Int32) dX1_undo_14 ic_1 ?_
    refine x_isub dX1_undo_15 ?_
    obtain ⟨h4, e4, H⟩ := ob H
    refine x_putf (fp_X1_113 _) rfl rfl e4 dX1_undo_16 ?_
    refine x_aload_n 0 rfl dX1_undo_19 ?_
    obtain ⟨v5, e5, H⟩ := ob H
    refine x_getf fg_X1_36 (gFr_spec e5) dX1_undo_20 ?_
    refine x_aload_n 0 rfl dX1_undo_23 ?_
    obtain ⟨v6, e6, H⟩ := ob H
    refine x_getf fg_X1_43 (gFr_spec e6) dX1_undo_24 ?_
    refine x_aload_n 0 rfl dX1_undo_27 ?_
    obtain ⟨v7, e7, H⟩ := ob H
    refine x_getf fg_X1_113 (gFi_spec e7) dX1_undo_28 ?_
    obtain ⟨v8, e8, H⟩ := ob H
    refine x_aald e8 dX1_undo_31 ?_
    obtain ⟨c9, H⟩ := oit H
    obtain ⟨a9, g9, e9, H⟩ := obR H
    refine x_callV (M' := mi_X3_as) (n := 1) (As := [.ref v8]) (t_X3_as C _ e9) c9 rfl rfl md_X3_as ⟨Nat.le_of_ble_eq_true rfl, Nat.le_of_ble_eq_true rfl⟩ q1209 q1210 q1211 q125 q1212 rfl (Nat.le_of_ble_eq_true rfl) dX1_undo_32 ?_
    refine x_pop dX1_undo_35 rfl ?_
    refine x_aload_n 0 rfl dX1_undo_36 ?_
    obtain ⟨v10, e10, H⟩ := ob H
    refine x_getf fg_X1_113 (gFi_spec e10) dX1_undo_37 ?_
    obtain rfl := Option.some.inj H
    exact x_iret hE rfl rfl dX1_undo_40
  · rw [if_pos c2] at H
    refine x_iconst (-1 : Int32) dX1_undo_7 ic_m1 ?_
    obtain rfl := Option.some.inj H
    exact x_iret hE rfl rfl dX1_undo_8
abbrev mi_X1_veil : xM := (cX1_veil, yX1_veil, 2, some .int, 11)
theorem md_X1_veil : xMD mi_X1_veil 1 := ⟨by decide, by decide, by decide +kernel⟩
def f_X1_veil (r0 : Nat) (x1 : Int32) (h : mH) : Option (Int32 × mH) := if gC h r0 = 0 then bR (f_X1_isPerson r0 x1 h) fun a1 g1 => if a1 = 0 then some ((-1 : Int32), g1) else if 6 ≤ g1.2.1 then bR (f_X16_init g1.2.1 x1 (xnw g1 (.inr (14, [.int 0])) 1)) fun a3 g3 => if gC g3 r0 = 0 then bR (f_X1_does r0 g1.2.1 g3) fun a4 g4 => some (a4, g4) else none else none else none
theorem t_X1_veil {G : xG} (C0 : xC) {l : Launch} {r0 : Nat} {x1 : Int32} (h : mH) {o : Int32 × mH} (H : f_X1_veil r0 x1 h = some o) : XR G l mi_X1_veil [.ref r0, .int x1] h (some (.int o.1)) o.2 := by
  refine XR.of C0 (by decide) (Nat.le_of_ble_eq_true rfl) (fun C _ _ _ hE => ?_)
  show X G C mi_X1_veil 0 [(0, .ref r0), (1, .int x1)] [] h
  unfold f_X1_veil at H
  refine x_aload_n 0 rfl dX1_veil_0 ?_
  refine x_iload_n 1 rfl dX1_veil_1 ?_
  obtain ⟨c1, H⟩ := oit H
  obtain ⟨a1, g1, e1, H⟩ := obR H
  refine x_callV (M' := mi_X1_isPerson) (n := 1) (As := [.int x1]) (t_X1_isPerson C _ e1) c1 rfl rfl md_X1_isPerson ⟨Nat.le_of_ble_eq_true rfl, Nat.le_of_ble_eq_true rfl⟩ q1108 q1110 qs19 q120 q1111 rfl (Nat.le_of_ble_eq_true rfl) dX1_veil_2 ?_
  refine x_if_eq 23 dX1_veil_5 (by decide) (fun c2 => ?_) (fun c2 => ?_)
  · rw [if_pos c2] at H
    refine x_iconst (-1 : Int32) dX1_veil_23 ic_m1 ?_
    obtain rfl := Option.some.inj H
    exact x_iret hE rfl rfl dX1_veil_24
  · rw [if_neg c2] at H
    refine x_aload_n 0 rfl dX1_veil_8 ?_
    refine x_new (fs := [.int 0]) ci_14 q1335 q1336 q154 (nf_X16 G) rfl dX1_veil_9 ?_
    refine x_dup dX1_veil_12 rfl ?_
    refine x_iload_n 1 rfl dX1_veil_13 ?_
    obtain ⟨c3, H⟩ := oit H
    obtain ⟨a3, g3, e3, H⟩ := obR H
    refine x_callI (M' := mi_X16_init) (n := 1) (As := [.int x1]) (t_X16_init C _ e3) c3 md_X16_init ⟨Nat.le_of_ble_eq_true rfl, Nat.le_of_ble_eq_true rfl⟩ rfl rfl q1337 q1338 q154 q1339 rfl (Nat.le_of_ble_eq_true rfl) dX1_veil_14 ?_
    obtain ⟨c4, H⟩ := oit H
    obtain ⟨a4, g4, e4, H⟩ := obR H
    refine x_callV (M' := mi_X1_does) (n := 1) (As := [.ref g1.2.1]) (t_X1_does C _ e4) c4 rfl rfl md_X1_does ⟨Nat.le_of_ble_eq_true rfl, Nat.le_of_ble_eq_true rfl⟩ q1205 q1207 qs24 q120 q1208 rfl (Nat.le_of_ble_eq_true rfl) dX1_veil_17 ?_
    refine x_goto (tgt := 24) dX1_veil_20 (by decide) ?_
    obtain rfl := Option.some.inj H
    exact x_iret hE rfl rfl dX1_veil_24
