set_option maxRecDepth 100000
set_option maxHeartbeats 4000000
abbrev mi_X5_bitOf : xM := (cX5_bitOf, yX5_bitOf, 2, some .boolean, 1)
theorem md_X5_bitOf : xMD mi_X5_bitOf 2 := ⟨by decide, by decide, by decide +kernel⟩
def f_X5_bitOf (x0 : Int32) (x1 : Int32) (h : mH) : Option (Int32 × mH) := if ((x0 >>> (x1 &&& 31)) &&& (1 : Int32)) = (1 : Int32) then some ((1 : Int32), h) else some ((0 : Int32), h)
theorem t_X5_bitOf {G : xG} (C0 : xC) {l : Launch} {x0 : Int32} {x1 : Int32} (h : mH) {o : Int32 × mH} (H : f_X5_bitOf x0 x1 h = some o) : XR G l mi_X5_bitOf [.int x0, .int x1] h (some (.int o.1)) o.2 := by
  refine XR.of C0 (by decide) (Nat.le_of_ble_eq_true rfl) (fun C _ _ _ hE => ?_)
  show X G C mi_X5_bitOf 0 [(0, .int x0), (1, .int x1)] [] h
  unfold f_X5_bitOf at H
  refine x_iload_n 0 rfl dX5_bitOf_0 ?_
  refine x_iload_n 1 rfl dX5_bitOf_1 ?_
  refine x_ishr dX5_bitOf_2 ?_
  refine x_iconst (1 : Int32) dX5_bitOf_3 ic_1 ?_
  refine x_iand dX5_bitOf_4 ?_
  refine x_iconst (1 : Int32) dX5_bitOf_5 ic_1 ?_
  refine x_icmp_ne 13 dX5_bitOf_6 (by decide) (fun c1 => ?_) (fun c1 => ?_)
  · rw [if_neg c1] at H
    refine x_iconst (0 : Int32) dX5_bitOf_13 ic_0 ?_
    obtain rfl := Option.some.inj H
    exact x_iret hE rfl rfl dX5_bitOf_14
  · rw [if_pos c1] at H
    refine x_iconst (1 : Int32) dX5_bitOf_9 ic_1 ?_
    refine x_goto (tgt := 14) dX5_bitOf_10 (by decide) ?_
    obtain rfl := Option.some.inj H
    exact x_iret hE rfl rfl dX5_bitOf_14
abbrev mi_X5_knownBy : xM := (cX5_knownBy, yX5_knownBy, 2, some .int, 1)
theorem md_X5_knownBy : xMD mi_X5_knownBy 1 := ⟨by decide, by decide, by decide +kernel⟩
def f_X5_knownBy (r0 : Nat) (x1 : Int32) (h : mH) : Option (Int32 × mH) := (gFr [4] 6 h r0).bind fun v1 => (aI .int h v1 ((117 : Int32) + x1)).bind fun v2 => (gFr [4] 6 h r0).bind fun v3 => (aI .int h v3 ((220 : Int32) + x1)).bind fun v4 => some ((v2 ||| v4), h)
theorem t_X5_knownBy {G : xG} (C0 : xC) {l : Launch} {r0 : Nat} {x1 : Int32} (h : mH) {o : Int32 × mH} (H : f_X5_knownBy r0 x1 h = some o) : XR G l mi_X5_knownBy [.ref r0, .int x1] h (some (.int o.1)) o.2 := by
  refine XR.of C0 (by decide) (Nat.le_of_ble_eq_true rfl) (fun C _ _ _ hE => ?_)
  show X G C mi_X5_knownBy 0 [(0, .ref r0), (1, .int x1)] [] h
  unfold f_X5_knownBy at H
  refine x_aload_n 0 rfl dX5_knownBy_0 ?_
  obtain ⟨v1, e1, H⟩ := ob H
  refine x_getf fg_X5_33 (gFr_spec e1) dX5_knownBy_1 ?_
  refine x_bipush (117 : Int32) dX5_knownBy_4 bi_117 ?_
  refine x_iload_n 1 rfl dX5_knownBy_6 ?_
  refine x_iadd dX5_knownBy_7 ?_
  obtain ⟨v2, e2, H⟩ := ob H
  refine x_iald e2 dX5_knownBy_8 ?_
  refine x_aload_n 0 rfl dX5_knownBy_9 ?_
  obtain ⟨v3, e3, H⟩ := ob H
  refine x_getf fg_X5_33 (gFr_spec e3) dX5_knownBy_10 ?_
  refine x_sipush (220 : Int32) dX5_knownBy_13 si_220 ?_
  refine x_iload_n 1 rfl dX5_knownBy_16 ?_
  refine x_iadd dX5_knownBy_17 ?_
  obtain ⟨v4, e4, H⟩ := ob H
  refine x_iald e4 dX5_knownBy_18 ?_
  refine x_ior dX5_knownBy_19 ?_
  obtain rfl := Option.some.inj H
  exact x_iret hE rfl rfl dX5_knownBy_20
abbrev mi_X5_tolds : xM := (cX5_tolds, yX5_tolds, 5, some .int, 2)
theorem md_X5_tolds : xMD mi_X5_tolds 2 := ⟨by decide, by decide, by decide +kernel⟩
def f_X5_tolds_b44 (x2 : Int32) (x3 : Int32) (h : mH) : Option (Int32 × mH) := some ((x3 &&& (x2 ^^^ (-1 : Int32))), h)
theorem t_X5_tolds_b44 {G : xG} {C : xC} {o : Int32 × mH} (hE : xEnd G C (some (.int o.1)) o.2) (x2 : Int32) (x3 : Int32) (h : mH) (H : f_X5_tolds_b44 x2 x3 h = some o) : X G C mi_X5_tolds 44 [(2, .int x2), (3, .int x3)] [] h := by
  unfold f_X5_tolds_b44 at H
  refine x_iload_n 1 rfl dX5_tolds_44 ?_
  refine x_iload_n 0 rfl dX5_tolds_45 ?_
  refine x_iconst (-1 : Int32) dX5_tolds_46 ic_m1 ?_
  refine x_ixor dX5_tolds_47 ?_
  refine x_iand dX5_tolds_48 ?_
  obtain rfl := Option.some.inj H
  exact x_iret hE rfl rfl dX5_tolds_49
def f_X5_tolds_b36 (kb : Nat → Int32 → Int32 → Int32 → Int32 → mH → Option (Int32 × mH)) (k44 : Int32 → Int32 → mH → Option (Int32 × mH)) (r0 : Nat) (x1 : Int32) (x2 : Int32) (x4 : Int32) (s0 : Int32) (s1 : Int32) (h : mH) : Option (Int32 × mH) := kb r0 x1 x2 (s0 ||| s1) (x4 + (1 : Int32)) h
theorem t_X5_tolds_b36 {G : xG} {C : xC} {o : Int32 × mH} (hE : xEnd G C (some (.int o.1)) o.2) {kb : Nat → Int32 → Int32 → Int32 → Int32 → mH → Option (Int32 × mH)} (hkb : ∀ (r0 : Nat) (x1 : Int32) (x2 : Int32) (x3 : Int32) (x4 : Int32) (h : mH), kb r0 x1 x2 x3 x4 h = some o → X G C mi_X5_tolds 5 [(0, .ref r0), (1, .int x1), (2, .int x2), (3, .int x3), (4, .int x4)] [] h) {k44 : Int32 → Int32 → mH → Option (Int32 × mH)} (hk44 : ∀ (x2 : Int32) (x3 : Int32) (h : mH), k44 x2 x3 h = some o → X G C mi_X5_tolds 44 [(2, .int x2), (3, .int x3)] [] h) (r0 : Nat) (x1 : Int32) (x2 : Int32) (x4 : Int32) (s0 : Int32) (s1 : Int32) (h : mH) (H : f_X5_tolds_b36 kb k44 r0 x1 x2 x4 s0 s1 h = some o) : X G C mi_X5_tolds 36 [(0, .ref r0), (1, .int x1), (2, .int x2), (4, .int x4)] [.int s1, .int s0] h := by
  unfold f_X5_tolds_b36 at H
  refine x_ior dX5_tolds_36 ?_
  refine x_istore_n [1, 2, 3, 0, 4] dX5_tolds_37 (by decide) rfl ?_
  refine x_iinc 4 (x4 + (1 : Int32)) [1, 2, 3, 4, 0] dX5_tolds_38 rfl (ii_1 _) (by decide) rfl ?_
  refine x_goto (tgt := 5) dX5_tolds_41 (by decide) ?_
  exact hkb _ _ _ _ _ _ H
def f_X5_tolds_L5 (k44 : Int32 → Int32 → mH → Option (Int32 × mH)) : Nat → Nat → Int32 → Int32 → Int32 → Int32 → mH → Option (Int32 × mH)
  | 0, _, _, _, _, _, _ => none
  | n + 1, r0, x1, x2, x3, x4, h => (gFr [4] 6 h r0).bind fun v1 => (aI .int h v1 (0 : Int32)).bind fun v2 => if v2 ≤ x4 then k44 x2 x3 h else bR (f_X5_bitOf x1 x4 h) fun a4 g4 => if a4 = 0 then f_X5_tolds_b36 (f_X5_tolds_L5 k44 n) k44 r0 x1 x2 x4 x3 (0 : Int32) g4 else if gC g4 r0 = 4 then bR (f_X5_knownBy r0 x4 g4) fun a6 g6 => f_X5_tolds_b36 (f_X5_tolds_L5 k44 n) k44 r0 x1 x2 x4 x3 a6 g6 else none
theorem t_X5_tolds_L5 {G : xG} {C : xC} {o : Int32 × mH} (hE : xEnd G C (some (.int o.1)) o.2) {k44 : Int32 → Int32 → mH → Option (Int32 × mH)} (hk44 : ∀ (x2 : Int32) (x3 : Int32) (h : mH), k44 x2 x3 h = some o → X G C mi_X5_tolds 44 [(2, .int x2), (3, .int x3)] [] h) : ∀ (n : Nat) (r0 : Nat) (x1 : Int32) (x2 : Int32) (x3 : Int32) (x4 : Int32) (h : mH), f_X5_tolds_L5 k44 n r0 x1 x2 x3 x4 h = some o → X G C mi_X5_tolds 5 [(0, .ref r0), (1, .int x1), (2, .int x2), (3, .int x3), (4, .int x4)] [] h := by
  intro n
  induction n with
  | zero => intro r0 x1 x2 x3 x4 h H; exact nomatch (show (none : Option (Int32 × mH)) = some o from H)
  | succ n ih =>
    intro r0 x1 x2 x3 x4 h H
    rw [f_X5_tolds_L5] at H
    refine x_iload 4 rfl dX5_tolds_5 ?_
    refine x_aload_n 0 rfl dX5_tolds_7 ?_
    obtain ⟨v1, e1, H⟩ := ob H
    refine x_getf fg_X5_33 (gFr_spec e1) dX5_tolds_8 ?_
    refine x_iconst (0 : Int32) dX5_tolds_11 ic_0 ?_
    obtain ⟨v2, e2, H⟩ := ob H
    refine x_iald e2 dX5_tolds_12 ?_
    refine x_icmp_ge 44 dX5_tolds_13 (by decide) (fun c3 => ?_) (fun c3 => ?_)
    · rw [if_pos c3] at H
      refine X.sub [2, 3] rfl ?_
      exact hk44 _ _ _ H
    · rw [if_neg c3] at H
      refine x_iload_n 3 rfl dX5_tolds_16 ?_
      refine x_iload_n 1 rfl dX5_tolds_17 ?_
      refine x_iload 4 rfl dX5_tolds_18 ?_
      obtain ⟨a4, g4, e4, H⟩ := obR H
      refine x_callS (M' := mi_X5_bitOf) (n := 2) (As := [.int x1, .int x4]) (t_X5_bitOf C _ e4) md_X5_bitOf ⟨Nat.le_of_ble_eq_true rfl, Nat.le_of_ble_eq_true rfl⟩ q2173 q2174 q131 q2175 rfl (Nat.le_of_ble_eq_true rfl) dX5_tolds_20 ?_
      refine x_if_eq 35 dX5_tolds_23 (by decide) (fun c5 => ?_) (fun c5 => ?_)
      · rw [if_pos c5] at H
        refine x_iconst (0 : Int32) dX5_tolds_35 ic_0 ?_
        refine X.sub [0, 1, 2, 4] rfl ?_
        exact t_X5_tolds_b36 hE ih hk44 _ _ _ _ _ _ _ H
      · rw [if_neg c5] at H
        refine x_aload_n 0 rfl dX5_tolds_26 ?_
        refine x_iload 4 rfl dX5_tolds_27 ?_
        obtain ⟨c6, H⟩ := oit H
        obtain ⟨a6, g6, e6, H⟩ := obR H
        refine x_callV (M' := mi_X5_knownBy) (n := 1) (As := [.int x4]) (t_X5_knownBy C _ e6) c6 rfl rfl md_X5_knownBy ⟨Nat.le_of_ble_eq_true rfl, Nat.le_of_ble_eq_true rfl⟩ q2208 q2210 qs74 q131 q2211 rfl (Nat.le_of_ble_eq_true rfl) dX5_tolds_29 ?_
        refine x_goto (tgt := 36) dX5_tolds_32 (by decide) ?_
        refine X.sub [0, 1, 2, 4] rfl ?_
        exact t_X5_tolds_b36 hE ih hk44 _ _ _ _ _ _ _ H
def f_X5_tolds (r0 : Nat) (x1 : Int32) (x2 : Int32) (h : mH) : Option (Int32 × mH) := f_X5_tolds_L5 (f_X5_tolds_b44) xFu r0 x1 x2 x1 (0 : Int32) h
theorem t_X5_tolds {G : xG} (C0 : xC) {l : Launch} {r0 : Nat} {x1 : Int32} {x2 : Int32} (h : mH) {o : Int32 × mH} (H : f_X5_tolds r0 x1 x2 h = some o) : XR G l mi_X5_tolds [.ref r0, .int x1, .int x2] h (some (.int o.1)) o.2 := by
  refine XR.of C0 (by decide) (Nat.le_of_ble_eq_true rfl) (fun C _ _ _ hE => ?_)
  show X G C mi_X5_tolds 0 [(0, .ref r0), (1, .int x1), (2, .int x2)] [] h
  unfold f_X5_tolds at H
  refine x_iload_n 1 rfl dX5_tolds_0 ?_
  refine x_istore_n [1, 2, 3, 0] dX5_tolds_1 (by decide) rfl ?_
  refine x_iconst (0 : Int32) dX5_tolds_2 ic_0 ?_
  refine x_istore [1, 2, 3, 4, 0] dX5_tolds_3 (by decide) rfl ?_
  exact t_X5_tolds_L5 hE (t_X5_tolds_b44 hE) xFu _ _ _ _ _ _ H
abbrev mi_X5_areApart : xM := (cX5_areApart, yX5_areApart, 6, some .boolean, 3)
theorem md_X5_areApart : xMD mi_X5_areApart 3 := ⟨by decide, by decide, by decide +kernel⟩
def f_X5_areApart_b30 (x2 : Int32) (x4 : Int32) (h : mH) : Option (Int32 × mH) := bR (f_X5_bitOf x4 x2 h) fun a1 g1 => if a1 = 0 then some ((1 : Int32), g1) else some ((0 : Int32), g1)
theorem t_X5_areApart_b30 {G : xG} {C : xC} {o : Int32 × mH} (hE : xEnd G C (some (.int o.1)) o.2) (x2 : Int32) (x4 : Int32) (h : mH) (H : f_X5_areApart_b30 x2 x4 h = some o) : X G C mi_X5_areApart 30 [(2, .int x2), (4, .int x4)] [] h := by
  unfold f_X5_areApart_b30 at H
  refine x_iload 1 rfl dX5_areApart_30 ?_
  refine x_iload_n 0 rfl dX5_areApart_32 ?_
  obtain ⟨a1, g1, e1, H⟩ := obR H
  refine x_callS (M' := mi_X5_bitOf) (n := 2) (As := [.int x4, .int x2]) (t_X5_bitOf C _ e1) md_X5_bitOf ⟨Nat.le_of_ble_eq_true rfl, Nat.le_of_ble_eq_true rfl⟩ q2173 q2174 q131 q2175 rfl (Nat.le_of_ble_eq_true rfl) dX5_areApart_33 ?_
  refine x_if_ne 43 dX5_areApart_36 (by decide) (fun c2 => ?_) (fun c2 => ?_)
  · rw [if_neg c2] at H
    refine x_iconst (0 : Int32) dX5_areApart_43 ic_0 ?_
    obtain rfl := Option.some.inj H
    exact x_iret hE rfl rfl dX5_areApart_44
  · rw [if_pos c2] at H
    refine x_iconst (1 : Int32) dX5_areApart_39 ic_1 ?_
    refine x_goto (tgt := 44) dX5_areApart_40 (by decide) ?_
    obtain rfl := Option.some.inj H
    exact x_iret hE rfl rfl dX5_areApart_44
def f_X5_areApart_L8 (k30 : Int32 → Int32 → mH → Option (Int32 × mH)) : Nat → Nat → Int32 → Int32 → Int32 → Int32 → mH → Option (Int32 × mH)
  | 0, _, _, _, _, _, _ => none
  | n + 1, r0, x2, x3, x4, x5, h => if (7 : Int32) ≤ x5 then k30 x2 x4 h else if gC h r0 = 4 then bR (f_X5_tolds r0 x4 x3 h) fun a4 g4 => (f_X5_areApart_L8 k30 n) r0 x2 x3 a4 (x5 + (1 : Int32)) g4 else none
theorem t_X5_areApart_L8 {G : xG} {C : xC} {o : Int32 × mH} (hE : xEnd G C (some (.int o.1)) o.2) {k30 : Int32 → Int32 → mH → Option (Int32 × mH)} (hk30 : ∀ (x2 : Int32) (x4 : Int32) (h : mH), k30 x2 x4 h = some o → X G C mi_X5_areApart 30 [(2, .int x2), (4, .int x4)] [] h) : ∀ (n : Nat) (r0 : Nat) (x2 : Int32) (x3 : Int32) (x4 : Int32) (x5 : Int32) (h : mH), f_X5_areApart_L8 k30 n r0 x2 x3 x4 x5 h = some o → X G C mi_X5_areApart 8 [(0, .ref r0), (2, .int x2), (3, .int x3), (4, .int x4), (5, .int x5)] [] h := by
  intro n
  induction n with
  | zero => intro r0 x2 x3 x4 x5 h H; exact nomatch (show (none : Option (Int32 × mH)) = some o from H)
  | succ n ih =>
    intro r0 x2 x3 x4 x5 h H
    rw [f_X5_areApart_L8] at H
    refine x_iload 4 rfl dX5_areApart_8 ?_
    refine x_bipush (7 : Int32) dX5_areApart_10 bi_7 ?_
    refine x_icmp_ge 30 dX5_areApart_12 (by decide) (fun c3 => ?_) (fun c3 => ?_)
    · rw [if_pos c3] at H
      refine X.sub [1, 3] rfl ?_
      exact hk30 _ _ _ H
    · rw [if_neg c3] at H
      refine x_aload_n 0 rfl dX5_areApart_15 ?_
      refine x_iload 3 rfl dX5_areApart_16 ?_
      refine x_iload_n 2 rfl dX5_areApart_18 ?_
      obtain ⟨c4, H⟩ := oit H
      obtain ⟨a4, g4, e4, H⟩ := obR H
      refine x_callV (M' := mi_X5_tolds) (n := 2) (As := [.int x4, .int x3]) (t_X5_tolds C _ e4) c4 rfl rfl md_X5_tolds ⟨Nat.le_of_ble_eq_true rfl, Nat.le_of_ble_eq_true rfl⟩ q2382 q2384 qs98 q131 q2385 rfl (Nat.le_of_ble_eq_true rfl) dX5_areApart_19 ?_
      refine x_istore [1, 2, 3, 0, 4] dX5_areApart_22 (by decide) rfl ?_
      refine x_iinc 4 (x5 + (1 : Int32)) [1, 2, 3, 4, 0] dX5_areApart_24 rfl (ii_1 _) (by decide) rfl ?_
      refine x_goto (tgt := 8) dX5_areApart_27 (by decide) ?_
      exact ih _ _ _ _ _ _ H
def f_X5_areApart (r0 : Nat) (x1 : Int32) (x2 : Int32) (x3 : Int32) (h : mH) : Option (Int32 × mH) := f_X5_areApart_L8 (f_X5_areApart_b30) xFu r0 x2 x3 ((1 : Int32) <<< (x1 &&& 31)) (0 : Int32) h
theorem t_X5_areApart {G : xG} (C0 : xC) {l : Launch} {r0 : Nat} {x1 : Int32} {x2 : Int32} {x3 : Int32} (h : mH) {o : Int32 × mH} (H : f_X5_areApart r0 x1 x2 x3 h = some o) : XR G l mi_X5_areApart [.ref r0, .int x1, .int x2, .int x3] h (some (.int o.1)) o.2 := by
  refine XR.of C0 (by decide) (Nat.le_of_ble_eq_true rfl) (fun C _ _ _ hE => ?_)
  show X G C mi_X5_areApart 0 [(0, .ref r0), (1, .int x1), (2, .int x2), (3, .int x3)] [] h
  unfold f_X5_areApart at H
  refine x_iconst (1 : Int32) dX5_areApart_0 ic_1 ?_
  refine x_iload_n 1 rfl dX5_areApart_1 ?_
  refine x_ishl dX5_areApart_2 ?_
  refine x_istore [1, 2, 3, 4, 0] dX5_areApart_3 (by decide) rfl ?_
  refine x_iconst (0 : Int32) dX5_areApart_5 ic_0 ?_
  refine x_istore [1, 2, 3, 4, 5, 0] dX5_areApart_6 (by decide) rfl ?_
  refine X.sub [0, 2, 3, 4, 5] rfl ?_
  exact t_X5_areApart_L8 hE (t_X5_areApart_b30 hE) xFu _ _ _ _ _ _ H
abbrev mi_X5_bits : xM := (cX5_bits, yX5_bits, 3, some .int, 1)
theorem md_X5_bits : xMD mi_X5_bits 1 := ⟨by decide, by decide, by decide +kernel⟩
def f_X5_bits_L4 : Nat → Int32 → Int32 → mH → Option (Int32 × mH)
  | 0, _, _, _ => none
  | n + 1, x1, x2, h => if x2 = 0 then some (x1, h) else (f_X5_bits_L4 n) (x1 + (1 : Int32)) (x2 &&& (x2 - (1 : Int32))) h
theorem t_X5_bits_L4 {G : xG} {C : xC} {o : Int32 × mH} (hE : xEnd G C (some (.int o.1)) o.2) : ∀ (n : Nat) (x1 : Int32) (x2 : Int32) (h : mH), f_X5_bits_L4 n x1 x2 h = some o → X G C mi_X5_bits 4 [(1, .int x1), (2, .int x2)] [] h := by
  intro n
  induction n with
  | zero => intro x1 x2 h H; exact nomatch (show (none : Option (Int32 × mH)) = some o from H)
  | succ n ih =>
    intro x1 x2 h H
    rw [f_X5_bits_L4] at H
    refine x_iload_n 1 rfl dX5_bits_4 ?_
    refine x_if_eq 20 dX5_bits_5 (by decide) (fun c1 => ?_) (fun c1 => ?_)
    · rw [if_pos c1] at H
      refine x_iload_n 0 rfl dX5_bits_20 ?_
      obtain rfl := Option.some.inj H
      exact x_iret hE rfl rfl dX5_bits_21
    · rw [if_neg c1] at H
      refine x_iinc 0 (x1 + (1 : Int32)) [0, 1] dX5_bits_8 rfl (ii_1 _) (by decide) rfl ?_
      refine x_iload_n 1 rfl dX5_bits_11 ?_
      refine x_iload_n 1 rfl dX5_bits_12 ?_
      refine x_iconst (1 : Int32) dX5_bits_13 ic_1 ?_
      refine x_isub dX5_bits_14 ?_
      refine x_iand dX5_bits_15 ?_
      refine x_istore_n [1, 0] dX5_bits_16 (by decide) rfl ?_
      refine x_goto (tgt := 4) dX5_bits_17 (by decide) ?_
      exact ih _ _ _ H
def f_X5_bits (x0 : Int32) (h : mH) : Option (Int32 × mH) := f_X5_bits_L4  xFu (0 : Int32) x0 h
theorem t_X5_bits {G : xG} (C0 : xC) {l : Launch} {x0 : Int32} (h : mH) {o : Int32 × mH} (H : f_X5_bits x0 h = some o) : XR G l mi_X5_bits [.int x0] h (some (.int o.1)) o.2 := by
  refine XR.of C0 (by decide) (Nat.le_of_ble_eq_true rfl) (fun C _ _ _ hE => ?_)
  show X G C mi_X5_bits 0 [(0, .int x0)] [] h
  unfold f_X5_bits at H
  refine x_iconst (0 : Int32) dX5_bits_0 ic_0 ?_
  refine x_istore_n [1, 0] dX5_bits_1 (by decide) rfl ?_
  refine x_iload_n 0 rfl dX5_bits_2 ?_
  refine x_istore_n [1, 2, 0] dX5_bits_3 (by decide) rfl ?_
  refine X.sub [1, 2] rfl ?_
  exact t_X5_bits_L4 hE  xFu _ _ _ H
abbrev mi_X5_isIn : xM := (cX5_isIn, yX5_isIn, 3, some .boolean, 1)
theorem md_X5_isIn : xMD mi_X5_isIn 3 := ⟨by decide, by decide, by decide +kernel⟩
def f_X5_isIn (x0 : Int32) (x1 : Int32) (x2 : Int32) (h : mH) : Option (Int32 × mH) := if x0 < x1 then some ((0 : Int32), h) else if x2 < x0 then some ((0 : Int32), h) else some ((1 : Int32), h)
theorem t_X5_isIn {G : xG} (C0 : xC) {l : Launch} {x0 : Int32} {x1 : Int32} {x2 : Int32} (h : mH) {o : Int32 × mH} (H : f_X5_isIn x0 x1 x2 h = some o) : XR G l mi_X5_isIn [.int x0, .int x1, .int x2] h (some (.int o.1)) o.2 := by
  refine XR.of C0 (by decide) (Nat.le_of_ble_eq_true rfl) (fun C _ _ _ hE => ?_)
  show X G C mi_X5_isIn 0 [(0, .int x0), (1, .int x1), (2, .int x2)] [] h
  unfold f_X5_isIn at H
  refine x_iload_n 0 rfl dX5_isIn_0 ?_
  refine x_iload_n 1 rfl dX5_isIn_1 ?_
  refine x_icmp_lt 14 dX5_isIn_2 (by decide) (fun c1 => ?_) (fun c1 => ?_)
  · rw [if_pos c1] at H
    refine x_iconst (0 : Int32) dX5_isIn_14 ic_0 ?_
    obtain rfl := Option.some.inj H
    exact x_iret hE rfl rfl dX5_isIn_15
  · rw [if_neg c1] at H
    refine x_iload_n 0 rfl dX5_isIn_5 ?_
    refine x_iload_n 2 rfl dX5_isIn_6 ?_
    refine x_icmp_gt 14 dX5_isIn_7 (by decide) (fun c2 => ?_) (fun c2 => ?_)
    · rw [if_pos c2] at H
      refine x_iconst (0 : Int32) dX5_isIn_14 ic_0 ?_
      obtain rfl := Option.some.inj H
      exact x_iret hE rfl rfl dX5_isIn_15
    · rw [if_neg c2] at H
      refine x_iconst (1 : Int32) dX5_isIn_10 ic_1 ?_
      refine x_goto (tgt := 15) dX5_isIn_11 (by decide) ?_
      obtain rfl := Option.some.inj H
      exact x_iret hE rfl rfl dX5_isIn_15
abbrev mi_X5_isPerson : xM := (cX5_isPerson, yX5_isPerson, 2, some .boolean, 2)
theorem md_X5_isPerson : xMD mi_X5_isPerson 1 := ⟨by decide, by decide, by decide +kernel⟩
def f_X5_isPerson (r0 : Nat) (x1 : Int32) (h : mH) : Option (Int32 × mH) := (gFr [4] 6 h r0).bind fun v1 => (aI .int h v1 (0 : Int32)).bind fun v2 => bR (f_X5_isIn x1 (0 : Int32) (v2 - (1 : Int32)) h) fun a3 g3 => rZ a3 g3
theorem t_X5_isPerson {G : xG} (C0 : xC) {l : Launch} {r0 : Nat} {x1 : Int32} (h : mH) {o : Int32 × mH} (H : f_X5_isPerson r0 x1 h = some o) : XR G l mi_X5_isPerson [.ref r0, .int x1] h (some (.int o.1)) o.2 := by
  refine XR.of C0 (by decide) (Nat.le_of_ble_eq_true rfl) (fun C _ _ _ hE => ?_)
  show X G C mi_X5_isPerson 0 [(0, .ref r0), (1, .int x1)] [] h
  unfold f_X5_isPerson at H
  refine x_iload_n 1 rfl dX5_isPerson_0 ?_
  refine x_iconst (0 : Int32) dX5_isPerson_1 ic_0 ?_
  refine x_aload_n 0 rfl dX5_isPerson_2 ?_
  obtain ⟨v1, e1, H⟩ := ob H
  refine x_getf fg_X5_33 (gFr_spec e1) dX5_isPerson_3 ?_
  refine x_iconst (0 : Int32) dX5_isPerson_6 ic_0 ?_
  obtain ⟨v2, e2, H⟩ := ob H
  refine x_iald e2 dX5_isPerson_7 ?_
  refine x_iconst (1 : Int32) dX5_isPerson_8 ic_1 ?_
  refine x_isub dX5_isPerson_9 ?_
  obtain ⟨a3, g3, e3, H⟩ := obR H
  refine x_callS (M' := mi_X5_isIn) (n := 3) (As := [.int x1, .int (0 : Int32), .int (v2 - (1 : Int32))]) (t_X5_isIn C _ e3) md_X5_isIn ⟨Nat.le_of_ble_eq_true rfl, Nat.le_of_ble_eq_true rfl⟩ q2150 q2151 q131 q2152 rfl (Nat.le_of_ble_eq_true rfl) dX5_isPerson_10 ?_
  obtain ⟨c, rfl⟩ := rZ_spec H
  exact x_iret hE rfl c dX5_isPerson_13
abbrev mi_X5_apart : xM := (cX5_apart, yX5_apart, 5, some .int, 4)
theorem md_X5_apart : xMD mi_X5_apart 2 := ⟨by decide, by decide, by decide +kernel⟩
def f_X5_apart_b112 (r0 : Nat) (x3 : Int32) (h : mH) : Option (Int32 × mH) := (pF [4] 35 (.int (1 : Int32)) h r0).bind fun h10 => (pF [4] 34 (.int x3) h10 r0).bind fun h11 => bR (f_X5_bits x3 h11) fun a12 g12 => some (a12, g12)
theorem t_X5_apart_b112 {G : xG} {C : xC} {o : Int32 × mH} (hE : xEnd G C (some (.int o.1)) o.2) (r0 : Nat) (x3 : Int32) (h : mH) (H : f_X5_apart_b112 r0 x3 h = some o) : X G C mi_X5_apart 112 [(0, .ref r0), (3, .int x3)] [] h := by
  unfold f_X5_apart_b112 at H
  refine x_aload_n 0 rfl dX5_apart_112 ?_
  refine x_iconst (1 : Int32) dX5_apart_113 ic_1 ?_
  obtain ⟨h10, e10, H⟩ := ob H
  refine x_putf (fp_X5_376 _) rfl rfl e10 dX5_apart_114 ?_
  refine x_aload_n 0 rfl dX5_apart_117 ?_
  refine x_iload_n 1 rfl dX5_apart_118 ?_
  obtain ⟨h11, e11, H⟩ := ob H
  refine x_putf (fp_X5_379 _) rfl rfl e11 dX5_apart_119 ?_
  refine x_iload_n 1 rfl dX5_apart_122 ?_
  obtain ⟨a12, g12, e12, H⟩ := obR H
  refine x_callS (M' := mi_X5_bits) (n := 1) (As := [.int x3]) (t_X5_bits C _ e12) md_X5_bits ⟨Nat.le_of_ble_eq_true rfl, Nat.le_of_ble_eq_true rfl⟩ q2236 q2237 q131 q2238 rfl (Nat.le_of_ble_eq_true rfl) dX5_apart_123 ?_
  obtain rfl := Option.some.inj H
  exact x_iret hE rfl rfl dX5_apart_126
def f_X5_apart_b106 (kb : Nat → Int32 → Int32 → Int32 → Int32 → mH → Option (Int32 × mH)) (k112 : Nat → Int32 → mH → Option (Int32 × mH)) (r0 : Nat) (x1 : Int32) (x2 : Int32) (x3 : Int32) (x4 : Int32) (h : mH) : Option (Int32 × mH) := kb r0 x1 x2 x3 (x4 + (1 : Int32)) h
theorem t_X5_apart_b106 {G : xG} {C : xC} {o : Int32 × mH} (hE : xEnd G C (some (.int o.1)) o.2) {kb : Nat → Int32 → Int32 → Int32 → Int32 → mH → Option (Int32 × mH)} (hkb : ∀ (r0 : Nat) (x1 : Int32) (x2 : Int32) (x3 : Int32) (x4 : Int32) (h : mH), kb r0 x1 x2 x3 x4 h = some o → X G C mi_X5_apart 45 [(0, .ref r0), (1, .int x1), (2, .int x2), (3, .int x3), (4, .int x4)] [] h) {k112 : Nat → Int32 → mH → Option (Int32 × mH)} (hk112 : ∀ (r0 : Nat) (x3 : Int32) (h : mH), k112 r0 x3 h = some o → X G C mi_X5_apart 112 [(0, .ref r0), (3, .int x3)] [] h) (r0 : Nat) (x1 : Int32) (x2 : Int32) (x3 : Int32) (x4 : Int32) (h : mH) (H : f_X5_apart_b106 kb k112 r0 x1 x2 x3 x4 h = some o) : X G C mi_X5_apart 106 [(0, .ref r0), (1, .int x1), (2, .int x2), (3, .int x3), (4, .int x4)] [] h := by
  unfold f_X5_apart_b106 at H
  refine x_iinc 4 (x4 + (1 : Int32)) [1, 2, 3, 4, 0] dX5_apart_106 rfl (ii_1 _) (by decide) rfl ?_
  refine x_goto (tgt := 45) dX5_apart_109 (by decide) ?_
  exact hkb _ _ _ _ _ _ H
def f_X5_apart_b92 (kb : Nat → Int32 → Int32 → Int32 → Int32 → mH → Option (Int32 × mH)) (k112 : Nat → Int32 → mH → Option (Int32 × mH)) (r0 : Nat) (x1 : Int32) (x2 : Int32) (x3 : Int32) (x4 : Int32) (h : mH) : Option (Int32 × mH) := if gC h r0 = 4 then bR (f_X5_areApart r0 x1 x2 x4 h) fun a21 g21 => if a21 = 0 then f_X5_apart_b106 kb k112 r0 x1 x2 x3 x4 g21 else f_X5_apart_b106 kb k112 r0 x1 x2 x4 x4 g21 else none
theorem t_X5_apart_b92 {G : xG} {C : xC} {o : Int32 × mH} (hE : xEnd G C (some (.int o.1)) o.2) {kb : Nat → Int32 → Int32 → Int32 → Int32 → mH → Option (Int32 × mH)} (hkb : ∀ (r0 : Nat) (x1 : Int32) (x2 : Int32) (x3 : Int32) (x4 : Int32) (h : mH), kb r0 x1 x2 x3 x4 h = some o → X G C mi_X5_apart 45 [(0, .ref r0), (1, .int x1), (2, .int x2), (3, .int x3), (4, .int x4)] [] h) {k112 : Nat → Int32 → mH → Option (Int32 × mH)} (hk112 : ∀ (r0 : Nat) (x3 : Int32) (h : mH), k112 r0 x3 h = some o → X G C mi_X5_apart 112 [(0, .ref r0), (3, .int x3)] [] h) (r0 : Nat) (x1 : Int32) (x2 : Int32) (x3 : Int32) (x4 : Int32) (h : mH) (H : f_X5_apart_b92 kb k112 r0 x1 x2 x3 x4 h = some o) : X G C mi_X5_apart 92 [(0, .ref r0), (1, .int x1), (2, .int x2), (3, .int x3), (4, .int x4)] [] h := by
  unfold f_X5_apart_b92 at H
  refine x_aload_n 0 rfl dX5_apart_92 ?_
  refine x_iload_n 1 rfl dX5_apart_93 ?_
  refine x_iload_n 2 rfl dX5_apart_94 ?_
  refine x_iload 4 rfl dX5_apart_95 ?_
  obtain ⟨c21, H⟩ := oit H
  obtain ⟨a21, g21, e21, H⟩ := obR H
  refine x_callV (M' := mi_X5_areApart) (n := 3) (As := [.int x1, .int x2, .int x4]) (t_X5_areApart C _ e21) c21 rfl rfl md_X5_areApart ⟨Nat.le_of_ble_eq_true rfl, Nat.le_of_ble_eq_true rfl⟩ q2390 q2392 qs99 q131 q2393 rfl (Nat.le_of_ble_eq_true rfl) dX5_apart_97 ?_
  refine x_if_eq 106 dX5_apart_100 (by decide) (fun c22 => ?_) (fun c22 => ?_)
  · rw [if_pos c22] at H
    exact t_X5_apart_b106 hE hkb hk112 _ _ _ _ _ _ H
  · rw [if_neg c22] at H
    refine x_iload 4 rfl dX5_apart_103 ?_
    refine x_istore_n [1, 2, 3, 0, 4] dX5_apart_105 (by decide) rfl ?_
    exact t_X5_apart_b106 hE hkb hk112 _ _ _ _ _ _ H
def f_X5_apart_L45 (k112 : Nat → Int32 → mH → Option (Int32 × mH)) : Nat → Nat → Int32 → Int32 → Int32 → Int32 → mH → Option (Int32 × mH)
  | 0, _, _, _, _, _, _ => none
  | n + 1, r0, x1, x2, x3, x4, h => (gFr [4] 6 h r0).bind fun v13 => (aI .int h v13 (0 : Int32)).bind fun v14 => if ((1 : Int32) <<< (v14 &&& 31)) ≤ x4 then k112 r0 x3 h else bR (f_X5_bitOf x4 x1 h) fun a16 g16 => if a16 = 0 then bR (f_X5_bitOf x4 x2 g16) fun a18 g18 => if a18 = 0 then if x3 < 0 then f_X5_apart_b92 (f_X5_apart_L45 k112 n) k112 r0 x1 x2 x3 x4 g18 else bR (f_X5_bits x4 g18) fun a23 g23 => bR (f_X5_bits x3 g23) fun a24 g24 => if a24 ≤ a23 then f_X5_apart_b106 (f_X5_apart_L45 k112 n) k112 r0 x1 x2 x3 x4 g24 else f_X5_apart_b92 (f_X5_apart_L45 k112 n) k112 r0 x1 x2 x3 x4 g24 else f_X5_apart_b106 (f_X5_apart_L45 k112 n) k112 r0 x1 x2 x3 x4 g18 else f_X5_apart_b106 (f_X5_apart_L45 k112 n) k112 r0 x1 x2 x3 x4 g16
theorem t_X5_apart_L45 {G : xG} {C : xC} {o : Int32 × mH} (hE : xEnd G C (some (.int o.1)) o.2) {k112 : Nat → Int32 → mH → Option (Int32 × mH)} (hk112 : ∀ (r0 : Nat) (x3 : Int32) (h : mH), k112 r0 x3 h = some o → X G C mi_X5_apart 112 [(0, .ref r0), (3, .int x3)] [] h) : ∀ (n : Nat) (r0 : Nat) (x1 : Int32) (x2 : Int32) (x3 : Int32) (x4 : Int32) (h : mH), f_X5_apart_L45 k112 n r0 x1 x2 x3 x4 h = some o → X G C mi_X5_apart 45 [(0, .ref r0), (1, .int x1), (2, .int x2), (3, .int x3), (4, .int x4)] [] h := by
  intro n
  induction n with
  | zero => intro r0 x1 x2 x3 x4 h H; exact nomatch (show (none : Option (Int32 × mH)) = some o from H)
  | succ n ih =>
    intro r0 x1 x2 x3 x4 h H
    rw [f_X5_apart_L45] at H
    refine x_iload 4 rfl dX5_apart_45 ?_
    refine x_iconst (1 : Int32) dX5_apart_47 ic_1 ?_
    refine x_aload_n 0 rfl dX5_apart_48 ?_
    obtain ⟨v13, e13, H⟩ := ob H
    refine x_getf fg_X5_33 (gFr_spec e13) dX5_apart_49 ?_
    refine x_iconst (0 : Int32) dX5_apart_52 ic_0 ?_
    obtain ⟨v14, e14, H⟩ := ob H
    refine x_iald e14 dX5_apart_53 ?_
    refine x_ishl dX5_apart_54 ?_
    refine x_icmp_ge 112 dX5_apart_55 (by decide) (fun c15 => ?_) (fun c15 => ?_)
    · rw [if_pos c15] at H
      refine X.sub [0, 3] rfl ?_
      exact hk112 _ _ _ H
    · rw [if_neg c15] at H
      refine x_iload 4 rfl dX5_apart_58 ?_
      refine x_iload_n 1 rfl dX5_apart_60 ?_
      obtain ⟨a16, g16, e16, H⟩ := obR H
      refine x_callS (M' := mi_X5_bitOf) (n := 2) (As := [.int x4, .int x1]) (t_X5_bitOf C _ e16) md_X5_bitOf ⟨Nat.le_of_ble_eq_true rfl, Nat.le_of_ble_eq_true rfl⟩ q2173 q2174 q131 q2175 rfl (Nat.le_of_ble_eq_true rfl) dX5_apart_61 ?_
      refine x_if_ne 106 dX5_apart_64 (by decide) (fun c17 => ?_) (fun c17 => ?_)
      · rw [if_neg c17] at H
        exact t_X5_apart_b106 hE ih hk112 _ _ _ _ _ _ H
      · rw [if_pos c17] at H
        refine x_iload 4 rfl dX5_apart_67 ?_
        refine x_iload_n 2 rfl dX5_apart_69 ?_
        obtain ⟨a18, g18, e18, H⟩ := obR H
        refine x_callS (M' := mi_X5_bitOf) (n := 2) (As := [.int x4, .int x2]) (t_X5_bitOf C _ e18) md_X5_bitOf ⟨Nat.le_of_ble_eq_true rfl, Nat.le_of_ble_eq_true rfl⟩ q2173 q2174 q131 q2175 rfl (Nat.le_of_ble_eq_true rfl) dX5_apart_70 ?_
        refine x_if_ne 106 dX5_apart_73 (by decide) (fun c19 => ?_) (fun c19 => ?_)
        · rw [if_neg c19] at H
          exact t_X5_apart_b106 hE ih hk112 _ _ _ _ _ _ H
        · rw [if_pos c19] at H
          refine x_iload_n 3 rfl dX5_apart_76 ?_
          refine x_if_lt 92 dX5_apart_77 (by decide) (fun c20 => ?_) (fun c20 => ?_)
          · rw [if_pos c20] at H
            exact t_X5_apart_b92 hE ih hk112 _ _ _ _ _ _ H
          · rw [if_neg c20] at H
            refine x_iload 4 rfl dX5_apart_80 ?_
            obtain ⟨a23, g23, e23, H⟩ := obR H
            refine x_callS (M' := mi_X5_bits) (n := 1) (As := [.int x4]) (t_X5_bits C _ e23) md_X5_bits ⟨Nat.le_of_ble_eq_true rfl, Nat.le_of_ble_eq_true rfl⟩ q2236 q2237 q131 q2238 rfl (Nat.le_of_ble_eq_true rfl) dX5_apart_82 ?_
            refine x_iload_n 3 rfl dX5_apart_85 ?_
            obtain ⟨a24, g24, e24, H⟩ := obR H
            refine x_callS (M' := mi_X5_bits) (n := 1) (As := [.int x3]) (t_X5_bits C _ e24) md_X5_bits ⟨Nat.le_of_ble_eq_true rfl, Nat.le_of_ble_eq_true rfl⟩ q2236 q2237 q131 q2238 rfl (Nat.le_of_ble_eq_true rfl) dX5_apart_86 ?_
            refine x_icmp_ge 106 dX5_apart_89 (by decide) (fun c25 => ?_) (fun c25 => ?_)
            · rw [if_pos c25] at H
              exact t_X5_apart_b106 hE ih hk112 _ _ _ _ _ _ H
            · rw [if_neg c25] at H
              exact t_X5_apart_b92 hE ih hk112 _ _ _ _ _ _ H
def f_X5_apart (r0 : Nat) (x1 : Int32) (x2 : Int32) (h : mH) : Option (Int32 × mH) := (pF [4] 0 (.int (0 : Int32)) h r0).bind fun h1 => if gC h1 r0 = 4 then bR (f_X5_isPerson r0 x1 h1) fun a2 g2 => if a2 = 0 then some ((-1 : Int32), g2) else if gC g2 r0 = 4 then bR (f_X5_isPerson r0 x2 g2) fun a4 g4 => if a4 = 0 then some ((-1 : Int32), g4) else if x1 = x2 then some ((-1 : Int32), g4) else if gC g4 r0 = 4 then bR (f_X5_knownBy r0 x1 g4) fun a7 g7 => bR (f_X5_bitOf a7 x2 g7) fun a8 g8 => if a8 = 0 then f_X5_apart_L45 (f_X5_apart_b112) xFu r0 x1 x2 (-1 : Int32) (0 : Int32) g8 else some ((-1 : Int32), g8) else none else none else none
theorem t_X5_apart {G : xG} (C0 : xC) {l : Launch} {r0 : Nat} {x1 : Int32} {x2 : Int32} (h : mH) {o : Int32 × mH} (H : f_X5_apart r0 x1 x2 h = some o) : XR G l mi_X5_apart [.ref r0, .int x1, .int x2] h (some (.int o.1)) o.2 := by
  refine XR.of C0 (by decide) (Nat.le_of_ble_eq_true rfl) (fun C _ _ _ hE => ?_)
  show X G C mi_X5_apart 0 [(0, .ref r0), (1, .int x1), (2, .int x2)] [] h
  unfold f_X5_apart at H
  refine x_aload_n 0 rfl dX5_apart_0 ?_
  refine x_iconst (0 : Int32) dX5_apart_1 ic_0 ?_
  obtain ⟨h1, e1, H⟩ := ob H
  refine x_putf (fp_X5_1 _) rfl rfl e1 dX5_apart_2 ?_
  refine x_aload_n 0 rfl dX5_apart_5 ?_
  refine x_iload_n 1 rfl dX5_apart_6 ?_
  obtain ⟨c2, H⟩ := oit H
  obtain ⟨a2, g2, e2, H⟩ := obR H
  refine x_callV (M' := mi_X5_isPerson) (n := 1) (As := [.int x1]) (t_X5_isPerson C _ e2) c2 rfl rfl md_X5_isPerson ⟨Nat.le_of_ble_eq_true rfl, Nat.le_of_ble_eq_true rfl⟩ q2200 q2202 qs72 q131 q2203 rfl (Nat.le_of_ble_eq_true rfl) dX5_apart_7 ?_
  refine x_if_eq 38 dX5_apart_10 (by decide) (fun c3 => ?_) (fun c3 => ?_)
  · rw [if_pos c3] at H
    refine x_iconst (-1 : Int32) dX5_apart_38 ic_m1 ?_
    obtain rfl := Option.some.inj H
    exact x_iret hE rfl rfl dX5_apart_39
  · rw [if_neg c3] at H
    refine x_aload_n 0 rfl dX5_apart_13 ?_
    refine x_iload_n 2 rfl dX5_apart_14 ?_
    obtain ⟨c4, H⟩ := oit H
    obtain ⟨a4, g4, e4, H⟩ := obR H
    refine x_callV (M' := mi_X5_isPerson) (n := 1) (As := [.int x2]) (t_X5_isPerson C _ e4) c4 rfl rfl md_X5_isPerson ⟨Nat.le_of_ble_eq_true rfl, Nat.le_of_ble_eq_true rfl⟩ q2200 q2202 qs72 q131 q2203 rfl (Nat.le_of_ble_eq_true rfl) dX5_apart_15 ?_
    refine x_if_eq 38 dX5_apart_18 (by decide) (fun c5 => ?_) (fun c5 => ?_)
    · rw [if_pos c5] at H
      refine x_iconst (-1 : Int32) dX5_apart_38 ic_m1 ?_
      obtain rfl := Option.some.inj H
      exact x_iret hE rfl rfl dX5_apart_39
    · rw [if_neg c5] at H
      refine x_iload_n 1 rfl dX5_apart_21 ?_
      refine x_iload_n 2 rfl dX5_apart_22 ?_
      refine x_icmp_eq 38 dX5_apart_23 (by decide) (fun c6 => ?_) (fun c6 => ?_)
      · rw [if_pos c6] at H
        refine x_iconst (-1 : Int32) dX5_apart_38 ic_m1 ?_
        obtain rfl := Option.some.inj H
        exact x_iret hE rfl rfl dX5_apart_39
      · rw [if_neg c6] at H
        refine x_aload_n 0 rfl dX5_apart_26 ?_
        refine x_iload_n 1 rfl dX5_apart_27 ?_
        obtain ⟨c7, H⟩ := oit H
        obtain ⟨a7, g7, e7, H⟩ := obR H
        refine x_callV (M' := mi_X5_knownBy) (n := 1) (As := [.int x1]) (t_X5_knownBy C _ e7) c7 rfl rfl md_X5_knownBy ⟨Nat.le_of_ble_eq_true rfl, Nat.le_of_ble_eq_true rfl⟩ q2208 q2210 qs74 q131 q2211 rfl (Nat.le_of_ble_eq_true rfl) dX5_apart_28 ?_
        refine x_iload_n 2 rfl dX5_apart_31 ?_
        obtain ⟨a8, g8, e8, H⟩ := obR H
        refine x_callS (M' := mi_X5_bitOf) (n := 2) (As := [.int a7, .int x2]) (t_X5_bitOf C _ e8) md_X5_bitOf ⟨Nat.le_of_ble_eq_true rfl, Nat.le_of_ble_eq_true rfl⟩ q2173 q2174 q131 q2175 rfl (Nat.le_of_ble_eq_true rfl) dX5_apart_32 ?_
        refine x_if_eq 40 dX5_apart_35 (by decide) (fun c9 => ?_) (fun c9 => ?_)
        · rw [if_pos c9] at H
          refine x_iconst (-1 : Int32) dX5_apart_40 ic_m1 ?_
          refine x_istore_n [1, 2, 3, 0] dX5_apart_41 (by decide) rfl ?_
          refine x_iconst (0 : Int32) dX5_apart_42 ic_0 ?_
          refine x_istore [1, 2, 3, 4, 0] dX5_apart_43 (by decide) rfl ?_
          exact t_X5_apart_L45 hE (t_X5_apart_b112 hE) xFu _ _ _ _ _ _ H
        · rw [if_neg c9] at H
          refine x_iconst (-1 : Int32) dX5_apart_38 ic_m1 ?_
          obtain rfl := Option.some.inj H
          exact x_iret hE rfl rfl dX5_apart_39
abbrev mi_X5_ask : xM := (cX5_ask, yX5_ask, 1, some .int, 1)
theorem md_X5_ask : xMD mi_X5_ask 0 := ⟨by decide, by decide, by decide +kernel⟩
def f_X5_ask (r0 : Nat) (h : mH) : Option (Int32 × mH) := (pF [4] 0 (.int (0 : Int32)) h r0).bind fun h1 => (gFi [4] 28 h1 r0).bind fun v2 => if v2 = 0 then some ((-1 : Int32), h1) else (gFi [4] 27 h1 r0).bind fun v4 => some (v4, h1)
theorem t_X5_ask {G : xG} (C0 : xC) {l : Launch} {r0 : Nat} (h : mH) {o : Int32 × mH} (H : f_X5_ask r0 h = some o) : XR G l mi_X5_ask [.ref r0] h (some (.int o.1)) o.2 := by
  refine XR.of C0 (by decide) (Nat.le_of_ble_eq_true rfl) (fun C _ _ _ hE => ?_)
  show X G C mi_X5_ask 0 [(0, .ref r0)] [] h
  unfold f_X5_ask at H
  refine x_aload_n 0 rfl dX5_ask_0 ?_
  refine x_iconst (0 : Int32) dX5_ask_1 ic_0 ?_
  obtain ⟨h1, e1, H⟩ := ob H
  refine x_putf (fp_X5_1 _) rfl rfl e1 dX5_ask_2 ?_
  refine x_aload_n 0 rfl dX5_ask_5 ?_
  obtain ⟨v2, e2, H⟩ := ob H
  refine x_getf fg_X5_351 (gFi_spec e2) dX5_ask_6 ?_
  refine x_if_eq 19 dX5_ask_9 (by decide) (fun c3 => ?_) (fun c3 => ?_)
  · rw [if_pos c3] at H
    refine x_iconst (-1 : Int32) dX5_ask_19 ic_m1 ?_
    obtain rfl := Option.some.inj H
    exact x_iret hE rfl rfl dX5_ask_20
  · rw [if_neg c3] at H
    refine x_aload_n 0 rfl dX5_ask_12 ?_
    obtain ⟨v4, e4, H⟩ := ob H
    refine x_getf fg_X5_355 (gFi_spec e4) dX5_ask_13 ?_
    refine x_goto (tgt := 20) dX5_ask_16 (by decide) ?_
    obtain rfl := Option.some.inj H
    exact x_iret hE rfl rfl dX5_ask_20
abbrev mi_X5_back : xM := (cX5_back, yX5_back, 2, none, 1)
theorem md_X5_back : xMD mi_X5_back 0 := ⟨by decide, by decide, by decide +kernel⟩
def f_X5_back_L2 : Nat → Nat → Int32 → mH → Option (Unit × mH)
  | 0, _, _, _ => none
  | n + 1, r0, x1, h => if (145 : Int32) ≤ x1 then some ((), h) else (gFr [4] 6 h r0).bind fun v2 => (gFr [4] 22 h r0).bind fun v3 => (aI .int h v3 x1).bind fun v4 => (sI .int h v2 ((131 : Int32) + x1) v4).bind fun h5 => (f_X5_back_L2 n) r0 (x1 + (1 : Int32)) h5
theorem t_X5_back_L2 {G : xG} {C : xC} {o : Unit × mH} (hE : xEnd G C none o.2) : ∀ (n : Nat) (r0 : Nat) (x1 : Int32) (h : mH), f_X5_back_L2 n r0 x1 h = some o → X G C mi_X5_back 2 [(0, .ref r0), (1, .int x1)] [] h := by
  intro n
  induction n with
  | zero => intro r0 x1 h H; exact nomatch (show (none : Option (Unit × mH)) = some o from H)
  | succ n ih =>
    intro r0 x1 h H
    rw [f_X5_back_L2] at H
    refine x_iload_n 1 rfl dX5_back_2 ?_
    refine x_sipush (145 : Int32) dX5_back_3 si_145 ?_
    refine x_icmp_ge 31 dX5_back_6 (by decide) (fun c1 => ?_) (fun c1 => ?_)
    · rw [if_pos c1] at H
      obtain rfl := Option.some.inj H
      exact x_vret hE rfl dX5_back_31
    · rw [if_neg c1] at H
      refine x_aload_n 0 rfl dX5_back_9 ?_
      obtain ⟨v2, e2, H⟩ := ob H
      refine x_getf fg_X5_33 (gFr_spec e2) dX5_back_10 ?_
      refine x_sipush (131 : Int32) dX5_back_13 si_131 ?_
      refine x_iload_n 1 rfl dX5_back_16 ?_
      refine x_iadd dX5_back_17 ?_
      refine x_aload_n 0 rfl dX5_back_18 ?_
      obtain ⟨v3, e3, H⟩ := ob H
      refine x_getf fg_X5_53 (gFr_spec e3) dX5_back_19 ?_
      refine x_iload_n 1 rfl dX5_back_22 ?_
      obtain ⟨v4, e4, H⟩ := ob H
      refine x_iald e4 dX5_back_23 ?_
      obtain ⟨h5, e5, H⟩ := ob H
      refine x_iast e5 dX5_back_24 ?_
      refine x_iinc 1 (x1 + (1 : Int32)) [1, 0] dX5_back_25 rfl (ii_1 _) (by decide) rfl ?_
      refine x_goto (tgt := 2) dX5_back_28 (by decide) ?_
      exact ih _ _ _ H
def f_X5_back (r0 : Nat) (h : mH) : Option (Unit × mH) := f_X5_back_L2  xFu r0 (0 : Int32) h
theorem t_X5_back {G : xG} (C0 : xC) {l : Launch} {r0 : Nat} (h : mH) {o : Unit × mH} (H : f_X5_back r0 h = some o) : XR G l mi_X5_back [.ref r0] h none o.2 := by
  refine XR.of C0 (by decide) (Nat.le_of_ble_eq_true rfl) (fun C _ _ _ hE => ?_)
  show X G C mi_X5_back 0 [(0, .ref r0)] [] h
  unfold f_X5_back at H
  refine x_iconst (0 : Int32) dX5_back_0 ic_0 ?_
  refine x_istore_n [1, 0] dX5_back_1 (by decide) rfl ?_
  exact t_X5_back_L2 hE  xFu _ _ _ H
abbrev mi_X5_bad : xM := (cX5_bad, yX5_bad, 2, some .boolean, 1)
theorem md_X5_bad : xMD mi_X5_bad 1 := ⟨by decide, by decide, by decide +kernel⟩
def f_X5_bad (r0 : Nat) (x1 : Int32) (h : mH) : Option (Int32 × mH) := (pF [4] 15 (.int x1) h r0).bind fun h1 => (gFi [4] 12 h1 r0).bind fun v2 => (pF [4] 16 (.int v2) h1 r0).bind fun h3 => some ((0 : Int32), h3)
theorem t_X5_bad {G : xG} (C0 : xC) {l : Launch} {r0 : Nat} {x1 : Int32} (h : mH) {o : Int32 × mH} (H : f_X5_bad r0 x1 h = some o) : XR G l mi_X5_bad [.ref r0, .int x1] h (some (.int o.1)) o.2 := by
  refine XR.of C0 (by decide) (Nat.le_of_ble_eq_true rfl) (fun C _ _ _ hE => ?_)
  show X G C mi_X5_bad 0 [(0, .ref r0), (1, .int x1)] [] h
  unfold f_X5_bad at H
  refine x_aload_n 0 rfl dX5_bad_0 ?_
  refine x_iload_n 1 rfl dX5_bad_1 ?_
  obtain ⟨h1, e1, H⟩ := ob H
  refine x_putf (fp_X5_174 _) rfl rfl e1 dX5_bad_2 ?_
  refine x_aload_n 0 rfl dX5_bad_5 ?_
  refine x_aload_n 0 rfl dX5_bad_6 ?_
  obtain ⟨v2, e2, H⟩ := ob H
  refine x_getf fg_X5_151 (gFi_spec e2) dX5_bad_7 ?_
  obtain ⟨h3, e3, H⟩ := ob H
  refine x_putf (fp_X5_177 _) rfl rfl e3 dX5_bad_10 ?_
  refine x_iconst (0 : Int32) dX5_bad_13 ic_0 ?_
  obtain rfl := Option.some.inj H
  exact x_iret hE rfl rfl dX5_bad_14
abbrev mi_X5_isSign : xM := (cX5_isSign, yX5_isSign, 2, some .boolean, 1)
theorem md_X5_isSign : xMD mi_X5_isSign 1 := ⟨by decide, by decide, by decide +kernel⟩
def f_X5_isSign (r0 : Nat) (x1 : Int32) (h : mH) : Option (Int32 × mH) := (gFi [4] 11 h r0).bind fun v1 => if v1 = (3 : Int32) then (gFi [4] 14 h r0).bind fun v3 => if v3 = x1 then some ((1 : Int32), h) else some ((0 : Int32), h) else some ((0 : Int32), h)
theorem t_X5_isSign {G : xG} (C0 : xC) {l : Launch} {r0 : Nat} {x1 : Int32} (h : mH) {o : Int32 × mH} (H : f_X5_isSign r0 x1 h = some o) : XR G l mi_X5_isSign [.ref r0, .int x1] h (some (.int o.1)) o.2 := by
  refine XR.of C0 (by decide) (Nat.le_of_ble_eq_true rfl) (fun C _ _ _ hE => ?_)
  show X G C mi_X5_isSign 0 [(0, .ref r0), (1, .int x1)] [] h
  unfold f_X5_isSign at H
  refine x_aload_n 0 rfl dX5_isSign_0 ?_
  obtain ⟨v1, e1, H⟩ := ob H
  refine x_getf fg_X5_157 (gFi_spec e1) dX5_isSign_1 ?_
  refine x_iconst (3 : Int32) dX5_isSign_4 ic_3 ?_
  refine x_icmp_ne 20 dX5_isSign_5 (by decide) (fun c2 => ?_) (fun c2 => ?_)
  · rw [if_neg c2] at H
    refine x_iconst (0 : Int32) dX5_isSign_20 ic_0 ?_
    obtain rfl := Option.some.inj H
    exact x_iret hE rfl rfl dX5_isSign_21
  · rw [if_pos c2] at H
    refine x_aload_n 0 rfl dX5_isSign_8 ?_
    obtain ⟨v3, e3, H⟩ := ob H
    refine x_getf fg_X5_167 (gFi_spec e3) dX5_isSign_9 ?_
    refine x_iload_n 1 rfl dX5_isSign_12 ?_
    refine x_icmp_ne 20 dX5_isSign_13 (by decide) (fun c4 => ?_) (fun c4 => ?_)
    · rw [if_neg c4] at H
      refine x_iconst (0 : Int32) dX5_isSign_20 ic_0 ?_
      obtain rfl := Option.some.inj H
      exact x_iret hE rfl rfl dX5_isSign_21
    · rw [if_pos c4] at H
      refine x_iconst (1 : Int32) dX5_isSign_16 ic_1 ?_
      refine x_goto (tgt := 21) dX5_isSign_17 (by decide) ?_
      obtain rfl := Option.some.inj H
      exact x_iret hE rfl rfl dX5_isSign_21
abbrev mi_X5_isWord : xM := (cX5_isWord, yX5_isWord, 3, some .boolean, 1)
theorem md_X5_isWord : xMD mi_X5_isWord 1 := ⟨by decide, by decide, by decide +kernel⟩
def f_X5_isWord (r0 : Nat) (l1 : Int64) (h : mH) : Option (Int32 × mH) := (gFi [4] 11 h r0).bind fun v1 => if v1 = (1 : Int32) then (gFl [4] 17 h r0).bind fun v3 => if (lg_cmp v3 l1) = 0 then some ((1 : Int32), h) else some ((0 : Int32), h) else some ((0 : Int32), h)
theorem t_X5_isWord {G : xG} (C0 : xC) {l : Launch} {r0 : Nat} {l1 : Int64} (h : mH) {o : Int32 × mH} (H : f_X5_isWord r0 l1 h = some o) : XR G l mi_X5_isWord [.ref r0, .long l1] h (some (.int o.1)) o.2 := by
  refine XR.of C0 (by decide) (Nat.le_of_ble_eq_true rfl) (fun C _ _ _ hE => ?_)
  show X G C mi_X5_isWord 0 [(0, .ref r0), (1, .long l1)] [] h
  unfold f_X5_isWord at H
  refine x_aload_n 0 rfl dX5_isWord_0 ?_
  obtain ⟨v1, e1, H⟩ := ob H
  refine x_getf fg_X5_157 (gFi_spec e1) dX5_isWord_1 ?_
  refine x_iconst (1 : Int32) dX5_isWord_4 ic_1 ?_
  refine x_icmp_ne 21 dX5_isWord_5 (by decide) (fun c2 => ?_) (fun c2 => ?_)
  · rw [if_neg c2] at H
    refine x_iconst (0 : Int32) dX5_isWord_21 ic_0 ?_
    obtain rfl := Option.some.inj H
    exact x_iret hE rfl rfl dX5_isWord_22
  · rw [if_pos c2] at H
    refine x_aload_n 0 rfl dX5_isWord_8 ?_
    obtain ⟨v3, e3, H⟩ := ob H
    refine x_getf fg_X5_170 (gFl_spec e3) dX5_isWord_9 ?_
    refine x_lload_n 1 rfl dX5_isWord_12 ?_
    refine x_lcmp dX5_isWord_13 ?_
    refine x_if_ne 21 dX5_isWord_14 (by decide) (fun c4 => ?_) (fun c4 => ?_)
    · rw [if_neg c4] at H
      refine x_iconst (0 : Int32) dX5_isWord_21 ic_0 ?_
      obtain rfl := Option.some.inj H
      exact x_iret hE rfl rfl dX5_isWord_22
    · rw [if_pos c4] at H
      refine x_iconst (1 : Int32) dX5_isWord_17 ic_1 ?_
      refine x_goto (tgt := 22) dX5_isWord_18 (by decide) ?_
      obtain rfl := Option.some.inj H
      exact x_iret hE rfl rfl dX5_isWord_22
abbrev mi_X5_code : xM := (cX5_code, yX5_code, 4, none, 1)
theorem md_X5_code : xMD mi_X5_code 3 := ⟨by decide, by decide, by decide +kernel⟩
def f_X5_code (r0 : Nat) (x1 : Int32) (x2 : Int32) (x3 : Int32) (h : mH) : Option (Unit × mH) := (gFr [4] 8 h r0).bind fun v1 => (gFi [4] 43 h r0).bind fun v2 => (sI .int h v1 ((3 : Int32) * v2) x1).bind fun h3 => (gFr [4] 8 h3 r0).bind fun v4 => (gFi [4] 43 h3 r0).bind fun v5 => (sI .int h3 v4 (((3 : Int32) * v5) + (1 : Int32)) x2).bind fun h6 => (gFr [4] 8 h6 r0).bind fun v7 => (gFi [4] 43 h6 r0).bind fun v8 => (sI .int h6 v7 (((3 : Int32) * v8) + (2 : Int32)) x3).bind fun h9 => (gFi [4] 43 h9 r0).bind fun v10 => (pF [4] 43 (.int (v10 + (1 : Int32))) h9 r0).bind fun h11 => some ((), h11)
theorem t_X5_code {G : xG} (C0 : xC) {l : Launch} {r0 : Nat} {x1 : Int32} {x2 : Int32} {x3 : Int32} (h : mH) {o : Unit × mH} (H : f_X5_code r0 x1 x2 x3 h = some o) : XR G l mi_X5_code [.ref r0, .int x1, .int x2, .int x3] h none o.2 := by
  refine XR.of C0 (by decide) (Nat.le_of_ble_eq_true rfl) (fun C _ _ _ hE => ?_)
  show X G C mi_X5_code 0 [(0, .ref r0), (1, .int x1), (2, .int x2), (3, .int x3)] [] h
  unfold f_X5_code at H
  refine x_aload_n 0 rfl dX5_code_0 ?_
  obtain ⟨v1, e1, H⟩ := ob H
  refine x_getf fg_X5_40 (gFr_spec e1) dX5_code_1 ?_
  refine x_iconst (3 : Int32) dX5_code_4 ic_3 ?_
  refine x_aload_n 0 rfl dX5_code_5 ?_
  obtain ⟨v2, e2, H⟩ := ob H
  refine x_getf fg_X5_431 (gFi_spec e2) dX5_code_6 ?_
  refine x_imul dX5_code_9 ?_
  refine x_iload_n 1 rfl dX5_code_10 ?_
  obtain ⟨h3, e3, H⟩ := ob H
  refine x_iast e3 dX5_code_11 ?_
  refine x_aload_n 0 rfl dX5_code_12 ?_
  obtain ⟨v4, e4, H⟩ := ob H
  refine x_getf fg_X5_40 (gFr_spec e4) dX5_code_13 ?_
  refine x_iconst (3 : Int32) dX5_code_16 ic_3 ?_
  refine x_aload_n 0 rfl dX5_code_17 ?_
  obtain ⟨v5, e5, H⟩ := ob H
  refine x_getf fg_X5_431 (gFi_spec e5) dX5_code_18 ?_
  refine x_imul dX5_code_21 ?_
  refine x_iconst (1 : Int32) dX5_code_22 ic_1 ?_
  refine x_iadd dX5_code_23 ?_
  refine x_iload_n 2 rfl dX5_code_24 ?_
  obtain ⟨h6, e6, H⟩ := ob H
  refine x_iast e6 dX5_code_25 ?_
  refine x_aload_n 0 rfl dX5_code_26 ?_
  obtain ⟨v7, e7, H⟩ := ob H
  refine x_getf fg_X5_40 (gFr_spec e7) dX5_code_27 ?_
  refine x_iconst (3 : Int32) dX5_code_30 ic_3 ?_
  refine x_aload_n 0 rfl dX5_code_31 ?_
  obtain ⟨v8, e8, H⟩ := ob H
  refine x_getf fg_X5_431 (gFi_spec e8) dX5_code_32 ?_
  refine x_imul dX5_code_35 ?_
  refine x_iconst (2 : Int32) dX5_code_36 ic_2 ?_
  refine x_iadd dX5_code_37 ?_
  refine x_iload_n 3 rfl dX5_code_38 ?_
  obtain ⟨h9, e9, H⟩ := ob H
  refine x_iast e9 dX5_code_39 ?_
  refine x_aload_n 0 rfl dX5_code_40 ?_
  refine x_dup dX5_code_41 rfl ?_
  obtain ⟨v10, e10, H⟩ := ob H
  refine x_getf fg_X5_431 (gFi_spec e10) dX5_code_42 ?_
  refine x_iconst (1 : Int32) dX5_code_45 ic_1 ?_
  refine x_iadd dX5_code_46 ?_
  obtain ⟨h11, e11, H⟩ := ob H
  refine x_putf (fp_X5_431 _) rfl rfl e11 dX5_code_47 ?_
  obtain rfl := Option.some.inj H
  exact x_vret hE rfl dX5_code_50
abbrev mi_X5_joins : xM := (cX5_joins, yX5_joins, 2, none, 2)
theorem md_X5_joins : xMD mi_X5_joins 1 := ⟨by decide, by decide, by decide +kernel⟩
def f_X5_joins_b45 (kb : Nat → Int32 → mH → Option (Unit × mH)) (r0 : Nat) (x1 : Int32) (h : mH) : Option (Unit × mH) := (gFi [4] 45 h r0).bind fun v7 => (pF [4] 45 (.int (v7 - (1 : Int32))) h r0).bind fun h8 => (gFr [4] 42 h8 r0).bind fun v9 => (gFi [4] 45 h8 r0).bind fun v10 => (aI .int h8 v9 v10).bind fun v11 => if gC h8 r0 = 4 then bR (f_X5_code r0 v11 (0 : Int32) (0 : Int32) h8) fun a12 g12 => kb r0 x1 g12 else none
theorem t_X5_joins_b45 {G : xG} {C : xC} {o : Unit × mH} (hE : xEnd G C none o.2) {kb : Nat → Int32 → mH → Option (Unit × mH)} (hkb : ∀ (r0 : Nat) (x1 : Int32) (h : mH), kb r0 x1 h = some o → X G C mi_X5_joins 0 [(0, .ref r0), (1, .int x1)] [] h) (r0 : Nat) (x1 : Int32) (h : mH) (H : f_X5_joins_b45 kb r0 x1 h = some o) : X G C mi_X5_joins 45 [(0, .ref r0), (1, .int x1)] [] h := by
  unfold f_X5_joins_b45 at H
  refine x_aload_n 0 rfl dX5_joins_45 ?_
  refine x_dup dX5_joins_46 rfl ?_
  obtain ⟨v7, e7, H⟩ := ob H
  refine x_getf fg_X5_434 (gFi_spec e7) dX5_joins_47 ?_
  refine x_iconst (1 : Int32) dX5_joins_50 ic_1 ?_
  refine x_isub dX5_joins_51 ?_
  obtain ⟨h8, e8, H⟩ := ob H
  refine x_putf (fp_X5_434 _) rfl rfl e8 dX5_joins_52 ?_
  refine x_aload_n 0 rfl dX5_joins_55 ?_
  refine x_aload_n 0 rfl dX5_joins_56 ?_
  obtain ⟨v9, e9, H⟩ := ob H
  refine x_getf fg_X5_80 (gFr_spec e9) dX5_joins_57 ?_
  refine x_aload_n 0 rfl dX5_joins_60 ?_
  obtain ⟨v10, e10, H⟩ := ob H
  refine x_getf fg_X5_434 (gFi_spec e10) dX5_joins_61 ?_
  obtain ⟨v11, e11, H⟩ := ob H
  refine x_iald e11 dX5_joins_64 ?_
  refine x_iconst (0 : Int32) dX5_joins_65 ic_0 ?_
  refine x_iconst (0 : Int32) dX5_joins_66 ic_0 ?_
  obtain ⟨c12, H⟩ := oit H
  obtain ⟨a12, g12, e12, H⟩ := obR H
  refine x_callV (M' := mi_X5_code) (n := 3) (As := [.int v11, .int (0 : Int32), .int (0 : Int32)]) (t_X5_code C _ e12) c12 rfl rfl md_X5_code ⟨Nat.le_of_ble_eq_true rfl, Nat.le_of_ble_eq_true rfl⟩ q2477 q2479 qs111 q131 q2480 rfl (Nat.le_of_ble_eq_true rfl) dX5_joins_67 ?_
  refine x_goto (tgt := 0) dX5_joins_70 (by decide) ?_
  exact hkb _ _ _ H
def f_X5_joins_L0 : Nat → Nat → Int32 → mH → Option (Unit × mH)
  | 0, _, _, _ => none
  | n + 1, r0, x1, h => (gFi [4] 45 h r0).bind fun v1 => if v1 ≤ 0 then some ((), h) else (gFr [4] 42 h r0).bind fun v3 => (gFi [4] 45 h r0).bind fun v4 => (aI .int h v3 (v4 - (1 : Int32))).bind fun v5 => if v5 = (21 : Int32) then f_X5_joins_b45 (f_X5_joins_L0 n) r0 x1 h else (gFr [4] 42 h r0).bind fun v13 => (gFi [4] 45 h r0).bind fun v14 => (aI .int h v13 (v14 - (1 : Int32))).bind fun v15 => if v15 = (22 : Int32) then if x1 = (22 : Int32) then f_X5_joins_b45 (f_X5_joins_L0 n) r0 x1 h else some ((), h) else some ((), h)
theorem t_X5_joins_L0 {G : xG} {C : xC} {o : Unit × mH} (hE : xEnd G C none o.2) : ∀ (n : Nat) (r0 : Nat) (x1 : Int32) (h : mH), f_X5_joins_L0 n r0 x1 h = some o → X G C mi_X5_joins 0 [(0, .ref r0), (1, .int x1)] [] h := by
  intro n
  induction n with
  | zero => intro r0 x1 h H; exact nomatch (show (none : Option (Unit × mH)) = some o from H)
  | succ n ih =>
    intro r0 x1 h H
    rw [f_X5_joins_L0] at H
    refine x_aload_n 0 rfl dX5_joins_0 ?_
    obtain ⟨v1, e1, H⟩ := ob H
    refine x_getf fg_X5_434 (gFi_spec e1) dX5_joins_1 ?_
    refine x_if_le 73 dX5_joins_4 (by decide) (fun c2 => ?_) (fun c2 => ?_)
    · rw [if_pos c2] at H
      obtain rfl := Option.some.inj H
      exact x_vret hE rfl dX5_joins_73
    · rw [if_neg c2] at H
      refine x_aload_n 0 rfl dX5_joins_7 ?_
      obtain ⟨v3, e3, H⟩ := ob H
      refine x_getf fg_X5_80 (gFr_spec e3) dX5_joins_8 ?_
      refine x_aload_n 0 rfl dX5_joins_11 ?_
      obtain ⟨v4, e4, H⟩ := ob H
      refine x_getf fg_X5_434 (gFi_spec e4) dX5_joins_12 ?_
      refine x_iconst (1 : Int32) dX5_joins_15 ic_1 ?_
      refine x_isub dX5_joins_16 ?_
      obtain ⟨v5, e5, H⟩ := ob H
      refine x_iald e5 dX5_joins_17 ?_
      refine x_bipush (21 : Int32) dX5_joins_18 bi_21 ?_
      refine x_icmp_eq 45 dX5_joins_20 (by decide) (fun c6 => ?_) (fun c6 => ?_)
      · rw [if_pos c6] at H
        exact t_X5_joins_b45 hE ih _ _ _ H
      · rw [if_neg c6] at H
        refine x_aload_n 0 rfl dX5_joins_23 ?_
        obtain ⟨v13, e13, H⟩ := ob H
        refine x_getf fg_X5_80 (gFr_spec e13) dX5_joins_24 ?_
        refine x_aload_n 0 rfl dX5_joins_27 ?_
        obtain ⟨v14, e14, H⟩ := ob H
        refine x_getf fg_X5_434 (gFi_spec e14) dX5_joins_28 ?_
        refine x_iconst (1 : Int32) dX5_joins_31 ic_1 ?_
        refine x_isub dX5_joins_32 ?_
        obtain ⟨v15, e15, H⟩ := ob H
        refine x_iald e15 dX5_joins_33 ?_
        refine x_bipush (22 : Int32) dX5_joins_34 bi_22 ?_
        refine x_icmp_ne 73 dX5_joins_36 (by decide) (fun c16 => ?_) (fun c16 => ?_)
        · rw [if_neg c16] at H
          obtain rfl := Option.some.inj H
          exact x_vret hE rfl dX5_joins_73
        · rw [if_pos c16] at H
          refine x_iload_n 1 rfl dX5_joins_39 ?_
          refine x_bipush (22 : Int32) dX5_joins_40 bi_22 ?_
          refine x_icmp_ne 73 dX5_joins_42 (by decide) (fun c17 => ?_) (fun c17 => ?_)
          · rw [if_neg c17] at H
            obtain rfl := Option.some.inj H
            exact x_vret hE rfl dX5_joins_73
          · rw [if_pos c17] at H
            exact t_X5_joins_b45 hE ih _ _ _ H
def f_X5_joins (r0 : Nat) (x1 : Int32) (h : mH) : Option (Unit × mH) := f_X5_joins_L0  xFu r0 x1 h
theorem t_X5_joins {G : xG} (C0 : xC) {l : Launch} {r0 : Nat} {x1 : Int32} (h : mH) {o : Unit × mH} (H : f_X5_joins r0 x1 h = some o) : XR G l mi_X5_joins [.ref r0, .int x1] h none o.2 := by
  refine XR.of C0 (by decide) (Nat.le_of_ble_eq_true rfl) (fun C _ _ _ hE => ?_)
  show X G C mi_X5_joins 0 [(0, .ref r0), (1, .int x1)] [] h
  unfold f_X5_joins at H
  exact t_X5_joins_L0 hE  xFu _ _ _ H
abbrev mi_X5_isDigit : xM := (cX5_isDigit, yX5_isDigit, 1, some .boolean, 1)
theorem md_X5_isDigit : xMD mi_X5_isDigit 1 := ⟨by decide, by decide, by decide +kernel⟩
def f_X5_isDigit (x0 : Int32) (h : mH) : Option (Int32 × mH) := if x0 < (48 : Int32) then some ((0 : Int32), h) else if (57 : Int32) < x0 then some ((0 : Int32), h) else some ((1 : Int32), h)
theorem t_X5_isDigit {G : xG} (C0 : xC) {l : Launch} {x0 : Int32} (h : mH) {o : Int32 × mH} (H : f_X5_isDigit x0 h = some o) : XR G l mi_X5_isDigit [.int x0] h (some (.int o.1)) o.2 := by
  refine XR.of C0 (by decide) (Nat.le_of_ble_eq_true rfl) (fun C _ _ _ hE => ?_)
  show X G C mi_X5_isDigit 0 [(0, .int x0)] [] h
  unfold f_X5_isDigit at H
  refine x_iload_n 0 rfl dX5_isDigit_0 ?_
  refine x_bipush (48 : Int32) dX5_isDigit_1 bi_48 ?_
  refine x_icmp_lt 16 dX5_isDigit_3 (by decide) (fun c1 => ?_) (fun c1 => ?_)
  · rw [if_pos c1] at H
    refine x_iconst (0 : Int32) dX5_isDigit_16 ic_0 ?_
    obtain rfl := Option.some.inj H
    exact x_iret hE rfl rfl dX5_isDigit_17
  · rw [if_neg c1] at H
    refine x_iload_n 0 rfl dX5_isDigit_6 ?_
    refine x_bipush (57 : Int32) dX5_isDigit_7 bi_57 ?_
    refine x_icmp_gt 16 dX5_isDigit_9 (by decide) (fun c2 => ?_) (fun c2 => ?_)
    · rw [if_pos c2] at H
      refine x_iconst (0 : Int32) dX5_isDigit_16 ic_0 ?_
      obtain rfl := Option.some.inj H
      exact x_iret hE rfl rfl dX5_isDigit_17
    · rw [if_neg c2] at H
      refine x_iconst (1 : Int32) dX5_isDigit_12 ic_1 ?_
      refine x_goto (tgt := 17) dX5_isDigit_13 (by decide) ?_
      obtain rfl := Option.some.inj H
      exact x_iret hE rfl rfl dX5_isDigit_17
abbrev mi_X5_isSmall : xM := (cX5_isSmall, yX5_isSmall, 1, some .boolean, 1)
theorem md_X5_isSmall : xMD mi_X5_isSmall 1 := ⟨by decide, by decide, by decide +kernel⟩
def f_X5_isSmall (x0 : Int32) (h : mH) : Option (Int32 × mH) := if x0 < (97 : Int32) then some ((0 : Int32), h) else if (122 : Int32) < x0 then some ((0 : Int32), h) else some ((1 : Int32), h)
theorem t_X5_isSmall {G : xG} (C0 : xC) {l : Launch} {x0 : Int32} (h : mH) {o : Int32 × mH} (H : f_X5_isSmall x0 h = some o) : XR G l mi_X5_isSmall [.int x0] h (some (.int o.1)) o.2 := by
  refine XR.of C0 (by decide) (Nat.le_of_ble_eq_true rfl) (fun C _ _ _ hE => ?_)
  show X G C mi_X5_isSmall 0 [(0, .int x0)] [] h
  unfold f_X5_isSmall at H
  refine x_iload_n 0 rfl dX5_isSmall_0 ?_
  refine x_bipush (97 : Int32) dX5_isSmall_1 bi_97 ?_
  refine x_icmp_lt 16 dX5_isSmall_3 (by decide) (fun c1 => ?_) (fun c1 => ?_)
  · rw [if_pos c1] at H
    refine x_iconst (0 : Int32) dX5_isSmall_16 ic_0 ?_
    obtain rfl := Option.some.inj H
    exact x_iret hE rfl rfl dX5_isSmall_17
  · rw [if_neg c1] at H
    refine x_iload_n 0 rfl dX5_isSmall_6 ?_
    refine x_bipush (122 : Int32) dX5_isSmall_7 bi_122 ?_
    refine x_icmp_gt 16 dX5_isSmall_9 (by decide) (fun c2 => ?_) (fun c2 => ?_)
    · rw [if_pos c2] at H
      refine x_iconst (0 : Int32) dX5_isSmall_16 ic_0 ?_
      obtain rfl := Option.some.inj H
      exact x_iret hE rfl rfl dX5_isSmall_17
    · rw [if_neg c2] at H
      refine x_iconst (1 : Int32) dX5_isSmall_12 ic_1 ?_
      refine x_goto (tgt := 17) dX5_isSmall_13 (by decide) ?_
      obtain rfl := Option.some.inj H
      exact x_iret hE rfl rfl dX5_isSmall_17
abbrev mi_X5_peek : xM := (cX5_peek, yX5_peek, 1, some .int, 1)
theorem md_X5_peek : xMD mi_X5_peek 0 := ⟨by decide, by decide, by decide +kernel⟩
def f_X5_peek (r0 : Nat) (h : mH) : Option (Int32 × mH) := (gFi [4] 4 h r0).bind fun v1 => (gFi [4] 3 h r0).bind fun v2 => if v2 ≤ v1 then some ((-1 : Int32), h) else (gFr [4] 1 h r0).bind fun v4 => (gFi [4] 4 h r0).bind fun v5 => (aI .byte h v4 v5).bind fun v6 => some ((v6 &&& (255 : Int32)), h)
theorem t_X5_peek {G : xG} (C0 : xC) {l : Launch} {r0 : Nat} (h : mH) {o : Int32 × mH} (H : f_X5_peek r0 h = some o) : XR G l mi_X5_peek [.ref r0] h (some (.int o.1)) o.2 := by
  refine XR.of C0 (by decide) (Nat.le_of_ble_eq_true rfl) (fun C _ _ _ hE => ?_)
  show X G C mi_X5_peek 0 [(0, .ref r0)] [] h
  unfold f_X5_peek at H
  refine x_aload_n 0 rfl dX5_peek_0 ?_
  obtain ⟨v1, e1, H⟩ := ob H
  refine x_getf fg_X5_21 (gFi_spec e1) dX5_peek_1 ?_
  refine x_aload_n 0 rfl dX5_peek_4 ?_
  obtain ⟨v2, e2, H⟩ := ob H
  refine x_getf fg_X5_18 (gFi_spec e2) dX5_peek_5 ?_
  refine x_icmp_ge 27 dX5_peek_8 (by decide) (fun c3 => ?_) (fun c3 => ?_)
  · rw [if_pos c3] at H
    refine x_iconst (-1 : Int32) dX5_peek_27 ic_m1 ?_
    obtain rfl := Option.some.inj H
    exact x_iret hE rfl rfl dX5_peek_28
  · rw [if_neg c3] at H
    refine x_aload_n 0 rfl dX5_peek_11 ?_
    obtain ⟨v4, e4, H⟩ := ob H
    refine x_getf fg_X5_14 (gFr_spec e4) dX5_peek_12 ?_
    refine x_aload_n 0 rfl dX5_peek_15 ?_
    obtain ⟨v5, e5, H⟩ := ob H
    refine x_getf fg_X5_21 (gFi_spec e5) dX5_peek_16 ?_
    obtain ⟨v6, e6, H⟩ := ob H
    refine x_bald e6 dX5_peek_19 ?_
    refine x_sipush (255 : Int32) dX5_peek_20 si_255 ?_
    refine x_iand dX5_peek_23 ?_
    refine x_goto (tgt := 28) dX5_peek_24 (by decide) ?_
    obtain rfl := Option.some.inj H
    exact x_iret hE rfl rfl dX5_peek_28
abbrev mi_X5_next : xM := (cX5_next, yX5_next, 4, none, 2)
theorem md_X5_next : xMD mi_X5_next 0 := ⟨by decide, by decide, by decide +kernel⟩
def f_X5_next_b333 (s0 : Nat) (s1 : Int32) (h : mH) : Option (Unit × mH) := (pF [4] 11 (.int s1) h s0).bind fun h15 => some ((), h15)
theorem t_X5_next_b333 {G : xG} {C : xC} {o : Unit × mH} (hE : xEnd G C none o.2) (s0 : Nat) (s1 : Int32) (h : mH) (H : f_X5_next_b333 s0 s1 h = some o) : X G C mi_X5_next 333 [] [.int s1, .ref s0] h := by
  unfold f_X5_next_b333 at H
  obtain ⟨h15, e15, H⟩ := ob H
  refine x_putf (fp_X5_157 _) rfl rfl e15 dX5_next_333 ?_
  obtain rfl := Option.some.inj H
  exact x_vret hE rfl dX5_next_336
def f_X5_next_b320 (s0 : Nat) (h : mH) : Option (Unit × mH) := f_X5_next_b333 s0 (4 : Int32) h
theorem t_X5_next_b320 {G : xG} {C : xC} {o : Unit × mH} (hE : xEnd G C none o.2) (s0 : Nat) (h : mH) (H : f_X5_next_b320 s0 h = some o) : X G C mi_X5_next 320 [] [.ref s0] h := by
  unfold f_X5_next_b320 at H
  refine x_iconst (4 : Int32) dX5_next_320 ic_4 ?_
  refine x_goto (tgt := 333) dX5_next_321 (by decide) ?_
  exact t_X5_next_b333 hE _ _ _ H
def f_X5_next_b317 (x2 : Int32) (s0 : Nat) (s1 : Int32) (s2 : Int32) (h : mH) : Option (Unit × mH) := if s1 ≤ s2 then if x2 = 0 then f_X5_next_b333 s0 (2 : Int32) h else f_X5_next_b333 s0 (1 : Int32) h else f_X5_next_b320 s0 h
theorem t_X5_next_b317 {G : xG} {C : xC} {o : Unit × mH} (hE : xEnd G C none o.2) (x2 : Int32) (s0 : Nat) (s1 : Int32) (s2 : Int32) (h : mH) (H : f_X5_next_b317 x2 s0 s1 s2 h = some o) : X G C mi_X5_next 317 [(2, .int x2)] [.int s2, .int s1, .ref s0] h := by
  unfold f_X5_next_b317 at H
  refine x_icmp_le 324 dX5_next_317 (by decide) (fun c18 => ?_) (fun c18 => ?_)
  · rw [if_pos c18] at H
    refine x_iload_n 0 rfl dX5_next_324 ?_
    refine x_if_eq 332 dX5_next_325 (by decide) (fun c19 => ?_) (fun c19 => ?_)
    · rw [if_pos c19] at H
      refine x_iconst (2 : Int32) dX5_next_332 ic_2 ?_
      refine X.sub [] rfl ?_
      exact t_X5_next_b333 hE _ _ _ H
    · rw [if_neg c19] at H
      refine x_iconst (1 : Int32) dX5_next_328 ic_1 ?_
      refine x_goto (tgt := 333) dX5_next_329 (by decide) ?_
      refine X.sub [] rfl ?_
      exact t_X5_next_b333 hE _ _ _ H
  · rw [if_neg c18] at H
    refine X.sub [] rfl ?_
    exact t_X5_next_b320 hE _ _ H
def f_X5_next_b298 (r0 : Nat) (x2 : Int32) (x3 : Int32) (h : mH) : Option (Unit × mH) := if x3 = 0 then f_X5_next_b320 r0 h else (gFi [4] 13 h r0).bind fun v16 => if x2 = 0 then f_X5_next_b317 x2 r0 v16 (3 : Int32) h else f_X5_next_b317 x2 r0 v16 (7 : Int32) h
theorem t_X5_next_b298 {G : xG} {C : xC} {o : Unit × mH} (hE : xEnd G C none o.2) (r0 : Nat) (x2 : Int32) (x3 : Int32) (h : mH) (H : f_X5_next_b298 r0 x2 x3 h = some o) : X G C mi_X5_next 298 [(0, .ref r0), (2, .int x2), (3, .int x3)] [] h := by
  unfold f_X5_next_b298 at H
  refine x_aload_n 0 rfl dX5_next_298 ?_
  refine x_iload_n 2 rfl dX5_next_299 ?_
  refine x_if_eq 320 dX5_next_300 (by decide) (fun c14 => ?_) (fun c14 => ?_)
  · rw [if_pos c14] at H
    refine X.sub [] rfl ?_
    exact t_X5_next_b320 hE _ _ H
  · rw [if_neg c14] at H
    refine x_aload_n 0 rfl dX5_next_303 ?_
    obtain ⟨v16, e16, H⟩ := ob H
    refine x_getf fg_X5_154 (gFi_spec e16) dX5_next_304 ?_
    refine x_iload_n 1 rfl dX5_next_307 ?_
    refine x_if_eq 316 dX5_next_308 (by decide) (fun c17 => ?_) (fun c17 => ?_)
    · rw [if_pos c17] at H
      refine x_iconst (3 : Int32) dX5_next_316 ic_3 ?_
      refine X.sub [1] rfl ?_
      exact t_X5_next_b317 hE _ _ _ _ _ H
    · rw [if_neg c17] at H
      refine x_bipush (7 : Int32) dX5_next_311 bi_7 ?_
      refine x_goto (tgt := 317) dX5_next_313 (by decide) ?_
      refine X.sub [1] rfl ?_
      exact t_X5_next_b317 hE _ _ _ _ _ H
def f_X5_next_b275 (kb : Nat → Int32 → Int32 → mH → Option (Unit × mH)) (k298 : Nat → Int32 → Int32 → mH → Option (Unit × mH)) (r0 : Nat) (x2 : Int32) (x3 : Int32) (h : mH) : Option (Unit × mH) := (gFi [4] 13 h r0).bind fun v28 => (pF [4] 13 (.int (v28 + (1 : Int32))) h r0).bind fun h29 => (gFi [4] 4 h29 r0).bind fun v30 => (pF [4] 4 (.int (v30 + (1 : Int32))) h29 r0).bind fun h31 => kb r0 x2 x3 h31
theorem t_X5_next_b275 {G : xG} {C : xC} {o : Unit × mH} (hE : xEnd G C none o.2) {kb : Nat → Int32 → Int32 → mH → Option (Unit × mH)} (hkb : ∀ (r0 : Nat) (x2 : Int32) (x3 : Int32) (h : mH), kb r0 x2 x3 h = some o → X G C mi_X5_next 181 [(0, .ref r0), (2, .int x2), (3, .int x3)] [] h) {k298 : Nat → Int32 → Int32 → mH → Option (Unit × mH)} (hk298 : ∀ (r0 : Nat) (x2 : Int32) (x3 : Int32) (h : mH), k298 r0 x2 x3 h = some o → X G C mi_X5_next 298 [(0, .ref r0), (2, .int x2), (3, .int x3)] [] h) (r0 : Nat) (x2 : Int32) (x3 : Int32) (h : mH) (H : f_X5_next_b275 kb k298 r0 x2 x3 h = some o) : X G C mi_X5_next 275 [(0, .ref r0), (2, .int x2), (3, .int x3)] [] h := by
  unfold f_X5_next_b275 at H
  refine x_aload_n 0 rfl dX5_next_275 ?_
  refine x_dup dX5_next_276 rfl ?_
  obtain ⟨v28, e28, H⟩ := ob H
  refine x_getf fg_X5_154 (gFi_spec e28) dX5_next_277 ?_
  refine x_iconst (1 : Int32) dX5_next_280 ic_1 ?_
  refine x_iadd dX5_next_281 ?_
  obtain ⟨h29, e29, H⟩ := ob H
  refine x_putf (fp_X5_154 _) rfl rfl e29 dX5_next_282 ?_
  refine x_aload_n 0 rfl dX5_next_285 ?_
  refine x_dup dX5_next_286 rfl ?_
  obtain ⟨v30, e30, H⟩ := ob H
  refine x_getf fg_X5_21 (gFi_spec e30) dX5_next_287 ?_
  refine x_iconst (1 : Int32) dX5_next_290 ic_1 ?_
  refine x_iadd dX5_next_291 ?_
  obtain ⟨h31, e31, H⟩ := ob H
  refine x_putf (fp_X5_21 _) rfl rfl e31 dX5_next_292 ?_
  refine x_goto (tgt := 181) dX5_next_295 (by decide) ?_
  exact hkb _ _ _ _ H
def f_X5_next_b248 (kb : Nat → Int32 → Int32 → mH → Option (Unit × mH)) (k298 : Nat → Int32 → Int32 → mH → Option (Unit × mH)) (r0 : Nat) (x2 : Int32) (x3 : Int32) (h : mH) : Option (Unit × mH) := (gFi [4] 13 h r0).bind fun v26 => if (3 : Int32) ≤ v26 then f_X5_next_b275 kb k298 r0 x2 x3 h else (gFi [4] 14 h r0).bind fun v32 => if gC h r0 = 4 then bR (f_X5_peek r0  h) fun a33 g33 => (pF [4] 14 (.int ((((10 : Int32) * v32) + a33) - (48 : Int32))) g33 r0).bind fun h34 => f_X5_next_b275 kb k298 r0 x2 x3 h34 else none
theorem t_X5_next_b248 {G : xG} {C : xC} {o : Unit × mH} (hE : xEnd G C none o.2) {kb : Nat → Int32 → Int32 → mH → Option (Unit × mH)} (hkb : ∀ (r0 : Nat) (x2 : Int32) (x3 : Int32) (h : mH), kb r0 x2 x3 h = some o → X G C mi_X5_next 181 [(0, .ref r0), (2, .int x2), (3, .int x3)] [] h) {k298 : Nat → Int32 → Int32 → mH → Option (Unit × mH)} (hk298 : ∀ (r0 : Nat) (x2 : Int32) (x3 : Int32) (h : mH), k298 r0 x2 x3 h = some o → X G C mi_X5_next 298 [(0, .ref r0), (2, .int x2), (3, .int x3)] [] h) (r0 : Nat) (x2 : Int32) (x3 : Int32) (h : mH) (H : f_X5_next_b248 kb k298 r0 x2 x3 h = some o) : X G C mi_X5_next 248 [(0, .ref r0), (2, .int x2), (3, .int x3)] [] h := by
  unfold f_X5_next_b248 at H
  refine x_aload_n 0 rfl dX5_next_248 ?_
  obtain ⟨v26, e26, H⟩ := ob H
  refine x_getf fg_X5_154 (gFi_spec e26) dX5_next_249 ?_
  refine x_iconst (3 : Int32) dX5_next_252 ic_3 ?_
  refine x_icmp_ge 275 dX5_next_253 (by decide) (fun c27 => ?_) (fun c27 => ?_)
  · rw [if_pos c27] at H
    exact t_X5_next_b275 hE hkb hk298 _ _ _ _ H
  · rw [if_neg c27] at H
    refine x_aload_n 0 rfl dX5_next_256 ?_
    refine x_bipush (10 : Int32) dX5_next_257 bi_10 ?_
    refine x_aload_n 0 rfl dX5_next_259 ?_
    obtain ⟨v32, e32, H⟩ := ob H
    refine x_getf fg_X5_167 (gFi_spec e32) dX5_next_260 ?_
    refine x_imul dX5_next_263 ?_
    refine x_aload_n 0 rfl dX5_next_264 ?_
    obtain ⟨c33, H⟩ := oit H
    obtain ⟨a33, g33, e33, H⟩ := obR H
    refine x_callV (M' := mi_X5_peek) (n := 0) (As := []) (t_X5_peek C _ e33) c33 rfl rfl md_X5_peek ⟨Nat.le_of_ble_eq_true rfl, Nat.le_of_ble_eq_true rfl⟩ q2104 q2106 qs53 q131 q2107 rfl (Nat.le_of_ble_eq_true rfl) dX5_next_265 ?_
    refine x_iadd dX5_next_268 ?_
    refine x_bipush (48 : Int32) dX5_next_269 bi_48 ?_
    refine x_isub dX5_next_271 ?_
    obtain ⟨h34, e34, H⟩ := ob H
    refine x_putf (fp_X5_167 _) rfl rfl e34 dX5_next_272 ?_
    exact t_X5_next_b275 hE hkb hk298 _ _ _ _ H
def f_X5_next_b221 (kb : Nat → Int32 → Int32 → mH → Option (Unit × mH)) (k298 : Nat → Int32 → Int32 → mH → Option (Unit × mH)) (r0 : Nat) (x2 : Int32) (s0 : Int32) (h : mH) : Option (Unit × mH) := (gFi [4] 13 h r0).bind fun v24 => if (7 : Int32) ≤ v24 then f_X5_next_b248 kb k298 r0 x2 s0 h else (gFl [4] 17 h r0).bind fun v35 => if gC h r0 = 4 then bR (f_X5_peek r0  h) fun a36 g36 => (pF [4] 17 (.long ((v35 <<< ((8 : Int32).toInt64 &&& 63)) ||| (a36.toInt64))) g36 r0).bind fun h37 => f_X5_next_b248 kb k298 r0 x2 s0 h37 else none
theorem t_X5_next_b221 {G : xG} {C : xC} {o : Unit × mH} (hE : xEnd G C none o.2) {kb : Nat → Int32 → Int32 → mH → Option (Unit × mH)} (hkb : ∀ (r0 : Nat) (x2 : Int32) (x3 : Int32) (h : mH), kb r0 x2 x3 h = some o → X G C mi_X5_next 181 [(0, .ref r0), (2, .int x2), (3, .int x3)] [] h) {k298 : Nat → Int32 → Int32 → mH → Option (Unit × mH)} (hk298 : ∀ (r0 : Nat) (x2 : Int32) (x3 : Int32) (h : mH), k298 r0 x2 x3 h = some o → X G C mi_X5_next 298 [(0, .ref r0), (2, .int x2), (3, .int x3)] [] h) (r0 : Nat) (x2 : Int32) (s0 : Int32) (h : mH) (H : f_X5_next_b221 kb k298 r0 x2 s0 h = some o) : X G C mi_X5_next 221 [(0, .ref r0), (2, .int x2)] [.int s0] h := by
  unfold f_X5_next_b221 at H
  refine x_istore_n [1, 2, 0] dX5_next_221 (by decide) rfl ?_
  refine x_aload_n 0 rfl dX5_next_222 ?_
  obtain ⟨v24, e24, H⟩ := ob H
  refine x_getf fg_X5_154 (gFi_spec e24) dX5_next_223 ?_
  refine x_bipush (7 : Int32) dX5_next_226 bi_7 ?_
  refine x_icmp_ge 248 dX5_next_228 (by decide) (fun c25 => ?_) (fun c25 => ?_)
  · rw [if_pos c25] at H
    exact t_X5_next_b248 hE hkb hk298 _ _ _ _ H
  · rw [if_neg c25] at H
    refine x_aload_n 0 rfl dX5_next_231 ?_
    refine x_aload_n 0 rfl dX5_next_232 ?_
    obtain ⟨v35, e35, H⟩ := ob H
    refine x_getf fg_X5_170 (gFl_spec e35) dX5_next_233 ?_
    refine x_bipush (8 : Int32) dX5_next_236 bi_8 ?_
    refine x_lshl dX5_next_238 ?_
    refine x_aload_n 0 rfl dX5_next_239 ?_
    obtain ⟨c36, H⟩ := oit H
    obtain ⟨a36, g36, e36, H⟩ := obR H
    refine x_callV (M' := mi_X5_peek) (n := 0) (As := []) (t_X5_peek C _ e36) c36 rfl rfl md_X5_peek ⟨Nat.le_of_ble_eq_true rfl, Nat.le_of_ble_eq_true rfl⟩ q2104 q2106 qs53 q131 q2107 rfl (Nat.le_of_ble_eq_true rfl) dX5_next_240 ?_
    refine x_i2l dX5_next_243 ?_
    refine x_lor dX5_next_244 ?_
    obtain ⟨h37, e37, H⟩ := ob H
    refine x_putf (fp_X5_170 _) rfl rfl e37 dX5_next_245 ?_
    exact t_X5_next_b248 hE hkb hk298 _ _ _ _ H
def f_X5_next_b220 (kb : Nat → Int32 → Int32 → mH → Option (Unit × mH)) (k298 : Nat → Int32 → Int32 → mH → Option (Unit × mH)) (r0 : Nat) (x2 : Int32) (h : mH) : Option (Unit × mH) := f_X5_next_b221 kb k298 r0 x2 (0 : Int32) h
theorem t_X5_next_b220 {G : xG} {C : xC} {o : Unit × mH} (hE : xEnd G C none o.2) {kb : Nat → Int32 → Int32 → mH → Option (Unit × mH)} (hkb : ∀ (r0 : Nat) (x2 : Int32) (x3 : Int32) (h : mH), kb r0 x2 x3 h = some o → X G C mi_X5_next 181 [(0, .ref r0), (2, .int x2), (3, .int x3)] [] h) {k298 : Nat → Int32 → Int32 → mH → Option (Unit × mH)} (hk298 : ∀ (r0 : Nat) (x2 : Int32) (x3 : Int32) (h : mH), k298 r0 x2 x3 h = some o → X G C mi_X5_next 298 [(0, .ref r0), (2, .int x2), (3, .int x3)] [] h) (r0 : Nat) (x2 : Int32) (h : mH) (H : f_X5_next_b220 kb k298 r0 x2 h = some o) : X G C mi_X5_next 220 [(0, .ref r0), (2, .int x2)] [] h := by
  unfold f_X5_next_b220 at H
  refine x_iconst (0 : Int32) dX5_next_220 ic_0 ?_
  exact t_X5_next_b221 hE hkb hk298 _ _ _ _ H
def f_X5_next_b201 (kb : Nat → Int32 → Int32 → mH → Option (Unit × mH)) (k298 : Nat → Int32 → Int32 → mH → Option (Unit × mH)) (r0 : Nat) (x2 : Int32) (x3 : Int32) (h : mH) : Option (Unit × mH) := if x3 = 0 then f_X5_next_b220 kb k298 r0 x2 h else if gC h r0 = 4 then bR (f_X5_peek r0  h) fun a38 g38 => bR (f_X5_isSmall a38 g38) fun a39 g39 => if a39 = x2 then f_X5_next_b221 kb k298 r0 x2 (1 : Int32) g39 else f_X5_next_b220 kb k298 r0 x2 g39 else none
theorem t_X5_next_b201 {G : xG} {C : xC} {o : Unit × mH} (hE : xEnd G C none o.2) {kb : Nat → Int32 → Int32 → mH → Option (Unit × mH)} (hkb : ∀ (r0 : Nat) (x2 : Int32) (x3 : Int32) (h : mH), kb r0 x2 x3 h = some o → X G C mi_X5_next 181 [(0, .ref r0), (2, .int x2), (3, .int x3)] [] h) {k298 : Nat → Int32 → Int32 → mH → Option (Unit × mH)} (hk298 : ∀ (r0 : Nat) (x2 : Int32) (x3 : Int32) (h : mH), k298 r0 x2 x3 h = some o → X G C mi_X5_next 298 [(0, .ref r0), (2, .int x2), (3, .int x3)] [] h) (r0 : Nat) (x2 : Int32) (x3 : Int32) (h : mH) (H : f_X5_next_b201 kb k298 r0 x2 x3 h = some o) : X G C mi_X5_next 201 [(0, .ref r0), (2, .int x2), (3, .int x3)] [] h := by
  unfold f_X5_next_b201 at H
  refine x_iload_n 2 rfl dX5_next_201 ?_
  refine x_if_eq 220 dX5_next_202 (by decide) (fun c23 => ?_) (fun c23 => ?_)
  · rw [if_pos c23] at H
    refine X.sub [0, 1] rfl ?_
    exact t_X5_next_b220 hE hkb hk298 _ _ _ H
  · rw [if_neg c23] at H
    refine x_aload_n 0 rfl dX5_next_205 ?_
    obtain ⟨c38, H⟩ := oit H
    obtain ⟨a38, g38, e38, H⟩ := obR H
    refine x_callV (M' := mi_X5_peek) (n := 0) (As := []) (t_X5_peek C _ e38) c38 rfl rfl md_X5_peek ⟨Nat.le_of_ble_eq_true rfl, Nat.le_of_ble_eq_true rfl⟩ q2104 q2106 qs53 q131 q2107 rfl (Nat.le_of_ble_eq_true rfl) dX5_next_206 ?_
    obtain ⟨a39, g39, e39, H⟩ := obR H
    refine x_callS (M' := mi_X5_isSmall) (n := 1) (As := [.int a38]) (t_X5_isSmall C _ e39) md_X5_isSmall ⟨Nat.le_of_ble_eq_true rfl, Nat.le_of_ble_eq_true rfl⟩ q2108 q2109 q131 q2110 rfl (Nat.le_of_ble_eq_true rfl) dX5_next_209 ?_
    refine x_iload_n 1 rfl dX5_next_212 ?_
    refine x_icmp_ne 220 dX5_next_213 (by decide) (fun c40 => ?_) (fun c40 => ?_)
    · rw [if_neg c40] at H
      refine X.sub [0, 1] rfl ?_
      exact t_X5_next_b220 hE hkb hk298 _ _ _ H
    · rw [if_pos c40] at H
      refine x_iconst (1 : Int32) dX5_next_216 ic_1 ?_
      refine x_goto (tgt := 221) dX5_next_217 (by decide) ?_
      refine X.sub [0, 1] rfl ?_
      exact t_X5_next_b221 hE hkb hk298 _ _ _ _ H
def f_X5_next_L181 (k298 : Nat → Int32 → Int32 → mH → Option (Unit × mH)) : Nat → Nat → Int32 → Int32 → mH → Option (Unit × mH)
  | 0, _, _, _, _ => none
  | n + 1, r0, x2, x3, h => if gC h r0 = 4 then bR (f_X5_peek r0  h) fun a20 g20 => bR (f_X5_isSmall a20 g20) fun a21 g21 => if a21 = 0 then if gC g21 r0 = 4 then bR (f_X5_peek r0  g21) fun a41 g41 => bR (f_X5_isDigit a41 g41) fun a42 g42 => if a42 = 0 then k298 r0 x2 x3 g42 else f_X5_next_b201 (f_X5_next_L181 k298 n) k298 r0 x2 x3 g42 else none else f_X5_next_b201 (f_X5_next_L181 k298 n) k298 r0 x2 x3 g21 else none
theorem t_X5_next_L181 {G : xG} {C : xC} {o : Unit × mH} (hE : xEnd G C none o.2) {k298 : Nat → Int32 → Int32 → mH → Option (Unit × mH)} (hk298 : ∀ (r0 : Nat) (x2 : Int32) (x3 : Int32) (h : mH), k298 r0 x2 x3 h = some o → X G C mi_X5_next 298 [(0, .ref r0), (2, .int x2), (3, .int x3)] [] h) : ∀ (n : Nat) (r0 : Nat) (x2 : Int32) (x3 : Int32) (h : mH), f_X5_next_L181 k298 n r0 x2 x3 h = some o → X G C mi_X5_next 181 [(0, .ref r0), (2, .int x2), (3, .int x3)] [] h := by
  intro n
  induction n with
  | zero => intro r0 x2 x3 h H; exact nomatch (show (none : Option (Unit × mH)) = some o from H)
  | succ n ih =>
    intro r0 x2 x3 h H
    rw [f_X5_next_L181] at H
    refine x_aload_n 0 rfl dX5_next_181 ?_
    obtain ⟨c20, H⟩ := oit H
    obtain ⟨a20, g20, e20, H⟩ := obR H
    refine x_callV (M' := mi_X5_peek) (n := 0) (As := []) (t_X5_peek C _ e20) c20 rfl rfl md_X5_peek ⟨Nat.le_of_ble_eq_true rfl, Nat.le_of_ble_eq_true rfl⟩ q2104 q2106 qs53 q131 q2107 rfl (Nat.le_of_ble_eq_true rfl) dX5_next_182 ?_
    obtain ⟨a21, g21, e21, H⟩ := obR H
    refine x_callS (M' := mi_X5_isSmall) (n := 1) (As := [.int a20]) (t_X5_isSmall C _ e21) md_X5_isSmall ⟨Nat.le_of_ble_eq_true rfl, Nat.le_of_ble_eq_true rfl⟩ q2108 q2109 q131 q2110 rfl (Nat.le_of_ble_eq_true rfl) dX5_next_185 ?_
    refine x_if_ne 201 dX5_next_188 (by decide) (fun c22 => ?_) (fun c22 => ?_)
    · rw [if_neg c22] at H
      exact t_X5_next_b201 hE ih hk298 _ _ _ _ H
    · rw [if_pos c22] at H
      refine x_aload_n 0 rfl dX5_next_191 ?_
      obtain ⟨c41, H⟩ := oit H
      obtain ⟨a41, g41, e41, H⟩ := obR H
      refine x_callV (M' := mi_X5_peek) (n := 0) (As := []) (t_X5_peek C _ e41) c41 rfl rfl md_X5_peek ⟨Nat.le_of_ble_eq_true rfl, Nat.le_of_ble_eq_true rfl⟩ q2104 q2106 qs53 q131 q2107 rfl (Nat.le_of_ble_eq_true rfl) dX5_next_192 ?_
      obtain ⟨a42, g42, e42, H⟩ := obR H
      refine x_callS (M' := mi_X5_isDigit) (n := 1) (As := [.int a41]) (t_X5_isDigit C _ e42) md_X5_isDigit ⟨Nat.le_of_ble_eq_true rfl, Nat.le_of_ble_eq_true rfl⟩ q2111 q2112 q131 q2113 rfl (Nat.le_of_ble_eq_true rfl) dX5_next_195 ?_
      refine x_if_eq 298 dX5_next_198 (by decide) (fun c43 => ?_) (fun c43 => ?_)
      · rw [if_pos c43] at H
        exact hk298 _ _ _ _ H
      · rw [if_neg c43] at H
        exact t_X5_next_b201 hE ih hk298 _ _ _ _ H
def f_X5_next_b164 (r0 : Nat) (x1 : Int32) (h : mH) : Option (Unit × mH) := bR (f_X5_isSmall x1 h) fun a11 g11 => (pF [4] 17 (.long (0 : Int64)) g11 r0).bind fun h12 => (pF [4] 14 (.int (0 : Int32)) h12 r0).bind fun h13 => f_X5_next_L181 (f_X5_next_b298) xFu r0 a11 (1 : Int32) h13
theorem t_X5_next_b164 {G : xG} {C : xC} {o : Unit × mH} (hE : xEnd G C none o.2) (r0 : Nat) (x1 : Int32) (h : mH) (H : f_X5_next_b164 r0 x1 h = some o) : X G C mi_X5_next 164 [(0, .ref r0), (1, .int x1)] [] h := by
  unfold f_X5_next_b164 at H
  refine x_iload_n 1 rfl dX5_next_164 ?_
  obtain ⟨a11, g11, e11, H⟩ := obR H
  refine x_callS (M' := mi_X5_isSmall) (n := 1) (As := [.int x1]) (t_X5_isSmall C _ e11) md_X5_isSmall ⟨Nat.le_of_ble_eq_true rfl, Nat.le_of_ble_eq_true rfl⟩ q2108 q2109 q131 q2110 rfl (Nat.le_of_ble_eq_true rfl) dX5_next_165 ?_
  refine x_istore_n [1, 2, 0] dX5_next_168 (by decide) rfl ?_
  refine x_iconst (1 : Int32) dX5_next_169 ic_1 ?_
  refine x_istore_n [1, 2, 3, 0] dX5_next_170 (by decide) rfl ?_
  refine x_aload_n 0 rfl dX5_next_171 ?_
  refine x_lconst (0 : Int64) dX5_next_172 (by decide) ?_
  obtain ⟨h12, e12, H⟩ := ob H
  refine x_putf (fp_X5_170 _) rfl rfl e12 dX5_next_173 ?_
  refine x_aload_n 0 rfl dX5_next_176 ?_
  refine x_iconst (0 : Int32) dX5_next_177 ic_0 ?_
  obtain ⟨h13, e13, H⟩ := ob H
  refine x_putf (fp_X5_167 _) rfl rfl e13 dX5_next_178 ?_
  refine X.sub [0, 2, 3] rfl ?_
  exact t_X5_next_L181 hE (t_X5_next_b298 hE) xFu _ _ _ _ H
def f_X5_next_b145 (r0 : Nat) (x1 : Int32) (s0 : Nat) (s1 : Int32) (h : mH) : Option (Unit × mH) := (pF [4] 11 (.int s1) h s0).bind fun h47 => (pF [4] 14 (.int x1) h47 r0).bind fun h48 => (gFi [4] 4 h48 r0).bind fun v49 => (pF [4] 4 (.int (v49 + (1 : Int32))) h48 r0).bind fun h50 => some ((), h50)
theorem t_X5_next_b145 {G : xG} {C : xC} {o : Unit × mH} (hE : xEnd G C none o.2) (r0 : Nat) (x1 : Int32) (s0 : Nat) (s1 : Int32) (h : mH) (H : f_X5_next_b145 r0 x1 s0 s1 h = some o) : X G C mi_X5_next 145 [(0, .ref r0), (1, .int x1)] [.int s1, .ref s0] h := by
  unfold f_X5_next_b145 at H
  obtain ⟨h47, e47, H⟩ := ob H
  refine x_putf (fp_X5_157 _) rfl rfl e47 dX5_next_145 ?_
  refine x_aload_n 0 rfl dX5_next_148 ?_
  refine x_iload_n 1 rfl dX5_next_149 ?_
  obtain ⟨h48, e48, H⟩ := ob H
  refine x_putf (fp_X5_167 _) rfl rfl e48 dX5_next_150 ?_
  refine x_aload_n 0 rfl dX5_next_153 ?_
  refine x_dup dX5_next_154 rfl ?_
  obtain ⟨v49, e49, H⟩ := ob H
  refine x_getf fg_X5_21 (gFi_spec e49) dX5_next_155 ?_
  refine x_iconst (1 : Int32) dX5_next_158 ic_1 ?_
  refine x_iadd dX5_next_159 ?_
  obtain ⟨h50, e50, H⟩ := ob H
  refine x_putf (fp_X5_21 _) rfl rfl e50 dX5_next_160 ?_
  obtain rfl := Option.some.inj H
  exact x_vret hE rfl dX5_next_163
def f_X5_next_b140 (r0 : Nat) (x1 : Int32) (s0 : Nat) (h : mH) : Option (Unit × mH) := f_X5_next_b145 r0 x1 s0 (3 : Int32) h
theorem t_X5_next_b140 {G : xG} {C : xC} {o : Unit × mH} (hE : xEnd G C none o.2) (r0 : Nat) (x1 : Int32) (s0 : Nat) (h : mH) (H : f_X5_next_b140 r0 x1 s0 h = some o) : X G C mi_X5_next 140 [(0, .ref r0), (1, .int x1)] [.ref s0] h := by
  unfold f_X5_next_b140 at H
  refine x_iconst (3 : Int32) dX5_next_140 ic_3 ?_
  refine x_goto (tgt := 145) dX5_next_141 (by decide) ?_
  exact t_X5_next_b145 hE _ _ _ _ _ H
def f_X5_next_b144 (r0 : Nat) (x1 : Int32) (s0 : Nat) (h : mH) : Option (Unit × mH) := f_X5_next_b145 r0 x1 s0 (4 : Int32) h
theorem t_X5_next_b144 {G : xG} {C : xC} {o : Unit × mH} (hE : xEnd G C none o.2) (r0 : Nat) (x1 : Int32) (s0 : Nat) (h : mH) (H : f_X5_next_b144 r0 x1 s0 h = some o) : X G C mi_X5_next 144 [(0, .ref r0), (1, .int x1)] [.ref s0] h := by
  unfold f_X5_next_b144 at H
  refine x_iconst (4 : Int32) dX5_next_144 ic_4 ?_
  exact t_X5_next_b145 hE _ _ _ _ _ H
def f_X5_next_b80 (r0 : Nat) (h : mH) : Option (Unit × mH) := if gC h r0 = 4 then bR (f_X5_peek r0  h) fun a7 g7 => if 0 ≤ a7 then bR (f_X5_isSmall a7 g7) fun a9 g9 => if a9 = 0 then bR (f_X5_isDigit a7 g9) fun a44 g44 => if a44 = 0 then if a7 = (59 : Int32) then f_X5_next_b140 r0 a7 r0 g44 else if a7 = (40 : Int32) then f_X5_next_b140 r0 a7 r0 g44 else if a7 = (41 : Int32) then f_X5_next_b140 r0 a7 r0 g44 else if a7 < (60 : Int32) then f_X5_next_b144 r0 a7 r0 g44 else if (62 : Int32) < a7 then f_X5_next_b144 r0 a7 r0 g44 else f_X5_next_b140 r0 a7 r0 g44 else f_X5_next_b164 r0 a7 g44 else f_X5_next_b164 r0 a7 g9 else (pF [4] 11 (.int (0 : Int32)) g7 r0).bind fun h55 => some ((), h55) else none
theorem t_X5_next_b80 {G : xG} {C : xC} {o : Unit × mH} (hE : xEnd G C none o.2) (r0 : Nat) (h : mH) (H : f_X5_next_b80 r0 h = some o) : X G C mi_X5_next 80 [(0, .ref r0)] [] h := by
  unfold f_X5_next_b80 at H
  refine x_aload_n 0 rfl dX5_next_80 ?_
  obtain ⟨c7, H⟩ := oit H
  obtain ⟨a7, g7, e7, H⟩ := obR H
  refine x_callV (M' := mi_X5_peek) (n := 0) (As := []) (t_X5_peek C _ e7) c7 rfl rfl md_X5_peek ⟨Nat.le_of_ble_eq_true rfl, Nat.le_of_ble_eq_true rfl⟩ q2104 q2106 qs53 q131 q2107 rfl (Nat.le_of_ble_eq_true rfl) dX5_next_81 ?_
  refine x_istore_n [1, 0] dX5_next_84 (by decide) rfl ?_
  refine x_iload_n 1 rfl dX5_next_85 ?_
  refine x_if_ge 95 dX5_next_86 (by decide) (fun c8 => ?_) (fun c8 => ?_)
  · rw [if_pos c8] at H
    refine x_iload_n 1 rfl dX5_next_95 ?_
    obtain ⟨a9, g9, e9, H⟩ := obR H
    refine x_callS (M' := mi_X5_isSmall) (n := 1) (As := [.int a7]) (t_X5_isSmall C _ e9) md_X5_isSmall ⟨Nat.le_of_ble_eq_true rfl, Nat.le_of_ble_eq_true rfl⟩ q2108 q2109 q131 q2110 rfl (Nat.le_of_ble_eq_true rfl) dX5_next_96 ?_
    refine x_if_ne 164 dX5_next_99 (by decide) (fun c10 => ?_) (fun c10 => ?_)
    · rw [if_neg c10] at H
      exact t_X5_next_b164 hE _ _ _ H
    · rw [if_pos c10] at H
      refine x_iload_n 1 rfl dX5_next_102 ?_
      obtain ⟨a44, g44, e44, H⟩ := obR H
      refine x_callS (M' := mi_X5_isDigit) (n := 1) (As := [.int a7]) (t_X5_isDigit C _ e44) md_X5_isDigit ⟨Nat.le_of_ble_eq_true rfl, Nat.le_of_ble_eq_true rfl⟩ q2111 q2112 q131 q2113 rfl (Nat.le_of_ble_eq_true rfl) dX5_next_103 ?_
      refine x_if_ne 164 dX5_next_106 (by decide) (fun c45 => ?_) (fun c45 => ?_)
      · rw [if_neg c45] at H
        exact t_X5_next_b164 hE _ _ _ H
      · rw [if_pos c45] at H
        refine x_aload_n 0 rfl dX5_next_109 ?_
        refine x_iload_n 1 rfl dX5_next_110 ?_
        refine x_bipush (59 : Int32) dX5_next_111 bi_59 ?_
        refine x_icmp_eq 140 dX5_next_113 (by decide) (fun c46 => ?_) (fun c46 => ?_)
        · rw [if_pos c46] at H
          exact t_X5_next_b140 hE _ _ _ _ H
        · rw [if_neg c46] at H
          refine x_iload_n 1 rfl dX5_next_116 ?_
          refine x_bipush (40 : Int32) dX5_next_117 bi_40 ?_
          refine x_icmp_eq 140 dX5_next_119 (by decide) (fun c51 => ?_) (fun c51 => ?_)
          · rw [if_pos c51] at H
            exact t_X5_next_b140 hE _ _ _ _ H
          · rw [if_neg c51] at H
            refine x_iload_n 1 rfl dX5_next_122 ?_
            refine x_bipush (41 : Int32) dX5_next_123 bi_41 ?_
            refine x_icmp_eq 140 dX5_next_125 (by decide) (fun c52 => ?_) (fun c52 => ?_)
            · rw [if_pos c52] at H
              exact t_X5_next_b140 hE _ _ _ _ H
            · rw [if_neg c52] at H
              refine x_iload_n 1 rfl dX5_next_128 ?_
              refine x_bipush (60 : Int32) dX5_next_129 bi_60 ?_
              refine x_icmp_lt 144 dX5_next_131 (by decide) (fun c53 => ?_) (fun c53 => ?_)
              · rw [if_pos c53] at H
                exact t_X5_next_b144 hE _ _ _ _ H
              · rw [if_neg c53] at H
                refine x_iload_n 1 rfl dX5_next_134 ?_
                refine x_bipush (62 : Int32) dX5_next_135 bi_62 ?_
                refine x_icmp_gt 144 dX5_next_137 (by decide) (fun c54 => ?_) (fun c54 => ?_)
                · rw [if_pos c54] at H
                  exact t_X5_next_b144 hE _ _ _ _ H
                · rw [if_neg c54] at H
                  exact t_X5_next_b140 hE _ _ _ _ H
  · rw [if_neg c8] at H
    refine x_aload_n 0 rfl dX5_next_89 ?_
    refine x_iconst (0 : Int32) dX5_next_90 ic_0 ?_
    obtain ⟨h55, e55, H⟩ := ob H
    refine x_putf (fp_X5_157 _) rfl rfl e55 dX5_next_91 ?_
    obtain rfl := Option.some.inj H
    exact x_vret hE rfl dX5_next_94
def f_X5_next_b31 (r0 : Nat) (h : mH) : Option (Unit × mH) := (gFi [4] 4 h r0).bind fun v1 => (pF [4] 12 (.int v1) h r0).bind fun h2 => (pF [4] 13 (.int (0 : Int32)) h2 r0).bind fun h3 => (gFi [4] 3 h3 r0).bind fun v4 => (gFi [4] 5 h3 r0).bind fun v5 => if v4 ≤ v5 then f_X5_next_b80 r0 h3 else (gFi [4] 4 h3 r0).bind fun v56 => (gFi [4] 5 h3 r0).bind fun v57 => if v56 < v57 then f_X5_next_b80 r0 h3 else (gFi [4] 5 h3 r0).bind fun v59 => (pF [4] 12 (.int v59) h3 r0).bind fun h60 => (pF [4] 11 (.int (4 : Int32)) h60 r0).bind fun h61 => some ((), h61)
theorem t_X5_next_b31 {G : xG} {C : xC} {o : Unit × mH} (hE : xEnd G C none o.2) (r0 : Nat) (h : mH) (H : f_X5_next_b31 r0 h = some o) : X G C mi_X5_next 31 [(0, .ref r0)] [] h := by
  unfold f_X5_next_b31 at H
  refine x_aload_n 0 rfl dX5_next_31 ?_
  refine x_aload_n 0 rfl dX5_next_32 ?_
  obtain ⟨v1, e1, H⟩ := ob H
  refine x_getf fg_X5_21 (gFi_spec e1) dX5_next_33 ?_
  obtain ⟨h2, e2, H⟩ := ob H
  refine x_putf (fp_X5_151 _) rfl rfl e2 dX5_next_36 ?_
  refine x_aload_n 0 rfl dX5_next_39 ?_
  refine x_iconst (0 : Int32) dX5_next_40 ic_0 ?_
  obtain ⟨h3, e3, H⟩ := ob H
  refine x_putf (fp_X5_154 _) rfl rfl e3 dX5_next_41 ?_
  refine x_aload_n 0 rfl dX5_next_44 ?_
  obtain ⟨v4, e4, H⟩ := ob H
  refine x_getf fg_X5_18 (gFi_spec e4) dX5_next_45 ?_
  refine x_aload_n 0 rfl dX5_next_48 ?_
  obtain ⟨v5, e5, H⟩ := ob H
  refine x_getf fg_X5_24 (gFi_spec e5) dX5_next_49 ?_
  refine x_icmp_le 80 dX5_next_52 (by decide) (fun c6 => ?_) (fun c6 => ?_)
  · rw [if_pos c6] at H
    exact t_X5_next_b80 hE _ _ H
  · rw [if_neg c6] at H
    refine x_aload_n 0 rfl dX5_next_55 ?_
    obtain ⟨v56, e56, H⟩ := ob H
    refine x_getf fg_X5_21 (gFi_spec e56) dX5_next_56 ?_
    refine x_aload_n 0 rfl dX5_next_59 ?_
    obtain ⟨v57, e57, H⟩ := ob H
    refine x_getf fg_X5_24 (gFi_spec e57) dX5_next_60 ?_
    refine x_icmp_lt 80 dX5_next_63 (by decide) (fun c58 => ?_) (fun c58 => ?_)
    · rw [if_pos c58] at H
      exact t_X5_next_b80 hE _ _ H
    · rw [if_neg c58] at H
      refine x_aload_n 0 rfl dX5_next_66 ?_
      refine x_aload_n 0 rfl dX5_next_67 ?_
      obtain ⟨v59, e59, H⟩ := ob H
      refine x_getf fg_X5_24 (gFi_spec e59) dX5_next_68 ?_
      obtain ⟨h60, e60, H⟩ := ob H
      refine x_putf (fp_X5_151 _) rfl rfl e60 dX5_next_71 ?_
      refine x_aload_n 0 rfl dX5_next_74 ?_
      refine x_iconst (4 : Int32) dX5_next_75 ic_4 ?_
      obtain ⟨h61, e61, H⟩ := ob H
      refine x_putf (fp_X5_157 _) rfl rfl e61 dX5_next_76 ?_
      obtain rfl := Option.some.inj H
      exact x_vret hE rfl dX5_next_79
def f_X5_next_b18 (kb : Nat → mH → Option (Unit × mH)) (k31 : Nat → mH → Option (Unit × mH)) (r0 : Nat) (h : mH) : Option (Unit × mH) := (gFi [4] 4 h r0).bind fun v64 => (pF [4] 4 (.int (v64 + (1 : Int32))) h r0).bind fun h65 => kb r0 h65
theorem t_X5_next_b18 {G : xG} {C : xC} {o : Unit × mH} (hE : xEnd G C none o.2) {kb : Nat → mH → Option (Unit × mH)} (hkb : ∀ (r0 : Nat) (h : mH), kb r0 h = some o → X G C mi_X5_next 0 [(0, .ref r0)] [] h) {k31 : Nat → mH → Option (Unit × mH)} (hk31 : ∀ (r0 : Nat) (h : mH), k31 r0 h = some o → X G C mi_X5_next 31 [(0, .ref r0)] [] h) (r0 : Nat) (h : mH) (H : f_X5_next_b18 kb k31 r0 h = some o) : X G C mi_X5_next 18 [(0, .ref r0)] [] h := by
  unfold f_X5_next_b18 at H
  refine x_aload_n 0 rfl dX5_next_18 ?_
  refine x_dup dX5_next_19 rfl ?_
  obtain ⟨v64, e64, H⟩ := ob H
  refine x_getf fg_X5_21 (gFi_spec e64) dX5_next_20 ?_
  refine x_iconst (1 : Int32) dX5_next_23 ic_1 ?_
  refine x_iadd dX5_next_24 ?_
  obtain ⟨h65, e65, H⟩ := ob H
  refine x_putf (fp_X5_21 _) rfl rfl e65 dX5_next_25 ?_
  refine x_goto (tgt := 0) dX5_next_28 (by decide) ?_
  exact hkb _ _ H
def f_X5_next_L0 (k31 : Nat → mH → Option (Unit × mH)) : Nat → Nat → mH → Option (Unit × mH)
  | 0, _, _ => none
  | n + 1, r0, h => if gC h r0 = 4 then bR (f_X5_peek r0  h) fun a62 g62 => if a62 = (32 : Int32) then f_X5_next_b18 (f_X5_next_L0 k31 n) k31 r0 g62 else if gC g62 r0 = 4 then bR (f_X5_peek r0  g62) fun a66 g66 => if a66 = (10 : Int32) then f_X5_next_b18 (f_X5_next_L0 k31 n) k31 r0 g66 else k31 r0 g66 else none else none
theorem t_X5_next_L0 {G : xG} {C : xC} {o : Unit × mH} (hE : xEnd G C none o.2) {k31 : Nat → mH → Option (Unit × mH)} (hk31 : ∀ (r0 : Nat) (h : mH), k31 r0 h = some o → X G C mi_X5_next 31 [(0, .ref r0)] [] h) : ∀ (n : Nat) (r0 : Nat) (h : mH), f_X5_next_L0 k31 n r0 h = some o → X G C mi_X5_next 0 [(0, .ref r0)] [] h := by
  intro n
  induction n with
  | zero => intro r0 h H; exact nomatch (show (none : Option (Unit × mH)) = some o from H)
  | succ n ih =>
    intro r0 h H
    rw [f_X5_next_L0] at H
    refine x_aload_n 0 rfl dX5_next_0 ?_
    obtain ⟨c62, H⟩ := oit H
    obtain ⟨a62, g62, e62, H⟩ := obR H
    refine x_callV (M' := mi_X5_peek) (n := 0) (As := []) (t_X5_peek C _ e62) c62 rfl rfl md_X5_peek ⟨Nat.le_of_ble_eq_true rfl, Nat.le_of_ble_eq_true rfl⟩ q2104 q2106 qs53 q131 q2107 rfl (Nat.le_of_ble_eq_true rfl) dX5_next_1 ?_
    refine x_bipush (32 : Int32) dX5_next_4 bi_32 ?_
    refine x_icmp_eq 18 dX5_next_6 (by decide) (fun c63 => ?_) (fun c63 => ?_)
    · rw [if_pos c63] at H
      exact t_X5_next_b18 hE ih hk31 _ _ H
    · rw [if_neg c63] at H
      refine x_aload_n 0 rfl dX5_next_9 ?_
      obtain ⟨c66, H⟩ := oit H
      obtain ⟨a66, g66, e66, H⟩ := obR H
      refine x_callV (M' := mi_X5_peek) (n := 0) (As := []) (t_X5_peek C _ e66) c66 rfl rfl md_X5_peek ⟨Nat.le_of_ble_eq_true rfl, Nat.le_of_ble_eq_true rfl⟩ q2104 q2106 qs53 q131 q2107 rfl (Nat.le_of_ble_eq_true rfl) dX5_next_10 ?_
      refine x_bipush (10 : Int32) dX5_next_13 bi_10 ?_
      refine x_icmp_ne 31 dX5_next_15 (by decide) (fun c67 => ?_) (fun c67 => ?_)
      · rw [if_neg c67] at H
        exact hk31 _ _ H
      · rw [if_pos c67] at H
        exact t_X5_next_b18 hE ih hk31 _ _ H
def f_X5_next (r0 : Nat) (h : mH) : Option (Unit × mH) := f_X5_next_L0 (f_X5_next_b31) xFu r0 h
theorem t_X5_next {G : xG} (C0 : xC) {l : Launch} {r0 : Nat} (h : mH) {o : Unit × mH} (H : f_X5_next r0 h = some o) : XR G l mi_X5_next [.ref r0] h none o.2 := by
  refine XR.of C0 (by decide) (Nat.le_of_ble_eq_true rfl) (fun C _ _ _ hE => ?_)
  show X G C mi_X5_next 0 [(0, .ref r0)] [] h
  unfold f_X5_next at H
  exact t_X5_next_L0 hE (t_X5_next_b31 hE) xFu _ _ H
abbrev mi_X5_nots : xM := (cX5_nots, yX5_nots, 1, none, 2)
theorem md_X5_nots : xMD mi_X5_nots 0 := ⟨by decide, by decide, by decide +kernel⟩
def f_X5_nots_L0 : Nat → Nat → mH → Option (Unit × mH)
  | 0, _, _ => none
  | n + 1, r0, h => (gFi [4] 45 h r0).bind fun v1 => if v1 ≤ 0 then some ((), h) else (gFr [4] 42 h r0).bind fun v3 => (gFi [4] 45 h r0).bind fun v4 => (aI .int h v3 (v4 - (1 : Int32))).bind fun v5 => if v5 = (20 : Int32) then (gFi [4] 45 h r0).bind fun v7 => (pF [4] 45 (.int (v7 - (1 : Int32))) h r0).bind fun h8 => (gFi [4] 46 h8 r0).bind fun v9 => (pF [4] 46 (.int (v9 - (1 : Int32))) h8 r0).bind fun h10 => if gC h10 r0 = 4 then bR (f_X5_code r0 (20 : Int32) (0 : Int32) (0 : Int32) h10) fun a11 g11 => (f_X5_nots_L0 n) r0 g11 else none else some ((), h)
theorem t_X5_nots_L0 {G : xG} {C : xC} {o : Unit × mH} (hE : xEnd G C none o.2) : ∀ (n : Nat) (r0 : Nat) (h : mH), f_X5_nots_L0 n r0 h = some o → X G C mi_X5_nots 0 [(0, .ref r0)] [] h := by
  intro n
  induction n with
  | zero => intro r0 h H; exact nomatch (show (none : Option (Unit × mH)) = some o from H)
  | succ n ih =>
    intro r0 h H
    rw [f_X5_nots_L0] at H
    refine x_aload_n 0 rfl dX5_nots_0 ?_
    obtain ⟨v1, e1, H⟩ := ob H
    refine x_getf fg_X5_434 (gFi_spec e1) dX5_nots_1 ?_
    refine x_if_le 54 dX5_nots_4 (by decide) (fun c2 => ?_) (fun c2 => ?_)
    · rw [if_pos c2] at H
      obtain rfl := Option.some.inj H
      exact x_vret hE rfl dX5_nots_54
    · rw [if_neg c2] at H
      refine x_aload_n 0 rfl dX5_nots_7 ?_
      obtain ⟨v3, e3, H⟩ := ob H
      refine x_getf fg_X5_80 (gFr_spec e3) dX5_nots_8 ?_
      refine x_aload_n 0 rfl dX5_nots_11 ?_
      obtain ⟨v4, e4, H⟩ := ob H
      refine x_getf fg_X5_434 (gFi_spec e4) dX5_nots_12 ?_
      refine x_iconst (1 : Int32) dX5_nots_15 ic_1 ?_
      refine x_isub dX5_nots_16 ?_
      obtain ⟨v5, e5, H⟩ := ob H
      refine x_iald e5 dX5_nots_17 ?_
      refine x_bipush (20 : Int32) dX5_nots_18 bi_20 ?_
      refine x_icmp_ne 54 dX5_nots_20 (by decide) (fun c6 => ?_) (fun c6 => ?_)
      · rw [if_neg c6] at H
        obtain rfl := Option.some.inj H
        exact x_vret hE rfl dX5_nots_54
      · rw [if_pos c6] at H
        refine x_aload_n 0 rfl dX5_nots_23 ?_
        refine x_dup dX5_nots_24 rfl ?_
        obtain ⟨v7, e7, H⟩ := ob H
        refine x_getf fg_X5_434 (gFi_spec e7) dX5_nots_25 ?_
        refine x_iconst (1 : Int32) dX5_nots_28 ic_1 ?_
        refine x_isub dX5_nots_29 ?_
        obtain ⟨h8, e8, H⟩ := ob H
        refine x_putf (fp_X5_434 _) rfl rfl e8 dX5_nots_30 ?_
        refine x_aload_n 0 rfl dX5_nots_33 ?_
        refine x_dup dX5_nots_34 rfl ?_
        obtain ⟨v9, e9, H⟩ := ob H
        refine x_getf fg_X5_440 (gFi_spec e9) dX5_nots_35 ?_
        refine x_iconst (1 : Int32) dX5_nots_38 ic_1 ?_
        refine x_isub dX5_nots_39 ?_
        obtain ⟨h10, e10, H⟩ := ob H
        refine x_putf (fp_X5_440 _) rfl rfl e10 dX5_nots_40 ?_
        refine x_aload_n 0 rfl dX5_nots_43 ?_
        refine x_bipush (20 : Int32) dX5_nots_44 bi_20 ?_
        refine x_iconst (0 : Int32) dX5_nots_46 ic_0 ?_
        refine x_iconst (0 : Int32) dX5_nots_47 ic_0 ?_
        obtain ⟨c11, H⟩ := oit H
        obtain ⟨a11, g11, e11, H⟩ := obR H
        refine x_callV (M' := mi_X5_code) (n := 3) (As := [.int (20 : Int32), .int (0 : Int32), .int (0 : Int32)]) (t_X5_code C _ e11) c11 rfl rfl md_X5_code ⟨Nat.le_of_ble_eq_true rfl, Nat.le_of_ble_eq_true rfl⟩ q2477 q2479 qs111 q131 q2480 rfl (Nat.le_of_ble_eq_true rfl) dX5_nots_48 ?_
        refine x_goto (tgt := 0) dX5_nots_51 (by decide) ?_
        exact ih _ _ H
def f_X5_nots (r0 : Nat) (h : mH) : Option (Unit × mH) := f_X5_nots_L0  xFu r0 h
theorem t_X5_nots {G : xG} (C0 : xC) {l : Launch} {r0 : Nat} (h : mH) {o : Unit × mH} (H : f_X5_nots r0 h = some o) : XR G l mi_X5_nots [.ref r0] h none o.2 := by
  refine XR.of C0 (by decide) (Nat.le_of_ble_eq_true rfl) (fun C _ _ _ hE => ?_)
  show X G C mi_X5_nots 0 [(0, .ref r0)] [] h
  unfold f_X5_nots at H
  exact t_X5_nots_L0 hE  xFu _ _ H
abbrev mi_X5_behind : xM := (cX5_behind, yX5_behind, 1, some .boolean, 3)
theorem md_X5_behind : xMD mi_X5_behind 0 := ⟨by decide, by decide, by decide +kernel⟩
def f_X5_behind_b70 (r0 : Nat) (s0 : Nat) (s1 : Int32) (s2 : Int32) (h : mH) : Option (Int32 × mH) := (sI .int h s0 s1 s2).bind fun h11 => (gFi [4] 45 h11 r0).bind fun v12 => (pF [4] 45 (.int (v12 + (1 : Int32))) h11 r0).bind fun h13 => (pF [4] 47 (.int (0 : Int32)) h13 r0).bind fun h14 => if gC h14 r0 = 4 then bR (f_X5_next r0  h14) fun a15 g15 => some ((1 : Int32), g15) else none
theorem t_X5_behind_b70 {G : xG} {C : xC} {o : Int32 × mH} (hE : xEnd G C (some (.int o.1)) o.2) (r0 : Nat) (s0 : Nat) (s1 : Int32) (s2 : Int32) (h : mH) (H : f_X5_behind_b70 r0 s0 s1 s2 h = some o) : X G C mi_X5_behind 70 [(0, .ref r0)] [.int s2, .int s1, .ref s0] h := by
  unfold f_X5_behind_b70 at H
  obtain ⟨h11, e11, H⟩ := ob H
  refine x_iast e11 dX5_behind_70 ?_
  refine x_aload_n 0 rfl dX5_behind_71 ?_
  refine x_dup dX5_behind_72 rfl ?_
  obtain ⟨v12, e12, H⟩ := ob H
  refine x_getf fg_X5_434 (gFi_spec e12) dX5_behind_73 ?_
  refine x_iconst (1 : Int32) dX5_behind_76 ic_1 ?_
  refine x_iadd dX5_behind_77 ?_
  obtain ⟨h13, e13, H⟩ := ob H
  refine x_putf (fp_X5_434 _) rfl rfl e13 dX5_behind_78 ?_
  refine x_aload_n 0 rfl dX5_behind_81 ?_
  refine x_iconst (0 : Int32) dX5_behind_82 ic_0 ?_
  obtain ⟨h14, e14, H⟩ := ob H
  refine x_putf (fp_X5_449 _) rfl rfl e14 dX5_behind_83 ?_
  refine x_aload_n 0 rfl dX5_behind_86 ?_
  obtain ⟨c15, H⟩ := oit H
  obtain ⟨a15, g15, e15, H⟩ := obR H
  refine x_callV (M' := mi_X5_next) (n := 0) (As := []) (t_X5_next C _ e15) c15 rfl rfl md_X5_next ⟨Nat.le_of_ble_eq_true rfl, Nat.le_of_ble_eq_true rfl⟩ q2100 q2102 qs52 q131 q2103 rfl (Nat.le_of_ble_eq_true rfl) dX5_behind_87 ?_
  refine x_iconst (1 : Int32) dX5_behind_90 ic_1 ?_
  obtain rfl := Option.some.inj H
  exact x_iret hE rfl rfl dX5_behind_91
def f_X5_behind_b42 (r0 : Nat) (s0 : Nat) (s1 : Int32) (h : mH) : Option (Int32 × mH) := if gC h s0 = 4 then bR (f_X5_joins s0 s1 h) fun a6 g6 => (gFr [4] 42 g6 r0).bind fun v7 => (gFi [4] 45 g6 r0).bind fun v8 => if gC g6 r0 = 4 then bR (f_X5_isWord r0 (6385252 : Int64) g6) fun a9 g9 => if a9 = 0 then f_X5_behind_b70 r0 v7 v8 (22 : Int32) g9 else f_X5_behind_b70 r0 v7 v8 (21 : Int32) g9 else none else none
theorem t_X5_behind_b42 {G : xG} {C : xC} {o : Int32 × mH} (hE : xEnd G C (some (.int o.1)) o.2) (r0 : Nat) (s0 : Nat) (s1 : Int32) (h : mH) (H : f_X5_behind_b42 r0 s0 s1 h = some o) : X G C mi_X5_behind 42 [(0, .ref r0)] [.int s1, .ref s0] h := by
  unfold f_X5_behind_b42 at H
  obtain ⟨c6, H⟩ := oit H
  obtain ⟨a6, g6, e6, H⟩ := obR H
  refine x_callV (M' := mi_X5_joins) (n := 1) (As := [.int s1]) (t_X5_joins C _ e6) c6 rfl rfl md_X5_joins ⟨Nat.le_of_ble_eq_true rfl, Nat.le_of_ble_eq_true rfl⟩ q2481 q2483 qs112 q131 q2484 rfl (Nat.le_of_ble_eq_true rfl) dX5_behind_42 ?_
  refine x_aload_n 0 rfl dX5_behind_45 ?_
  obtain ⟨v7, e7, H⟩ := ob H
  refine x_getf fg_X5_80 (gFr_spec e7) dX5_behind_46 ?_
  refine x_aload_n 0 rfl dX5_behind_49 ?_
  obtain ⟨v8, e8, H⟩ := ob H
  refine x_getf fg_X5_434 (gFi_spec e8) dX5_behind_50 ?_
  refine x_aload_n 0 rfl dX5_behind_53 ?_
  refine x_ldc2 q1919 dX5_behind_54 ?_
  obtain ⟨c9, H⟩ := oit H
  obtain ⟨a9, g9, e9, H⟩ := obR H
  refine x_callV (M' := mi_X5_isWord) (n := 1) (As := [.long (6385252 : Int64)]) (t_X5_isWord C _ e9) c9 rfl rfl md_X5_isWord ⟨Nat.le_of_ble_eq_true rfl, Nat.le_of_ble_eq_true rfl⟩ q2118 q2120 qs55 q131 q2121 rfl (Nat.le_of_ble_eq_true rfl) dX5_behind_57 ?_
  refine x_if_eq 68 dX5_behind_60 (by decide) (fun c10 => ?_) (fun c10 => ?_)
  · rw [if_pos c10] at H
    refine x_bipush (22 : Int32) dX5_behind_68 bi_22 ?_
    exact t_X5_behind_b70 hE _ _ _ _ _ H
  · rw [if_neg c10] at H
    refine x_bipush (21 : Int32) dX5_behind_63 bi_21 ?_
    refine x_goto (tgt := 70) dX5_behind_65 (by decide) ?_
    exact t_X5_behind_b70 hE _ _ _ _ _ H
def f_X5_behind_b24 (r0 : Nat) (h : mH) : Option (Int32 × mH) := if gC h r0 = 4 then bR (f_X5_isWord r0 (6385252 : Int64) h) fun a4 g4 => if a4 = 0 then f_X5_behind_b42 r0 r0 (22 : Int32) g4 else f_X5_behind_b42 r0 r0 (21 : Int32) g4 else none
theorem t_X5_behind_b24 {G : xG} {C : xC} {o : Int32 × mH} (hE : xEnd G C (some (.int o.1)) o.2) (r0 : Nat) (h : mH) (H : f_X5_behind_b24 r0 h = some o) : X G C mi_X5_behind 24 [(0, .ref r0)] [] h := by
  unfold f_X5_behind_b24 at H
  refine x_aload_n 0 rfl dX5_behind_24 ?_
  refine x_aload_n 0 rfl dX5_behind_25 ?_
  refine x_ldc2 q1919 dX5_behind_26 ?_
  obtain ⟨c4, H⟩ := oit H
  obtain ⟨a4, g4, e4, H⟩ := obR H
  refine x_callV (M' := mi_X5_isWord) (n := 1) (As := [.long (6385252 : Int64)]) (t_X5_isWord C _ e4) c4 rfl rfl md_X5_isWord ⟨Nat.le_of_ble_eq_true rfl, Nat.le_of_ble_eq_true rfl⟩ q2118 q2120 qs55 q131 q2121 rfl (Nat.le_of_ble_eq_true rfl) dX5_behind_29 ?_
  refine x_if_eq 40 dX5_behind_32 (by decide) (fun c5 => ?_) (fun c5 => ?_)
  · rw [if_pos c5] at H
    refine x_bipush (22 : Int32) dX5_behind_40 bi_22 ?_
    exact t_X5_behind_b42 hE _ _ _ _ H
  · rw [if_neg c5] at H
    refine x_bipush (21 : Int32) dX5_behind_35 bi_21 ?_
    refine x_goto (tgt := 42) dX5_behind_37 (by decide) ?_
    exact t_X5_behind_b42 hE _ _ _ _ H
def f_X5_behind_b114 (r0 : Nat) (h : mH) : Option (Int32 × mH) := if gC h r0 = 4 then bR (f_X5_bad r0 (1 : Int32) h) fun a21 g21 => rZ a21 g21 else none
theorem t_X5_behind_b114 {G : xG} {C : xC} {o : Int32 × mH} (hE : xEnd G C (some (.int o.1)) o.2) (r0 : Nat) (h : mH) (H : f_X5_behind_b114 r0 h = some o) : X G C mi_X5_behind 114 [(0, .ref r0)] [] h := by
  unfold f_X5_behind_b114 at H
  refine x_aload_n 0 rfl dX5_behind_114 ?_
  refine x_iconst (1 : Int32) dX5_behind_115 ic_1 ?_
  obtain ⟨c21, H⟩ := oit H
  obtain ⟨a21, g21, e21, H⟩ := obR H
  refine x_callV (M' := mi_X5_bad) (n := 1) (As := [.int (1 : Int32)]) (t_X5_bad C _ e21) c21 rfl rfl md_X5_bad ⟨Nat.le_of_ble_eq_true rfl, Nat.le_of_ble_eq_true rfl⟩ q2126 q2128 qs57 q131 q2129 rfl (Nat.le_of_ble_eq_true rfl) dX5_behind_116 ?_
  obtain ⟨c, rfl⟩ := rZ_spec H
  exact x_iret hE rfl c dX5_behind_119
def f_X5_behind (r0 : Nat) (h : mH) : Option (Int32 × mH) := if gC h r0 = 4 then bR (f_X5_nots r0  h) fun a1 g1 => if gC g1 r0 = 4 then bR (f_X5_isWord r0 (6385252 : Int64) g1) fun a2 g2 => if a2 = 0 then if gC g2 r0 = 4 then bR (f_X5_isWord r0 (28530 : Int64) g2) fun a16 g16 => if a16 = 0 then if gC g16 r0 = 4 then bR (f_X5_joins r0 (22 : Int32) g16) fun a18 g18 => if gC g18 r0 = 4 then bR (f_X5_isSign r0 (41 : Int32) g18) fun a19 g19 => if a19 = 0 then f_X5_behind_b114 r0 g19 else (gFi [4] 45 g19 r0).bind fun v22 => if v22 = 0 then f_X5_behind_b114 r0 g19 else (gFi [4] 45 g19 r0).bind fun v24 => (pF [4] 45 (.int (v24 - (1 : Int32))) g19 r0).bind fun h25 => (gFi [4] 46 h25 r0).bind fun v26 => (pF [4] 46 (.int (v26 - (1 : Int32))) h25 r0).bind fun h27 => if gC h27 r0 = 4 then bR (f_X5_next r0  h27) fun a28 g28 => some ((1 : Int32), g28) else none else none else none else f_X5_behind_b24 r0 g16 else none else f_X5_behind_b24 r0 g2 else none else none
theorem t_X5_behind {G : xG} (C0 : xC) {l : Launch} {r0 : Nat} (h : mH) {o : Int32 × mH} (H : f_X5_behind r0 h = some o) : XR G l mi_X5_behind [.ref r0] h (some (.int o.1)) o.2 := by
  refine XR.of C0 (by decide) (Nat.le_of_ble_eq_true rfl) (fun C _ _ _ hE => ?_)
  show X G C mi_X5_behind 0 [(0, .ref r0)] [] h
  unfold f_X5_behind at H
  refine x_aload_n 0 rfl dX5_behind_0 ?_
  obtain ⟨c1, H⟩ := oit H
  obtain ⟨a1, g1, e1, H⟩ := obR H
  refine x_callV (M' := mi_X5_nots) (n := 0) (As := []) (t_X5_nots C _ e1) c1 rfl rfl md_X5_nots ⟨Nat.le_of_ble_eq_true rfl, Nat.le_of_ble_eq_true rfl⟩ q2473 q2475 qs110 q131 q2476 rfl (Nat.le_of_ble_eq_true rfl) dX5_behind_1 ?_
  refine x_aload_n 0 rfl dX5_behind_4 ?_
  refine x_ldc2 q1919 dX5_behind_5 ?_
  obtain ⟨c2, H⟩ := oit H
  obtain ⟨a2, g2, e2, H⟩ := obR H
  refine x_callV (M' := mi_X5_isWord) (n := 1) (As := [.long (6385252 : Int64)]) (t_X5_isWord C _ e2) c2 rfl rfl md_X5_isWord ⟨Nat.le_of_ble_eq_true rfl, Nat.le_of_ble_eq_true rfl⟩ q2118 q2120 qs55 q131 q2121 rfl (Nat.le_of_ble_eq_true rfl) dX5_behind_8 ?_
  refine x_if_ne 24 dX5_behind_11 (by decide) (fun c3 => ?_) (fun c3 => ?_)
  · rw [if_neg c3] at H
    exact t_X5_behind_b24 hE _ _ H
  · rw [if_pos c3] at H
    refine x_aload_n 0 rfl dX5_behind_14 ?_
    refine x_ldc2 q1918 dX5_behind_15 ?_
    obtain ⟨c16, H⟩ := oit H
    obtain ⟨a16, g16, e16, H⟩ := obR H
    refine x_callV (M' := mi_X5_isWord) (n := 1) (As := [.long (28530 : Int64)]) (t_X5_isWord C _ e16) c16 rfl rfl md_X5_isWord ⟨Nat.le_of_ble_eq_true rfl, Nat.le_of_ble_eq_true rfl⟩ q2118 q2120 qs55 q131 q2121 rfl (Nat.le_of_ble_eq_true rfl) dX5_behind_18 ?_
    refine x_if_eq 92 dX5_behind_21 (by decide) (fun c17 => ?_) (fun c17 => ?_)
    · rw [if_pos c17] at H
      refine x_aload_n 0 rfl dX5_behind_92 ?_
      refine x_bipush (22 : Int32) dX5_behind_93 bi_22 ?_
      obtain ⟨c18, H⟩ := oit H
      obtain ⟨a18, g18, e18, H⟩ := obR H
      refine x_callV (M' := mi_X5_joins) (n := 1) (As := [.int (22 : Int32)]) (t_X5_joins C _ e18) c18 rfl rfl md_X5_joins ⟨Nat.le_of_ble_eq_true rfl, Nat.le_of_ble_eq_true rfl⟩ q2481 q2483 qs112 q131 q2484 rfl (Nat.le_of_ble_eq_true rfl) dX5_behind_95 ?_
      refine x_aload_n 0 rfl dX5_behind_98 ?_
      refine x_bipush (41 : Int32) dX5_behind_99 bi_41 ?_
      obtain ⟨c19, H⟩ := oit H
      obtain ⟨a19, g19, e19, H⟩ := obR H
      refine x_callV (M' := mi_X5_isSign) (n := 1) (As := [.int (41 : Int32)]) (t_X5_isSign C _ e19) c19 rfl rfl md_X5_isSign ⟨Nat.le_of_ble_eq_true rfl, Nat.le_of_ble_eq_true rfl⟩ q2184 q2186 qs70 q131 q2187 rfl (Nat.le_of_ble_eq_true rfl) dX5_behind_101 ?_
      refine x_if_eq 114 dX5_behind_104 (by decide) (fun c20 => ?_) (fun c20 => ?_)
      · rw [if_pos c20] at H
        exact t_X5_behind_b114 hE _ _ H
      · rw [if_neg c20] at H
        refine x_aload_n 0 rfl dX5_behind_107 ?_
        obtain ⟨v22, e22, H⟩ := ob H
        refine x_getf fg_X5_434 (gFi_spec e22) dX5_behind_108 ?_
        refine x_if_ne 120 dX5_behind_111 (by decide) (fun c23 => ?_) (fun c23 => ?_)
        · rw [if_neg c23] at H
          refine x_aload_n 0 rfl dX5_behind_120 ?_
          refine x_dup dX5_behind_121 rfl ?_
          obtain ⟨v24, e24, H⟩ := ob H
          refine x_getf fg_X5_434 (gFi_spec e24) dX5_behind_122 ?_
          refine x_iconst (1 : Int32) dX5_behind_125 ic_1 ?_
          refine x_isub dX5_behind_126 ?_
          obtain ⟨h25, e25, H⟩ := ob H
          refine x_putf (fp_X5_434 _) rfl rfl e25 dX5_behind_127 ?_
          refine x_aload_n 0 rfl dX5_behind_130 ?_
          refine x_dup dX5_behind_131 rfl ?_
          obtain ⟨v26, e26, H⟩ := ob H
          refine x_getf fg_X5_440 (gFi_spec e26) dX5_behind_132 ?_
          refine x_iconst (1 : Int32) dX5_behind_135 ic_1 ?_
          refine x_isub dX5_behind_136 ?_
          obtain ⟨h27, e27, H⟩ := ob H
          refine x_putf (fp_X5_440 _) rfl rfl e27 dX5_behind_137 ?_
          refine x_aload_n 0 rfl dX5_behind_140 ?_
          obtain ⟨c28, H⟩ := oit H
          obtain ⟨a28, g28, e28, H⟩ := obR H
          refine x_callV (M' := mi_X5_next) (n := 0) (As := []) (t_X5_next C _ e28) c28 rfl rfl md_X5_next ⟨Nat.le_of_ble_eq_true rfl, Nat.le_of_ble_eq_true rfl⟩ q2100 q2102 qs52 q131 q2103 rfl (Nat.le_of_ble_eq_true rfl) dX5_behind_141 ?_
          refine x_iconst (1 : Int32) dX5_behind_144 ic_1 ?_
          obtain rfl := Option.some.inj H
          exact x_iret hE rfl rfl dX5_behind_145
        · rw [if_pos c23] at H
          exact t_X5_behind_b114 hE _ _ H
    · rw [if_neg c17] at H
      exact t_X5_behind_b24 hE _ _ H
abbrev mi_X5_isName : xM := (cX5_isName, yX5_isName, 3, some .boolean, 1)
theorem md_X5_isName : xMD mi_X5_isName 0 := ⟨by decide, by decide, by decide +kernel⟩
def f_X5_isName_b45 (kb : Nat → Int32 → Int32 → mH → Option (Int32 × mH)) (r0 : Nat) (x2 : Int32) (s0 : Int32) (h : mH) : Option (Int32 × mH) := kb r0 s0 (x2 + (1 : Int32)) h
theorem t_X5_isName_b45 {G : xG} {C : xC} {o : Int32 × mH} (hE : xEnd G C (some (.int o.1)) o.2) {kb : Nat → Int32 → Int32 → mH → Option (Int32 × mH)} (hkb : ∀ (r0 : Nat) (x1 : Int32) (x2 : Int32) (h : mH), kb r0 x1 x2 h = some o → X G C mi_X5_isName 16 [(0, .ref r0), (1, .int x1), (2, .int x2)] [] h) (r0 : Nat) (x2 : Int32) (s0 : Int32) (h : mH) (H : f_X5_isName_b45 kb r0 x2 s0 h = some o) : X G C mi_X5_isName 45 [(0, .ref r0), (2, .int x2)] [.int s0] h := by
  unfold f_X5_isName_b45 at H
  refine x_istore_n [1, 0, 2] dX5_isName_45 (by decide) rfl ?_
  refine x_iinc 2 (x2 + (1 : Int32)) [1, 2, 0] dX5_isName_46 rfl (ii_1 _) (by decide) rfl ?_
  refine x_goto (tgt := 16) dX5_isName_49 (by decide) ?_
  exact hkb _ _ _ _ H
def f_X5_isName_b44 (kb : Nat → Int32 → Int32 → mH → Option (Int32 × mH)) (r0 : Nat) (x2 : Int32) (h : mH) : Option (Int32 × mH) := f_X5_isName_b45 kb r0 x2 (0 : Int32) h
theorem t_X5_isName_b44 {G : xG} {C : xC} {o : Int32 × mH} (hE : xEnd G C (some (.int o.1)) o.2) {kb : Nat → Int32 → Int32 → mH → Option (Int32 × mH)} (hkb : ∀ (r0 : Nat) (x1 : Int32) (x2 : Int32) (h : mH), kb r0 x1 x2 h = some o → X G C mi_X5_isName 16 [(0, .ref r0), (1, .int x1), (2, .int x2)] [] h) (r0 : Nat) (x2 : Int32) (h : mH) (H : f_X5_isName_b44 kb r0 x2 h = some o) : X G C mi_X5_isName 44 [(0, .ref r0), (2, .int x2)] [] h := by
  unfold f_X5_isName_b44 at H
  refine x_iconst (0 : Int32) dX5_isName_44 ic_0 ?_
  exact t_X5_isName_b45 hE hkb _ _ _ _ H
def f_X5_isName_L16 : Nat → Nat → Int32 → Int32 → mH → Option (Int32 × mH)
  | 0, _, _, _, _ => none
  | n + 1, r0, x1, x2, h => if (24 : Int32) ≤ x2 then rZ x1 h else if x1 = 0 then f_X5_isName_b44 (f_X5_isName_L16 n) r0 x2 h else (gFl [4] 17 h r0).bind fun v5 => (gFr [4] 10 h r0).bind fun v6 => (aL h v6 x2).bind fun v7 => if (lg_cmp v5 v7) = 0 then f_X5_isName_b44 (f_X5_isName_L16 n) r0 x2 h else f_X5_isName_b45 (f_X5_isName_L16 n) r0 x2 (1 : Int32) h
theorem t_X5_isName_L16 {G : xG} {C : xC} {o : Int32 × mH} (hE : xEnd G C (some (.int o.1)) o.2) : ∀ (n : Nat) (r0 : Nat) (x1 : Int32) (x2 : Int32) (h : mH), f_X5_isName_L16 n r0 x1 x2 h = some o → X G C mi_X5_isName 16 [(0, .ref r0), (1, .int x1), (2, .int x2)] [] h := by
  intro n
  induction n with
  | zero => intro r0 x1 x2 h H; exact nomatch (show (none : Option (Int32 × mH)) = some o from H)
  | succ n ih =>
    intro r0 x1 x2 h H
    rw [f_X5_isName_L16] at H
    refine x_iload_n 2 rfl dX5_isName_16 ?_
    refine x_bipush (24 : Int32) dX5_isName_17 bi_24 ?_
    refine x_icmp_ge 52 dX5_isName_19 (by decide) (fun c3 => ?_) (fun c3 => ?_)
    · rw [if_pos c3] at H
      refine x_iload_n 1 rfl dX5_isName_52 ?_
      obtain ⟨c, rfl⟩ := rZ_spec H
      exact x_iret hE rfl c dX5_isName_53
    · rw [if_neg c3] at H
      refine x_iload_n 1 rfl dX5_isName_22 ?_
      refine x_if_eq 44 dX5_isName_23 (by decide) (fun c4 => ?_) (fun c4 => ?_)
      · rw [if_pos c4] at H
        refine X.sub [0, 2] rfl ?_
        exact t_X5_isName_b44 hE ih _ _ _ H
      · rw [if_neg c4] at H
        refine x_aload_n 0 rfl dX5_isName_26 ?_
        obtain ⟨v5, e5, H⟩ := ob H
        refine x_getf fg_X5_170 (gFl_spec e5) dX5_isName_27 ?_
        refine x_aload_n 0 rfl dX5_isName_30 ?_
        obtain ⟨v6, e6, H⟩ := ob H
        refine x_getf fg_X5_47 (gFr_spec e6) dX5_isName_31 ?_
        refine x_iload_n 2 rfl dX5_isName_34 ?_
        obtain ⟨v7, e7, H⟩ := ob H
        refine x_lald e7 dX5_isName_35 ?_
        refine x_lcmp dX5_isName_36 ?_
        refine x_if_eq 44 dX5_isName_37 (by decide) (fun c8 => ?_) (fun c8 => ?_)
        · rw [if_pos c8] at H
          refine X.sub [0, 2] rfl ?_
          exact t_X5_isName_b44 hE ih _ _ _ H
        · rw [if_neg c8] at H
          refine x_iconst (1 : Int32) dX5_isName_40 ic_1 ?_
          refine x_goto (tgt := 45) dX5_isName_41 (by decide) ?_
          refine X.sub [0, 2] rfl ?_
          exact t_X5_isName_b45 hE ih _ _ _ _ H
def f_X5_isName_b13 (r0 : Nat) (s0 : Int32) (h : mH) : Option (Int32 × mH) := f_X5_isName_L16  xFu r0 s0 (0 : Int32) h
theorem t_X5_isName_b13 {G : xG} {C : xC} {o : Int32 × mH} (hE : xEnd G C (some (.int o.1)) o.2) (r0 : Nat) (s0 : Int32) (h : mH) (H : f_X5_isName_b13 r0 s0 h = some o) : X G C mi_X5_isName 13 [(0, .ref r0)] [.int s0] h := by
  unfold f_X5_isName_b13 at H
  refine x_istore_n [1, 0] dX5_isName_13 (by decide) rfl ?_
  refine x_iconst (0 : Int32) dX5_isName_14 ic_0 ?_
  refine x_istore_n [1, 2, 0] dX5_isName_15 (by decide) rfl ?_
  exact t_X5_isName_L16 hE  xFu _ _ _ _ H
def f_X5_isName (r0 : Nat) (h : mH) : Option (Int32 × mH) := (gFi [4] 11 h r0).bind fun v1 => if v1 = (1 : Int32) then f_X5_isName_b13 r0 (1 : Int32) h else f_X5_isName_b13 r0 (0 : Int32) h
theorem t_X5_isName {G : xG} (C0 : xC) {l : Launch} {r0 : Nat} (h : mH) {o : Int32 × mH} (H : f_X5_isName r0 h = some o) : XR G l mi_X5_isName [.ref r0] h (some (.int o.1)) o.2 := by
  refine XR.of C0 (by decide) (Nat.le_of_ble_eq_true rfl) (fun C _ _ _ hE => ?_)
  show X G C mi_X5_isName 0 [(0, .ref r0)] [] h
  unfold f_X5_isName at H
  refine x_aload_n 0 rfl dX5_isName_0 ?_
  obtain ⟨v1, e1, H⟩ := ob H
  refine x_getf fg_X5_157 (gFi_spec e1) dX5_isName_1 ?_
  refine x_iconst (1 : Int32) dX5_isName_4 ic_1 ?_
  refine x_icmp_ne 12 dX5_isName_5 (by decide) (fun c2 => ?_) (fun c2 => ?_)
  · rw [if_neg c2] at H
    refine x_iconst (0 : Int32) dX5_isName_12 ic_0 ?_
    exact t_X5_isName_b13 hE _ _ _ H
  · rw [if_pos c2] at H
    refine x_iconst (1 : Int32) dX5_isName_8 ic_1 ?_
    refine x_goto (tgt := 13) dX5_isName_9 (by decide) ?_
    exact t_X5_isName_b13 hE _ _ _ H
abbrev mi_X5_seek : xM := (cX5_seek, yX5_seek, 4, some .int, 1)
theorem md_X5_seek : xMD mi_X5_seek 2 := ⟨by decide, by decide, by decide +kernel⟩
def f_X5_seek_L2 : Nat → Nat → Int32 → Int32 → Int32 → mH → Option (Int32 × mH)
  | 0, _, _, _, _, _ => none
  | n + 1, r0, x1, x2, x3, h => if x2 ≤ x3 then some ((-1 : Int32), h) else (gFr [4] 9 h r0).bind fun v2 => (aL h v2 (x1 + x3)).bind fun v3 => (gFl [4] 17 h r0).bind fun v4 => if (lg_cmp v3 v4) = 0 then some (x3, h) else (f_X5_seek_L2 n) r0 x1 x2 (x3 + (1 : Int32)) h
theorem t_X5_seek_L2 {G : xG} {C : xC} {o : Int32 × mH} (hE : xEnd G C (some (.int o.1)) o.2) : ∀ (n : Nat) (r0 : Nat) (x1 : Int32) (x2 : Int32) (x3 : Int32) (h : mH), f_X5_seek_L2 n r0 x1 x2 x3 h = some o → X G C mi_X5_seek 2 [(0, .ref r0), (1, .int x1), (2, .int x2), (3, .int x3)] [] h := by
  intro n
  induction n with
  | zero => intro r0 x1 x2 x3 h H; exact nomatch (show (none : Option (Int32 × mH)) = some o from H)
  | succ n ih =>
    intro r0 x1 x2 x3 h H
    rw [f_X5_seek_L2] at H
    refine x_iload_n 3 rfl dX5_seek_2 ?_
    refine x_iload_n 2 rfl dX5_seek_3 ?_
    refine x_icmp_ge 31 dX5_seek_4 (by decide) (fun c1 => ?_) (fun c1 => ?_)
    · rw [if_pos c1] at H
      refine x_iconst (-1 : Int32) dX5_seek_31 ic_m1 ?_
      obtain rfl := Option.some.inj H
      exact x_iret hE rfl rfl dX5_seek_32
    · rw [if_neg c1] at H
      refine x_aload_n 0 rfl dX5_seek_7 ?_
      obtain ⟨v2, e2, H⟩ := ob H
      refine x_getf fg_X5_43 (gFr_spec e2) dX5_seek_8 ?_
      refine x_iload_n 1 rfl dX5_seek_11 ?_
      refine x_iload_n 3 rfl dX5_seek_12 ?_
      refine x_iadd dX5_seek_13 ?_
      obtain ⟨v3, e3, H⟩ := ob H
      refine x_lald e3 dX5_seek_14 ?_
      refine x_aload_n 0 rfl dX5_seek_15 ?_
      obtain ⟨v4, e4, H⟩ := ob H
      refine x_getf fg_X5_170 (gFl_spec e4) dX5_seek_16 ?_
      refine x_lcmp dX5_seek_19 ?_
      refine x_if_ne 25 dX5_seek_20 (by decide) (fun c5 => ?_) (fun c5 => ?_)
      · rw [if_neg c5] at H
        refine x_iinc 3 (x3 + (1 : Int32)) [1, 2, 3, 0] dX5_seek_25 rfl (ii_1 _) (by decide) rfl ?_
        refine x_goto (tgt := 2) dX5_seek_28 (by decide) ?_
        exact ih _ _ _ _ _ H
      · rw [if_pos c5] at H
        refine x_iload_n 3 rfl dX5_seek_23 ?_
        obtain rfl := Option.some.inj H
        exact x_iret hE rfl rfl dX5_seek_24
def f_X5_seek (r0 : Nat) (x1 : Int32) (x2 : Int32) (h : mH) : Option (Int32 × mH) := f_X5_seek_L2  xFu r0 x1 x2 (0 : Int32) h
theorem t_X5_seek {G : xG} (C0 : xC) {l : Launch} {r0 : Nat} {x1 : Int32} {x2 : Int32} (h : mH) {o : Int32 × mH} (H : f_X5_seek r0 x1 x2 h = some o) : XR G l mi_X5_seek [.ref r0, .int x1, .int x2] h (some (.int o.1)) o.2 := by
  refine XR.of C0 (by decide) (Nat.le_of_ble_eq_true rfl) (fun C _ _ _ hE => ?_)
  show X G C mi_X5_seek 0 [(0, .ref r0), (1, .int x1), (2, .int x2)] [] h
  unfold f_X5_seek at H
  refine x_iconst (0 : Int32) dX5_seek_0 ic_0 ?_
  refine x_istore_n [1, 2, 3, 0] dX5_seek_1 (by decide) rfl ?_
  exact t_X5_seek_L2 hE  xFu _ _ _ _ _ H
abbrev mi_X5_looksAt : xM := (cX5_looksAt, yX5_looksAt, 3, some .boolean, 2)
theorem md_X5_looksAt : xMD mi_X5_looksAt 2 := ⟨by decide, by decide, by decide +kernel⟩
def f_X5_looksAt_b38 (h : mH) : Option (Int32 × mH) := some ((1 : Int32), h)
theorem t_X5_looksAt_b38 {G : xG} {C : xC} {o : Int32 × mH} (hE : xEnd G C (some (.int o.1)) o.2) (h : mH) (H : f_X5_looksAt_b38 h = some o) : X G C mi_X5_looksAt 38 [] [] h := by
  unfold f_X5_looksAt_b38 at H
  refine x_iconst (1 : Int32) dX5_looksAt_38 ic_1 ?_
  refine x_goto (tgt := 43) dX5_looksAt_39 (by decide) ?_
  obtain rfl := Option.some.inj H
  exact x_iret hE rfl rfl dX5_looksAt_43
def f_X5_looksAt (r0 : Nat) (x1 : Int32) (x2 : Int32) (h : mH) : Option (Int32 × mH) := if gC h r0 = 4 then bR (f_X5_isName r0  h) fun a1 g1 => if a1 = 0 then if gC g1 r0 = 4 then bR (f_X5_bad r0 (1 : Int32) g1) fun a9 g9 => rZ a9 g9 else none else if gC g1 r0 = 4 then bR (f_X5_seek r0 x1 x2 g1) fun a3 g3 => (pF [4] 18 (.int a3) g3 r0).bind fun h4 => (gFi [4] 18 h4 r0).bind fun v5 => if 0 ≤ v5 then f_X5_looksAt_b38  h4 else if gC h4 r0 = 4 then bR (f_X5_bad r0 (3 : Int32) h4) fun a7 g7 => if a7 = 0 then some ((0 : Int32), g7) else f_X5_looksAt_b38  g7 else none else none else none
theorem t_X5_looksAt {G : xG} (C0 : xC) {l : Launch} {r0 : Nat} {x1 : Int32} {x2 : Int32} (h : mH) {o : Int32 × mH} (H : f_X5_looksAt r0 x1 x2 h = some o) : XR G l mi_X5_looksAt [.ref r0, .int x1, .int x2] h (some (.int o.1)) o.2 := by
  refine XR.of C0 (by decide) (Nat.le_of_ble_eq_true rfl) (fun C _ _ _ hE => ?_)
  show X G C mi_X5_looksAt 0 [(0, .ref r0), (1, .int x1), (2, .int x2)] [] h
  unfold f_X5_looksAt at H
  refine x_aload_n 0 rfl dX5_looksAt_0 ?_
  obtain ⟨c1, H⟩ := oit H
  obtain ⟨a1, g1, e1, H⟩ := obR H
  refine x_callV (M' := mi_X5_isName) (n := 0) (As := []) (t_X5_isName C _ e1) c1 rfl rfl md_X5_isName ⟨Nat.le_of_ble_eq_true rfl, Nat.le_of_ble_eq_true rfl⟩ q2134 q2136 qs59 q131 q2137 rfl (Nat.le_of_ble_eq_true rfl) dX5_looksAt_1 ?_
  refine x_if_ne 13 dX5_looksAt_4 (by decide) (fun c2 => ?_) (fun c2 => ?_)
  · rw [if_neg c2] at H
    refine x_aload_n 0 rfl dX5_looksAt_13 ?_
    refine x_aload_n 0 rfl dX5_looksAt_14 ?_
    refine x_iload_n 1 rfl dX5_looksAt_15 ?_
    refine x_iload_n 2 rfl dX5_looksAt_16 ?_
    obtain ⟨c3, H⟩ := oit H
    obtain ⟨a3, g3, e3, H⟩ := obR H
    refine x_callV (M' := mi_X5_seek) (n := 2) (As := [.int x1, .int x2]) (t_X5_seek C _ e3) c3 rfl rfl md_X5_seek ⟨Nat.le_of_ble_eq_true rfl, Nat.le_of_ble_eq_true rfl⟩ q2138 q2140 qs60 q131 q2141 rfl (Nat.le_of_ble_eq_true rfl) dX5_looksAt_17 ?_
    obtain ⟨h4, e4, H⟩ := ob H
    refine x_putf (fp_X5_193 _) rfl rfl e4 dX5_looksAt_20 ?_
    refine x_aload_n 0 rfl dX5_looksAt_23 ?_
    obtain ⟨v5, e5, H⟩ := ob H
    refine x_getf fg_X5_193 (gFi_spec e5) dX5_looksAt_24 ?_
    refine x_if_ge 38 dX5_looksAt_27 (by decide) (fun c6 => ?_) (fun c6 => ?_)
    · rw [if_pos c6] at H
      refine X.sub [] rfl ?_
      exact t_X5_looksAt_b38 hE  _ H
    · rw [if_neg c6] at H
      refine x_aload_n 0 rfl dX5_looksAt_30 ?_
      refine x_iconst (3 : Int32) dX5_looksAt_31 ic_3 ?_
      obtain ⟨c7, H⟩ := oit H
      obtain ⟨a7, g7, e7, H⟩ := obR H
      refine x_callV (M' := mi_X5_bad) (n := 1) (As := [.int (3 : Int32)]) (t_X5_bad C _ e7) c7 rfl rfl md_X5_bad ⟨Nat.le_of_ble_eq_true rfl, Nat.le_of_ble_eq_true rfl⟩ q2126 q2128 qs57 q131 q2129 rfl (Nat.le_of_ble_eq_true rfl) dX5_looksAt_32 ?_
      refine x_if_eq 42 dX5_looksAt_35 (by decide) (fun c8 => ?_) (fun c8 => ?_)
      · rw [if_pos c8] at H
        refine x_iconst (0 : Int32) dX5_looksAt_42 ic_0 ?_
        obtain rfl := Option.some.inj H
        exact x_iret hE rfl rfl dX5_looksAt_43
      · rw [if_neg c8] at H
        refine X.sub [] rfl ?_
        exact t_X5_looksAt_b38 hE  _ H
  · rw [if_pos c2] at H
    refine x_aload_n 0 rfl dX5_looksAt_7 ?_
    refine x_iconst (1 : Int32) dX5_looksAt_8 ic_1 ?_
    obtain ⟨c9, H⟩ := oit H
    obtain ⟨a9, g9, e9, H⟩ := obR H
    refine x_callV (M' := mi_X5_bad) (n := 1) (As := [.int (1 : Int32)]) (t_X5_bad C _ e9) c9 rfl rfl md_X5_bad ⟨Nat.le_of_ble_eq_true rfl, Nat.le_of_ble_eq_true rfl⟩ q2126 q2128 qs57 q131 q2129 rfl (Nat.le_of_ble_eq_true rfl) dX5_looksAt_9 ?_
    obtain ⟨c, rfl⟩ := rZ_spec H
    exact x_iret hE rfl c dX5_looksAt_12
abbrev mi_X5_takes : xM := (cX5_takes, yX5_takes, 3, some .boolean, 3)
theorem md_X5_takes : xMD mi_X5_takes 2 := ⟨by decide, by decide, by decide +kernel⟩
def f_X5_takes (r0 : Nat) (x1 : Int32) (x2 : Int32) (h : mH) : Option (Int32 × mH) := (gFi [4] 11 h r0).bind fun v1 => if v1 = (2 : Int32) then (gFi [4] 14 h r0).bind fun v3 => bR (f_X5_isIn v3 x1 x2 h) fun a4 g4 => if a4 = 0 then if gC g4 r0 = 4 then bR (f_X5_bad r0 (2 : Int32) g4) fun a9 g9 => rZ a9 g9 else none else (gFi [4] 14 g4 r0).bind fun v6 => (pF [4] 18 (.int v6) g4 r0).bind fun h7 => if gC h7 r0 = 4 then bR (f_X5_next r0  h7) fun a8 g8 => some ((1 : Int32), g8) else none else if gC h r0 = 4 then bR (f_X5_bad r0 (1 : Int32) h) fun a10 g10 => rZ a10 g10 else none
theorem t_X5_takes {G : xG} (C0 : xC) {l : Launch} {r0 : Nat} {x1 : Int32} {x2 : Int32} (h : mH) {o : Int32 × mH} (H : f_X5_takes r0 x1 x2 h = some o) : XR G l mi_X5_takes [.ref r0, .int x1, .int x2] h (some (.int o.1)) o.2 := by
  refine XR.of C0 (by decide) (Nat.le_of_ble_eq_true rfl) (fun C _ _ _ hE => ?_)
  show X G C mi_X5_takes 0 [(0, .ref r0), (1, .int x1), (2, .int x2)] [] h
  unfold f_X5_takes at H
  refine x_aload_n 0 rfl dX5_takes_0 ?_
  obtain ⟨v1, e1, H⟩ := ob H
  refine x_getf fg_X5_157 (gFi_spec e1) dX5_takes_1 ?_
  refine x_iconst (2 : Int32) dX5_takes_4 ic_2 ?_
  refine x_icmp_eq 14 dX5_takes_5 (by decide) (fun c2 => ?_) (fun c2 => ?_)
  · rw [if_pos c2] at H
    refine x_aload_n 0 rfl dX5_takes_14 ?_
    obtain ⟨v3, e3, H⟩ := ob H
    refine x_getf fg_X5_167 (gFi_spec e3) dX5_takes_15 ?_
    refine x_iload_n 1 rfl dX5_takes_18 ?_
    refine x_iload_n 2 rfl dX5_takes_19 ?_
    obtain ⟨a4, g4, e4, H⟩ := obR H
    refine x_callS (M' := mi_X5_isIn) (n := 3) (As := [.int v3, .int x1, .int x2]) (t_X5_isIn C _ e4) md_X5_isIn ⟨Nat.le_of_ble_eq_true rfl, Nat.le_of_ble_eq_true rfl⟩ q2150 q2151 q131 q2152 rfl (Nat.le_of_ble_eq_true rfl) dX5_takes_20 ?_
    refine x_if_ne 32 dX5_takes_23 (by decide) (fun c5 => ?_) (fun c5 => ?_)
    · rw [if_neg c5] at H
      refine x_aload_n 0 rfl dX5_takes_32 ?_
      refine x_aload_n 0 rfl dX5_takes_33 ?_
      obtain ⟨v6, e6, H⟩ := ob H
      refine x_getf fg_X5_167 (gFi_spec e6) dX5_takes_34 ?_
      obtain ⟨h7, e7, H⟩ := ob H
      refine x_putf (fp_X5_193 _) rfl rfl e7 dX5_takes_37 ?_
      refine x_aload_n 0 rfl dX5_takes_40 ?_
      obtain ⟨c8, H⟩ := oit H
      obtain ⟨a8, g8, e8, H⟩ := obR H
      refine x_callV (M' := mi_X5_next) (n := 0) (As := []) (t_X5_next C _ e8) c8 rfl rfl md_X5_next ⟨Nat.le_of_ble_eq_true rfl, Nat.le_of_ble_eq_true rfl⟩ q2100 q2102 qs52 q131 q2103 rfl (Nat.le_of_ble_eq_true rfl) dX5_takes_41 ?_
      refine x_iconst (1 : Int32) dX5_takes_44 ic_1 ?_
      obtain rfl := Option.some.inj H
      exact x_iret hE rfl rfl dX5_takes_45
    · rw [if_pos c5] at H
      refine x_aload_n 0 rfl dX5_takes_26 ?_
      refine x_iconst (2 : Int32) dX5_takes_27 ic_2 ?_
      obtain ⟨c9, H⟩ := oit H
      obtain ⟨a9, g9, e9, H⟩ := obR H
      refine x_callV (M' := mi_X5_bad) (n := 1) (As := [.int (2 : Int32)]) (t_X5_bad C _ e9) c9 rfl rfl md_X5_bad ⟨Nat.le_of_ble_eq_true rfl, Nat.le_of_ble_eq_true rfl⟩ q2126 q2128 qs57 q131 q2129 rfl (Nat.le_of_ble_eq_true rfl) dX5_takes_28 ?_
      obtain ⟨c, rfl⟩ := rZ_spec H
      exact x_iret hE rfl c dX5_takes_31
  · rw [if_neg c2] at H
    refine x_aload_n 0 rfl dX5_takes_8 ?_
    refine x_iconst (1 : Int32) dX5_takes_9 ic_1 ?_
    obtain ⟨c10, H⟩ := oit H
    obtain ⟨a10, g10, e10, H⟩ := obR H
    refine x_callV (M' := mi_X5_bad) (n := 1) (As := [.int (1 : Int32)]) (t_X5_bad C _ e10) c10 rfl rfl md_X5_bad ⟨Nat.le_of_ble_eq_true rfl, Nat.le_of_ble_eq_true rfl⟩ q2126 q2128 qs57 q131 q2129 rfl (Nat.le_of_ble_eq_true rfl) dX5_takes_10 ?_
    obtain ⟨c, rfl⟩ := rZ_spec H
    exact x_iret hE rfl c dX5_takes_13
abbrev mi_X5_takesName : xM := (cX5_takesName, yX5_takesName, 3, some .boolean, 3)
theorem md_X5_takesName : xMD mi_X5_takesName 2 := ⟨by decide, by decide, by decide +kernel⟩
def f_X5_takesName (r0 : Nat) (x1 : Int32) (x2 : Int32) (h : mH) : Option (Int32 × mH) := if gC h r0 = 4 then bR (f_X5_looksAt r0 x1 x2 h) fun a1 g1 => if a1 = 0 then some ((0 : Int32), g1) else if gC g1 r0 = 4 then bR (f_X5_next r0  g1) fun a3 g3 => some ((1 : Int32), g3) else none else none
theorem t_X5_takesName {G : xG} (C0 : xC) {l : Launch} {r0 : Nat} {x1 : Int32} {x2 : Int32} (h : mH) {o : Int32 × mH} (H : f_X5_takesName r0 x1 x2 h = some o) : XR G l mi_X5_takesName [.ref r0, .int x1, .int x2] h (some (.int o.1)) o.2 := by
  refine XR.of C0 (by decide) (Nat.le_of_ble_eq_true rfl) (fun C _ _ _ hE => ?_)
  show X G C mi_X5_takesName 0 [(0, .ref r0), (1, .int x1), (2, .int x2)] [] h
  unfold f_X5_takesName at H
  refine x_aload_n 0 rfl dX5_takesName_0 ?_
  refine x_iload_n 1 rfl dX5_takesName_1 ?_
  refine x_iload_n 2 rfl dX5_takesName_2 ?_
  obtain ⟨c1, H⟩ := oit H
  obtain ⟨a1, g1, e1, H⟩ := obR H
  refine x_callV (M' := mi_X5_looksAt) (n := 2) (As := [.int x1, .int x2]) (t_X5_looksAt C _ e1) c1 rfl rfl md_X5_looksAt ⟨Nat.le_of_ble_eq_true rfl, Nat.le_of_ble_eq_true rfl⟩ q2165 q2167 qs66 q131 q2168 rfl (Nat.le_of_ble_eq_true rfl) dX5_takesName_3 ?_
  refine x_if_ne 11 dX5_takesName_6 (by decide) (fun c2 => ?_) (fun c2 => ?_)
  · rw [if_neg c2] at H
    refine x_aload_n 0 rfl dX5_takesName_11 ?_
    obtain ⟨c3, H⟩ := oit H
    obtain ⟨a3, g3, e3, H⟩ := obR H
    refine x_callV (M' := mi_X5_next) (n := 0) (As := []) (t_X5_next C _ e3) c3 rfl rfl md_X5_next ⟨Nat.le_of_ble_eq_true rfl, Nat.le_of_ble_eq_true rfl⟩ q2100 q2102 qs52 q131 q2103 rfl (Nat.le_of_ble_eq_true rfl) dX5_takesName_12 ?_
    refine x_iconst (1 : Int32) dX5_takesName_15 ic_1 ?_
    obtain rfl := Option.some.inj H
    exact x_iret hE rfl rfl dX5_takesName_16
  · rw [if_pos c2] at H
    refine x_iconst (0 : Int32) dX5_takesName_9 ic_0 ?_
    obtain rfl := Option.some.inj H
    exact x_iret hE rfl rfl dX5_takesName_10
abbrev mi_X5_bookLine : xM := (cX5_bookLine, yX5_bookLine, 6, some .boolean, 4)
theorem md_X5_bookLine : xMD mi_X5_bookLine 0 := ⟨by decide, by decide, by decide +kernel⟩
def f_X5_bookLine_b226 (r0 : Nat) (x1 : Int32) (x4 : Int32) (s0 : Int32) (h : mH) : Option (Int32 × mH) := (gFr [4] 8 h r0).bind fun v30 => (gFi [4] 18 h r0).bind fun v31 => (sI .int h v30 (x1 + (2 : Int32)) v31).bind fun h32 => if s0 = 0 then rZ s0 h32 else if x4 = (1 : Int32) then rZ s0 h32 else (gFr [4] 6 h32 r0).bind fun v35 => (aI .int h32 v35 (0 : Int32)).bind fun v36 => if gC h32 r0 = 4 then bR (f_X5_takesName r0 (0 : Int32) v36 h32) fun a37 g37 => (gFr [4] 8 g37 r0).bind fun v38 => (gFi [4] 18 g37 r0).bind fun v39 => (sI .int g37 v38 (x1 + (3 : Int32)) v39).bind fun h40 => rZ a37 h40 else none
theorem t_X5_bookLine_b226 {G : xG} {C : xC} {o : Int32 × mH} (hE : xEnd G C (some (.int o.1)) o.2) (r0 : Nat) (x1 : Int32) (x4 : Int32) (s0 : Int32) (h : mH) (H : f_X5_bookLine_b226 r0 x1 x4 s0 h = some o) : X G C mi_X5_bookLine 226 [(0, .ref r0), (1, .int x1), (4, .int x4)] [.int s0] h := by
  unfold f_X5_bookLine_b226 at H
  refine x_istore [1, 2, 3, 0] dX5_bookLine_226 (by decide) rfl ?_
  refine x_aload_n 0 rfl dX5_bookLine_228 ?_
  obtain ⟨v30, e30, H⟩ := ob H
  refine x_getf fg_X5_40 (gFr_spec e30) dX5_bookLine_229 ?_
  refine x_iload_n 1 rfl dX5_bookLine_232 ?_
  refine x_iconst (2 : Int32) dX5_bookLine_233 ic_2 ?_
  refine x_iadd dX5_bookLine_234 ?_
  refine x_aload_n 0 rfl dX5_bookLine_235 ?_
  obtain ⟨v31, e31, H⟩ := ob H
  refine x_getf fg_X5_193 (gFi_spec e31) dX5_bookLine_236 ?_
  obtain ⟨h32, e32, H⟩ := ob H
  refine x_iast e32 dX5_bookLine_239 ?_
  refine x_iload 3 rfl dX5_bookLine_240 ?_
  refine x_if_eq 251 dX5_bookLine_242 (by decide) (fun c33 => ?_) (fun c33 => ?_)
  · rw [if_pos c33] at H
    refine x_iload 3 rfl dX5_bookLine_251 ?_
    obtain ⟨c, rfl⟩ := rZ_spec H
    exact x_iret hE rfl c dX5_bookLine_253
  · rw [if_neg c33] at H
    refine x_iload 2 rfl dX5_bookLine_245 ?_
    refine x_iconst (1 : Int32) dX5_bookLine_247 ic_1 ?_
    refine x_icmp_ne 254 dX5_bookLine_248 (by decide) (fun c34 => ?_) (fun c34 => ?_)
    · rw [if_neg c34] at H
      refine x_aload_n 0 rfl dX5_bookLine_254 ?_
      refine x_iconst (0 : Int32) dX5_bookLine_255 ic_0 ?_
      refine x_aload_n 0 rfl dX5_bookLine_256 ?_
      obtain ⟨v35, e35, H⟩ := ob H
      refine x_getf fg_X5_33 (gFr_spec e35) dX5_bookLine_257 ?_
      refine x_iconst (0 : Int32) dX5_bookLine_260 ic_0 ?_
      obtain ⟨v36, e36, H⟩ := ob H
      refine x_iald e36 dX5_bookLine_261 ?_
      obtain ⟨c37, H⟩ := oit H
      obtain ⟨a37, g37, e37, H⟩ := obR H
      refine x_callV (M' := mi_X5_takesName) (n := 2) (As := [.int (0 : Int32), .int v36]) (t_X5_takesName C _ e37) c37 rfl rfl md_X5_takesName ⟨Nat.le_of_ble_eq_true rfl, Nat.le_of_ble_eq_true rfl⟩ q2161 q2163 qs65 q131 q2164 rfl (Nat.le_of_ble_eq_true rfl) dX5_bookLine_262 ?_
      refine x_istore [1, 2, 3, 0] dX5_bookLine_265 (by decide) rfl ?_
      refine x_aload_n 0 rfl dX5_bookLine_267 ?_
      obtain ⟨v38, e38, H⟩ := ob H
      refine x_getf fg_X5_40 (gFr_spec e38) dX5_bookLine_268 ?_
      refine x_iload_n 1 rfl dX5_bookLine_271 ?_
      refine x_iconst (3 : Int32) dX5_bookLine_272 ic_3 ?_
      refine x_iadd dX5_bookLine_273 ?_
      refine x_aload_n 0 rfl dX5_bookLine_274 ?_
      obtain ⟨v39, e39, H⟩ := ob H
      refine x_getf fg_X5_193 (gFi_spec e39) dX5_bookLine_275 ?_
      obtain ⟨h40, e40, H⟩ := ob H
      refine x_iast e40 dX5_bookLine_278 ?_
      refine x_iload 3 rfl dX5_bookLine_279 ?_
      obtain ⟨c, rfl⟩ := rZ_spec H
      exact x_iret hE rfl c dX5_bookLine_281
    · rw [if_pos c34] at H
      refine x_iload 3 rfl dX5_bookLine_251 ?_
      obtain ⟨c, rfl⟩ := rZ_spec H
      exact x_iret hE rfl c dX5_bookLine_253
def f_X5_bookLine_b153 (r0 : Nat) (x1 : Int32) (x3 : Int32) (s0 : Int32) (h : mH) : Option (Int32 × mH) := if 0 ≤ s0 then if gC h r0 = 4 then bR (f_X5_next r0  h) fun a20 g20 => (gFr [4] 8 g20 r0).bind fun v21 => (sI .int g20 v21 x1 s0).bind fun h22 => (gFr [4] 8 h22 r0).bind fun v23 => (sI .int h22 v23 (x1 + (1 : Int32)) x3).bind fun h24 => if s0 = (2 : Int32) then some ((1 : Int32), h24) else if s0 = 0 then (gFr [4] 6 h24 r0).bind fun v41 => (aI .int h24 v41 (1 : Int32)).bind fun v42 => if gC h24 r0 = 4 then bR (f_X5_takesName r0 (7 : Int32) v42 h24) fun a43 g43 => f_X5_bookLine_b226 r0 x1 s0 a43 g43 else none else (gFr [4] 6 h24 r0).bind fun v27 => (aI .int h24 v27 (0 : Int32)).bind fun v28 => if gC h24 r0 = 4 then bR (f_X5_takesName r0 (0 : Int32) v28 h24) fun a29 g29 => f_X5_bookLine_b226 r0 x1 s0 a29 g29 else none else none else if gC h r0 = 4 then bR (f_X5_bad r0 (1 : Int32) h) fun a44 g44 => rZ a44 g44 else none
theorem t_X5_bookLine_b153 {G : xG} {C : xC} {o : Int32 × mH} (hE : xEnd G C (some (.int o.1)) o.2) (r0 : Nat) (x1 : Int32) (x3 : Int32) (s0 : Int32) (h : mH) (H : f_X5_bookLine_b153 r0 x1 x3 s0 h = some o) : X G C mi_X5_bookLine 153 [(0, .ref r0), (1, .int x1), (3, .int x3)] [.int s0] h := by
  unfold f_X5_bookLine_b153 at H
  refine x_istore [1, 2, 3, 0] dX5_bookLine_153 (by decide) rfl ?_
  refine x_iload 3 rfl dX5_bookLine_155 ?_
  refine x_if_ge 166 dX5_bookLine_157 (by decide) (fun c19 => ?_) (fun c19 => ?_)
  · rw [if_pos c19] at H
    refine x_aload_n 0 rfl dX5_bookLine_166 ?_
    obtain ⟨c20, H⟩ := oit H
    obtain ⟨a20, g20, e20, H⟩ := obR H
    refine x_callV (M' := mi_X5_next) (n := 0) (As := []) (t_X5_next C _ e20) c20 rfl rfl md_X5_next ⟨Nat.le_of_ble_eq_true rfl, Nat.le_of_ble_eq_true rfl⟩ q2100 q2102 qs52 q131 q2103 rfl (Nat.le_of_ble_eq_true rfl) dX5_bookLine_167 ?_
    refine x_aload_n 0 rfl dX5_bookLine_170 ?_
    obtain ⟨v21, e21, H⟩ := ob H
    refine x_getf fg_X5_40 (gFr_spec e21) dX5_bookLine_171 ?_
    refine x_iload_n 1 rfl dX5_bookLine_174 ?_
    refine x_iload 3 rfl dX5_bookLine_175 ?_
    obtain ⟨h22, e22, H⟩ := ob H
    refine x_iast e22 dX5_bookLine_177 ?_
    refine x_aload_n 0 rfl dX5_bookLine_178 ?_
    obtain ⟨v23, e23, H⟩ := ob H
    refine x_getf fg_X5_40 (gFr_spec e23) dX5_bookLine_179 ?_
    refine x_iload_n 1 rfl dX5_bookLine_182 ?_
    refine x_iconst (1 : Int32) dX5_bookLine_183 ic_1 ?_
    refine x_iadd dX5_bookLine_184 ?_
    refine x_iload_n 2 rfl dX5_bookLine_185 ?_
    obtain ⟨h24, e24, H⟩ := ob H
    refine x_iast e24 dX5_bookLine_186 ?_
    refine x_iload 3 rfl dX5_bookLine_187 ?_
    refine x_iconst (2 : Int32) dX5_bookLine_189 ic_2 ?_
    refine x_icmp_ne 195 dX5_bookLine_190 (by decide) (fun c25 => ?_) (fun c25 => ?_)
    · rw [if_neg c25] at H
      refine x_iload 3 rfl dX5_bookLine_195 ?_
      refine x_if_ne 215 dX5_bookLine_197 (by decide) (fun c26 => ?_) (fun c26 => ?_)
      · rw [if_neg c26] at H
        refine x_aload_n 0 rfl dX5_bookLine_215 ?_
        refine x_iconst (0 : Int32) dX5_bookLine_216 ic_0 ?_
        refine x_aload_n 0 rfl dX5_bookLine_217 ?_
        obtain ⟨v27, e27, H⟩ := ob H
        refine x_getf fg_X5_33 (gFr_spec e27) dX5_bookLine_218 ?_
        refine x_iconst (0 : Int32) dX5_bookLine_221 ic_0 ?_
        obtain ⟨v28, e28, H⟩ := ob H
        refine x_iald e28 dX5_bookLine_222 ?_
        obtain ⟨c29, H⟩ := oit H
        obtain ⟨a29, g29, e29, H⟩ := obR H
        refine x_callV (M' := mi_X5_takesName) (n := 2) (As := [.int (0 : Int32), .int v28]) (t_X5_takesName C _ e29) c29 rfl rfl md_X5_takesName ⟨Nat.le_of_ble_eq_true rfl, Nat.le_of_ble_eq_true rfl⟩ q2161 q2163 qs65 q131 q2164 rfl (Nat.le_of_ble_eq_true rfl) dX5_bookLine_223 ?_
        refine X.sub [0, 1, 3] rfl ?_
        exact t_X5_bookLine_b226 hE _ _ _ _ _ H
      · rw [if_pos c26] at H
        refine x_aload_n 0 rfl dX5_bookLine_200 ?_
        refine x_bipush (7 : Int32) dX5_bookLine_201 bi_7 ?_
        refine x_aload_n 0 rfl dX5_bookLine_203 ?_
        obtain ⟨v41, e41, H⟩ := ob H
        refine x_getf fg_X5_33 (gFr_spec e41) dX5_bookLine_204 ?_
        refine x_iconst (1 : Int32) dX5_bookLine_207 ic_1 ?_
        obtain ⟨v42, e42, H⟩ := ob H
        refine x_iald e42 dX5_bookLine_208 ?_
        obtain ⟨c43, H⟩ := oit H
        obtain ⟨a43, g43, e43, H⟩ := obR H
        refine x_callV (M' := mi_X5_takesName) (n := 2) (As := [.int (7 : Int32), .int v42]) (t_X5_takesName C _ e43) c43 rfl rfl md_X5_takesName ⟨Nat.le_of_ble_eq_true rfl, Nat.le_of_ble_eq_true rfl⟩ q2161 q2163 qs65 q131 q2164 rfl (Nat.le_of_ble_eq_true rfl) dX5_bookLine_209 ?_
        refine x_goto (tgt := 226) dX5_bookLine_212 (by decide) ?_
        refine X.sub [0, 1, 3] rfl ?_
        exact t_X5_bookLine_b226 hE _ _ _ _ _ H
    · rw [if_pos c25] at H
      refine x_iconst (1 : Int32) dX5_bookLine_193 ic_1 ?_
      obtain rfl := Option.some.inj H
      exact x_iret hE rfl rfl dX5_bookLine_194
  · rw [if_neg c19] at H
    refine x_aload_n 0 rfl dX5_bookLine_160 ?_
    refine x_iconst (1 : Int32) dX5_bookLine_161 ic_1 ?_
    obtain ⟨c44, H⟩ := oit H
    obtain ⟨a44, g44, e44, H⟩ := obR H
    refine x_callV (M' := mi_X5_bad) (n := 1) (As := [.int (1 : Int32)]) (t_X5_bad C _ e44) c44 rfl rfl md_X5_bad ⟨Nat.le_of_ble_eq_true rfl, Nat.le_of_ble_eq_true rfl⟩ q2126 q2128 qs57 q131 q2129 rfl (Nat.le_of_ble_eq_true rfl) dX5_bookLine_162 ?_
    obtain ⟨c, rfl⟩ := rZ_spec H
    exact x_iret hE rfl c dX5_bookLine_165
def f_X5_bookLine_b35 (r0 : Nat) (x1 : Int32) (x2 : Int32) (h : mH) : Option (Int32 × mH) := (gFi [4] 39 h r0).bind fun v4 => if v4 = (40 : Int32) then if gC h r0 = 4 then bR (f_X5_bad r0 (4 : Int32) h) fun a50 g50 => rZ a50 g50 else none else (gFi [4] 18 h r0).bind fun v6 => if gC h r0 = 4 then bR (f_X5_next r0  h) fun a7 g7 => (gFr [4] 8 g7 r0).bind fun v8 => (sI .int g7 v8 x1 (4 : Int32)).bind fun h9 => if x2 = 0 then if gC h9 r0 = 4 then bR (f_X5_isWord r0 (1651865971 : Int64) h9) fun a11 g11 => if a11 = 0 then if gC g11 r0 = 4 then bR (f_X5_isWord r0 (1852793971 : Int64) g11) fun a13 g13 => if a13 = 0 then if gC g13 r0 = 4 then bR (f_X5_isWord r0 (508507548787 : Int64) g13) fun a15 g15 => if a15 = 0 then if gC g15 r0 = 4 then bR (f_X5_isWord r0 (499917810803 : Int64) g15) fun a17 g17 => if a17 = 0 then f_X5_bookLine_b153 r0 x1 v6 (-1 : Int32) g17 else f_X5_bookLine_b153 r0 x1 v6 (3 : Int32) g17 else none else f_X5_bookLine_b153 r0 x1 v6 (2 : Int32) g15 else none else f_X5_bookLine_b153 r0 x1 v6 (1 : Int32) g13 else none else f_X5_bookLine_b153 r0 x1 v6 (0 : Int32) g11 else none else if gC h9 r0 = 4 then bR (f_X5_takes r0 (1 : Int32) (60 : Int32) h9) fun a45 g45 => if a45 = 0 then some ((0 : Int32), g45) else (gFr [4] 8 g45 r0).bind fun v47 => (gFi [4] 18 g45 r0).bind fun v48 => (sI .int g45 v47 (x1 + (1 : Int32)) v48).bind fun h49 => some ((1 : Int32), h49) else none else none
theorem t_X5_bookLine_b35 {G : xG} {C : xC} {o : Int32 × mH} (hE : xEnd G C (some (.int o.1)) o.2) (r0 : Nat) (x1 : Int32) (x2 : Int32) (h : mH) (H : f_X5_bookLine_b35 r0 x1 x2 h = some o) : X G C mi_X5_bookLine 35 [(0, .ref r0), (1, .int x1), (2, .int x2)] [] h := by
  unfold f_X5_bookLine_b35 at H
  refine x_aload_n 0 rfl dX5_bookLine_35 ?_
  obtain ⟨v4, e4, H⟩ := ob H
  refine x_getf fg_X5_418 (gFi_spec e4) dX5_bookLine_36 ?_
  refine x_bipush (40 : Int32) dX5_bookLine_39 bi_40 ?_
  refine x_icmp_ne 50 dX5_bookLine_41 (by decide) (fun c5 => ?_) (fun c5 => ?_)
  · rw [if_neg c5] at H
    refine x_aload_n 0 rfl dX5_bookLine_50 ?_
    obtain ⟨v6, e6, H⟩ := ob H
    refine x_getf fg_X5_193 (gFi_spec e6) dX5_bookLine_51 ?_
    refine x_istore_n [1, 2, 3, 0] dX5_bookLine_54 (by decide) rfl ?_
    refine x_aload_n 0 rfl dX5_bookLine_55 ?_
    obtain ⟨c7, H⟩ := oit H
    obtain ⟨a7, g7, e7, H⟩ := obR H
    refine x_callV (M' := mi_X5_next) (n := 0) (As := []) (t_X5_next C _ e7) c7 rfl rfl md_X5_next ⟨Nat.le_of_ble_eq_true rfl, Nat.le_of_ble_eq_true rfl⟩ q2100 q2102 qs52 q131 q2103 rfl (Nat.le_of_ble_eq_true rfl) dX5_bookLine_56 ?_
    refine x_aload_n 0 rfl dX5_bookLine_59 ?_
    obtain ⟨v8, e8, H⟩ := ob H
    refine x_getf fg_X5_40 (gFr_spec e8) dX5_bookLine_60 ?_
    refine x_iload_n 1 rfl dX5_bookLine_63 ?_
    refine x_iconst (4 : Int32) dX5_bookLine_64 ic_4 ?_
    obtain ⟨h9, e9, H⟩ := ob H
    refine x_iast e9 dX5_bookLine_65 ?_
    refine x_iload_n 2 rfl dX5_bookLine_66 ?_
    refine x_if_eq 96 dX5_bookLine_67 (by decide) (fun c10 => ?_) (fun c10 => ?_)
    · rw [if_pos c10] at H
      refine x_aload_n 0 rfl dX5_bookLine_96 ?_
      refine x_ldc2 q1914 dX5_bookLine_97 ?_
      obtain ⟨c11, H⟩ := oit H
      obtain ⟨a11, g11, e11, H⟩ := obR H
      refine x_callV (M' := mi_X5_isWord) (n := 1) (As := [.long (1651865971 : Int64)]) (t_X5_isWord C _ e11) c11 rfl rfl md_X5_isWord ⟨Nat.le_of_ble_eq_true rfl, Nat.le_of_ble_eq_true rfl⟩ q2118 q2120 qs55 q131 q2121 rfl (Nat.le_of_ble_eq_true rfl) dX5_bookLine_100 ?_
      refine x_if_eq 110 dX5_bookLine_103 (by decide) (fun c12 => ?_) (fun c12 => ?_)
      · rw [if_pos c12] at H
        refine x_aload_n 0 rfl dX5_bookLine_110 ?_
        refine x_ldc2 q1915 dX5_bookLine_111 ?_
        obtain ⟨c13, H⟩ := oit H
        obtain ⟨a13, g13, e13, H⟩ := obR H
        refine x_callV (M' := mi_X5_isWord) (n := 1) (As := [.long (1852793971 : Int64)]) (t_X5_isWord C _ e13) c13 rfl rfl md_X5_isWord ⟨Nat.le_of_ble_eq_true rfl, Nat.le_of_ble_eq_true rfl⟩ q2118 q2120 qs55 q131 q2121 rfl (Nat.le_of_ble_eq_true rfl) dX5_bookLine_114 ?_
        refine x_if_eq 124 dX5_bookLine_117 (by decide) (fun c14 => ?_) (fun c14 => ?_)
        · rw [if_pos c14] at H
          refine x_aload_n 0 rfl dX5_bookLine_124 ?_
          refine x_ldc2 q1912 dX5_bookLine_125 ?_
          obtain ⟨c15, H⟩ := oit H
          obtain ⟨a15, g15, e15, H⟩ := obR H
          refine x_callV (M' := mi_X5_isWord) (n := 1) (As := [.long (508507548787 : Int64)]) (t_X5_isWord C _ e15) c15 rfl rfl md_X5_isWord ⟨Nat.le_of_ble_eq_true rfl, Nat.le_of_ble_eq_true rfl⟩ q2118 q2120 qs55 q131 q2121 rfl (Nat.le_of_ble_eq_true rfl) dX5_bookLine_128 ?_
          refine x_if_eq 138 dX5_bookLine_131 (by decide) (fun c16 => ?_) (fun c16 => ?_)
          · rw [if_pos c16] at H
            refine x_aload_n 0 rfl dX5_bookLine_138 ?_
            refine x_ldc2 q1916 dX5_bookLine_139 ?_
            obtain ⟨c17, H⟩ := oit H
            obtain ⟨a17, g17, e17, H⟩ := obR H
            refine x_callV (M' := mi_X5_isWord) (n := 1) (As := [.long (499917810803 : Int64)]) (t_X5_isWord C _ e17) c17 rfl rfl md_X5_isWord ⟨Nat.le_of_ble_eq_true rfl, Nat.le_of_ble_eq_true rfl⟩ q2118 q2120 qs55 q131 q2121 rfl (Nat.le_of_ble_eq_true rfl) dX5_bookLine_142 ?_
            refine x_if_eq 152 dX5_bookLine_145 (by decide) (fun c18 => ?_) (fun c18 => ?_)
            · rw [if_pos c18] at H
              refine x_iconst (-1 : Int32) dX5_bookLine_152 ic_m1 ?_
              refine X.sub [0, 1, 3] rfl ?_
              exact t_X5_bookLine_b153 hE _ _ _ _ _ H
            · rw [if_neg c18] at H
              refine x_iconst (3 : Int32) dX5_bookLine_148 ic_3 ?_
              refine x_goto (tgt := 153) dX5_bookLine_149 (by decide) ?_
              refine X.sub [0, 1, 3] rfl ?_
              exact t_X5_bookLine_b153 hE _ _ _ _ _ H
          · rw [if_neg c16] at H
            refine x_iconst (2 : Int32) dX5_bookLine_134 ic_2 ?_
            refine x_goto (tgt := 153) dX5_bookLine_135 (by decide) ?_
            refine X.sub [0, 1, 3] rfl ?_
            exact t_X5_bookLine_b153 hE _ _ _ _ _ H
        · rw [if_neg c14] at H
          refine x_iconst (1 : Int32) dX5_bookLine_120 ic_1 ?_
          refine x_goto (tgt := 153) dX5_bookLine_121 (by decide) ?_
          refine X.sub [0, 1, 3] rfl ?_
          exact t_X5_bookLine_b153 hE _ _ _ _ _ H
      · rw [if_neg c12] at H
        refine x_iconst (0 : Int32) dX5_bookLine_106 ic_0 ?_
        refine x_goto (tgt := 153) dX5_bookLine_107 (by decide) ?_
        refine X.sub [0, 1, 3] rfl ?_
        exact t_X5_bookLine_b153 hE _ _ _ _ _ H
    · rw [if_neg c10] at H
      refine x_aload_n 0 rfl dX5_bookLine_70 ?_
      refine x_iconst (1 : Int32) dX5_bookLine_71 ic_1 ?_
      refine x_bipush (60 : Int32) dX5_bookLine_72 bi_60 ?_
      obtain ⟨c45, H⟩ := oit H
      obtain ⟨a45, g45, e45, H⟩ := obR H
      refine x_callV (M' := mi_X5_takes) (n := 2) (As := [.int (1 : Int32), .int (60 : Int32)]) (t_X5_takes C _ e45) c45 rfl rfl md_X5_takes ⟨Nat.le_of_ble_eq_true rfl, Nat.le_of_ble_eq_true rfl⟩ q2146 q2148 qs62 q131 q2149 rfl (Nat.le_of_ble_eq_true rfl) dX5_bookLine_74 ?_
      refine x_if_ne 82 dX5_bookLine_77 (by decide) (fun c46 => ?_) (fun c46 => ?_)
      · rw [if_neg c46] at H
        refine x_aload_n 0 rfl dX5_bookLine_82 ?_
        obtain ⟨v47, e47, H⟩ := ob H
        refine x_getf fg_X5_40 (gFr_spec e47) dX5_bookLine_83 ?_
        refine x_iload_n 1 rfl dX5_bookLine_86 ?_
        refine x_iconst (1 : Int32) dX5_bookLine_87 ic_1 ?_
        refine x_iadd dX5_bookLine_88 ?_
        refine x_aload_n 0 rfl dX5_bookLine_89 ?_
        obtain ⟨v48, e48, H⟩ := ob H
        refine x_getf fg_X5_193 (gFi_spec e48) dX5_bookLine_90 ?_
        obtain ⟨h49, e49, H⟩ := ob H
        refine x_iast e49 dX5_bookLine_93 ?_
        refine x_iconst (1 : Int32) dX5_bookLine_94 ic_1 ?_
        obtain rfl := Option.some.inj H
        exact x_iret hE rfl rfl dX5_bookLine_95
      · rw [if_pos c46] at H
        refine x_iconst (0 : Int32) dX5_bookLine_80 ic_0 ?_
        obtain rfl := Option.some.inj H
        exact x_iret hE rfl rfl dX5_bookLine_81
  · rw [if_pos c5] at H
    refine x_aload_n 0 rfl dX5_bookLine_44 ?_
    refine x_iconst (4 : Int32) dX5_bookLine_45 ic_4 ?_
    obtain ⟨c50, H⟩ := oit H
    obtain ⟨a50, g50, e50, H⟩ := obR H
    refine x_callV (M' := mi_X5_bad) (n := 1) (As := [.int (4 : Int32)]) (t_X5_bad C _ e50) c50 rfl rfl md_X5_bad ⟨Nat.le_of_ble_eq_true rfl, Nat.le_of_ble_eq_true rfl⟩ q2126 q2128 qs57 q131 q2129 rfl (Nat.le_of_ble_eq_true rfl) dX5_bookLine_46 ?_
    obtain ⟨c, rfl⟩ := rZ_spec H
    exact x_iret hE rfl c dX5_bookLine_49
def f_X5_bookLine (r0 : Nat) (h : mH) : Option (Int32 × mH) := (gFi [4] 39 h r0).bind fun v1 => if gC h r0 = 4 then bR (f_X5_isWord r0 (6578553 : Int64) h) fun a2 g2 => if a2 = 0 then (gFr [4] 6 g2 r0).bind fun v51 => (aI .int g2 v51 (0 : Int32)).bind fun v52 => if gC g2 r0 = 4 then bR (f_X5_looksAt r0 (0 : Int32) v52 g2) fun a53 g53 => if a53 = 0 then some ((0 : Int32), g53) else f_X5_bookLine_b35 r0 ((4 : Int32) * v1) a2 g53 else none else f_X5_bookLine_b35 r0 ((4 : Int32) * v1) a2 g2 else none
theorem t_X5_bookLine {G : xG} (C0 : xC) {l : Launch} {r0 : Nat} (h : mH) {o : Int32 × mH} (H : f_X5_bookLine r0 h = some o) : XR G l mi_X5_bookLine [.ref r0] h (some (.int o.1)) o.2 := by
  refine XR.of C0 (by decide) (Nat.le_of_ble_eq_true rfl) (fun C _ _ _ hE => ?_)
  show X G C mi_X5_bookLine 0 [(0, .ref r0)] [] h
  unfold f_X5_bookLine at H
  refine x_iconst (4 : Int32) dX5_bookLine_0 ic_4 ?_
  refine x_aload_n 0 rfl dX5_bookLine_1 ?_
  obtain ⟨v1, e1, H⟩ := ob H
  refine x_getf fg_X5_418 (gFi_spec e1) dX5_bookLine_2 ?_
  refine x_imul dX5_bookLine_5 ?_
  refine x_istore_n [1, 0] dX5_bookLine_6 (by decide) rfl ?_
  refine x_aload_n 0 rfl dX5_bookLine_7 ?_
  refine x_ldc2 q1917 dX5_bookLine_8 ?_
  obtain ⟨c2, H⟩ := oit H
  obtain ⟨a2, g2, e2, H⟩ := obR H
  refine x_callV (M' := mi_X5_isWord) (n := 1) (As := [.long (6578553 : Int64)]) (t_X5_isWord C _ e2) c2 rfl rfl md_X5_isWord ⟨Nat.le_of_ble_eq_true rfl, Nat.le_of_ble_eq_true rfl⟩ q2118 q2120 qs55 q131 q2121 rfl (Nat.le_of_ble_eq_true rfl) dX5_bookLine_11 ?_
  refine x_istore_n [1, 2, 0] dX5_bookLine_14 (by decide) rfl ?_
  refine x_iload_n 2 rfl dX5_bookLine_15 ?_
  refine x_if_ne 35 dX5_bookLine_16 (by decide) (fun c3 => ?_) (fun c3 => ?_)
  · rw [if_neg c3] at H
    exact t_X5_bookLine_b35 hE _ _ _ _ H
  · rw [if_pos c3] at H
    refine x_aload_n 0 rfl dX5_bookLine_19 ?_
    refine x_iconst (0 : Int32) dX5_bookLine_20 ic_0 ?_
    refine x_aload_n 0 rfl dX5_bookLine_21 ?_
    obtain ⟨v51, e51, H⟩ := ob H
    refine x_getf fg_X5_33 (gFr_spec e51) dX5_bookLine_22 ?_
    refine x_iconst (0 : Int32) dX5_bookLine_25 ic_0 ?_
    obtain ⟨v52, e52, H⟩ := ob H
    refine x_iald e52 dX5_bookLine_26 ?_
    obtain ⟨c53, H⟩ := oit H
    obtain ⟨a53, g53, e53, H⟩ := obR H
    refine x_callV (M' := mi_X5_looksAt) (n := 2) (As := [.int (0 : Int32), .int v52]) (t_X5_looksAt C _ e53) c53 rfl rfl md_X5_looksAt ⟨Nat.le_of_ble_eq_true rfl, Nat.le_of_ble_eq_true rfl⟩ q2165 q2167 qs66 q131 q2168 rfl (Nat.le_of_ble_eq_true rfl) dX5_bookLine_27 ?_
    refine x_if_ne 35 dX5_bookLine_30 (by decide) (fun c54 => ?_) (fun c54 => ?_)
    · rw [if_neg c54] at H
      exact t_X5_bookLine_b35 hE _ _ _ _ H
    · rw [if_pos c54] at H
      refine x_iconst (0 : Int32) dX5_bookLine_33 ic_0 ?_
      obtain rfl := Option.some.inj H
      exact x_iret hE rfl rfl dX5_bookLine_34
abbrev mi_X5_isVeiled : xM := (cX5_isVeiled, yX5_isVeiled, 2, some .boolean, 2)
theorem md_X5_isVeiled : xMD mi_X5_isVeiled 1 := ⟨by decide, by decide, by decide +kernel⟩
def f_X5_isVeiled (r0 : Nat) (x1 : Int32) (h : mH) : Option (Int32 × mH) := (gFr [4] 6 h r0).bind fun v1 => (aI .int h v1 (134 : Int32)).bind fun v2 => bR (f_X5_bitOf v2 x1 h) fun a3 g3 => rZ a3 g3
theorem t_X5_isVeiled {G : xG} (C0 : xC) {l : Launch} {r0 : Nat} {x1 : Int32} (h : mH) {o : Int32 × mH} (H : f_X5_isVeiled r0 x1 h = some o) : XR G l mi_X5_isVeiled [.ref r0, .int x1] h (some (.int o.1)) o.2 := by
  refine XR.of C0 (by decide) (Nat.le_of_ble_eq_true rfl) (fun C _ _ _ hE => ?_)
  show X G C mi_X5_isVeiled 0 [(0, .ref r0), (1, .int x1)] [] h
  unfold f_X5_isVeiled at H
  refine x_aload_n 0 rfl dX5_isVeiled_0 ?_
  obtain ⟨v1, e1, H⟩ := ob H
  refine x_getf fg_X5_33 (gFr_spec e1) dX5_isVeiled_1 ?_
  refine x_sipush (134 : Int32) dX5_isVeiled_4 si_134 ?_
  obtain ⟨v2, e2, H⟩ := ob H
  refine x_iald e2 dX5_isVeiled_7 ?_
  refine x_iload_n 1 rfl dX5_isVeiled_8 ?_
  obtain ⟨a3, g3, e3, H⟩ := obR H
  refine x_callS (M' := mi_X5_bitOf) (n := 2) (As := [.int v2, .int x1]) (t_X5_bitOf C _ e3) md_X5_bitOf ⟨Nat.le_of_ble_eq_true rfl, Nat.le_of_ble_eq_true rfl⟩ q2173 q2174 q131 q2175 rfl (Nat.le_of_ble_eq_true rfl) dX5_isVeiled_9 ?_
  obtain ⟨c, rfl⟩ := rZ_spec H
  exact x_iret hE rfl c dX5_isVeiled_12
abbrev mi_X5_meets : xM := (cX5_meets, yX5_meets, 3, none, 1)
theorem md_X5_meets : xMD mi_X5_meets 2 := ⟨by decide, by decide, by decide +kernel⟩
def f_X5_meets (r0 : Nat) (x1 : Int32) (x2 : Int32) (h : mH) : Option (Unit × mH) := (gFr [4] 6 h r0).bind fun v1 => (aI .int h v1 ((220 : Int32) + x1)).bind fun v2 => (sI .int h v1 ((220 : Int32) + x1) (v2 ||| ((1 : Int32) <<< (x2 &&& 31)))).bind fun h3 => (gFr [4] 6 h3 r0).bind fun v4 => (aI .int h3 v4 ((220 : Int32) + x2)).bind fun v5 => (sI .int h3 v4 ((220 : Int32) + x2) (v5 ||| ((1 : Int32) <<< (x1 &&& 31)))).bind fun h6 => some ((), h6)
theorem t_X5_meets {G : xG} (C0 : xC) {l : Launch} {r0 : Nat} {x1 : Int32} {x2 : Int32} (h : mH) {o : Unit × mH} (H : f_X5_meets r0 x1 x2 h = some o) : XR G l mi_X5_meets [.ref r0, .int x1, .int x2] h none o.2 := by
  refine XR.of C0 (by decide) (Nat.le_of_ble_eq_true rfl) (fun C _ _ _ hE => ?_)
  show X G C mi_X5_meets 0 [(0, .ref r0), (1, .int x1), (2, .int x2)] [] h
  unfold f_X5_meets at H
  refine x_aload_n 0 rfl dX5_meets_0 ?_
  obtain ⟨v1, e1, H⟩ := ob H
  refine x_getf fg_X5_33 (gFr_spec e1) dX5_meets_1 ?_
  refine x_sipush (220 : Int32) dX5_meets_4 si_220 ?_
  refine x_iload_n 1 rfl dX5_meets_7 ?_
  refine x_iadd dX5_meets_8 ?_
  refine x_dup2 dX5_meets_9 rfl rfl ?_
  obtain ⟨v2, e2, H⟩ := ob H
  refine x_iald e2 dX5_meets_10 ?_
  refine x_iconst (1 : Int32) dX5_meets_11 ic_1 ?_
  refine x_iload_n 2 rfl dX5_meets_12 ?_
  refine x_ishl dX5_meets_13 ?_
  refine x_ior dX5_meets_14 ?_
  obtain ⟨h3, e3, H⟩ := ob H
  refine x_iast e3 dX5_meets_15 ?_
  refine x_aload_n 0 rfl dX5_meets_16 ?_
  obtain ⟨v4, e4, H⟩ := ob H
  refine x_getf fg_X5_33 (gFr_spec e4) dX5_meets_17 ?_
  refine x_sipush (220 : Int32) dX5_meets_20 si_220 ?_
  refine x_iload_n 2 rfl dX5_meets_23 ?_
  refine x_iadd dX5_meets_24 ?_
  refine x_dup2 dX5_meets_25 rfl rfl ?_
  obtain ⟨v5, e5, H⟩ := ob H
  refine x_iald e5 dX5_meets_26 ?_
  refine x_iconst (1 : Int32) dX5_meets_27 ic_1 ?_
  refine x_iload_n 1 rfl dX5_meets_28 ?_
  refine x_ishl dX5_meets_29 ?_
  refine x_ior dX5_meets_30 ?_
  obtain ⟨h6, e6, H⟩ := ob H
  refine x_iast e6 dX5_meets_31 ?_
  obtain rfl := Option.some.inj H
  exact x_vret hE rfl dX5_meets_32
abbrev mi_X5_buys : xM := (cX5_buys, yX5_buys, 5, none, 3)
theorem md_X5_buys : xMD mi_X5_buys 3 := ⟨by decide, by decide, by decide +kernel⟩
def f_X5_buys (r0 : Nat) (x1 : Int32) (x2 : Int32) (x3 : Int32) (h : mH) : Option (Unit × mH) := (gFr [4] 6 h r0).bind fun v1 => (aI .int h v1 (((47 : Int32) + ((5 : Int32) * x3)) + x2)).bind fun v2 => (gFr [4] 6 h r0).bind fun v3 => (aI .int h v3 (((143 : Int32) + ((5 : Int32) * x3)) + x2)).bind fun v4 => (sI .int h v3 (((143 : Int32) + ((5 : Int32) * x3)) + x2) (v4 - (1 : Int32))).bind fun h5 => (gFr [4] 6 h5 r0).bind fun v6 => (aI .int h5 v6 (((178 : Int32) + ((5 : Int32) * x1)) + x2)).bind fun v7 => (sI .int h5 v6 (((178 : Int32) + ((5 : Int32) * x1)) + x2) (v7 - (1 : Int32))).bind fun h8 => (gFr [4] 6 h8 r0).bind fun v9 => (aI .int h8 v9 ((136 : Int32) + x1)).bind fun v10 => (sI .int h8 v9 ((136 : Int32) + x1) (v10 - (v2 - (1 : Int32)))).bind fun h11 => (gFr [4] 6 h11 r0).bind fun v12 => (aI .int h11 v12 ((136 : Int32) + x3)).bind fun v13 => (sI .int h11 v12 ((136 : Int32) + x3) (v13 + (v2 - (1 : Int32)))).bind fun h14 => (gFr [4] 6 h14 r0).bind fun v15 => (aI .int h14 v15 (132 : Int32)).bind fun v16 => (sI .int h14 v15 (132 : Int32) (v16 + (1 : Int32))).bind fun h17 => if gC h17 r0 = 4 then bR (f_X5_isVeiled r0 x1 h17) fun a18 g18 => if a18 = 0 then if gC g18 r0 = 4 then bR (f_X5_isVeiled r0 x3 g18) fun a20 g20 => if a20 = 0 then (gFr [4] 6 g20 r0).bind fun v22 => (aI .int g20 v22 (((227 : Int32) + ((7 : Int32) * x1)) + x3)).bind fun v23 => (sI .int g20 v22 (((227 : Int32) + ((7 : Int32) * x1)) + x3) (v23 + (1 : Int32))).bind fun h24 => (gFr [4] 6 h24 r0).bind fun v25 => (aI .int h24 v25 (((227 : Int32) + ((7 : Int32) * x3)) + x1)).bind fun v26 => (sI .int h24 v25 (((227 : Int32) + ((7 : Int32) * x3)) + x1) (v26 + (1 : Int32))).bind fun h27 => (gFr [4] 6 h27 r0).bind fun v28 => (aI .int h27 v28 (((227 : Int32) + ((7 : Int32) * x1)) + x3)).bind fun v29 => (gFr [4] 6 h27 r0).bind fun v30 => (aI .int h27 v30 (2 : Int32)).bind fun v31 => if v29 < v31 then some ((), h27) else if gC h27 r0 = 4 then bR (f_X5_meets r0 x1 x3 h27) fun a33 g33 => some ((), g33) else none else some ((), g20) else none else some ((), g18) else none
theorem t_X5_buys {G : xG} (C0 : xC) {l : Launch} {r0 : Nat} {x1 : Int32} {x2 : Int32} {x3 : Int32} (h : mH) {o : Unit × mH} (H : f_X5_buys r0 x1 x2 x3 h = some o) : XR G l mi_X5_buys [.ref r0, .int x1, .int x2, .int x3] h none o.2 := by
  refine XR.of C0 (by decide) (Nat.le_of_ble_eq_true rfl) (fun C _ _ _ hE => ?_)
  show X G C mi_X5_buys 0 [(0, .ref r0), (1, .int x1), (2, .int x2), (3, .int x3)] [] h
  unfold f_X5_buys at H
  refine x_aload_n 0 rfl dX5_buys_0 ?_
  obtain ⟨v1, e1, H⟩ := ob H
  refine x_getf fg_X5_33 (gFr_spec e1) dX5_buys_1 ?_
  refine x_bipush (47 : Int32) dX5_buys_4 bi_47 ?_
  refine x_iconst (5 : Int32) dX5_buys_6 ic_5 ?_
  refine x_iload_n 3 rfl dX5_buys_7 ?_
  refine x_imul dX5_buys_8 ?_
  refine x_iadd dX5_buys_9 ?_
  refine x_iload_n 2 rfl dX5_buys_10 ?_
  refine x_iadd dX5_buys_11 ?_
  obtain ⟨v2, e2, H⟩ := ob H
  refine x_iald e2 dX5_buys_12 ?_
  refine x_iconst (1 : Int32) dX5_buys_13 ic_1 ?_
  refine x_isub dX5_buys_14 ?_
  refine x_istore [1, 2, 3, 4, 0] dX5_buys_15 (by decide) rfl ?_
  refine x_aload_n 0 rfl dX5_buys_17 ?_
  obtain ⟨v3, e3, H⟩ := ob H
  refine x_getf fg_X5_33 (gFr_spec e3) dX5_buys_18 ?_
  refine x_sipush (143 : Int32) dX5_buys_21 si_143 ?_
  refine x_iconst (5 : Int32) dX5_buys_24 ic_5 ?_
  refine x_iload_n 3 rfl dX5_buys_25 ?_
  refine x_imul dX5_buys_26 ?_
  refine x_iadd dX5_buys_27 ?_
  refine x_iload_n 2 rfl dX5_buys_28 ?_
  refine x_iadd dX5_buys_29 ?_
  refine x_dup2 dX5_buys_30 rfl rfl ?_
  obtain ⟨v4, e4, H⟩ := ob H
  refine x_iald e4 dX5_buys_31 ?_
  refine x_iconst (1 : Int32) dX5_buys_32 ic_1 ?_
  refine x_isub dX5_buys_33 ?_
  obtain ⟨h5, e5, H⟩ := ob H
  refine x_iast e5 dX5_buys_34 ?_
  refine x_aload_n 0 rfl dX5_buys_35 ?_
  obtain ⟨v6, e6, H⟩ := ob H
  refine x_getf fg_X5_33 (gFr_spec e6) dX5_buys_36 ?_
  refine x_sipush (178 : Int32) dX5_buys_39 si_178 ?_
  refine x_iconst (5 : Int32) dX5_buys_42 ic_5 ?_
  refine x_iload_n 1 rfl dX5_buys_43 ?_
  refine x_imul dX5_buys_44 ?_
  refine x_iadd dX5_buys_45 ?_
  refine x_iload_n 2 rfl dX5_buys_46 ?_
  refine x_iadd dX5_buys_47 ?_
  refine x_dup2 dX5_buys_48 rfl rfl ?_
  obtain ⟨v7, e7, H⟩ := ob H
  refine x_iald e7 dX5_buys_49 ?_
  refine x_iconst (1 : Int32) dX5_buys_50 ic_1 ?_
  refine x_isub dX5_buys_51 ?_
  obtain ⟨h8, e8, H⟩ := ob H
  refine x_iast e8 dX5_buys_52 ?_
  refine x_aload_n 0 rfl dX5_buys_53 ?_
  obtain ⟨v9, e9, H⟩ := ob H
  refine x_getf fg_X5_33 (gFr_spec e9) dX5_buys_54 ?_
  refine x_sipush (136 : Int32) dX5_buys_57 si_136 ?_
  refine x_iload_n 1 rfl dX5_buys_60 ?_
  refine x_iadd dX5_buys_61 ?_
  refine x_dup2 dX5_buys_62 rfl rfl ?_
  obtain ⟨v10, e10, H⟩ := ob H
  refine x_iald e10 dX5_buys_63 ?_
  refine x_iload 4 rfl dX5_buys_64 ?_
  refine x_isub dX5_buys_66 ?_
  obtain ⟨h11, e11, H⟩ := ob H
  refine x_iast e11 dX5_buys_67 ?_
  refine x_aload_n 0 rfl dX5_buys_68 ?_
  obtain ⟨v12, e12, H⟩ := ob H
  refine x_getf fg_X5_33 (gFr_spec e12) dX5_buys_69 ?_
  refine x_sipush (136 : Int32) dX5_buys_72 si_136 ?_
  refine x_iload_n 3 rfl dX5_buys_75 ?_
  refine x_iadd dX5_buys_76 ?_
  refine x_dup2 dX5_buys_77 rfl rfl ?_
  obtain ⟨v13, e13, H⟩ := ob H
  refine x_iald e13 dX5_buys_78 ?_
  refine x_iload 4 rfl dX5_buys_79 ?_
  refine x_iadd dX5_buys_81 ?_
  obtain ⟨h14, e14, H⟩ := ob H
  refine x_iast e14 dX5_buys_82 ?_
  refine x_aload_n 0 rfl dX5_buys_83 ?_
  obtain ⟨v15, e15, H⟩ := ob H
  refine x_getf fg_X5_33 (gFr_spec e15) dX5_buys_84 ?_
  refine x_sipush (132 : Int32) dX5_buys_87 si_132 ?_
  refine x_dup2 dX5_buys_90 rfl rfl ?_
  obtain ⟨v16, e16, H⟩ := ob H
  refine x_iald e16 dX5_buys_91 ?_
  refine x_iconst (1 : Int32) dX5_buys_92 ic_1 ?_
  refine x_iadd dX5_buys_93 ?_
  obtain ⟨h17, e17, H⟩ := ob H
  refine x_iast e17 dX5_buys_94 ?_
  refine x_aload_n 0 rfl dX5_buys_95 ?_
  refine x_iload_n 1 rfl dX5_buys_96 ?_
  obtain ⟨c18, H⟩ := oit H
  obtain ⟨a18, g18, e18, H⟩ := obR H
  refine x_callV (M' := mi_X5_isVeiled) (n := 1) (As := [.int x1]) (t_X5_isVeiled C _ e18) c18 rfl rfl md_X5_isVeiled ⟨Nat.le_of_ble_eq_true rfl, Nat.le_of_ble_eq_true rfl⟩ q2255 q2257 qs81 q131 q2258 rfl (Nat.le_of_ble_eq_true rfl) dX5_buys_97 ?_
  refine x_if_ne 111 dX5_buys_100 (by decide) (fun c19 => ?_) (fun c19 => ?_)
  · rw [if_neg c19] at H
    obtain rfl := Option.some.inj H
    exact x_vret hE rfl dX5_buys_111
  · rw [if_pos c19] at H
    refine x_aload_n 0 rfl dX5_buys_103 ?_
    refine x_iload_n 3 rfl dX5_buys_104 ?_
    obtain ⟨c20, H⟩ := oit H
    obtain ⟨a20, g20, e20, H⟩ := obR H
    refine x_callV (M' := mi_X5_isVeiled) (n := 1) (As := [.int x3]) (t_X5_isVeiled C _ e20) c20 rfl rfl md_X5_isVeiled ⟨Nat.le_of_ble_eq_true rfl, Nat.le_of_ble_eq_true rfl⟩ q2255 q2257 qs81 q131 q2258 rfl (Nat.le_of_ble_eq_true rfl) dX5_buys_105 ?_
    refine x_if_eq 112 dX5_buys_108 (by decide) (fun c21 => ?_) (fun c21 => ?_)
    · rw [if_pos c21] at H
      refine x_aload_n 0 rfl dX5_buys_112 ?_
      obtain ⟨v22, e22, H⟩ := ob H
      refine x_getf fg_X5_33 (gFr_spec e22) dX5_buys_113 ?_
      refine x_sipush (227 : Int32) dX5_buys_116 si_227 ?_
      refine x_bipush (7 : Int32) dX5_buys_119 bi_7 ?_
      refine x_iload_n 1 rfl dX5_buys_121 ?_
      refine x_imul dX5_buys_122 ?_
      refine x_iadd dX5_buys_123 ?_
      refine x_iload_n 3 rfl dX5_buys_124 ?_
      refine x_iadd dX5_buys_125 ?_
      refine x_dup2 dX5_buys_126 rfl rfl ?_
      obtain ⟨v23, e23, H⟩ := ob H
      refine x_iald e23 dX5_buys_127 ?_
      refine x_iconst (1 : Int32) dX5_buys_128 ic_1 ?_
      refine x_iadd dX5_buys_129 ?_
      obtain ⟨h24, e24, H⟩ := ob H
      refine x_iast e24 dX5_buys_130 ?_
      refine x_aload_n 0 rfl dX5_buys_131 ?_
      obtain ⟨v25, e25, H⟩ := ob H
      refine x_getf fg_X5_33 (gFr_spec e25) dX5_buys_132 ?_
      refine x_sipush (227 : Int32) dX5_buys_135 si_227 ?_
      refine x_bipush (7 : Int32) dX5_buys_138 bi_7 ?_
      refine x_iload_n 3 rfl dX5_buys_140 ?_
      refine x_imul dX5_buys_141 ?_
      refine x_iadd dX5_buys_142 ?_
      refine x_iload_n 1 rfl dX5_buys_143 ?_
      refine x_iadd dX5_buys_144 ?_
      refine x_dup2 dX5_buys_145 rfl rfl ?_
      obtain ⟨v26, e26, H⟩ := ob H
      refine x_iald e26 dX5_buys_146 ?_
      refine x_iconst (1 : Int32) dX5_buys_147 ic_1 ?_
      refine x_iadd dX5_buys_148 ?_
      obtain ⟨h27, e27, H⟩ := ob H
      refine x_iast e27 dX5_buys_149 ?_
      refine x_aload_n 0 rfl dX5_buys_150 ?_
      obtain ⟨v28, e28, H⟩ := ob H
      refine x_getf fg_X5_33 (gFr_spec e28) dX5_buys_151 ?_
      refine x_sipush (227 : Int32) dX5_buys_154 si_227 ?_
      refine x_bipush (7 : Int32) dX5_buys_157 bi_7 ?_
      refine x_iload_n 1 rfl dX5_buys_159 ?_
      refine x_imul dX5_buys_160 ?_
      refine x_iadd dX5_buys_161 ?_
      refine x_iload_n 3 rfl dX5_buys_162 ?_
      refine x_iadd dX5_buys_163 ?_
      obtain ⟨v29, e29, H⟩ := ob H
      refine x_iald e29 dX5_buys_164 ?_
      refine x_aload_n 0 rfl dX5_buys_165 ?_
      obtain ⟨v30, e30, H⟩ := ob H
      refine x_getf fg_X5_33 (gFr_spec e30) dX5_buys_166 ?_
      refine x_iconst (2 : Int32) dX5_buys_169 ic_2 ?_
      obtain ⟨v31, e31, H⟩ := ob H
      refine x_iald e31 dX5_buys_170 ?_
      refine x_icmp_lt 180 dX5_buys_171 (by decide) (fun c32 => ?_) (fun c32 => ?_)
      · rw [if_pos c32] at H
        obtain rfl := Option.some.inj H
        exact x_vret hE rfl dX5_buys_180
      · rw [if_neg c32] at H
        refine x_aload_n 0 rfl dX5_buys_174 ?_
        refine x_iload_n 1 rfl dX5_buys_175 ?_
        refine x_iload_n 3 rfl dX5_buys_176 ?_
        obtain ⟨c33, H⟩ := oit H
        obtain ⟨a33, g33, e33, H⟩ := obR H
        refine x_callV (M' := mi_X5_meets) (n := 2) (As := [.int x1, .int x3]) (t_X5_meets C _ e33) c33 rfl rfl md_X5_meets ⟨Nat.le_of_ble_eq_true rfl, Nat.le_of_ble_eq_true rfl⟩ q2267 q2269 qs84 q131 q2270 rfl (Nat.le_of_ble_eq_true rfl) dX5_buys_177 ?_
        obtain rfl := Option.some.inj H
        exact x_vret hE rfl dX5_buys_180
    · rw [if_neg c21] at H
      obtain rfl := Option.some.inj H
      exact x_vret hE rfl dX5_buys_111
abbrev mi_X5_lesser : xM := (cX5_lesser, yX5_lesser, 2, some .int, 1)
theorem md_X5_lesser : xMD mi_X5_lesser 2 := ⟨by decide, by decide, by decide +kernel⟩
def f_X5_lesser (x0 : Int32) (x1 : Int32) (h : mH) : Option (Int32 × mH) := if x1 ≤ x0 then some (x1, h) else some (x0, h)
theorem t_X5_lesser {G : xG} (C0 : xC) {l : Launch} {x0 : Int32} {x1 : Int32} (h : mH) {o : Int32 × mH} (H : f_X5_lesser x0 x1 h = some o) : XR G l mi_X5_lesser [.int x0, .int x1] h (some (.int o.1)) o.2 := by
  refine XR.of C0 (by decide) (Nat.le_of_ble_eq_true rfl) (fun C _ _ _ hE => ?_)
  show X G C mi_X5_lesser 0 [(0, .int x0), (1, .int x1)] [] h
  unfold f_X5_lesser at H
  refine x_iload_n 0 rfl dX5_lesser_0 ?_
  refine x_iload_n 1 rfl dX5_lesser_1 ?_
  refine x_icmp_ge 9 dX5_lesser_2 (by decide) (fun c1 => ?_) (fun c1 => ?_)
  · rw [if_pos c1] at H
    refine x_iload_n 1 rfl dX5_lesser_9 ?_
    obtain rfl := Option.some.inj H
    exact x_iret hE rfl rfl dX5_lesser_10
  · rw [if_neg c1] at H
    refine x_iload_n 0 rfl dX5_lesser_5 ?_
    refine x_goto (tgt := 10) dX5_lesser_6 (by decide) ?_
    obtain rfl := Option.some.inj H
    exact x_iret hE rfl rfl dX5_lesser_10
abbrev mi_X5_morning : xM := (cX5_morning, yX5_morning, 2, none, 1)
theorem md_X5_morning : xMD mi_X5_morning 0 := ⟨by decide, by decide, by decide +kernel⟩
def f_X5_morning_b52 (r0 : Nat) (h : mH) : Option (Unit × mH) := (gFr [4] 6 h r0).bind fun v1 => (sI .int h v1 (133 : Int32) (0 : Int32)).bind fun h2 => (gFr [4] 6 h2 r0).bind fun v3 => (sI .int h2 v3 (134 : Int32) (0 : Int32)).bind fun h4 => (gFr [4] 6 h4 r0).bind fun v5 => (gFr [4] 6 h4 r0).bind fun v6 => (aI .int h4 v6 (3 : Int32)).bind fun v7 => (sI .int h4 v5 (135 : Int32) v7).bind fun h8 => some ((), h8)
theorem t_X5_morning_b52 {G : xG} {C : xC} {o : Unit × mH} (hE : xEnd G C none o.2) (r0 : Nat) (h : mH) (H : f_X5_morning_b52 r0 h = some o) : X G C mi_X5_morning 52 [(0, .ref r0)] [] h := by
  unfold f_X5_morning_b52 at H
  refine x_aload_n 0 rfl dX5_morning_52 ?_
  obtain ⟨v1, e1, H⟩ := ob H
  refine x_getf fg_X5_33 (gFr_spec e1) dX5_morning_53 ?_
  refine x_sipush (133 : Int32) dX5_morning_56 si_133 ?_
  refine x_iconst (0 : Int32) dX5_morning_59 ic_0 ?_
  obtain ⟨h2, e2, H⟩ := ob H
  refine x_iast e2 dX5_morning_60 ?_
  refine x_aload_n 0 rfl dX5_morning_61 ?_
  obtain ⟨v3, e3, H⟩ := ob H
  refine x_getf fg_X5_33 (gFr_spec e3) dX5_morning_62 ?_
  refine x_sipush (134 : Int32) dX5_morning_65 si_134 ?_
  refine x_iconst (0 : Int32) dX5_morning_68 ic_0 ?_
  obtain ⟨h4, e4, H⟩ := ob H
  refine x_iast e4 dX5_morning_69 ?_
  refine x_aload_n 0 rfl dX5_morning_70 ?_
  obtain ⟨v5, e5, H⟩ := ob H
  refine x_getf fg_X5_33 (gFr_spec e5) dX5_morning_71 ?_
  refine x_sipush (135 : Int32) dX5_morning_74 si_135 ?_
  refine x_aload_n 0 rfl dX5_morning_77 ?_
  obtain ⟨v6, e6, H⟩ := ob H
  refine x_getf fg_X5_33 (gFr_spec e6) dX5_morning_78 ?_
  refine x_iconst (3 : Int32) dX5_morning_81 ic_3 ?_
  obtain ⟨v7, e7, H⟩ := ob H
  refine x_iald e7 dX5_morning_82 ?_
  obtain ⟨h8, e8, H⟩ := ob H
  refine x_iast e8 dX5_morning_83 ?_
  obtain rfl := Option.some.inj H
  exact x_vret hE rfl dX5_morning_84
def f_X5_morning_L2 (k52 : Nat → mH → Option (Unit × mH)) : Nat → Nat → Int32 → mH → Option (Unit × mH)
  | 0, _, _, _ => none
  | n + 1, r0, x1, h => if (35 : Int32) ≤ x1 then k52 r0 h else (gFr [4] 6 h r0).bind fun v10 => (gFr [4] 6 h r0).bind fun v11 => (aI .int h v11 ((12 : Int32) + x1)).bind fun v12 => (sI .int h v10 ((143 : Int32) + x1) v12).bind fun h13 => (gFr [4] 6 h13 r0).bind fun v14 => (gFr [4] 6 h13 r0).bind fun v15 => (aI .int h13 v15 ((82 : Int32) + x1)).bind fun v16 => (sI .int h13 v14 ((178 : Int32) + x1) v16).bind fun h17 => (f_X5_morning_L2 k52 n) r0 (x1 + (1 : Int32)) h17
theorem t_X5_morning_L2 {G : xG} {C : xC} {o : Unit × mH} (hE : xEnd G C none o.2) {k52 : Nat → mH → Option (Unit × mH)} (hk52 : ∀ (r0 : Nat) (h : mH), k52 r0 h = some o → X G C mi_X5_morning 52 [(0, .ref r0)] [] h) : ∀ (n : Nat) (r0 : Nat) (x1 : Int32) (h : mH), f_X5_morning_L2 k52 n r0 x1 h = some o → X G C mi_X5_morning 2 [(0, .ref r0), (1, .int x1)] [] h := by
  intro n
  induction n with
  | zero => intro r0 x1 h H; exact nomatch (show (none : Option (Unit × mH)) = some o from H)
  | succ n ih =>
    intro r0 x1 h H
    rw [f_X5_morning_L2] at H
    refine x_iload_n 1 rfl dX5_morning_2 ?_
    refine x_bipush (35 : Int32) dX5_morning_3 bi_35 ?_
    refine x_icmp_ge 52 dX5_morning_5 (by decide) (fun c9 => ?_) (fun c9 => ?_)
    · rw [if_pos c9] at H
      refine X.sub [0] rfl ?_
      exact hk52 _ _ H
    · rw [if_neg c9] at H
      refine x_aload_n 0 rfl dX5_morning_8 ?_
      obtain ⟨v10, e10, H⟩ := ob H
      refine x_getf fg_X5_33 (gFr_spec e10) dX5_morning_9 ?_
      refine x_sipush (143 : Int32) dX5_morning_12 si_143 ?_
      refine x_iload_n 1 rfl dX5_morning_15 ?_
      refine x_iadd dX5_morning_16 ?_
      refine x_aload_n 0 rfl dX5_morning_17 ?_
      obtain ⟨v11, e11, H⟩ := ob H
      refine x_getf fg_X5_33 (gFr_spec e11) dX5_morning_18 ?_
      refine x_bipush (12 : Int32) dX5_morning_21 bi_12 ?_
      refine x_iload_n 1 rfl dX5_morning_23 ?_
      refine x_iadd dX5_morning_24 ?_
      obtain ⟨v12, e12, H⟩ := ob H
      refine x_iald e12 dX5_morning_25 ?_
      obtain ⟨h13, e13, H⟩ := ob H
      refine x_iast e13 dX5_morning_26 ?_
      refine x_aload_n 0 rfl dX5_morning_27 ?_
      obtain ⟨v14, e14, H⟩ := ob H
      refine x_getf fg_X5_33 (gFr_spec e14) dX5_morning_28 ?_
      refine x_sipush (178 : Int32) dX5_morning_31 si_178 ?_
      refine x_iload_n 1 rfl dX5_morning_34 ?_
      refine x_iadd dX5_morning_35 ?_
      refine x_aload_n 0 rfl dX5_morning_36 ?_
      obtain ⟨v15, e15, H⟩ := ob H
      refine x_getf fg_X5_33 (gFr_spec e15) dX5_morning_37 ?_
      refine x_bipush (82 : Int32) dX5_morning_40 bi_82 ?_
      refine x_iload_n 1 rfl dX5_morning_42 ?_
      refine x_iadd dX5_morning_43 ?_
      obtain ⟨v16, e16, H⟩ := ob H
      refine x_iald e16 dX5_morning_44 ?_
      obtain ⟨h17, e17, H⟩ := ob H
      refine x_iast e17 dX5_morning_45 ?_
      refine x_iinc 1 (x1 + (1 : Int32)) [1, 0] dX5_morning_46 rfl (ii_1 _) (by decide) rfl ?_
      refine x_goto (tgt := 2) dX5_morning_49 (by decide) ?_
      exact ih _ _ _ H
def f_X5_morning (r0 : Nat) (h : mH) : Option (Unit × mH) := f_X5_morning_L2 (f_X5_morning_b52) xFu r0 (0 : Int32) h
theorem t_X5_morning {G : xG} (C0 : xC) {l : Launch} {r0 : Nat} (h : mH) {o : Unit × mH} (H : f_X5_morning r0 h = some o) : XR G l mi_X5_morning [.ref r0] h none o.2 := by
  refine XR.of C0 (by decide) (Nat.le_of_ble_eq_true rfl) (fun C _ _ _ hE => ?_)
  show X G C mi_X5_morning 0 [(0, .ref r0)] [] h
  unfold f_X5_morning at H
  refine x_iconst (0 : Int32) dX5_morning_0 ic_0 ?_
  refine x_istore_n [1, 0] dX5_morning_1 (by decide) rfl ?_
  exact t_X5_morning_L2 hE (t_X5_morning_b52 hE) xFu _ _ _ H
abbrev mi_X5_wantsOf : xM := (cX5_wantsOf, yX5_wantsOf, 4, some .int, 1)
theorem md_X5_wantsOf : xMD mi_X5_wantsOf 1 := ⟨by decide, by decide, by decide +kernel⟩
def f_X5_wantsOf_L4 : Nat → Nat → Int32 → Int32 → Int32 → mH → Option (Int32 × mH)
  | 0, _, _, _, _, _ => none
  | n + 1, r0, x1, x2, x3, h => (gFr [4] 6 h r0).bind fun v1 => (aI .int h v1 (1 : Int32)).bind fun v2 => if v2 ≤ x3 then some (x2, h) else (gFr [4] 6 h r0).bind fun v4 => (aI .int h v4 (((178 : Int32) + ((5 : Int32) * x1)) + x3)).bind fun v5 => (f_X5_wantsOf_L4 n) r0 x1 (x2 + v5) (x3 + (1 : Int32)) h
theorem t_X5_wantsOf_L4 {G : xG} {C : xC} {o : Int32 × mH} (hE : xEnd G C (some (.int o.1)) o.2) : ∀ (n : Nat) (r0 : Nat) (x1 : Int32) (x2 : Int32) (x3 : Int32) (h : mH), f_X5_wantsOf_L4 n r0 x1 x2 x3 h = some o → X G C mi_X5_wantsOf 4 [(0, .ref r0), (1, .int x1), (2, .int x2), (3, .int x3)] [] h := by
  intro n
  induction n with
  | zero => intro r0 x1 x2 x3 h H; exact nomatch (show (none : Option (Int32 × mH)) = some o from H)
  | succ n ih =>
    intro r0 x1 x2 x3 h H
    rw [f_X5_wantsOf_L4] at H
    refine x_iload_n 3 rfl dX5_wantsOf_4 ?_
    refine x_aload_n 0 rfl dX5_wantsOf_5 ?_
    obtain ⟨v1, e1, H⟩ := ob H
    refine x_getf fg_X5_33 (gFr_spec e1) dX5_wantsOf_6 ?_
    refine x_iconst (1 : Int32) dX5_wantsOf_9 ic_1 ?_
    obtain ⟨v2, e2, H⟩ := ob H
    refine x_iald e2 dX5_wantsOf_10 ?_
    refine x_icmp_ge 37 dX5_wantsOf_11 (by decide) (fun c3 => ?_) (fun c3 => ?_)
    · rw [if_pos c3] at H
      refine x_iload_n 2 rfl dX5_wantsOf_37 ?_
      obtain rfl := Option.some.inj H
      exact x_iret hE rfl rfl dX5_wantsOf_38
    · rw [if_neg c3] at H
      refine x_iload_n 2 rfl dX5_wantsOf_14 ?_
      refine x_aload_n 0 rfl dX5_wantsOf_15 ?_
      obtain ⟨v4, e4, H⟩ := ob H
      refine x_getf fg_X5_33 (gFr_spec e4) dX5_wantsOf_16 ?_
      refine x_sipush (178 : Int32) dX5_wantsOf_19 si_178 ?_
      refine x_iconst (5 : Int32) dX5_wantsOf_22 ic_5 ?_
      refine x_iload_n 1 rfl dX5_wantsOf_23 ?_
      refine x_imul dX5_wantsOf_24 ?_
      refine x_iadd dX5_wantsOf_25 ?_
      refine x_iload_n 3 rfl dX5_wantsOf_26 ?_
      refine x_iadd dX5_wantsOf_27 ?_
      obtain ⟨v5, e5, H⟩ := ob H
      refine x_iald e5 dX5_wantsOf_28 ?_
      refine x_iadd dX5_wantsOf_29 ?_
      refine x_istore_n [1, 2, 0, 3] dX5_wantsOf_30 (by decide) rfl ?_
      refine x_iinc 3 (x3 + (1 : Int32)) [1, 2, 3, 0] dX5_wantsOf_31 rfl (ii_1 _) (by decide) rfl ?_
      refine x_goto (tgt := 4) dX5_wantsOf_34 (by decide) ?_
      exact ih _ _ _ _ _ H
def f_X5_wantsOf (r0 : Nat) (x1 : Int32) (h : mH) : Option (Int32 × mH) := f_X5_wantsOf_L4  xFu r0 x1 (0 : Int32) (0 : Int32) h
theorem t_X5_wantsOf {G : xG} (C0 : xC) {l : Launch} {r0 : Nat} {x1 : Int32} (h : mH) {o : Int32 × mH} (H : f_X5_wantsOf r0 x1 h = some o) : XR G l mi_X5_wantsOf [.ref r0, .int x1] h (some (.int o.1)) o.2 := by
  refine XR.of C0 (by decide) (Nat.le_of_ble_eq_true rfl) (fun C _ _ _ hE => ?_)
  show X G C mi_X5_wantsOf 0 [(0, .ref r0), (1, .int x1)] [] h
  unfold f_X5_wantsOf at H
  refine x_iconst (0 : Int32) dX5_wantsOf_0 ic_0 ?_
  refine x_istore_n [1, 2, 0] dX5_wantsOf_1 (by decide) rfl ?_
  refine x_iconst (0 : Int32) dX5_wantsOf_2 ic_0 ?_
  refine x_istore_n [1, 2, 3, 0] dX5_wantsOf_3 (by decide) rfl ?_
  exact t_X5_wantsOf_L4 hE  xFu _ _ _ _ _ H
abbrev mi_X5_day : xM := (cX5_day, yX5_day, 2, none, 2)
theorem md_X5_day : xMD mi_X5_day 0 := ⟨by decide, by decide, by decide +kernel⟩
def f_X5_day_L96 : Nat → Nat → Int32 → mH → Option (Unit × mH)
  | 0, _, _, _ => none
  | n + 1, r0, x1, h => if (56 : Int32) ≤ x1 then some ((), h) else (gFr [4] 6 h r0).bind fun v15 => (sI .int h v15 ((220 : Int32) + x1) (0 : Int32)).bind fun h16 => (f_X5_day_L96 n) r0 (x1 + (1 : Int32)) h16
theorem t_X5_day_L96 {G : xG} {C : xC} {o : Unit × mH} (hE : xEnd G C none o.2) : ∀ (n : Nat) (r0 : Nat) (x1 : Int32) (h : mH), f_X5_day_L96 n r0 x1 h = some o → X G C mi_X5_day 96 [(0, .ref r0), (1, .int x1)] [] h := by
  intro n
  induction n with
  | zero => intro r0 x1 h H; exact nomatch (show (none : Option (Unit × mH)) = some o from H)
  | succ n ih =>
    intro r0 x1 h H
    rw [f_X5_day_L96] at H
    refine x_iload_n 1 rfl dX5_day_96 ?_
    refine x_bipush (56 : Int32) dX5_day_97 bi_56 ?_
    refine x_icmp_ge 119 dX5_day_99 (by decide) (fun c14 => ?_) (fun c14 => ?_)
    · rw [if_pos c14] at H
      obtain rfl := Option.some.inj H
      exact x_vret hE rfl dX5_day_119
    · rw [if_neg c14] at H
      refine x_aload_n 0 rfl dX5_day_102 ?_
      obtain ⟨v15, e15, H⟩ := ob H
      refine x_getf fg_X5_33 (gFr_spec e15) dX5_day_103 ?_
      refine x_sipush (220 : Int32) dX5_day_106 si_220 ?_
      refine x_iload_n 1 rfl dX5_day_109 ?_
      refine x_iadd dX5_day_110 ?_
      refine x_iconst (0 : Int32) dX5_day_111 ic_0 ?_
      obtain ⟨h16, e16, H⟩ := ob H
      refine x_iast e16 dX5_day_112 ?_
      refine x_iinc 1 (x1 + (1 : Int32)) [1, 0] dX5_day_113 rfl (ii_1 _) (by decide) rfl ?_
      refine x_goto (tgt := 96) dX5_day_116 (by decide) ?_
      exact ih _ _ _ H
def f_X5_day_b50 (r0 : Nat) (h : mH) : Option (Unit × mH) := if gC h r0 = 4 then bR (f_X5_morning r0  h) fun a1 g1 => (gFr [4] 6 g1 r0).bind fun v2 => (aI .int g1 v2 (131 : Int32)).bind fun v3 => (sI .int g1 v2 (131 : Int32) (v3 + (1 : Int32))).bind fun h4 => (gFr [4] 6 h4 r0).bind fun v5 => (aI .int h4 v5 (4 : Int32)).bind fun v6 => if v6 = 0 then some ((), h4) else (gFr [4] 6 h4 r0).bind fun v8 => (aI .int h4 v8 (131 : Int32)).bind fun v9 => (gFr [4] 6 h4 r0).bind fun v10 => (aI .int h4 v10 (4 : Int32)).bind fun v11 => if v11 = 0 then none else if (v9 - v9 / v11 * v11) = 0 then f_X5_day_L96  xFu r0 (0 : Int32) h4 else some ((), h4) else none
theorem t_X5_day_b50 {G : xG} {C : xC} {o : Unit × mH} (hE : xEnd G C none o.2) (r0 : Nat) (h : mH) (H : f_X5_day_b50 r0 h = some o) : X G C mi_X5_day 50 [(0, .ref r0)] [] h := by
  unfold f_X5_day_b50 at H
  refine x_aload_n 0 rfl dX5_day_50 ?_
  obtain ⟨c1, H⟩ := oit H
  obtain ⟨a1, g1, e1, H⟩ := obR H
  refine x_callV (M' := mi_X5_morning) (n := 0) (As := []) (t_X5_morning C _ e1) c1 rfl rfl md_X5_morning ⟨Nat.le_of_ble_eq_true rfl, Nat.le_of_ble_eq_true rfl⟩ q2188 q2190 qs71 q131 q2191 rfl (Nat.le_of_ble_eq_true rfl) dX5_day_51 ?_
  refine x_aload_n 0 rfl dX5_day_54 ?_
  obtain ⟨v2, e2, H⟩ := ob H
  refine x_getf fg_X5_33 (gFr_spec e2) dX5_day_55 ?_
  refine x_sipush (131 : Int32) dX5_day_58 si_131 ?_
  refine x_dup2 dX5_day_61 rfl rfl ?_
  obtain ⟨v3, e3, H⟩ := ob H
  refine x_iald e3 dX5_day_62 ?_
  refine x_iconst (1 : Int32) dX5_day_63 ic_1 ?_
  refine x_iadd dX5_day_64 ?_
  obtain ⟨h4, e4, H⟩ := ob H
  refine x_iast e4 dX5_day_65 ?_
  refine x_aload_n 0 rfl dX5_day_66 ?_
  obtain ⟨v5, e5, H⟩ := ob H
  refine x_getf fg_X5_33 (gFr_spec e5) dX5_day_67 ?_
  refine x_iconst (4 : Int32) dX5_day_70 ic_4 ?_
  obtain ⟨v6, e6, H⟩ := ob H
  refine x_iald e6 dX5_day_71 ?_
  refine x_if_eq 93 dX5_day_72 (by decide) (fun c7 => ?_) (fun c7 => ?_)
  · rw [if_pos c7] at H
    obtain rfl := Option.some.inj H
    exact x_vret hE rfl dX5_day_93
  · rw [if_neg c7] at H
    refine x_aload_n 0 rfl dX5_day_75 ?_
    obtain ⟨v8, e8, H⟩ := ob H
    refine x_getf fg_X5_33 (gFr_spec e8) dX5_day_76 ?_
    refine x_sipush (131 : Int32) dX5_day_79 si_131 ?_
    obtain ⟨v9, e9, H⟩ := ob H
    refine x_iald e9 dX5_day_82 ?_
    refine x_aload_n 0 rfl dX5_day_83 ?_
    obtain ⟨v10, e10, H⟩ := ob H
    refine x_getf fg_X5_33 (gFr_spec e10) dX5_day_84 ?_
    refine x_iconst (4 : Int32) dX5_day_87 ic_4 ?_
    obtain ⟨v11, e11, H⟩ := ob H
    refine x_iald e11 dX5_day_88 ?_
    obtain ⟨c12, H⟩ := oif H
    refine x_irem dX5_day_89 c12 ?_
    refine x_if_eq 94 dX5_day_90 (by decide) (fun c13 => ?_) (fun c13 => ?_)
    · rw [if_pos c13] at H
      refine x_iconst (0 : Int32) dX5_day_94 ic_0 ?_
      refine x_istore_n [1, 0] dX5_day_95 (by decide) rfl ?_
      exact t_X5_day_L96 hE  xFu _ _ _ H
    · rw [if_neg c13] at H
      obtain rfl := Option.some.inj H
      exact x_vret hE rfl dX5_day_93
def f_X5_day_L2 (k50 : Nat → mH → Option (Unit × mH)) : Nat → Nat → Int32 → mH → Option (Unit × mH)
  | 0, _, _, _ => none
  | n + 1, r0, x1, h => (gFr [4] 6 h r0).bind fun v17 => (aI .int h v17 (0 : Int32)).bind fun v18 => if v18 ≤ x1 then k50 r0 h else (gFr [4] 6 h r0).bind fun v20 => (gFr [4] 6 h r0).bind fun v21 => (aI .int h v21 ((213 : Int32) + x1)).bind fun v22 => if gC h r0 = 4 then bR (f_X5_wantsOf r0 x1 h) fun a23 g23 => bR (f_X5_lesser (9999 : Int32) (v22 + a23) g23) fun a24 g24 => (sI .int g24 v20 ((213 : Int32) + x1) a24).bind fun h25 => (f_X5_day_L2 k50 n) r0 (x1 + (1 : Int32)) h25 else none
theorem t_X5_day_L2 {G : xG} {C : xC} {o : Unit × mH} (hE : xEnd G C none o.2) {k50 : Nat → mH → Option (Unit × mH)} (hk50 : ∀ (r0 : Nat) (h : mH), k50 r0 h = some o → X G C mi_X5_day 50 [(0, .ref r0)] [] h) : ∀ (n : Nat) (r0 : Nat) (x1 : Int32) (h : mH), f_X5_day_L2 k50 n r0 x1 h = some o → X G C mi_X5_day 2 [(0, .ref r0), (1, .int x1)] [] h := by
  intro n
  induction n with
  | zero => intro r0 x1 h H; exact nomatch (show (none : Option (Unit × mH)) = some o from H)
  | succ n ih =>
    intro r0 x1 h H
    rw [f_X5_day_L2] at H
    refine x_iload_n 1 rfl dX5_day_2 ?_
    refine x_aload_n 0 rfl dX5_day_3 ?_
    obtain ⟨v17, e17, H⟩ := ob H
    refine x_getf fg_X5_33 (gFr_spec e17) dX5_day_4 ?_
    refine x_iconst (0 : Int32) dX5_day_7 ic_0 ?_
    obtain ⟨v18, e18, H⟩ := ob H
    refine x_iald e18 dX5_day_8 ?_
    refine x_icmp_ge 50 dX5_day_9 (by decide) (fun c19 => ?_) (fun c19 => ?_)
    · rw [if_pos c19] at H
      refine X.sub [0] rfl ?_
      exact hk50 _ _ H
    · rw [if_neg c19] at H
      refine x_aload_n 0 rfl dX5_day_12 ?_
      obtain ⟨v20, e20, H⟩ := ob H
      refine x_getf fg_X5_33 (gFr_spec e20) dX5_day_13 ?_
      refine x_sipush (213 : Int32) dX5_day_16 si_213 ?_
      refine x_iload_n 1 rfl dX5_day_19 ?_
      refine x_iadd dX5_day_20 ?_
      refine x_sipush (9999 : Int32) dX5_day_21 si_9999 ?_
      refine x_aload_n 0 rfl dX5_day_24 ?_
      obtain ⟨v21, e21, H⟩ := ob H
      refine x_getf fg_X5_33 (gFr_spec e21) dX5_day_25 ?_
      refine x_sipush (213 : Int32) dX5_day_28 si_213 ?_
      refine x_iload_n 1 rfl dX5_day_31 ?_
      refine x_iadd dX5_day_32 ?_
      obtain ⟨v22, e22, H⟩ := ob H
      refine x_iald e22 dX5_day_33 ?_
      refine x_aload_n 0 rfl dX5_day_34 ?_
      refine x_iload_n 1 rfl dX5_day_35 ?_
      obtain ⟨c23, H⟩ := oit H
      obtain ⟨a23, g23, e23, H⟩ := obR H
      refine x_callV (M' := mi_X5_wantsOf) (n := 1) (As := [.int x1]) (t_X5_wantsOf C _ e23) c23 rfl rfl md_X5_wantsOf ⟨Nat.le_of_ble_eq_true rfl, Nat.le_of_ble_eq_true rfl⟩ q2216 q2218 qs76 q131 q2219 rfl (Nat.le_of_ble_eq_true rfl) dX5_day_36 ?_
      refine x_iadd dX5_day_39 ?_
      obtain ⟨a24, g24, e24, H⟩ := obR H
      refine x_callS (M' := mi_X5_lesser) (n := 2) (As := [.int (9999 : Int32), .int (v22 + a23)]) (t_X5_lesser C _ e24) md_X5_lesser ⟨Nat.le_of_ble_eq_true rfl, Nat.le_of_ble_eq_true rfl⟩ q2315 q2316 q131 q2317 rfl (Nat.le_of_ble_eq_true rfl) dX5_day_40 ?_
      obtain ⟨h25, e25, H⟩ := ob H
      refine x_iast e25 dX5_day_43 ?_
      refine x_iinc 1 (x1 + (1 : Int32)) [1, 0] dX5_day_44 rfl (ii_1 _) (by decide) rfl ?_
      refine x_goto (tgt := 2) dX5_day_47 (by decide) ?_
      exact ih _ _ _ H
def f_X5_day (r0 : Nat) (h : mH) : Option (Unit × mH) := f_X5_day_L2 (f_X5_day_b50) xFu r0 (0 : Int32) h
theorem t_X5_day {G : xG} (C0 : xC) {l : Launch} {r0 : Nat} (h : mH) {o : Unit × mH} (H : f_X5_day r0 h = some o) : XR G l mi_X5_day [.ref r0] h none o.2 := by
  refine XR.of C0 (by decide) (Nat.le_of_ble_eq_true rfl) (fun C _ _ _ hE => ?_)
  show X G C mi_X5_day 0 [(0, .ref r0)] [] h
  unfold f_X5_day at H
  refine x_iconst (0 : Int32) dX5_day_0 ic_0 ?_
  refine x_istore_n [1, 0] dX5_day_1 (by decide) rfl ?_
  exact t_X5_day_L2 hE (t_X5_day_b50 hE) xFu _ _ _ H
abbrev mi_X5_goesOn : xM := (cX5_goesOn, yX5_goesOn, 3, some .int, 3)
theorem md_X5_goesOn : xMD mi_X5_goesOn 1 := ⟨by decide, by decide, by decide +kernel⟩
def f_X5_goesOn_L2 : Nat → Nat → Int32 → Int32 → mH → Option (Int32 × mH)
  | 0, _, _, _, _ => none
  | n + 1, r0, x1, x2, h => if x1 ≤ x2 then some (x2, h) else (gFr [4] 6 h r0).bind fun v2 => (aI .int h v2 (131 : Int32)).bind fun v3 => if (400 : Int32) ≤ v3 then some (x2, h) else if gC h r0 = 4 then bR (f_X5_day r0  h) fun a5 g5 => (f_X5_goesOn_L2 n) r0 x1 (x2 + (1 : Int32)) g5 else none
theorem t_X5_goesOn_L2 {G : xG} {C : xC} {o : Int32 × mH} (hE : xEnd G C (some (.int o.1)) o.2) : ∀ (n : Nat) (r0 : Nat) (x1 : Int32) (x2 : Int32) (h : mH), f_X5_goesOn_L2 n r0 x1 x2 h = some o → X G C mi_X5_goesOn 2 [(0, .ref r0), (1, .int x1), (2, .int x2)] [] h := by
  intro n
  induction n with
  | zero => intro r0 x1 x2 h H; exact nomatch (show (none : Option (Int32 × mH)) = some o from H)
  | succ n ih =>
    intro r0 x1 x2 h H
    rw [f_X5_goesOn_L2] at H
    refine x_iload_n 2 rfl dX5_goesOn_2 ?_
    refine x_iload_n 1 rfl dX5_goesOn_3 ?_
    refine x_icmp_ge 31 dX5_goesOn_4 (by decide) (fun c1 => ?_) (fun c1 => ?_)
    · rw [if_pos c1] at H
      refine x_iload_n 2 rfl dX5_goesOn_31 ?_
      obtain rfl := Option.some.inj H
      exact x_iret hE rfl rfl dX5_goesOn_32
    · rw [if_neg c1] at H
      refine x_aload_n 0 rfl dX5_goesOn_7 ?_
      obtain ⟨v2, e2, H⟩ := ob H
      refine x_getf fg_X5_33 (gFr_spec e2) dX5_goesOn_8 ?_
      refine x_sipush (131 : Int32) dX5_goesOn_11 si_131 ?_
      obtain ⟨v3, e3, H⟩ := ob H
      refine x_iald e3 dX5_goesOn_14 ?_
      refine x_sipush (400 : Int32) dX5_goesOn_15 si_400 ?_
      refine x_icmp_ge 31 dX5_goesOn_18 (by decide) (fun c4 => ?_) (fun c4 => ?_)
      · rw [if_pos c4] at H
        refine x_iload_n 2 rfl dX5_goesOn_31 ?_
        obtain rfl := Option.some.inj H
        exact x_iret hE rfl rfl dX5_goesOn_32
      · rw [if_neg c4] at H
        refine x_aload_n 0 rfl dX5_goesOn_21 ?_
        obtain ⟨c5, H⟩ := oit H
        obtain ⟨a5, g5, e5, H⟩ := obR H
        refine x_callV (M' := mi_X5_day) (n := 0) (As := []) (t_X5_day C _ e5) c5 rfl rfl md_X5_day ⟨Nat.le_of_ble_eq_true rfl, Nat.le_of_ble_eq_true rfl⟩ q2311 q2313 qs91 q131 q2314 rfl (Nat.le_of_ble_eq_true rfl) dX5_goesOn_22 ?_
        refine x_iinc 2 (x2 + (1 : Int32)) [1, 2, 0] dX5_goesOn_25 rfl (ii_1 _) (by decide) rfl ?_
        refine x_goto (tgt := 2) dX5_goesOn_28 (by decide) ?_
        exact ih _ _ _ _ H
def f_X5_goesOn (r0 : Nat) (x1 : Int32) (h : mH) : Option (Int32 × mH) := f_X5_goesOn_L2  xFu r0 x1 (0 : Int32) h
theorem t_X5_goesOn {G : xG} (C0 : xC) {l : Launch} {r0 : Nat} {x1 : Int32} (h : mH) {o : Int32 × mH} (H : f_X5_goesOn r0 x1 h = some o) : XR G l mi_X5_goesOn [.ref r0, .int x1] h (some (.int o.1)) o.2 := by
  refine XR.of C0 (by decide) (Nat.le_of_ble_eq_true rfl) (fun C _ _ _ hE => ?_)
  show X G C mi_X5_goesOn 0 [(0, .ref r0), (1, .int x1)] [] h
  unfold f_X5_goesOn at H
  refine x_iconst (0 : Int32) dX5_goesOn_0 ic_0 ?_
  refine x_istore_n [1, 2, 0] dX5_goesOn_1 (by decide) rfl ?_
  exact t_X5_goesOn_L2 hE  xFu _ _ _ _ H
abbrev mi_X5_nods : xM := (cX5_nods, yX5_nods, 3, none, 2)
theorem md_X5_nods : xMD mi_X5_nods 2 := ⟨by decide, by decide, by decide +kernel⟩
def f_X5_nods (r0 : Nat) (x1 : Int32) (x2 : Int32) (h : mH) : Option (Unit × mH) := if gC h r0 = 4 then bR (f_X5_meets r0 x1 x2 h) fun a1 g1 => (gFr [4] 6 g1 r0).bind fun v2 => (aI .int g1 v2 (133 : Int32)).bind fun v3 => (sI .int g1 v2 (133 : Int32) (v3 ||| ((1 : Int32) <<< (x1 &&& 31)))).bind fun h4 => some ((), h4) else none
theorem t_X5_nods {G : xG} (C0 : xC) {l : Launch} {r0 : Nat} {x1 : Int32} {x2 : Int32} (h : mH) {o : Unit × mH} (H : f_X5_nods r0 x1 x2 h = some o) : XR G l mi_X5_nods [.ref r0, .int x1, .int x2] h none o.2 := by
  refine XR.of C0 (by decide) (Nat.le_of_ble_eq_true rfl) (fun C _ _ _ hE => ?_)
  show X G C mi_X5_nods 0 [(0, .ref r0), (1, .int x1), (2, .int x2)] [] h
  unfold f_X5_nods at H
  refine x_aload_n 0 rfl dX5_nods_0 ?_
  refine x_iload_n 1 rfl dX5_nods_1 ?_
  refine x_iload_n 2 rfl dX5_nods_2 ?_
  obtain ⟨c1, H⟩ := oit H
  obtain ⟨a1, g1, e1, H⟩ := obR H
  refine x_callV (M' := mi_X5_meets) (n := 2) (As := [.int x1, .int x2]) (t_X5_meets C _ e1) c1 rfl rfl md_X5_meets ⟨Nat.le_of_ble_eq_true rfl, Nat.le_of_ble_eq_true rfl⟩ q2267 q2269 qs84 q131 q2270 rfl (Nat.le_of_ble_eq_true rfl) dX5_nods_3 ?_
  refine x_aload_n 0 rfl dX5_nods_6 ?_
  obtain ⟨v2, e2, H⟩ := ob H
  refine x_getf fg_X5_33 (gFr_spec e2) dX5_nods_7 ?_
  refine x_sipush (133 : Int32) dX5_nods_10 si_133 ?_
  refine x_dup2 dX5_nods_13 rfl rfl ?_
  obtain ⟨v3, e3, H⟩ := ob H
  refine x_iald e3 dX5_nods_14 ?_
  refine x_iconst (1 : Int32) dX5_nods_15 ic_1 ?_
  refine x_iload_n 1 rfl dX5_nods_16 ?_
  refine x_ishl dX5_nods_17 ?_
  refine x_ior dX5_nods_18 ?_
  obtain ⟨h4, e4, H⟩ := ob H
  refine x_iast e4 dX5_nods_19 ?_
  obtain rfl := Option.some.inj H
  exact x_vret hE rfl dX5_nods_20
abbrev mi_X5_veils : xM := (cX5_veils, yX5_veils, 2, none, 1)
theorem md_X5_veils : xMD mi_X5_veils 1 := ⟨by decide, by decide, by decide +kernel⟩
def f_X5_veils (r0 : Nat) (x1 : Int32) (h : mH) : Option (Unit × mH) := (gFr [4] 6 h r0).bind fun v1 => (aI .int h v1 (134 : Int32)).bind fun v2 => (sI .int h v1 (134 : Int32) (v2 ||| ((1 : Int32) <<< (x1 &&& 31)))).bind fun h3 => (gFr [4] 6 h3 r0).bind fun v4 => (aI .int h3 v4 (135 : Int32)).bind fun v5 => (sI .int h3 v4 (135 : Int32) (v5 - (1 : Int32))).bind fun h6 => some ((), h6)
theorem t_X5_veils {G : xG} (C0 : xC) {l : Launch} {r0 : Nat} {x1 : Int32} (h : mH) {o : Unit × mH} (H : f_X5_veils r0 x1 h = some o) : XR G l mi_X5_veils [.ref r0, .int x1] h none o.2 := by
  refine XR.of C0 (by decide) (Nat.le_of_ble_eq_true rfl) (fun C _ _ _ hE => ?_)
  show X G C mi_X5_veils 0 [(0, .ref r0), (1, .int x1)] [] h
  unfold f_X5_veils at H
  refine x_aload_n 0 rfl dX5_veils_0 ?_
  obtain ⟨v1, e1, H⟩ := ob H
  refine x_getf fg_X5_33 (gFr_spec e1) dX5_veils_1 ?_
  refine x_sipush (134 : Int32) dX5_veils_4 si_134 ?_
  refine x_dup2 dX5_veils_7 rfl rfl ?_
  obtain ⟨v2, e2, H⟩ := ob H
  refine x_iald e2 dX5_veils_8 ?_
  refine x_iconst (1 : Int32) dX5_veils_9 ic_1 ?_
  refine x_iload_n 1 rfl dX5_veils_10 ?_
  refine x_ishl dX5_veils_11 ?_
  refine x_ior dX5_veils_12 ?_
  obtain ⟨h3, e3, H⟩ := ob H
  refine x_iast e3 dX5_veils_13 ?_
  refine x_aload_n 0 rfl dX5_veils_14 ?_
  obtain ⟨v4, e4, H⟩ := ob H
  refine x_getf fg_X5_33 (gFr_spec e4) dX5_veils_15 ?_
  refine x_sipush (135 : Int32) dX5_veils_18 si_135 ?_
  refine x_dup2 dX5_veils_21 rfl rfl ?_
  obtain ⟨v5, e5, H⟩ := ob H
  refine x_iald e5 dX5_veils_22 ?_
  refine x_iconst (1 : Int32) dX5_veils_23 ic_1 ?_
  refine x_isub dX5_veils_24 ?_
  obtain ⟨h6, e6, H⟩ := ob H
  refine x_iast e6 dX5_veils_25 ?_
  obtain rfl := Option.some.inj H
  exact x_vret hE rfl dX5_veils_26
abbrev mi_X5_isHome : xM := (cX5_isHome, yX5_isHome, 2, some .boolean, 2)
theorem md_X5_isHome : xMD mi_X5_isHome 1 := ⟨by decide, by decide, by decide +kernel⟩
def f_X5_isHome (r0 : Nat) (x1 : Int32) (h : mH) : Option (Int32 × mH) := (gFr [4] 6 h r0).bind fun v1 => (aI .int h v1 (133 : Int32)).bind fun v2 => bR (f_X5_bitOf v2 x1 h) fun a3 g3 => rZ a3 g3
theorem t_X5_isHome {G : xG} (C0 : xC) {l : Launch} {r0 : Nat} {x1 : Int32} (h : mH) {o : Int32 × mH} (H : f_X5_isHome r0 x1 h = some o) : XR G l mi_X5_isHome [.ref r0, .int x1] h (some (.int o.1)) o.2 := by
  refine XR.of C0 (by decide) (Nat.le_of_ble_eq_true rfl) (fun C _ _ _ hE => ?_)
  show X G C mi_X5_isHome 0 [(0, .ref r0), (1, .int x1)] [] h
  unfold f_X5_isHome at H
  refine x_aload_n 0 rfl dX5_isHome_0 ?_
  obtain ⟨v1, e1, H⟩ := ob H
  refine x_getf fg_X5_33 (gFr_spec e1) dX5_isHome_1 ?_
  refine x_sipush (133 : Int32) dX5_isHome_4 si_133 ?_
  obtain ⟨v2, e2, H⟩ := ob H
  refine x_iald e2 dX5_isHome_7 ?_
  refine x_iload_n 1 rfl dX5_isHome_8 ?_
  obtain ⟨a3, g3, e3, H⟩ := obR H
  refine x_callS (M' := mi_X5_bitOf) (n := 2) (As := [.int v2, .int x1]) (t_X5_bitOf C _ e3) md_X5_bitOf ⟨Nat.le_of_ble_eq_true rfl, Nat.le_of_ble_eq_true rfl⟩ q2173 q2174 q131 q2175 rfl (Nat.le_of_ble_eq_true rfl) dX5_isHome_9 ?_
  obtain ⟨c, rfl⟩ := rZ_spec H
  exact x_iret hE rfl c dX5_isHome_12
abbrev mi_X5_mayBy : xM := (cX5_mayBy, yX5_mayBy, 2, some .int, 2)
theorem md_X5_mayBy : xMD mi_X5_mayBy 1 := ⟨by decide, by decide, by decide +kernel⟩
def f_X5_mayBy (r0 : Nat) (x1 : Int32) (h : mH) : Option (Int32 × mH) := (gFr [4] 6 h r0).bind fun v1 => (aI .int h v1 (0 : Int32)).bind fun v2 => if gC h r0 = 4 then bR (f_X5_knownBy r0 x1 h) fun a3 g3 => (gFr [4] 6 g3 r0).bind fun v4 => (aI .int g3 v4 ((124 : Int32) + x1)).bind fun v5 => some ((((((1 : Int32) <<< (v2 &&& 31)) - (1 : Int32)) &&& (((1 : Int32) <<< (x1 &&& 31)) ^^^ (-1 : Int32))) &&& ((a3 ^^^ (-1 : Int32)) ||| v5)), g3) else none
theorem t_X5_mayBy {G : xG} (C0 : xC) {l : Launch} {r0 : Nat} {x1 : Int32} (h : mH) {o : Int32 × mH} (H : f_X5_mayBy r0 x1 h = some o) : XR G l mi_X5_mayBy [.ref r0, .int x1] h (some (.int o.1)) o.2 := by
  refine XR.of C0 (by decide) (Nat.le_of_ble_eq_true rfl) (fun C _ _ _ hE => ?_)
  show X G C mi_X5_mayBy 0 [(0, .ref r0), (1, .int x1)] [] h
  unfold f_X5_mayBy at H
  refine x_iconst (1 : Int32) dX5_mayBy_0 ic_1 ?_
  refine x_aload_n 0 rfl dX5_mayBy_1 ?_
  obtain ⟨v1, e1, H⟩ := ob H
  refine x_getf fg_X5_33 (gFr_spec e1) dX5_mayBy_2 ?_
  refine x_iconst (0 : Int32) dX5_mayBy_5 ic_0 ?_
  obtain ⟨v2, e2, H⟩ := ob H
  refine x_iald e2 dX5_mayBy_6 ?_
  refine x_ishl dX5_mayBy_7 ?_
  refine x_iconst (1 : Int32) dX5_mayBy_8 ic_1 ?_
  refine x_isub dX5_mayBy_9 ?_
  refine x_iconst (1 : Int32) dX5_mayBy_10 ic_1 ?_
  refine x_iload_n 1 rfl dX5_mayBy_11 ?_
  refine x_ishl dX5_mayBy_12 ?_
  refine x_iconst (-1 : Int32) dX5_mayBy_13 ic_m1 ?_
  refine x_ixor dX5_mayBy_14 ?_
  refine x_iand dX5_mayBy_15 ?_
  refine x_aload_n 0 rfl dX5_mayBy_16 ?_
  refine x_iload_n 1 rfl dX5_mayBy_17 ?_
  obtain ⟨c3, H⟩ := oit H
  obtain ⟨a3, g3, e3, H⟩ := obR H
  refine x_callV (M' := mi_X5_knownBy) (n := 1) (As := [.int x1]) (t_X5_knownBy C _ e3) c3 rfl rfl md_X5_knownBy ⟨Nat.le_of_ble_eq_true rfl, Nat.le_of_ble_eq_true rfl⟩ q2208 q2210 qs74 q131 q2211 rfl (Nat.le_of_ble_eq_true rfl) dX5_mayBy_18 ?_
  refine x_iconst (-1 : Int32) dX5_mayBy_21 ic_m1 ?_
  refine x_ixor dX5_mayBy_22 ?_
  refine x_aload_n 0 rfl dX5_mayBy_23 ?_
  obtain ⟨v4, e4, H⟩ := ob H
  refine x_getf fg_X5_33 (gFr_spec e4) dX5_mayBy_24 ?_
  refine x_bipush (124 : Int32) dX5_mayBy_27 bi_124 ?_
  refine x_iload_n 1 rfl dX5_mayBy_29 ?_
  refine x_iadd dX5_mayBy_30 ?_
  obtain ⟨v5, e5, H⟩ := ob H
  refine x_iald e5 dX5_mayBy_31 ?_
  refine x_ior dX5_mayBy_32 ?_
  refine x_iand dX5_mayBy_33 ?_
  obtain rfl := Option.some.inj H
  exact x_iret hE rfl rfl dX5_mayBy_34
abbrev mi_X5_whyBuy : xM := (cX5_whyBuy, yX5_whyBuy, 5, some .int, 3)
theorem md_X5_whyBuy : xMD mi_X5_whyBuy 3 := ⟨by decide, by decide, by decide +kernel⟩
def f_X5_whyBuy_b55 (r0 : Nat) (x1 : Int32) (x2 : Int32) (x3 : Int32) (h : mH) : Option (Int32 × mH) := (gFr [4] 6 h r0).bind fun v9 => (aI .int h v9 ((143 : Int32) + (((5 : Int32) * x3) + x2))).bind fun v10 => if v10 = 0 then some ((4 : Int32), h) else (gFr [4] 6 h r0).bind fun v12 => (aI .int h v12 ((47 : Int32) + (((5 : Int32) * x3) + x2))).bind fun v13 => (gFr [4] 6 h r0).bind fun v14 => (aI .int h v14 ((136 : Int32) + x1)).bind fun v15 => if (v13 - (1 : Int32)) ≤ v15 then (gFr [4] 6 h r0).bind fun v17 => (aI .int h v17 (((178 : Int32) + ((5 : Int32) * x1)) + x2)).bind fun v18 => if v18 = 0 then some ((6 : Int32), h) else some ((0 : Int32), h) else some ((5 : Int32), h)
theorem t_X5_whyBuy_b55 {G : xG} {C : xC} {o : Int32 × mH} (hE : xEnd G C (some (.int o.1)) o.2) (r0 : Nat) (x1 : Int32) (x2 : Int32) (x3 : Int32) (h : mH) (H : f_X5_whyBuy_b55 r0 x1 x2 x3 h = some o) : X G C mi_X5_whyBuy 55 [(0, .ref r0), (1, .int x1), (2, .int x2), (3, .int x3)] [] h := by
  unfold f_X5_whyBuy_b55 at H
  refine x_iconst (5 : Int32) dX5_whyBuy_55 ic_5 ?_
  refine x_iload_n 3 rfl dX5_whyBuy_56 ?_
  refine x_imul dX5_whyBuy_57 ?_
  refine x_iload_n 2 rfl dX5_whyBuy_58 ?_
  refine x_iadd dX5_whyBuy_59 ?_
  refine x_istore [1, 2, 3, 4, 0] dX5_whyBuy_60 (by decide) rfl ?_
  refine x_aload_n 0 rfl dX5_whyBuy_62 ?_
  obtain ⟨v9, e9, H⟩ := ob H
  refine x_getf fg_X5_33 (gFr_spec e9) dX5_whyBuy_63 ?_
  refine x_sipush (143 : Int32) dX5_whyBuy_66 si_143 ?_
  refine x_iload 4 rfl dX5_whyBuy_69 ?_
  refine x_iadd dX5_whyBuy_71 ?_
  obtain ⟨v10, e10, H⟩ := ob H
  refine x_iald e10 dX5_whyBuy_72 ?_
  refine x_if_ne 78 dX5_whyBuy_73 (by decide) (fun c11 => ?_) (fun c11 => ?_)
  · rw [if_neg c11] at H
    refine x_aload_n 0 rfl dX5_whyBuy_78 ?_
    obtain ⟨v12, e12, H⟩ := ob H
    refine x_getf fg_X5_33 (gFr_spec e12) dX5_whyBuy_79 ?_
    refine x_bipush (47 : Int32) dX5_whyBuy_82 bi_47 ?_
    refine x_iload 4 rfl dX5_whyBuy_84 ?_
    refine x_iadd dX5_whyBuy_86 ?_
    obtain ⟨v13, e13, H⟩ := ob H
    refine x_iald e13 dX5_whyBuy_87 ?_
    refine x_iconst (1 : Int32) dX5_whyBuy_88 ic_1 ?_
    refine x_isub dX5_whyBuy_89 ?_
    refine x_aload_n 0 rfl dX5_whyBuy_90 ?_
    obtain ⟨v14, e14, H⟩ := ob H
    refine x_getf fg_X5_33 (gFr_spec e14) dX5_whyBuy_91 ?_
    refine x_sipush (136 : Int32) dX5_whyBuy_94 si_136 ?_
    refine x_iload_n 1 rfl dX5_whyBuy_97 ?_
    refine x_iadd dX5_whyBuy_98 ?_
    obtain ⟨v15, e15, H⟩ := ob H
    refine x_iald e15 dX5_whyBuy_99 ?_
    refine x_icmp_le 105 dX5_whyBuy_100 (by decide) (fun c16 => ?_) (fun c16 => ?_)
    · rw [if_pos c16] at H
      refine x_aload_n 0 rfl dX5_whyBuy_105 ?_
      obtain ⟨v17, e17, H⟩ := ob H
      refine x_getf fg_X5_33 (gFr_spec e17) dX5_whyBuy_106 ?_
      refine x_sipush (178 : Int32) dX5_whyBuy_109 si_178 ?_
      refine x_iconst (5 : Int32) dX5_whyBuy_112 ic_5 ?_
      refine x_iload_n 1 rfl dX5_whyBuy_113 ?_
      refine x_imul dX5_whyBuy_114 ?_
      refine x_iadd dX5_whyBuy_115 ?_
      refine x_iload_n 2 rfl dX5_whyBuy_116 ?_
      refine x_iadd dX5_whyBuy_117 ?_
      obtain ⟨v18, e18, H⟩ := ob H
      refine x_iald e18 dX5_whyBuy_118 ?_
      refine x_if_ne 127 dX5_whyBuy_119 (by decide) (fun c19 => ?_) (fun c19 => ?_)
      · rw [if_neg c19] at H
        refine x_iconst (0 : Int32) dX5_whyBuy_127 ic_0 ?_
        obtain rfl := Option.some.inj H
        exact x_iret hE rfl rfl dX5_whyBuy_128
      · rw [if_pos c19] at H
        refine x_bipush (6 : Int32) dX5_whyBuy_122 bi_6 ?_
        refine x_goto (tgt := 128) dX5_whyBuy_124 (by decide) ?_
        obtain rfl := Option.some.inj H
        exact x_iret hE rfl rfl dX5_whyBuy_128
    · rw [if_neg c16] at H
      refine x_iconst (5 : Int32) dX5_whyBuy_103 ic_5 ?_
      obtain rfl := Option.some.inj H
      exact x_iret hE rfl rfl dX5_whyBuy_104
  · rw [if_pos c11] at H
    refine x_iconst (4 : Int32) dX5_whyBuy_76 ic_4 ?_
    obtain rfl := Option.some.inj H
    exact x_iret hE rfl rfl dX5_whyBuy_77
def f_X5_whyBuy (r0 : Nat) (x1 : Int32) (x2 : Int32) (x3 : Int32) (h : mH) : Option (Int32 × mH) := if x1 = x3 then some ((1 : Int32), h) else if gC h r0 = 4 then bR (f_X5_isHome r0 x1 h) fun a2 g2 => if a2 = 0 then if gC g2 r0 = 4 then bR (f_X5_isHome r0 x3 g2) fun a4 g4 => if a4 = 0 then if gC g4 r0 = 4 then bR (f_X5_mayBy r0 x1 g4) fun a6 g6 => bR (f_X5_bitOf a6 x3 g6) fun a7 g7 => if a7 = 0 then if gC g7 r0 = 4 then bR (f_X5_isVeiled r0 x1 g7) fun a20 g20 => if a20 = 0 then if gC g20 r0 = 4 then bR (f_X5_isVeiled r0 x3 g20) fun a22 g22 => if a22 = 0 then some ((3 : Int32), g22) else f_X5_whyBuy_b55 r0 x1 x2 x3 g22 else none else f_X5_whyBuy_b55 r0 x1 x2 x3 g20 else none else f_X5_whyBuy_b55 r0 x1 x2 x3 g7 else none else some ((2 : Int32), g4) else none else some ((2 : Int32), g2) else none
theorem t_X5_whyBuy {G : xG} (C0 : xC) {l : Launch} {r0 : Nat} {x1 : Int32} {x2 : Int32} {x3 : Int32} (h : mH) {o : Int32 × mH} (H : f_X5_whyBuy r0 x1 x2 x3 h = some o) : XR G l mi_X5_whyBuy [.ref r0, .int x1, .int x2, .int x3] h (some (.int o.1)) o.2 := by
  refine XR.of C0 (by decide) (Nat.le_of_ble_eq_true rfl) (fun C _ _ _ hE => ?_)
  show X G C mi_X5_whyBuy 0 [(0, .ref r0), (1, .int x1), (2, .int x2), (3, .int x3)] [] h
  unfold f_X5_whyBuy at H
  refine x_iload_n 1 rfl dX5_whyBuy_0 ?_
  refine x_iload_n 3 rfl dX5_whyBuy_1 ?_
  refine x_icmp_ne 7 dX5_whyBuy_2 (by decide) (fun c1 => ?_) (fun c1 => ?_)
  · rw [if_neg c1] at H
    refine x_aload_n 0 rfl dX5_whyBuy_7 ?_
    refine x_iload_n 1 rfl dX5_whyBuy_8 ?_
    obtain ⟨c2, H⟩ := oit H
    obtain ⟨a2, g2, e2, H⟩ := obR H
    refine x_callV (M' := mi_X5_isHome) (n := 1) (As := [.int x1]) (t_X5_isHome C _ e2) c2 rfl rfl md_X5_isHome ⟨Nat.le_of_ble_eq_true rfl, Nat.le_of_ble_eq_true rfl⟩ q2251 q2253 qs80 q131 q2254 rfl (Nat.le_of_ble_eq_true rfl) dX5_whyBuy_9 ?_
    refine x_if_ne 23 dX5_whyBuy_12 (by decide) (fun c3 => ?_) (fun c3 => ?_)
    · rw [if_neg c3] at H
      refine x_iconst (2 : Int32) dX5_whyBuy_23 ic_2 ?_
      obtain rfl := Option.some.inj H
      exact x_iret hE rfl rfl dX5_whyBuy_24
    · rw [if_pos c3] at H
      refine x_aload_n 0 rfl dX5_whyBuy_15 ?_
      refine x_iload_n 3 rfl dX5_whyBuy_16 ?_
      obtain ⟨c4, H⟩ := oit H
      obtain ⟨a4, g4, e4, H⟩ := obR H
      refine x_callV (M' := mi_X5_isHome) (n := 1) (As := [.int x3]) (t_X5_isHome C _ e4) c4 rfl rfl md_X5_isHome ⟨Nat.le_of_ble_eq_true rfl, Nat.le_of_ble_eq_true rfl⟩ q2251 q2253 qs80 q131 q2254 rfl (Nat.le_of_ble_eq_true rfl) dX5_whyBuy_17 ?_
      refine x_if_eq 25 dX5_whyBuy_20 (by decide) (fun c5 => ?_) (fun c5 => ?_)
      · rw [if_pos c5] at H
        refine x_aload_n 0 rfl dX5_whyBuy_25 ?_
        refine x_iload_n 1 rfl dX5_whyBuy_26 ?_
        obtain ⟨c6, H⟩ := oit H
        obtain ⟨a6, g6, e6, H⟩ := obR H
        refine x_callV (M' := mi_X5_mayBy) (n := 1) (As := [.int x1]) (t_X5_mayBy C _ e6) c6 rfl rfl md_X5_mayBy ⟨Nat.le_of_ble_eq_true rfl, Nat.le_of_ble_eq_true rfl⟩ q2212 q2214 qs75 q131 q2215 rfl (Nat.le_of_ble_eq_true rfl) dX5_whyBuy_27 ?_
        refine x_iload_n 3 rfl dX5_whyBuy_30 ?_
        obtain ⟨a7, g7, e7, H⟩ := obR H
        refine x_callS (M' := mi_X5_bitOf) (n := 2) (As := [.int a6, .int x3]) (t_X5_bitOf C _ e7) md_X5_bitOf ⟨Nat.le_of_ble_eq_true rfl, Nat.le_of_ble_eq_true rfl⟩ q2173 q2174 q131 q2175 rfl (Nat.le_of_ble_eq_true rfl) dX5_whyBuy_31 ?_
        refine x_if_ne 55 dX5_whyBuy_34 (by decide) (fun c8 => ?_) (fun c8 => ?_)
        · rw [if_neg c8] at H
          exact t_X5_whyBuy_b55 hE _ _ _ _ _ H
        · rw [if_pos c8] at H
          refine x_aload_n 0 rfl dX5_whyBuy_37 ?_
          refine x_iload_n 1 rfl dX5_whyBuy_38 ?_
          obtain ⟨c20, H⟩ := oit H
          obtain ⟨a20, g20, e20, H⟩ := obR H
          refine x_callV (M' := mi_X5_isVeiled) (n := 1) (As := [.int x1]) (t_X5_isVeiled C _ e20) c20 rfl rfl md_X5_isVeiled ⟨Nat.le_of_ble_eq_true rfl, Nat.le_of_ble_eq_true rfl⟩ q2255 q2257 qs81 q131 q2258 rfl (Nat.le_of_ble_eq_true rfl) dX5_whyBuy_39 ?_
          refine x_if_ne 55 dX5_whyBuy_42 (by decide) (fun c21 => ?_) (fun c21 => ?_)
          · rw [if_neg c21] at H
            exact t_X5_whyBuy_b55 hE _ _ _ _ _ H
          · rw [if_pos c21] at H
            refine x_aload_n 0 rfl dX5_whyBuy_45 ?_
            refine x_iload_n 3 rfl dX5_whyBuy_46 ?_
            obtain ⟨c22, H⟩ := oit H
            obtain ⟨a22, g22, e22, H⟩ := obR H
            refine x_callV (M' := mi_X5_isVeiled) (n := 1) (As := [.int x3]) (t_X5_isVeiled C _ e22) c22 rfl rfl md_X5_isVeiled ⟨Nat.le_of_ble_eq_true rfl, Nat.le_of_ble_eq_true rfl⟩ q2255 q2257 qs81 q131 q2258 rfl (Nat.le_of_ble_eq_true rfl) dX5_whyBuy_47 ?_
            refine x_if_ne 55 dX5_whyBuy_50 (by decide) (fun c23 => ?_) (fun c23 => ?_)
            · rw [if_neg c23] at H
              exact t_X5_whyBuy_b55 hE _ _ _ _ _ H
            · rw [if_pos c23] at H
              refine x_iconst (3 : Int32) dX5_whyBuy_53 ic_3 ?_
              obtain rfl := Option.some.inj H
              exact x_iret hE rfl rfl dX5_whyBuy_54
      · rw [if_neg c5] at H
        refine x_iconst (2 : Int32) dX5_whyBuy_23 ic_2 ?_
        obtain rfl := Option.some.inj H
        exact x_iret hE rfl rfl dX5_whyBuy_24
  · rw [if_pos c1] at H
    refine x_iconst (1 : Int32) dX5_whyBuy_5 ic_1 ?_
    obtain rfl := Option.some.inj H
    exact x_iret hE rfl rfl dX5_whyBuy_6
abbrev mi_X5_whyNod : xM := (cX5_whyNod, yX5_whyNod, 3, some .int, 3)
theorem md_X5_whyNod : xMD mi_X5_whyNod 2 := ⟨by decide, by decide, by decide +kernel⟩
def f_X5_whyNod_b25 (h : mH) : Option (Int32 × mH) := some ((2 : Int32), h)
theorem t_X5_whyNod_b25 {G : xG} {C : xC} {o : Int32 × mH} (hE : xEnd G C (some (.int o.1)) o.2) (h : mH) (H : f_X5_whyNod_b25 h = some o) : X G C mi_X5_whyNod 25 [] [] h := by
  unfold f_X5_whyNod_b25 at H
  refine x_iconst (2 : Int32) dX5_whyNod_25 ic_2 ?_
  refine x_goto (tgt := 46) dX5_whyNod_26 (by decide) ?_
  obtain rfl := Option.some.inj H
  exact x_iret hE rfl rfl dX5_whyNod_46
def f_X5_whyNod (r0 : Nat) (x1 : Int32) (x2 : Int32) (h : mH) : Option (Int32 × mH) := if x1 = x2 then some ((1 : Int32), h) else if gC h r0 = 4 then bR (f_X5_isHome r0 x1 h) fun a2 g2 => if a2 = 0 then if gC g2 r0 = 4 then bR (f_X5_isHome r0 x2 g2) fun a4 g4 => if a4 = 0 then if gC g4 r0 = 4 then bR (f_X5_knownBy r0 x1 g4) fun a6 g6 => bR (f_X5_bitOf a6 x2 g6) fun a7 g7 => if a7 = 0 then some ((0 : Int32), g7) else some ((3 : Int32), g7) else none else f_X5_whyNod_b25  g4 else none else f_X5_whyNod_b25  g2 else none
theorem t_X5_whyNod {G : xG} (C0 : xC) {l : Launch} {r0 : Nat} {x1 : Int32} {x2 : Int32} (h : mH) {o : Int32 × mH} (H : f_X5_whyNod r0 x1 x2 h = some o) : XR G l mi_X5_whyNod [.ref r0, .int x1, .int x2] h (some (.int o.1)) o.2 := by
  refine XR.of C0 (by decide) (Nat.le_of_ble_eq_true rfl) (fun C _ _ _ hE => ?_)
  show X G C mi_X5_whyNod 0 [(0, .ref r0), (1, .int x1), (2, .int x2)] [] h
  unfold f_X5_whyNod at H
  refine x_iload_n 1 rfl dX5_whyNod_0 ?_
  refine x_iload_n 2 rfl dX5_whyNod_1 ?_
  refine x_icmp_ne 9 dX5_whyNod_2 (by decide) (fun c1 => ?_) (fun c1 => ?_)
  · rw [if_neg c1] at H
    refine x_aload_n 0 rfl dX5_whyNod_9 ?_
    refine x_iload_n 1 rfl dX5_whyNod_10 ?_
    obtain ⟨c2, H⟩ := oit H
    obtain ⟨a2, g2, e2, H⟩ := obR H
    refine x_callV (M' := mi_X5_isHome) (n := 1) (As := [.int x1]) (t_X5_isHome C _ e2) c2 rfl rfl md_X5_isHome ⟨Nat.le_of_ble_eq_true rfl, Nat.le_of_ble_eq_true rfl⟩ q2251 q2253 qs80 q131 q2254 rfl (Nat.le_of_ble_eq_true rfl) dX5_whyNod_11 ?_
    refine x_if_ne 25 dX5_whyNod_14 (by decide) (fun c3 => ?_) (fun c3 => ?_)
    · rw [if_neg c3] at H
      refine X.sub [] rfl ?_
      exact t_X5_whyNod_b25 hE  _ H
    · rw [if_pos c3] at H
      refine x_aload_n 0 rfl dX5_whyNod_17 ?_
      refine x_iload_n 2 rfl dX5_whyNod_18 ?_
      obtain ⟨c4, H⟩ := oit H
      obtain ⟨a4, g4, e4, H⟩ := obR H
      refine x_callV (M' := mi_X5_isHome) (n := 1) (As := [.int x2]) (t_X5_isHome C _ e4) c4 rfl rfl md_X5_isHome ⟨Nat.le_of_ble_eq_true rfl, Nat.le_of_ble_eq_true rfl⟩ q2251 q2253 qs80 q131 q2254 rfl (Nat.le_of_ble_eq_true rfl) dX5_whyNod_19 ?_
      refine x_if_eq 29 dX5_whyNod_22 (by decide) (fun c5 => ?_) (fun c5 => ?_)
      · rw [if_pos c5] at H
        refine x_aload_n 0 rfl dX5_whyNod_29 ?_
        refine x_iload_n 1 rfl dX5_whyNod_30 ?_
        obtain ⟨c6, H⟩ := oit H
        obtain ⟨a6, g6, e6, H⟩ := obR H
        refine x_callV (M' := mi_X5_knownBy) (n := 1) (As := [.int x1]) (t_X5_knownBy C _ e6) c6 rfl rfl md_X5_knownBy ⟨Nat.le_of_ble_eq_true rfl, Nat.le_of_ble_eq_true rfl⟩ q2208 q2210 qs74 q131 q2211 rfl (Nat.le_of_ble_eq_true rfl) dX5_whyNod_31 ?_
        refine x_iload_n 2 rfl dX5_whyNod_34 ?_
        obtain ⟨a7, g7, e7, H⟩ := obR H
        refine x_callS (M' := mi_X5_bitOf) (n := 2) (As := [.int a6, .int x2]) (t_X5_bitOf C _ e7) md_X5_bitOf ⟨Nat.le_of_ble_eq_true rfl, Nat.le_of_ble_eq_true rfl⟩ q2173 q2174 q131 q2175 rfl (Nat.le_of_ble_eq_true rfl) dX5_whyNod_35 ?_
        refine x_if_eq 45 dX5_whyNod_38 (by decide) (fun c8 => ?_) (fun c8 => ?_)
        · rw [if_pos c8] at H
          refine x_iconst (0 : Int32) dX5_whyNod_45 ic_0 ?_
          obtain rfl := Option.some.inj H
          exact x_iret hE rfl rfl dX5_whyNod_46
        · rw [if_neg c8] at H
          refine x_iconst (3 : Int32) dX5_whyNod_41 ic_3 ?_
          refine x_goto (tgt := 46) dX5_whyNod_42 (by decide) ?_
          obtain rfl := Option.some.inj H
          exact x_iret hE rfl rfl dX5_whyNod_46
      · rw [if_neg c5] at H
        refine X.sub [] rfl ?_
        exact t_X5_whyNod_b25 hE  _ H
  · rw [if_pos c1] at H
    refine x_iconst (1 : Int32) dX5_whyNod_5 ic_1 ?_
    refine x_goto (tgt := 46) dX5_whyNod_6 (by decide) ?_
    obtain rfl := Option.some.inj H
    exact x_iret hE rfl rfl dX5_whyNod_46
abbrev mi_X5_whyTell : xM := (cX5_whyTell, yX5_whyTell, 4, some .int, 2)
theorem md_X5_whyTell : xMD mi_X5_whyTell 3 := ⟨by decide, by decide, by decide +kernel⟩
def f_X5_whyTell_b15 (h : mH) : Option (Int32 × mH) := some ((1 : Int32), h)
theorem t_X5_whyTell_b15 {G : xG} {C : xC} {o : Int32 × mH} (hE : xEnd G C (some (.int o.1)) o.2) (h : mH) (H : f_X5_whyTell_b15 h = some o) : X G C mi_X5_whyTell 15 [] [] h := by
  unfold f_X5_whyTell_b15 at H
  refine x_iconst (1 : Int32) dX5_whyTell_15 ic_1 ?_
  refine x_goto (tgt := 64) dX5_whyTell_16 (by decide) ?_
  obtain rfl := Option.some.inj H
  exact x_iret hE rfl rfl dX5_whyTell_64
def f_X5_whyTell_b43 (h : mH) : Option (Int32 × mH) := some ((2 : Int32), h)
theorem t_X5_whyTell_b43 {G : xG} {C : xC} {o : Int32 × mH} (hE : xEnd G C (some (.int o.1)) o.2) (h : mH) (H : f_X5_whyTell_b43 h = some o) : X G C mi_X5_whyTell 43 [] [] h := by
  unfold f_X5_whyTell_b43 at H
  refine x_iconst (2 : Int32) dX5_whyTell_43 ic_2 ?_
  refine x_goto (tgt := 64) dX5_whyTell_44 (by decide) ?_
  obtain rfl := Option.some.inj H
  exact x_iret hE rfl rfl dX5_whyTell_64
def f_X5_whyTell (r0 : Nat) (x1 : Int32) (x2 : Int32) (x3 : Int32) (h : mH) : Option (Int32 × mH) := if x1 = x2 then f_X5_whyTell_b15  h else if x1 = x3 then f_X5_whyTell_b15  h else if x2 = x3 then f_X5_whyTell_b15  h else if gC h r0 = 4 then bR (f_X5_knownBy r0 x1 h) fun a4 g4 => bR (f_X5_bitOf a4 x2 g4) fun a5 g5 => if a5 = 0 then f_X5_whyTell_b43  g5 else if gC g5 r0 = 4 then bR (f_X5_knownBy r0 x1 g5) fun a7 g7 => bR (f_X5_bitOf a7 x3 g7) fun a8 g8 => if a8 = 0 then f_X5_whyTell_b43  g8 else if gC g8 r0 = 4 then bR (f_X5_knownBy r0 x2 g8) fun a10 g10 => bR (f_X5_bitOf a10 x3 g10) fun a11 g11 => if a11 = 0 then some ((0 : Int32), g11) else some ((3 : Int32), g11) else none else none else none
theorem t_X5_whyTell {G : xG} (C0 : xC) {l : Launch} {r0 : Nat} {x1 : Int32} {x2 : Int32} {x3 : Int32} (h : mH) {o : Int32 × mH} (H : f_X5_whyTell r0 x1 x2 x3 h = some o) : XR G l mi_X5_whyTell [.ref r0, .int x1, .int x2, .int x3] h (some (.int o.1)) o.2 := by
  refine XR.of C0 (by decide) (Nat.le_of_ble_eq_true rfl) (fun C _ _ _ hE => ?_)
  show X G C mi_X5_whyTell 0 [(0, .ref r0), (1, .int x1), (2, .int x2), (3, .int x3)] [] h
  unfold f_X5_whyTell at H
  refine x_iload_n 1 rfl dX5_whyTell_0 ?_
  refine x_iload_n 2 rfl dX5_whyTell_1 ?_
  refine x_icmp_eq 15 dX5_whyTell_2 (by decide) (fun c1 => ?_) (fun c1 => ?_)
  · rw [if_pos c1] at H
    refine X.sub [] rfl ?_
    exact t_X5_whyTell_b15 hE  _ H
  · rw [if_neg c1] at H
    refine x_iload_n 1 rfl dX5_whyTell_5 ?_
    refine x_iload_n 3 rfl dX5_whyTell_6 ?_
    refine x_icmp_eq 15 dX5_whyTell_7 (by decide) (fun c2 => ?_) (fun c2 => ?_)
    · rw [if_pos c2] at H
      refine X.sub [] rfl ?_
      exact t_X5_whyTell_b15 hE  _ H
    · rw [if_neg c2] at H
      refine x_iload_n 2 rfl dX5_whyTell_10 ?_
      refine x_iload_n 3 rfl dX5_whyTell_11 ?_
      refine x_icmp_ne 19 dX5_whyTell_12 (by decide) (fun c3 => ?_) (fun c3 => ?_)
      · rw [if_neg c3] at H
        refine x_aload_n 0 rfl dX5_whyTell_19 ?_
        refine x_iload_n 1 rfl dX5_whyTell_20 ?_
        obtain ⟨c4, H⟩ := oit H
        obtain ⟨a4, g4, e4, H⟩ := obR H
        refine x_callV (M' := mi_X5_knownBy) (n := 1) (As := [.int x1]) (t_X5_knownBy C _ e4) c4 rfl rfl md_X5_knownBy ⟨Nat.le_of_ble_eq_true rfl, Nat.le_of_ble_eq_true rfl⟩ q2208 q2210 qs74 q131 q2211 rfl (Nat.le_of_ble_eq_true rfl) dX5_whyTell_21 ?_
        refine x_iload_n 2 rfl dX5_whyTell_24 ?_
        obtain ⟨a5, g5, e5, H⟩ := obR H
        refine x_callS (M' := mi_X5_bitOf) (n := 2) (As := [.int a4, .int x2]) (t_X5_bitOf C _ e5) md_X5_bitOf ⟨Nat.le_of_ble_eq_true rfl, Nat.le_of_ble_eq_true rfl⟩ q2173 q2174 q131 q2175 rfl (Nat.le_of_ble_eq_true rfl) dX5_whyTell_25 ?_
        refine x_if_eq 43 dX5_whyTell_28 (by decide) (fun c6 => ?_) (fun c6 => ?_)
        · rw [if_pos c6] at H
          refine X.sub [] rfl ?_
          exact t_X5_whyTell_b43 hE  _ H
        · rw [if_neg c6] at H
          refine x_aload_n 0 rfl dX5_whyTell_31 ?_
          refine x_iload_n 1 rfl dX5_whyTell_32 ?_
          obtain ⟨c7, H⟩ := oit H
          obtain ⟨a7, g7, e7, H⟩ := obR H
          refine x_callV (M' := mi_X5_knownBy) (n := 1) (As := [.int x1]) (t_X5_knownBy C _ e7) c7 rfl rfl md_X5_knownBy ⟨Nat.le_of_ble_eq_true rfl, Nat.le_of_ble_eq_true rfl⟩ q2208 q2210 qs74 q131 q2211 rfl (Nat.le_of_ble_eq_true rfl) dX5_whyTell_33 ?_
          refine x_iload_n 3 rfl dX5_whyTell_36 ?_
          obtain ⟨a8, g8, e8, H⟩ := obR H
          refine x_callS (M' := mi_X5_bitOf) (n := 2) (As := [.int a7, .int x3]) (t_X5_bitOf C _ e8) md_X5_bitOf ⟨Nat.le_of_ble_eq_true rfl, Nat.le_of_ble_eq_true rfl⟩ q2173 q2174 q131 q2175 rfl (Nat.le_of_ble_eq_true rfl) dX5_whyTell_37 ?_
          refine x_if_ne 47 dX5_whyTell_40 (by decide) (fun c9 => ?_) (fun c9 => ?_)
          · rw [if_neg c9] at H
            refine x_aload_n 0 rfl dX5_whyTell_47 ?_
            refine x_iload_n 2 rfl dX5_whyTell_48 ?_
            obtain ⟨c10, H⟩ := oit H
            obtain ⟨a10, g10, e10, H⟩ := obR H
            refine x_callV (M' := mi_X5_knownBy) (n := 1) (As := [.int x2]) (t_X5_knownBy C _ e10) c10 rfl rfl md_X5_knownBy ⟨Nat.le_of_ble_eq_true rfl, Nat.le_of_ble_eq_true rfl⟩ q2208 q2210 qs74 q131 q2211 rfl (Nat.le_of_ble_eq_true rfl) dX5_whyTell_49 ?_
            refine x_iload_n 3 rfl dX5_whyTell_52 ?_
            obtain ⟨a11, g11, e11, H⟩ := obR H
            refine x_callS (M' := mi_X5_bitOf) (n := 2) (As := [.int a10, .int x3]) (t_X5_bitOf C _ e11) md_X5_bitOf ⟨Nat.le_of_ble_eq_true rfl, Nat.le_of_ble_eq_true rfl⟩ q2173 q2174 q131 q2175 rfl (Nat.le_of_ble_eq_true rfl) dX5_whyTell_53 ?_
            refine x_if_eq 63 dX5_whyTell_56 (by decide) (fun c12 => ?_) (fun c12 => ?_)
            · rw [if_pos c12] at H
              refine x_iconst (0 : Int32) dX5_whyTell_63 ic_0 ?_
              obtain rfl := Option.some.inj H
              exact x_iret hE rfl rfl dX5_whyTell_64
            · rw [if_neg c12] at H
              refine x_iconst (3 : Int32) dX5_whyTell_59 ic_3 ?_
              refine x_goto (tgt := 64) dX5_whyTell_60 (by decide) ?_
              obtain rfl := Option.some.inj H
              exact x_iret hE rfl rfl dX5_whyTell_64
          · rw [if_pos c9] at H
            refine X.sub [] rfl ?_
            exact t_X5_whyTell_b43 hE  _ H
      · rw [if_pos c3] at H
        refine X.sub [] rfl ?_
        exact t_X5_whyTell_b15 hE  _ H
abbrev mi_X5_whyVeil : xM := (cX5_whyVeil, yX5_whyVeil, 2, some .int, 3)
theorem md_X5_whyVeil : xMD mi_X5_whyVeil 1 := ⟨by decide, by decide, by decide +kernel⟩
def f_X5_whyVeil (r0 : Nat) (x1 : Int32) (h : mH) : Option (Int32 × mH) := if gC h r0 = 4 then bR (f_X5_isVeiled r0 x1 h) fun a1 g1 => if a1 = 0 then (gFr [4] 6 g1 r0).bind fun v3 => (aI .int g1 v3 (135 : Int32)).bind fun v4 => if v4 = 0 then some ((2 : Int32), g1) else some ((0 : Int32), g1) else some ((1 : Int32), g1) else none
theorem t_X5_whyVeil {G : xG} (C0 : xC) {l : Launch} {r0 : Nat} {x1 : Int32} (h : mH) {o : Int32 × mH} (H : f_X5_whyVeil r0 x1 h = some o) : XR G l mi_X5_whyVeil [.ref r0, .int x1] h (some (.int o.1)) o.2 := by
  refine XR.of C0 (by decide) (Nat.le_of_ble_eq_true rfl) (fun C _ _ _ hE => ?_)
  show X G C mi_X5_whyVeil 0 [(0, .ref r0), (1, .int x1)] [] h
  unfold f_X5_whyVeil at H
  refine x_aload_n 0 rfl dX5_whyVeil_0 ?_
  refine x_iload_n 1 rfl dX5_whyVeil_1 ?_
  obtain ⟨c1, H⟩ := oit H
  obtain ⟨a1, g1, e1, H⟩ := obR H
  refine x_callV (M' := mi_X5_isVeiled) (n := 1) (As := [.int x1]) (t_X5_isVeiled C _ e1) c1 rfl rfl md_X5_isVeiled ⟨Nat.le_of_ble_eq_true rfl, Nat.le_of_ble_eq_true rfl⟩ q2255 q2257 qs81 q131 q2258 rfl (Nat.le_of_ble_eq_true rfl) dX5_whyVeil_2 ?_
  refine x_if_eq 12 dX5_whyVeil_5 (by decide) (fun c2 => ?_) (fun c2 => ?_)
  · rw [if_pos c2] at H
    refine x_aload_n 0 rfl dX5_whyVeil_12 ?_
    obtain ⟨v3, e3, H⟩ := ob H
    refine x_getf fg_X5_33 (gFr_spec e3) dX5_whyVeil_13 ?_
    refine x_sipush (135 : Int32) dX5_whyVeil_16 si_135 ?_
    obtain ⟨v4, e4, H⟩ := ob H
    refine x_iald e4 dX5_whyVeil_19 ?_
    refine x_if_ne 27 dX5_whyVeil_20 (by decide) (fun c5 => ?_) (fun c5 => ?_)
    · rw [if_neg c5] at H
      refine x_iconst (0 : Int32) dX5_whyVeil_27 ic_0 ?_
      obtain rfl := Option.some.inj H
      exact x_iret hE rfl rfl dX5_whyVeil_28
    · rw [if_pos c5] at H
      refine x_iconst (2 : Int32) dX5_whyVeil_23 ic_2 ?_
      refine x_goto (tgt := 28) dX5_whyVeil_24 (by decide) ?_
      obtain rfl := Option.some.inj H
      exact x_iret hE rfl rfl dX5_whyVeil_28
  · rw [if_neg c2] at H
    refine x_iconst (1 : Int32) dX5_whyVeil_8 ic_1 ?_
    refine x_goto (tgt := 28) dX5_whyVeil_9 (by decide) ?_
    obtain rfl := Option.some.inj H
    exact x_iret hE rfl rfl dX5_whyVeil_28
abbrev mi_X5_does : xM := (cX5_does, yX5_does, 6, some .int, 4)
theorem md_X5_does : xMD mi_X5_does 4 := ⟨by decide, by decide, by decide +kernel⟩
def f_X5_does_b154 (x1 : Int32) (x5 : Int32) (h : mH) : Option (Int32 × mH) := if x5 ≤ 0 then some ((0 : Int32), h) else some ((((10 : Int32) * x1) + x5), h)
theorem t_X5_does_b154 {G : xG} {C : xC} {o : Int32 × mH} (hE : xEnd G C (some (.int o.1)) o.2) (x1 : Int32) (x5 : Int32) (h : mH) (H : f_X5_does_b154 x1 x5 h = some o) : X G C mi_X5_does 154 [(1, .int x1), (5, .int x5)] [] h := by
  unfold f_X5_does_b154 at H
  refine x_iload 1 rfl dX5_does_154 ?_
  refine x_if_le 169 dX5_does_156 (by decide) (fun c4 => ?_) (fun c4 => ?_)
  · rw [if_pos c4] at H
    refine x_iconst (0 : Int32) dX5_does_169 ic_0 ?_
    obtain rfl := Option.some.inj H
    exact x_iret hE rfl rfl dX5_does_170
  · rw [if_neg c4] at H
    refine x_bipush (10 : Int32) dX5_does_159 bi_10 ?_
    refine x_iload_n 0 rfl dX5_does_161 ?_
    refine x_imul dX5_does_162 ?_
    refine x_iload 1 rfl dX5_does_163 ?_
    refine x_iadd dX5_does_165 ?_
    refine x_goto (tgt := 170) dX5_does_166 (by decide) ?_
    obtain rfl := Option.some.inj H
    exact x_iret hE rfl rfl dX5_does_170
def f_X5_does (r0 : Nat) (x1 : Int32) (x2 : Int32) (x3 : Int32) (x4 : Int32) (h : mH) : Option (Int32 × mH) := if x1 = (0 : Int32) then if gC h r0 = 4 then bR (f_X5_whyBuy r0 x2 x3 x4 h) fun a2 g2 => if a2 = 0 then if gC g2 r0 = 4 then bR (f_X5_buys r0 x2 x3 x4 g2) fun a5 g5 => f_X5_does_b154 x1 a2 g5 else none else f_X5_does_b154 x1 a2 g2 else none else if x1 = (1 : Int32) then if gC h r0 = 4 then bR (f_X5_whyNod r0 x2 x3 h) fun a7 g7 => if a7 = 0 then if gC g7 r0 = 4 then bR (f_X5_nods r0 x2 x3 g7) fun a9 g9 => f_X5_does_b154 x1 a7 g9 else none else f_X5_does_b154 x1 a7 g7 else none else if x1 = (2 : Int32) then if gC h r0 = 4 then bR (f_X5_whyVeil r0 x2 h) fun a11 g11 => if a11 = 0 then if gC g11 r0 = 4 then bR (f_X5_veils r0 x2 g11) fun a13 g13 => f_X5_does_b154 x1 a11 g13 else none else f_X5_does_b154 x1 a11 g11 else none else if x1 = (3 : Int32) then if gC h r0 = 4 then bR (f_X5_whyTell r0 x2 x3 x4 h) fun a15 g15 => if a15 = 0 then if gC g15 r0 = 4 then bR (f_X5_meets r0 x3 x4 g15) fun a17 g17 => f_X5_does_b154 x1 a15 g17 else none else f_X5_does_b154 x1 a15 g15 else none else (gFr [4] 6 h r0).bind fun v18 => (aI .int h v18 (131 : Int32)).bind fun v19 => if (v19 + x2) ≤ (400 : Int32) then if gC h r0 = 4 then bR (f_X5_goesOn r0 x2 h) fun a21 g21 => f_X5_does_b154 x1 (0 : Int32) g21 else none else some ((41 : Int32), h)
theorem t_X5_does {G : xG} (C0 : xC) {l : Launch} {r0 : Nat} {x1 : Int32} {x2 : Int32} {x3 : Int32} {x4 : Int32} (h : mH) {o : Int32 × mH} (H : f_X5_does r0 x1 x2 x3 x4 h = some o) : XR G l mi_X5_does [.ref r0, .int x1, .int x2, .int x3, .int x4] h (some (.int o.1)) o.2 := by
  refine XR.of C0 (by decide) (Nat.le_of_ble_eq_true rfl) (fun C _ _ _ hE => ?_)
  show X G C mi_X5_does 0 [(0, .ref r0), (1, .int x1), (2, .int x2), (3, .int x3), (4, .int x4)] [] h
  unfold f_X5_does at H
  refine x_iconst (0 : Int32) dX5_does_0 ic_0 ?_
  refine x_istore [1, 2, 3, 4, 5, 0] dX5_does_1 (by decide) rfl ?_
  refine x_iload_n 1 rfl dX5_does_3 ?_
  by_cases c1 : x1 = (0 : Int32)
  · rw [if_pos c1] at H
    refine x_tsw (off := 32) 36 dX5_does_4 c1 (by decide) (by decide) (by decide) (by decide) ?_
    refine x_aload_n 0 rfl dX5_does_36 ?_
    refine x_iload_n 2 rfl dX5_does_37 ?_
    refine x_iload_n 3 rfl dX5_does_38 ?_
    refine x_iload 4 rfl dX5_does_39 ?_
    obtain ⟨c2, H⟩ := oit H
    obtain ⟨a2, g2, e2, H⟩ := obR H
    refine x_callV (M' := mi_X5_whyBuy) (n := 3) (As := [.int x2, .int x3, .int x4]) (t_X5_whyBuy C _ e2) c2 rfl rfl md_X5_whyBuy ⟨Nat.le_of_ble_eq_true rfl, Nat.le_of_ble_eq_true rfl⟩ q2247 q2249 qs79 q131 q2250 rfl (Nat.le_of_ble_eq_true rfl) dX5_does_41 ?_
    refine x_istore [1, 2, 3, 4, 5, 0] dX5_does_44 (by decide) rfl ?_
    refine x_iload 5 rfl dX5_does_46 ?_
    refine x_if_ne 154 dX5_does_48 (by decide) (fun c3 => ?_) (fun c3 => ?_)
    · rw [if_neg c3] at H
      refine X.sub [1, 5] rfl ?_
      exact t_X5_does_b154 hE _ _ _ H
    · rw [if_pos c3] at H
      refine x_aload_n 0 rfl dX5_does_51 ?_
      refine x_iload_n 2 rfl dX5_does_52 ?_
      refine x_iload_n 3 rfl dX5_does_53 ?_
      refine x_iload 4 rfl dX5_does_54 ?_
      obtain ⟨c5, H⟩ := oit H
      obtain ⟨a5, g5, e5, H⟩ := obR H
      refine x_callV (M' := mi_X5_buys) (n := 3) (As := [.int x2, .int x3, .int x4]) (t_X5_buys C _ e5) c5 rfl rfl md_X5_buys ⟨Nat.le_of_ble_eq_true rfl, Nat.le_of_ble_eq_true rfl⟩ q2263 q2265 qs83 q131 q2266 rfl (Nat.le_of_ble_eq_true rfl) dX5_does_56 ?_
      refine x_goto (tgt := 154) dX5_does_59 (by decide) ?_
      refine X.sub [1, 5] rfl ?_
      exact t_X5_does_b154 hE _ _ _ H
  rw [if_neg c1] at H
  by_cases c6 : x1 = (1 : Int32)
  · rw [if_pos c6] at H
    refine x_tsw (off := 58) 62 dX5_does_4 c6 (by decide) (by decide) (by decide) (by decide) ?_
    refine x_aload_n 0 rfl dX5_does_62 ?_
    refine x_iload_n 2 rfl dX5_does_63 ?_
    refine x_iload_n 3 rfl dX5_does_64 ?_
    obtain ⟨c7, H⟩ := oit H
    obtain ⟨a7, g7, e7, H⟩ := obR H
    refine x_callV (M' := mi_X5_whyNod) (n := 2) (As := [.int x2, .int x3]) (t_X5_whyNod C _ e7) c7 rfl rfl md_X5_whyNod ⟨Nat.le_of_ble_eq_true rfl, Nat.le_of_ble_eq_true rfl⟩ q2275 q2277 qs85 q131 q2278 rfl (Nat.le_of_ble_eq_true rfl) dX5_does_65 ?_
    refine x_istore [1, 2, 3, 4, 5, 0] dX5_does_68 (by decide) rfl ?_
    refine x_iload 5 rfl dX5_does_70 ?_
    refine x_if_ne 154 dX5_does_72 (by decide) (fun c8 => ?_) (fun c8 => ?_)
    · rw [if_neg c8] at H
      refine X.sub [1, 5] rfl ?_
      exact t_X5_does_b154 hE _ _ _ H
    · rw [if_pos c8] at H
      refine x_aload_n 0 rfl dX5_does_75 ?_
      refine x_iload_n 2 rfl dX5_does_76 ?_
      refine x_iload_n 3 rfl dX5_does_77 ?_
      obtain ⟨c9, H⟩ := oit H
      obtain ⟨a9, g9, e9, H⟩ := obR H
      refine x_callV (M' := mi_X5_nods) (n := 2) (As := [.int x2, .int x3]) (t_X5_nods C _ e9) c9 rfl rfl md_X5_nods ⟨Nat.le_of_ble_eq_true rfl, Nat.le_of_ble_eq_true rfl⟩ q2279 q2281 qs86 q131 q2282 rfl (Nat.le_of_ble_eq_true rfl) dX5_does_78 ?_
      refine x_goto (tgt := 154) dX5_does_81 (by decide) ?_
      refine X.sub [1, 5] rfl ?_
      exact t_X5_does_b154 hE _ _ _ H
  rw [if_neg c6] at H
  by_cases c10 : x1 = (2 : Int32)
  · rw [if_pos c10] at H
    refine x_tsw (off := 80) 84 dX5_does_4 c10 (by decide) (by decide) (by decide) (by decide) ?_
    refine x_aload_n 0 rfl dX5_does_84 ?_
    refine x_iload_n 2 rfl dX5_does_85 ?_
    obtain ⟨c11, H⟩ := oit H
    obtain ⟨a11, g11, e11, H⟩ := obR H
    refine x_callV (M' := mi_X5_whyVeil) (n := 1) (As := [.int x2]) (t_X5_whyVeil C _ e11) c11 rfl rfl md_X5_whyVeil ⟨Nat.le_of_ble_eq_true rfl, Nat.le_of_ble_eq_true rfl⟩ q2287 q2289 qs87 q131 q2290 rfl (Nat.le_of_ble_eq_true rfl) dX5_does_86 ?_
    refine x_istore [1, 2, 3, 4, 5, 0] dX5_does_89 (by decide) rfl ?_
    refine x_iload 5 rfl dX5_does_91 ?_
    refine x_if_ne 154 dX5_does_93 (by decide) (fun c12 => ?_) (fun c12 => ?_)
    · rw [if_neg c12] at H
      refine X.sub [1, 5] rfl ?_
      exact t_X5_does_b154 hE _ _ _ H
    · rw [if_pos c12] at H
      refine x_aload_n 0 rfl dX5_does_96 ?_
      refine x_iload_n 2 rfl dX5_does_97 ?_
      obtain ⟨c13, H⟩ := oit H
      obtain ⟨a13, g13, e13, H⟩ := obR H
      refine x_callV (M' := mi_X5_veils) (n := 1) (As := [.int x2]) (t_X5_veils C _ e13) c13 rfl rfl md_X5_veils ⟨Nat.le_of_ble_eq_true rfl, Nat.le_of_ble_eq_true rfl⟩ q2291 q2293 qs88 q131 q2294 rfl (Nat.le_of_ble_eq_true rfl) dX5_does_98 ?_
      refine x_goto (tgt := 154) dX5_does_101 (by decide) ?_
      refine X.sub [1, 5] rfl ?_
      exact t_X5_does_b154 hE _ _ _ H
  rw [if_neg c10] at H
  by_cases c14 : x1 = (3 : Int32)
  · rw [if_pos c14] at H
    refine x_tsw (off := 100) 104 dX5_does_4 c14 (by decide) (by decide) (by decide) (by decide) ?_
    refine x_aload_n 0 rfl dX5_does_104 ?_
    refine x_iload_n 2 rfl dX5_does_105 ?_
    refine x_iload_n 3 rfl dX5_does_106 ?_
    refine x_iload 4 rfl dX5_does_107 ?_
    obtain ⟨c15, H⟩ := oit H
    obtain ⟨a15, g15, e15, H⟩ := obR H
    refine x_callV (M' := mi_X5_whyTell) (n := 3) (As := [.int x2, .int x3, .int x4]) (t_X5_whyTell C _ e15) c15 rfl rfl md_X5_whyTell ⟨Nat.le_of_ble_eq_true rfl, Nat.le_of_ble_eq_true rfl⟩ q2299 q2301 qs89 q131 q2302 rfl (Nat.le_of_ble_eq_true rfl) dX5_does_109 ?_
    refine x_istore [1, 2, 3, 4, 5, 0] dX5_does_112 (by decide) rfl ?_
    refine x_iload 5 rfl dX5_does_114 ?_
    refine x_if_ne 154 dX5_does_116 (by decide) (fun c16 => ?_) (fun c16 => ?_)
    · rw [if_neg c16] at H
      refine X.sub [1, 5] rfl ?_
      exact t_X5_does_b154 hE _ _ _ H
    · rw [if_pos c16] at H
      refine x_aload_n 0 rfl dX5_does_119 ?_
      refine x_iload_n 3 rfl dX5_does_120 ?_
      refine x_iload 4 rfl dX5_does_121 ?_
      obtain ⟨c17, H⟩ := oit H
      obtain ⟨a17, g17, e17, H⟩ := obR H
      refine x_callV (M' := mi_X5_meets) (n := 2) (As := [.int x3, .int x4]) (t_X5_meets C _ e17) c17 rfl rfl md_X5_meets ⟨Nat.le_of_ble_eq_true rfl, Nat.le_of_ble_eq_true rfl⟩ q2267 q2269 qs84 q131 q2270 rfl (Nat.le_of_ble_eq_true rfl) dX5_does_123 ?_
      refine x_goto (tgt := 154) dX5_does_126 (by decide) ?_
      refine X.sub [1, 5] rfl ?_
      exact t_X5_does_b154 hE _ _ _ H
  rw [if_neg c14] at H
  refine x_tswd 129 dX5_does_4 (xts0_4 c1 c6 c10 c14) (by decide) ?_
  refine x_aload_n 0 rfl dX5_does_129 ?_
  obtain ⟨v18, e18, H⟩ := ob H
  refine x_getf fg_X5_33 (gFr_spec e18) dX5_does_130 ?_
  refine x_sipush (131 : Int32) dX5_does_133 si_131 ?_
  obtain ⟨v19, e19, H⟩ := ob H
  refine x_iald e19 dX5_does_136 ?_
  refine x_iload_n 2 rfl dX5_does_137 ?_
  refine x_iadd dX5_does_138 ?_
  refine x_sipush (400 : Int32) dX5_does_139 si_400 ?_
  refine x_icmp_le 148 dX5_does_142 (by decide) (fun c20 => ?_) (fun c20 => ?_)
  · rw [if_pos c20] at H
    refine x_aload_n 0 rfl dX5_does_148 ?_
    refine x_iload_n 2 rfl dX5_does_149 ?_
    obtain ⟨c21, H⟩ := oit H
    obtain ⟨a21, g21, e21, H⟩ := obR H
    refine x_callV (M' := mi_X5_goesOn) (n := 1) (As := [.int x2]) (t_X5_goesOn C _ e21) c21 rfl rfl md_X5_goesOn ⟨Nat.le_of_ble_eq_true rfl, Nat.le_of_ble_eq_true rfl⟩ q2307 q2309 qs90 q131 q2310 rfl (Nat.le_of_ble_eq_true rfl) dX5_does_150 ?_
    refine x_pop dX5_does_153 rfl ?_
    refine X.sub [1, 5] rfl ?_
    exact t_X5_does_b154 hE _ _ _ H
  · rw [if_neg c20] at H
    refine x_bipush (41 : Int32) dX5_does_145 bi_41 ?_
    obtain rfl := Option.some.inj H
    exact x_iret hE rfl rfl dX5_does_147
abbrev mi_X5_fed : xM := (cX5_fed, yX5_fed, 3, some .int, 2)
theorem md_X5_fed : xMD mi_X5_fed 0 := ⟨by decide, by decide, by decide +kernel⟩
def f_X5_fed_b30 (kb : Nat → Int32 → Int32 → mH → Option (Int32 × mH)) (r0 : Nat) (x2 : Int32) (s0 : Int32) (s1 : Int32) (h : mH) : Option (Int32 × mH) := kb r0 (s0 ||| s1) (x2 + (1 : Int32)) h
theorem t_X5_fed_b30 {G : xG} {C : xC} {o : Int32 × mH} (hE : xEnd G C (some (.int o.1)) o.2) {kb : Nat → Int32 → Int32 → mH → Option (Int32 × mH)} (hkb : ∀ (r0 : Nat) (x1 : Int32) (x2 : Int32) (h : mH), kb r0 x1 x2 h = some o → X G C mi_X5_fed 4 [(0, .ref r0), (1, .int x1), (2, .int x2)] [] h) (r0 : Nat) (x2 : Int32) (s0 : Int32) (s1 : Int32) (h : mH) (H : f_X5_fed_b30 kb r0 x2 s0 s1 h = some o) : X G C mi_X5_fed 30 [(0, .ref r0), (2, .int x2)] [.int s1, .int s0] h := by
  unfold f_X5_fed_b30 at H
  refine x_ior dX5_fed_30 ?_
  refine x_istore_n [1, 0, 2] dX5_fed_31 (by decide) rfl ?_
  refine x_iinc 2 (x2 + (1 : Int32)) [1, 2, 0] dX5_fed_32 rfl (ii_1 _) (by decide) rfl ?_
  refine x_goto (tgt := 4) dX5_fed_35 (by decide) ?_
  exact hkb _ _ _ _ H
def f_X5_fed_L4 : Nat → Nat → Int32 → Int32 → mH → Option (Int32 × mH)
  | 0, _, _, _, _ => none
  | n + 1, r0, x1, x2, h => (gFr [4] 6 h r0).bind fun v1 => (aI .int h v1 (0 : Int32)).bind fun v2 => if v2 ≤ x2 then some (x1, h) else if gC h r0 = 4 then bR (f_X5_wantsOf r0 x2 h) fun a4 g4 => if a4 = 0 then f_X5_fed_b30 (f_X5_fed_L4 n) r0 x2 x1 ((1 : Int32) <<< (x2 &&& 31)) g4 else f_X5_fed_b30 (f_X5_fed_L4 n) r0 x2 x1 (0 : Int32) g4 else none
theorem t_X5_fed_L4 {G : xG} {C : xC} {o : Int32 × mH} (hE : xEnd G C (some (.int o.1)) o.2) : ∀ (n : Nat) (r0 : Nat) (x1 : Int32) (x2 : Int32) (h : mH), f_X5_fed_L4 n r0 x1 x2 h = some o → X G C mi_X5_fed 4 [(0, .ref r0), (1, .int x1), (2, .int x2)] [] h := by
  intro n
  induction n with
  | zero => intro r0 x1 x2 h H; exact nomatch (show (none : Option (Int32 × mH)) = some o from H)
  | succ n ih =>
    intro r0 x1 x2 h H
    rw [f_X5_fed_L4] at H
    refine x_iload_n 2 rfl dX5_fed_4 ?_
    refine x_aload_n 0 rfl dX5_fed_5 ?_
    obtain ⟨v1, e1, H⟩ := ob H
    refine x_getf fg_X5_33 (gFr_spec e1) dX5_fed_6 ?_
    refine x_iconst (0 : Int32) dX5_fed_9 ic_0 ?_
    obtain ⟨v2, e2, H⟩ := ob H
    refine x_iald e2 dX5_fed_10 ?_
    refine x_icmp_ge 38 dX5_fed_11 (by decide) (fun c3 => ?_) (fun c3 => ?_)
    · rw [if_pos c3] at H
      refine x_iload_n 1 rfl dX5_fed_38 ?_
      obtain rfl := Option.some.inj H
      exact x_iret hE rfl rfl dX5_fed_39
    · rw [if_neg c3] at H
      refine x_iload_n 1 rfl dX5_fed_14 ?_
      refine x_aload_n 0 rfl dX5_fed_15 ?_
      refine x_iload_n 2 rfl dX5_fed_16 ?_
      obtain ⟨c4, H⟩ := oit H
      obtain ⟨a4, g4, e4, H⟩ := obR H
      refine x_callV (M' := mi_X5_wantsOf) (n := 1) (As := [.int x2]) (t_X5_wantsOf C _ e4) c4 rfl rfl md_X5_wantsOf ⟨Nat.le_of_ble_eq_true rfl, Nat.le_of_ble_eq_true rfl⟩ q2216 q2218 qs76 q131 q2219 rfl (Nat.le_of_ble_eq_true rfl) dX5_fed_17 ?_
      refine x_if_ne 29 dX5_fed_20 (by decide) (fun c5 => ?_) (fun c5 => ?_)
      · rw [if_neg c5] at H
        refine x_iconst (0 : Int32) dX5_fed_29 ic_0 ?_
        refine X.sub [0, 2] rfl ?_
        exact t_X5_fed_b30 hE ih _ _ _ _ _ H
      · rw [if_pos c5] at H
        refine x_iconst (1 : Int32) dX5_fed_23 ic_1 ?_
        refine x_iload_n 2 rfl dX5_fed_24 ?_
        refine x_ishl dX5_fed_25 ?_
        refine x_goto (tgt := 30) dX5_fed_26 (by decide) ?_
        refine X.sub [0, 2] rfl ?_
        exact t_X5_fed_b30 hE ih _ _ _ _ _ H
def f_X5_fed (r0 : Nat) (h : mH) : Option (Int32 × mH) := f_X5_fed_L4  xFu r0 (0 : Int32) (0 : Int32) h
theorem t_X5_fed {G : xG} (C0 : xC) {l : Launch} {r0 : Nat} (h : mH) {o : Int32 × mH} (H : f_X5_fed r0 h = some o) : XR G l mi_X5_fed [.ref r0] h (some (.int o.1)) o.2 := by
  refine XR.of C0 (by decide) (Nat.le_of_ble_eq_true rfl) (fun C _ _ _ hE => ?_)
  show X G C mi_X5_fed 0 [(0, .ref r0)] [] h
  unfold f_X5_fed at H
  refine x_iconst (0 : Int32) dX5_fed_0 ic_0 ?_
  refine x_istore_n [1, 0] dX5_fed_1 (by decide) rfl ?_
  refine x_iconst (0 : Int32) dX5_fed_2 ic_0 ?_
  refine x_istore_n [1, 2, 0] dX5_fed_3 (by decide) rfl ?_
  exact t_X5_fed_L4 hE  xFu _ _ _ _ H
abbrev mi_X5_keep : xM := (cX5_keep, yX5_keep, 2, none, 1)
theorem md_X5_keep : xMD mi_X5_keep 0 := ⟨by decide, by decide, by decide +kernel⟩
def f_X5_keep_b86 (r0 : Nat) (h : mH) : Option (Unit × mH) := (gFi [4] 23 h r0).bind fun v3 => (pF [4] 23 (.int (v3 + (1 : Int32))) h r0).bind fun h4 => some ((), h4)
theorem t_X5_keep_b86 {G : xG} {C : xC} {o : Unit × mH} (hE : xEnd G C none o.2) (r0 : Nat) (h : mH) (H : f_X5_keep_b86 r0 h = some o) : X G C mi_X5_keep 86 [(0, .ref r0)] [] h := by
  unfold f_X5_keep_b86 at H
  refine x_aload_n 0 rfl dX5_keep_86 ?_
  refine x_dup dX5_keep_87 rfl ?_
  obtain ⟨v3, e3, H⟩ := ob H
  refine x_getf fg_X5_262 (gFi_spec e3) dX5_keep_88 ?_
  refine x_iconst (1 : Int32) dX5_keep_91 ic_1 ?_
  refine x_iadd dX5_keep_92 ?_
  obtain ⟨h4, e4, H⟩ := ob H
  refine x_putf (fp_X5_262 _) rfl rfl e4 dX5_keep_93 ?_
  obtain rfl := Option.some.inj H
  exact x_vret hE rfl dX5_keep_96
def f_X5_keep_L48 (k86 : Nat → mH → Option (Unit × mH)) : Nat → Nat → Int32 → mH → Option (Unit × mH)
  | 0, _, _, _ => none
  | n + 1, r0, x1, h => if (145 : Int32) ≤ x1 then k86 r0 h else (gFr [4] 21 h r0).bind fun v6 => (gFi [4] 23 h r0).bind fun v7 => (gFr [4] 6 h r0).bind fun v8 => (aI .int h v8 ((131 : Int32) + x1)).bind fun v9 => (sI .int h v6 (((145 : Int32) * v7) + x1) v9).bind fun h10 => (f_X5_keep_L48 k86 n) r0 (x1 + (1 : Int32)) h10
theorem t_X5_keep_L48 {G : xG} {C : xC} {o : Unit × mH} (hE : xEnd G C none o.2) {k86 : Nat → mH → Option (Unit × mH)} (hk86 : ∀ (r0 : Nat) (h : mH), k86 r0 h = some o → X G C mi_X5_keep 86 [(0, .ref r0)] [] h) : ∀ (n : Nat) (r0 : Nat) (x1 : Int32) (h : mH), f_X5_keep_L48 k86 n r0 x1 h = some o → X G C mi_X5_keep 48 [(0, .ref r0), (1, .int x1)] [] h := by
  intro n
  induction n with
  | zero => intro r0 x1 h H; exact nomatch (show (none : Option (Unit × mH)) = some o from H)
  | succ n ih =>
    intro r0 x1 h H
    rw [f_X5_keep_L48] at H
    refine x_iload_n 1 rfl dX5_keep_48 ?_
    refine x_sipush (145 : Int32) dX5_keep_49 si_145 ?_
    refine x_icmp_ge 86 dX5_keep_52 (by decide) (fun c5 => ?_) (fun c5 => ?_)
    · rw [if_pos c5] at H
      refine X.sub [0] rfl ?_
      exact hk86 _ _ H
    · rw [if_neg c5] at H
      refine x_aload_n 0 rfl dX5_keep_55 ?_
      obtain ⟨v6, e6, H⟩ := ob H
      refine x_getf fg_X5_50 (gFr_spec e6) dX5_keep_56 ?_
      refine x_sipush (145 : Int32) dX5_keep_59 si_145 ?_
      refine x_aload_n 0 rfl dX5_keep_62 ?_
      obtain ⟨v7, e7, H⟩ := ob H
      refine x_getf fg_X5_262 (gFi_spec e7) dX5_keep_63 ?_
      refine x_imul dX5_keep_66 ?_
      refine x_iload_n 1 rfl dX5_keep_67 ?_
      refine x_iadd dX5_keep_68 ?_
      refine x_aload_n 0 rfl dX5_keep_69 ?_
      obtain ⟨v8, e8, H⟩ := ob H
      refine x_getf fg_X5_33 (gFr_spec e8) dX5_keep_70 ?_
      refine x_sipush (131 : Int32) dX5_keep_73 si_131 ?_
      refine x_iload_n 1 rfl dX5_keep_76 ?_
      refine x_iadd dX5_keep_77 ?_
      obtain ⟨v9, e9, H⟩ := ob H
      refine x_iald e9 dX5_keep_78 ?_
      obtain ⟨h10, e10, H⟩ := ob H
      refine x_iast e10 dX5_keep_79 ?_
      refine x_iinc 1 (x1 + (1 : Int32)) [1, 0] dX5_keep_80 rfl (ii_1 _) (by decide) rfl ?_
      refine x_goto (tgt := 48) dX5_keep_83 (by decide) ?_
      exact ih _ _ _ H
def f_X5_keep_b46 (r0 : Nat) (h : mH) : Option (Unit × mH) := f_X5_keep_L48 (f_X5_keep_b86) xFu r0 (0 : Int32) h
theorem t_X5_keep_b46 {G : xG} {C : xC} {o : Unit × mH} (hE : xEnd G C none o.2) (r0 : Nat) (h : mH) (H : f_X5_keep_b46 r0 h = some o) : X G C mi_X5_keep 46 [(0, .ref r0)] [] h := by
  unfold f_X5_keep_b46 at H
  refine x_iconst (0 : Int32) dX5_keep_46 ic_0 ?_
  refine x_istore_n [1, 0] dX5_keep_47 (by decide) rfl ?_
  exact t_X5_keep_L48 hE (t_X5_keep_b86 hE) xFu _ _ _ H
def f_X5_keep_b40 (r0 : Nat) (h : mH) : Option (Unit × mH) := (pF [4] 23 (.int (7 : Int32)) h r0).bind fun h11 => f_X5_keep_b46 r0 h11
theorem t_X5_keep_b40 {G : xG} {C : xC} {o : Unit × mH} (hE : xEnd G C none o.2) (r0 : Nat) (h : mH) (H : f_X5_keep_b40 r0 h = some o) : X G C mi_X5_keep 40 [(0, .ref r0)] [] h := by
  unfold f_X5_keep_b40 at H
  refine x_aload_n 0 rfl dX5_keep_40 ?_
  refine x_bipush (7 : Int32) dX5_keep_41 bi_7 ?_
  obtain ⟨h11, e11, H⟩ := ob H
  refine x_putf (fp_X5_262 _) rfl rfl e11 dX5_keep_43 ?_
  exact t_X5_keep_b46 hE _ _ H
def f_X5_keep_L11 (k40 : Nat → mH → Option (Unit × mH)) : Nat → Nat → Int32 → mH → Option (Unit × mH)
  | 0, _, _, _ => none
  | n + 1, r0, x1, h => if (1015 : Int32) ≤ x1 then k40 r0 h else (gFr [4] 21 h r0).bind fun v13 => (gFr [4] 21 h r0).bind fun v14 => (aI .int h v14 (x1 + (145 : Int32))).bind fun v15 => (sI .int h v13 x1 v15).bind fun h16 => (f_X5_keep_L11 k40 n) r0 (x1 + (1 : Int32)) h16
theorem t_X5_keep_L11 {G : xG} {C : xC} {o : Unit × mH} (hE : xEnd G C none o.2) {k40 : Nat → mH → Option (Unit × mH)} (hk40 : ∀ (r0 : Nat) (h : mH), k40 r0 h = some o → X G C mi_X5_keep 40 [(0, .ref r0)] [] h) : ∀ (n : Nat) (r0 : Nat) (x1 : Int32) (h : mH), f_X5_keep_L11 k40 n r0 x1 h = some o → X G C mi_X5_keep 11 [(0, .ref r0), (1, .int x1)] [] h := by
  intro n
  induction n with
  | zero => intro r0 x1 h H; exact nomatch (show (none : Option (Unit × mH)) = some o from H)
  | succ n ih =>
    intro r0 x1 h H
    rw [f_X5_keep_L11] at H
    refine x_iload_n 1 rfl dX5_keep_11 ?_
    refine x_sipush (1015 : Int32) dX5_keep_12 si_1015 ?_
    refine x_icmp_ge 40 dX5_keep_15 (by decide) (fun c12 => ?_) (fun c12 => ?_)
    · rw [if_pos c12] at H
      refine X.sub [0] rfl ?_
      exact hk40 _ _ H
    · rw [if_neg c12] at H
      refine x_aload_n 0 rfl dX5_keep_18 ?_
      obtain ⟨v13, e13, H⟩ := ob H
      refine x_getf fg_X5_50 (gFr_spec e13) dX5_keep_19 ?_
      refine x_iload_n 1 rfl dX5_keep_22 ?_
      refine x_aload_n 0 rfl dX5_keep_23 ?_
      obtain ⟨v14, e14, H⟩ := ob H
      refine x_getf fg_X5_50 (gFr_spec e14) dX5_keep_24 ?_
      refine x_iload_n 1 rfl dX5_keep_27 ?_
      refine x_sipush (145 : Int32) dX5_keep_28 si_145 ?_
      refine x_iadd dX5_keep_31 ?_
      obtain ⟨v15, e15, H⟩ := ob H
      refine x_iald e15 dX5_keep_32 ?_
      obtain ⟨h16, e16, H⟩ := ob H
      refine x_iast e16 dX5_keep_33 ?_
      refine x_iinc 1 (x1 + (1 : Int32)) [1, 0] dX5_keep_34 rfl (ii_1 _) (by decide) rfl ?_
      refine x_goto (tgt := 11) dX5_keep_37 (by decide) ?_
      exact ih _ _ _ H
def f_X5_keep (r0 : Nat) (h : mH) : Option (Unit × mH) := (gFi [4] 23 h r0).bind fun v1 => if v1 = (8 : Int32) then f_X5_keep_L11 (f_X5_keep_b40) xFu r0 (0 : Int32) h else f_X5_keep_b46 r0 h
theorem t_X5_keep {G : xG} (C0 : xC) {l : Launch} {r0 : Nat} (h : mH) {o : Unit × mH} (H : f_X5_keep r0 h = some o) : XR G l mi_X5_keep [.ref r0] h none o.2 := by
  refine XR.of C0 (by decide) (Nat.le_of_ble_eq_true rfl) (fun C _ _ _ hE => ?_)
  show X G C mi_X5_keep 0 [(0, .ref r0)] [] h
  unfold f_X5_keep at H
  refine x_aload_n 0 rfl dX5_keep_0 ?_
  obtain ⟨v1, e1, H⟩ := ob H
  refine x_getf fg_X5_262 (gFi_spec e1) dX5_keep_1 ?_
  refine x_bipush (8 : Int32) dX5_keep_4 bi_8 ?_
  refine x_icmp_ne 46 dX5_keep_6 (by decide) (fun c2 => ?_) (fun c2 => ?_)
  · rw [if_neg c2] at H
    exact t_X5_keep_b46 hE _ _ H
  · rw [if_pos c2] at H
    refine x_iconst (0 : Int32) dX5_keep_9 ic_0 ?_
    refine x_istore_n [1, 0] dX5_keep_10 (by decide) rfl ?_
    exact t_X5_keep_L11 hE (t_X5_keep_b40 hE) xFu _ _ _ H
abbrev mi_X5_sign : xM := (cX5_sign, yX5_sign, 2, some .boolean, 3)
theorem md_X5_sign : xMD mi_X5_sign 1 := ⟨by decide, by decide, by decide +kernel⟩
def f_X5_sign (r0 : Nat) (x1 : Int32) (h : mH) : Option (Int32 × mH) := if gC h r0 = 4 then bR (f_X5_isSign r0 x1 h) fun a1 g1 => if a1 = 0 then if gC g1 r0 = 4 then bR (f_X5_bad r0 (1 : Int32) g1) fun a4 g4 => rZ a4 g4 else none else if gC g1 r0 = 4 then bR (f_X5_next r0  g1) fun a3 g3 => some ((1 : Int32), g3) else none else none
theorem t_X5_sign {G : xG} (C0 : xC) {l : Launch} {r0 : Nat} {x1 : Int32} (h : mH) {o : Int32 × mH} (H : f_X5_sign r0 x1 h = some o) : XR G l mi_X5_sign [.ref r0, .int x1] h (some (.int o.1)) o.2 := by
  refine XR.of C0 (by decide) (Nat.le_of_ble_eq_true rfl) (fun C _ _ _ hE => ?_)
  show X G C mi_X5_sign 0 [(0, .ref r0), (1, .int x1)] [] h
  unfold f_X5_sign at H
  refine x_aload_n 0 rfl dX5_sign_0 ?_
  refine x_iload_n 1 rfl dX5_sign_1 ?_
  obtain ⟨c1, H⟩ := oit H
  obtain ⟨a1, g1, e1, H⟩ := obR H
  refine x_callV (M' := mi_X5_isSign) (n := 1) (As := [.int x1]) (t_X5_isSign C _ e1) c1 rfl rfl md_X5_isSign ⟨Nat.le_of_ble_eq_true rfl, Nat.le_of_ble_eq_true rfl⟩ q2184 q2186 qs70 q131 q2187 rfl (Nat.le_of_ble_eq_true rfl) dX5_sign_2 ?_
  refine x_if_ne 14 dX5_sign_5 (by decide) (fun c2 => ?_) (fun c2 => ?_)
  · rw [if_neg c2] at H
    refine x_aload_n 0 rfl dX5_sign_14 ?_
    obtain ⟨c3, H⟩ := oit H
    obtain ⟨a3, g3, e3, H⟩ := obR H
    refine x_callV (M' := mi_X5_next) (n := 0) (As := []) (t_X5_next C _ e3) c3 rfl rfl md_X5_next ⟨Nat.le_of_ble_eq_true rfl, Nat.le_of_ble_eq_true rfl⟩ q2100 q2102 qs52 q131 q2103 rfl (Nat.le_of_ble_eq_true rfl) dX5_sign_15 ?_
    refine x_iconst (1 : Int32) dX5_sign_18 ic_1 ?_
    obtain rfl := Option.some.inj H
    exact x_iret hE rfl rfl dX5_sign_19
  · rw [if_pos c2] at H
    refine x_aload_n 0 rfl dX5_sign_8 ?_
    refine x_iconst (1 : Int32) dX5_sign_9 ic_1 ?_
    obtain ⟨c4, H⟩ := oit H
    obtain ⟨a4, g4, e4, H⟩ := obR H
    refine x_callV (M' := mi_X5_bad) (n := 1) (As := [.int (1 : Int32)]) (t_X5_bad C _ e4) c4 rfl rfl md_X5_bad ⟨Nat.le_of_ble_eq_true rfl, Nat.le_of_ble_eq_true rfl⟩ q2126 q2128 qs57 q131 q2129 rfl (Nat.le_of_ble_eq_true rfl) dX5_sign_10 ?_
    obtain ⟨c, rfl⟩ := rZ_spec H
    exact x_iret hE rfl c dX5_sign_13
abbrev mi_X5_taken : xM := (cX5_taken, yX5_taken, 2, none, 1)
theorem md_X5_taken : xMD mi_X5_taken 1 := ⟨by decide, by decide, by decide +kernel⟩
def f_X5_taken (r0 : Nat) (x1 : Int32) (h : mH) : Option (Unit × mH) := (gFi [4] 2 h r0).bind fun v1 => (pF [4] 3 (.int v1) h r0).bind fun h2 => (pF [4] 2 (.int (0 : Int32)) h2 r0).bind fun h3 => (pF [4] 4 (.int (0 : Int32)) h3 r0).bind fun h4 => (pF [4] 5 (.int x1) h4 r0).bind fun h5 => some ((), h5)
theorem t_X5_taken {G : xG} (C0 : xC) {l : Launch} {r0 : Nat} {x1 : Int32} (h : mH) {o : Unit × mH} (H : f_X5_taken r0 x1 h = some o) : XR G l mi_X5_taken [.ref r0, .int x1] h none o.2 := by
  refine XR.of C0 (by decide) (Nat.le_of_ble_eq_true rfl) (fun C _ _ _ hE => ?_)
  show X G C mi_X5_taken 0 [(0, .ref r0), (1, .int x1)] [] h
  unfold f_X5_taken at H
  refine x_aload_n 0 rfl dX5_taken_0 ?_
  refine x_aload_n 0 rfl dX5_taken_1 ?_
  obtain ⟨v1, e1, H⟩ := ob H
  refine x_getf fg_X5_7 (gFi_spec e1) dX5_taken_2 ?_
  obtain ⟨h2, e2, H⟩ := ob H
  refine x_putf (fp_X5_18 _) rfl rfl e2 dX5_taken_5 ?_
  refine x_aload_n 0 rfl dX5_taken_8 ?_
  refine x_iconst (0 : Int32) dX5_taken_9 ic_0 ?_
  obtain ⟨h3, e3, H⟩ := ob H
  refine x_putf (fp_X5_7 _) rfl rfl e3 dX5_taken_10 ?_
  refine x_aload_n 0 rfl dX5_taken_13 ?_
  refine x_iconst (0 : Int32) dX5_taken_14 ic_0 ?_
  obtain ⟨h4, e4, H⟩ := ob H
  refine x_putf (fp_X5_21 _) rfl rfl e4 dX5_taken_15 ?_
  refine x_aload_n 0 rfl dX5_taken_18 ?_
  refine x_iload_n 1 rfl dX5_taken_19 ?_
  obtain ⟨h5, e5, H⟩ := ob H
  refine x_putf (fp_X5_24 _) rfl rfl e5 dX5_taken_20 ?_
  obtain rfl := Option.some.inj H
  exact x_vret hE rfl dX5_taken_23
abbrev mi_X5_tries : xM := (cX5_tries, yX5_tries, 2, none, 1)
theorem md_X5_tries : xMD mi_X5_tries 0 := ⟨by decide, by decide, by decide +kernel⟩
def f_X5_tries_L2 : Nat → Nat → Int32 → mH → Option (Unit × mH)
  | 0, _, _, _ => none
  | n + 1, r0, x1, h => if (145 : Int32) ≤ x1 then some ((), h) else (gFr [4] 22 h r0).bind fun v2 => (gFr [4] 6 h r0).bind fun v3 => (aI .int h v3 ((131 : Int32) + x1)).bind fun v4 => (sI .int h v2 x1 v4).bind fun h5 => (f_X5_tries_L2 n) r0 (x1 + (1 : Int32)) h5
theorem t_X5_tries_L2 {G : xG} {C : xC} {o : Unit × mH} (hE : xEnd G C none o.2) : ∀ (n : Nat) (r0 : Nat) (x1 : Int32) (h : mH), f_X5_tries_L2 n r0 x1 h = some o → X G C mi_X5_tries 2 [(0, .ref r0), (1, .int x1)] [] h := by
  intro n
  induction n with
  | zero => intro r0 x1 h H; exact nomatch (show (none : Option (Unit × mH)) = some o from H)
  | succ n ih =>
    intro r0 x1 h H
    rw [f_X5_tries_L2] at H
    refine x_iload_n 1 rfl dX5_tries_2 ?_
    refine x_sipush (145 : Int32) dX5_tries_3 si_145 ?_
    refine x_icmp_ge 31 dX5_tries_6 (by decide) (fun c1 => ?_) (fun c1 => ?_)
    · rw [if_pos c1] at H
      obtain rfl := Option.some.inj H
      exact x_vret hE rfl dX5_tries_31
    · rw [if_neg c1] at H
      refine x_aload_n 0 rfl dX5_tries_9 ?_
      obtain ⟨v2, e2, H⟩ := ob H
      refine x_getf fg_X5_53 (gFr_spec e2) dX5_tries_10 ?_
      refine x_iload_n 1 rfl dX5_tries_13 ?_
      refine x_aload_n 0 rfl dX5_tries_14 ?_
      obtain ⟨v3, e3, H⟩ := ob H
      refine x_getf fg_X5_33 (gFr_spec e3) dX5_tries_15 ?_
      refine x_sipush (131 : Int32) dX5_tries_18 si_131 ?_
      refine x_iload_n 1 rfl dX5_tries_21 ?_
      refine x_iadd dX5_tries_22 ?_
      obtain ⟨v4, e4, H⟩ := ob H
      refine x_iald e4 dX5_tries_23 ?_
      obtain ⟨h5, e5, H⟩ := ob H
      refine x_iast e5 dX5_tries_24 ?_
      refine x_iinc 1 (x1 + (1 : Int32)) [1, 0] dX5_tries_25 rfl (ii_1 _) (by decide) rfl ?_
      refine x_goto (tgt := 2) dX5_tries_28 (by decide) ?_
      exact ih _ _ _ H
def f_X5_tries (r0 : Nat) (h : mH) : Option (Unit × mH) := f_X5_tries_L2  xFu r0 (0 : Int32) h
theorem t_X5_tries {G : xG} (C0 : xC) {l : Launch} {r0 : Nat} (h : mH) {o : Unit × mH} (H : f_X5_tries r0 h = some o) : XR G l mi_X5_tries [.ref r0] h none o.2 := by
  refine XR.of C0 (by decide) (Nat.le_of_ble_eq_true rfl) (fun C _ _ _ hE => ?_)
  show X G C mi_X5_tries 0 [(0, .ref r0)] [] h
  unfold f_X5_tries at H
  refine x_iconst (0 : Int32) dX5_tries_0 ic_0 ?_
  refine x_istore_n [1, 0] dX5_tries_1 (by decide) rfl ?_
  exact t_X5_tries_L2 hE  xFu _ _ _ H
abbrev mi_X5_book : xM := (cX5_book, yX5_book, 4, some .int, 5)
theorem md_X5_book : xMD mi_X5_book 1 := ⟨by decide, by decide, by decide +kernel⟩
def f_X5_book_b62 (r0 : Nat) (h : mH) : Option (Int32 × mH) := (gFi [4] 16 h r0).bind fun v8 => some (((-2 : Int32) - v8), h)
theorem t_X5_book_b62 {G : xG} {C : xC} {o : Int32 × mH} (hE : xEnd G C (some (.int o.1)) o.2) (r0 : Nat) (h : mH) (H : f_X5_book_b62 r0 h = some o) : X G C mi_X5_book 62 [(0, .ref r0)] [] h := by
  unfold f_X5_book_b62 at H
  refine x_bipush (-2 : Int32) dX5_book_62 bi_m2 ?_
  refine x_aload_n 0 rfl dX5_book_64 ?_
  obtain ⟨v8, e8, H⟩ := ob H
  refine x_getf fg_X5_177 (gFi_spec e8) dX5_book_65 ?_
  refine x_isub dX5_book_68 ?_
  obtain rfl := Option.some.inj H
  exact x_iret hE rfl rfl dX5_book_69
def f_X5_book_b286 (r0 : Nat) (x1 : Int32) (x2 : Int32) (h : mH) : Option (Int32 × mH) := if x1 = 0 then if gC h r0 = 4 then bR (f_X5_back r0  h) fun a20 g20 => some (x2, g20) else none else some (x2, h)
theorem t_X5_book_b286 {G : xG} {C : xC} {o : Int32 × mH} (hE : xEnd G C (some (.int o.1)) o.2) (r0 : Nat) (x1 : Int32) (x2 : Int32) (h : mH) (H : f_X5_book_b286 r0 x1 x2 h = some o) : X G C mi_X5_book 286 [(0, .ref r0), (1, .int x1), (2, .int x2)] [] h := by
  unfold f_X5_book_b286 at H
  refine x_iload_n 1 rfl dX5_book_286 ?_
  refine x_if_ne 294 dX5_book_287 (by decide) (fun c19 => ?_) (fun c19 => ?_)
  · rw [if_neg c19] at H
    refine x_iload_n 2 rfl dX5_book_294 ?_
    obtain rfl := Option.some.inj H
    exact x_iret hE rfl rfl dX5_book_295
  · rw [if_pos c19] at H
    refine x_aload_n 0 rfl dX5_book_290 ?_
    obtain ⟨c20, H⟩ := oit H
    obtain ⟨a20, g20, e20, H⟩ := obR H
    refine x_callV (M' := mi_X5_back) (n := 0) (As := []) (t_X5_back C _ e20) c20 rfl rfl md_X5_back ⟨Nat.le_of_ble_eq_true rfl, Nat.le_of_ble_eq_true rfl⟩ q2449 q2451 qs107 q131 q2452 rfl (Nat.le_of_ble_eq_true rfl) dX5_book_291 ?_
    refine x_iload_n 2 rfl dX5_book_294 ?_
    obtain rfl := Option.some.inj H
    exact x_iret hE rfl rfl dX5_book_295
def f_X5_book_L250 (k286 : Nat → Int32 → Int32 → mH → Option (Int32 × mH)) : Nat → Nat → Int32 → Int32 → Int32 → mH → Option (Int32 × mH)
  | 0, _, _, _, _, _ => none
  | n + 1, r0, x1, x2, x3, h => if (145 : Int32) ≤ x3 then k286 r0 x1 x2 h else (gFr [4] 21 h r0).bind fun v26 => (gFi [4] 23 h r0).bind fun v27 => (gFr [4] 22 h r0).bind fun v28 => (aI .int h v28 x3).bind fun v29 => (sI .int h v26 (((145 : Int32) * (v27 - (1 : Int32))) + x3) v29).bind fun h30 => (f_X5_book_L250 k286 n) r0 x1 x2 (x3 + (1 : Int32)) h30
theorem t_X5_book_L250 {G : xG} {C : xC} {o : Int32 × mH} (hE : xEnd G C (some (.int o.1)) o.2) {k286 : Nat → Int32 → Int32 → mH → Option (Int32 × mH)} (hk286 : ∀ (r0 : Nat) (x1 : Int32) (x2 : Int32) (h : mH), k286 r0 x1 x2 h = some o → X G C mi_X5_book 286 [(0, .ref r0), (1, .int x1), (2, .int x2)] [] h) : ∀ (n : Nat) (r0 : Nat) (x1 : Int32) (x2 : Int32) (x3 : Int32) (h : mH), f_X5_book_L250 k286 n r0 x1 x2 x3 h = some o → X G C mi_X5_book 250 [(0, .ref r0), (1, .int x1), (2, .int x2), (3, .int x3)] [] h := by
  intro n
  induction n with
  | zero => intro r0 x1 x2 x3 h H; exact nomatch (show (none : Option (Int32 × mH)) = some o from H)
  | succ n ih =>
    intro r0 x1 x2 x3 h H
    rw [f_X5_book_L250] at H
    refine x_iload_n 3 rfl dX5_book_250 ?_
    refine x_sipush (145 : Int32) dX5_book_251 si_145 ?_
    refine x_icmp_ge 286 dX5_book_254 (by decide) (fun c25 => ?_) (fun c25 => ?_)
    · rw [if_pos c25] at H
      refine X.sub [0, 1, 2] rfl ?_
      exact hk286 _ _ _ _ H
    · rw [if_neg c25] at H
      refine x_aload_n 0 rfl dX5_book_257 ?_
      obtain ⟨v26, e26, H⟩ := ob H
      refine x_getf fg_X5_50 (gFr_spec e26) dX5_book_258 ?_
      refine x_sipush (145 : Int32) dX5_book_261 si_145 ?_
      refine x_aload_n 0 rfl dX5_book_264 ?_
      obtain ⟨v27, e27, H⟩ := ob H
      refine x_getf fg_X5_262 (gFi_spec e27) dX5_book_265 ?_
      refine x_iconst (1 : Int32) dX5_book_268 ic_1 ?_
      refine x_isub dX5_book_269 ?_
      refine x_imul dX5_book_270 ?_
      refine x_iload_n 3 rfl dX5_book_271 ?_
      refine x_iadd dX5_book_272 ?_
      refine x_aload_n 0 rfl dX5_book_273 ?_
      obtain ⟨v28, e28, H⟩ := ob H
      refine x_getf fg_X5_53 (gFr_spec e28) dX5_book_274 ?_
      refine x_iload_n 3 rfl dX5_book_277 ?_
      obtain ⟨v29, e29, H⟩ := ob H
      refine x_iald e29 dX5_book_278 ?_
      obtain ⟨h30, e30, H⟩ := ob H
      refine x_iast e30 dX5_book_279 ?_
      refine x_iinc 3 (x3 + (1 : Int32)) [1, 2, 3, 0] dX5_book_280 rfl (ii_1 _) (by decide) rfl ?_
      refine x_goto (tgt := 250) dX5_book_283 (by decide) ?_
      exact ih _ _ _ _ _ H
def f_X5_book_b201 (r0 : Nat) (x1 : Int32) (x2 : Int32) (h : mH) : Option (Int32 × mH) := (gFr [4] 40 h r0).bind fun v10 => (gFr [4] 6 h r0).bind fun v11 => (aI .int h v11 (131 : Int32)).bind fun v12 => (sI .int h v10 (2 : Int32) v12).bind fun h13 => (gFr [4] 40 h13 r0).bind fun v14 => if gC h13 r0 = 4 then bR (f_X5_fed r0  h13) fun a15 g15 => (sI .int g15 v14 (3 : Int32) a15).bind fun h16 => (pF [4] 41 (.int (1 : Int32)) h16 r0).bind fun h17 => if x1 = (1 : Int32) then (gFr [4] 40 h17 r0).bind fun v21 => (aI .int h17 v21 (1 : Int32)).bind fun v22 => if v22 ≤ 0 then f_X5_book_b286 r0 x1 x2 h17 else if gC h17 r0 = 4 then bR (f_X5_keep r0  h17) fun a24 g24 => f_X5_book_L250 (f_X5_book_b286) xFu r0 x1 x2 (0 : Int32) g24 else none else f_X5_book_b286 r0 x1 x2 h17 else none
theorem t_X5_book_b201 {G : xG} {C : xC} {o : Int32 × mH} (hE : xEnd G C (some (.int o.1)) o.2) (r0 : Nat) (x1 : Int32) (x2 : Int32) (h : mH) (H : f_X5_book_b201 r0 x1 x2 h = some o) : X G C mi_X5_book 201 [(0, .ref r0), (1, .int x1), (2, .int x2)] [] h := by
  unfold f_X5_book_b201 at H
  refine x_aload_n 0 rfl dX5_book_201 ?_
  obtain ⟨v10, e10, H⟩ := ob H
  refine x_getf fg_X5_77 (gFr_spec e10) dX5_book_202 ?_
  refine x_iconst (2 : Int32) dX5_book_205 ic_2 ?_
  refine x_aload_n 0 rfl dX5_book_206 ?_
  obtain ⟨v11, e11, H⟩ := ob H
  refine x_getf fg_X5_33 (gFr_spec e11) dX5_book_207 ?_
  refine x_sipush (131 : Int32) dX5_book_210 si_131 ?_
  obtain ⟨v12, e12, H⟩ := ob H
  refine x_iald e12 dX5_book_213 ?_
  obtain ⟨h13, e13, H⟩ := ob H
  refine x_iast e13 dX5_book_214 ?_
  refine x_aload_n 0 rfl dX5_book_215 ?_
  obtain ⟨v14, e14, H⟩ := ob H
  refine x_getf fg_X5_77 (gFr_spec e14) dX5_book_216 ?_
  refine x_iconst (3 : Int32) dX5_book_219 ic_3 ?_
  refine x_aload_n 0 rfl dX5_book_220 ?_
  obtain ⟨c15, H⟩ := oit H
  obtain ⟨a15, g15, e15, H⟩ := obR H
  refine x_callV (M' := mi_X5_fed) (n := 0) (As := []) (t_X5_fed C _ e15) c15 rfl rfl md_X5_fed ⟨Nat.le_of_ble_eq_true rfl, Nat.le_of_ble_eq_true rfl⟩ q2239 q2241 qs78 q131 q2242 rfl (Nat.le_of_ble_eq_true rfl) dX5_book_221 ?_
  obtain ⟨h16, e16, H⟩ := ob H
  refine x_iast e16 dX5_book_224 ?_
  refine x_aload_n 0 rfl dX5_book_225 ?_
  refine x_iconst (1 : Int32) dX5_book_226 ic_1 ?_
  obtain ⟨h17, e17, H⟩ := ob H
  refine x_putf (fp_X5_428 _) rfl rfl e17 dX5_book_227 ?_
  refine x_iload_n 1 rfl dX5_book_230 ?_
  refine x_iconst (1 : Int32) dX5_book_231 ic_1 ?_
  refine x_icmp_ne 286 dX5_book_232 (by decide) (fun c18 => ?_) (fun c18 => ?_)
  · rw [if_neg c18] at H
    exact t_X5_book_b286 hE _ _ _ _ H
  · rw [if_pos c18] at H
    refine x_aload_n 0 rfl dX5_book_235 ?_
    obtain ⟨v21, e21, H⟩ := ob H
    refine x_getf fg_X5_77 (gFr_spec e21) dX5_book_236 ?_
    refine x_iconst (1 : Int32) dX5_book_239 ic_1 ?_
    obtain ⟨v22, e22, H⟩ := ob H
    refine x_iald e22 dX5_book_240 ?_
    refine x_if_le 286 dX5_book_241 (by decide) (fun c23 => ?_) (fun c23 => ?_)
    · rw [if_pos c23] at H
      exact t_X5_book_b286 hE _ _ _ _ H
    · rw [if_neg c23] at H
      refine x_aload_n 0 rfl dX5_book_244 ?_
      obtain ⟨c24, H⟩ := oit H
      obtain ⟨a24, g24, e24, H⟩ := obR H
      refine x_callV (M' := mi_X5_keep) (n := 0) (As := []) (t_X5_keep C _ e24) c24 rfl rfl md_X5_keep ⟨Nat.le_of_ble_eq_true rfl, Nat.le_of_ble_eq_true rfl⟩ q2259 q2261 qs82 q131 q2262 rfl (Nat.le_of_ble_eq_true rfl) dX5_book_245 ?_
      refine x_iconst (0 : Int32) dX5_book_248 ic_0 ?_
      refine x_istore_n [1, 2, 3, 0] dX5_book_249 (by decide) rfl ?_
      exact t_X5_book_L250 hE (t_X5_book_b286 hE) xFu _ _ _ _ _ H
def f_X5_book_b195 (kb : Nat → Int32 → Int32 → Int32 → mH → Option (Int32 × mH)) (k201 : Nat → Int32 → Int32 → mH → Option (Int32 × mH)) (r0 : Nat) (x1 : Int32) (x2 : Int32) (x3 : Int32) (h : mH) : Option (Int32 × mH) := kb r0 x1 x2 (x3 + (1 : Int32)) h
theorem t_X5_book_b195 {G : xG} {C : xC} {o : Int32 × mH} (hE : xEnd G C (some (.int o.1)) o.2) {kb : Nat → Int32 → Int32 → Int32 → mH → Option (Int32 × mH)} (hkb : ∀ (r0 : Nat) (x1 : Int32) (x2 : Int32) (x3 : Int32) (h : mH), kb r0 x1 x2 x3 h = some o → X G C mi_X5_book 111 [(0, .ref r0), (1, .int x1), (2, .int x2), (3, .int x3)] [] h) {k201 : Nat → Int32 → Int32 → mH → Option (Int32 × mH)} (hk201 : ∀ (r0 : Nat) (x1 : Int32) (x2 : Int32) (h : mH), k201 r0 x1 x2 h = some o → X G C mi_X5_book 201 [(0, .ref r0), (1, .int x1), (2, .int x2)] [] h) (r0 : Nat) (x1 : Int32) (x2 : Int32) (x3 : Int32) (h : mH) (H : f_X5_book_b195 kb k201 r0 x1 x2 x3 h = some o) : X G C mi_X5_book 195 [(0, .ref r0), (1, .int x1), (2, .int x2), (3, .int x3)] [] h := by
  unfold f_X5_book_b195 at H
  refine x_iinc 3 (x3 + (1 : Int32)) [1, 2, 3, 0] dX5_book_195 rfl (ii_1 _) (by decide) rfl ?_
  refine x_goto (tgt := 111) dX5_book_198 (by decide) ?_
  exact hkb _ _ _ _ _ H
def f_X5_book_L111 (k201 : Nat → Int32 → Int32 → mH → Option (Int32 × mH)) : Nat → Nat → Int32 → Int32 → Int32 → mH → Option (Int32 × mH)
  | 0, _, _, _, _, _ => none
  | n + 1, r0, x1, x2, x3, h => (gFi [4] 39 h r0).bind fun v31 => if v31 ≤ x3 then k201 r0 x1 x2 h else if 0 ≤ x2 then k201 r0 x1 x2 h else (gFr [4] 40 h r0).bind fun v34 => (gFr [4] 8 h r0).bind fun v35 => (aI .int h v35 ((4 : Int32) * x3)).bind fun v36 => (gFr [4] 8 h r0).bind fun v37 => (aI .int h v37 (((4 : Int32) * x3) + (1 : Int32))).bind fun v38 => (gFr [4] 8 h r0).bind fun v39 => (aI .int h v39 (((4 : Int32) * x3) + (2 : Int32))).bind fun v40 => (gFr [4] 8 h r0).bind fun v41 => (aI .int h v41 (((4 : Int32) * x3) + (3 : Int32))).bind fun v42 => if gC h r0 = 4 then bR (f_X5_does r0 v36 v38 v40 v42 h) fun a43 g43 => (sI .int g43 v34 (0 : Int32) a43).bind fun h44 => (gFr [4] 40 h44 r0).bind fun v45 => (aI .int h44 v45 (0 : Int32)).bind fun v46 => if v46 ≤ 0 then (gFr [4] 40 h44 r0).bind fun v48 => (aI .int h44 v48 (1 : Int32)).bind fun v49 => (sI .int h44 v48 (1 : Int32) (v49 + (1 : Int32))).bind fun h50 => f_X5_book_b195 (f_X5_book_L111 k201 n) k201 r0 x1 x2 x3 h50 else f_X5_book_b195 (f_X5_book_L111 k201 n) k201 r0 x1 x3 x3 h44 else none
theorem t_X5_book_L111 {G : xG} {C : xC} {o : Int32 × mH} (hE : xEnd G C (some (.int o.1)) o.2) {k201 : Nat → Int32 → Int32 → mH → Option (Int32 × mH)} (hk201 : ∀ (r0 : Nat) (x1 : Int32) (x2 : Int32) (h : mH), k201 r0 x1 x2 h = some o → X G C mi_X5_book 201 [(0, .ref r0), (1, .int x1), (2, .int x2)] [] h) : ∀ (n : Nat) (r0 : Nat) (x1 : Int32) (x2 : Int32) (x3 : Int32) (h : mH), f_X5_book_L111 k201 n r0 x1 x2 x3 h = some o → X G C mi_X5_book 111 [(0, .ref r0), (1, .int x1), (2, .int x2), (3, .int x3)] [] h := by
  intro n
  induction n with
  | zero => intro r0 x1 x2 x3 h H; exact nomatch (show (none : Option (Int32 × mH)) = some o from H)
  | succ n ih =>
    intro r0 x1 x2 x3 h H
    rw [f_X5_book_L111] at H
    refine x_iload_n 3 rfl dX5_book_111 ?_
    refine x_aload_n 0 rfl dX5_book_112 ?_
    obtain ⟨v31, e31, H⟩ := ob H
    refine x_getf fg_X5_418 (gFi_spec e31) dX5_book_113 ?_
    refine x_icmp_ge 201 dX5_book_116 (by decide) (fun c32 => ?_) (fun c32 => ?_)
    · rw [if_pos c32] at H
      refine X.sub [0, 1, 2] rfl ?_
      exact hk201 _ _ _ _ H
    · rw [if_neg c32] at H
      refine x_iload_n 2 rfl dX5_book_119 ?_
      refine x_if_ge 201 dX5_book_120 (by decide) (fun c33 => ?_) (fun c33 => ?_)
      · rw [if_pos c33] at H
        refine X.sub [0, 1, 2] rfl ?_
        exact hk201 _ _ _ _ H
      · rw [if_neg c33] at H
        refine x_aload_n 0 rfl dX5_book_123 ?_
        obtain ⟨v34, e34, H⟩ := ob H
        refine x_getf fg_X5_77 (gFr_spec e34) dX5_book_124 ?_
        refine x_iconst (0 : Int32) dX5_book_127 ic_0 ?_
        refine x_aload_n 0 rfl dX5_book_128 ?_
        refine x_aload_n 0 rfl dX5_book_129 ?_
        obtain ⟨v35, e35, H⟩ := ob H
        refine x_getf fg_X5_40 (gFr_spec e35) dX5_book_130 ?_
        refine x_iconst (4 : Int32) dX5_book_133 ic_4 ?_
        refine x_iload_n 3 rfl dX5_book_134 ?_
        refine x_imul dX5_book_135 ?_
        obtain ⟨v36, e36, H⟩ := ob H
        refine x_iald e36 dX5_book_136 ?_
        refine x_aload_n 0 rfl dX5_book_137 ?_
        obtain ⟨v37, e37, H⟩ := ob H
        refine x_getf fg_X5_40 (gFr_spec e37) dX5_book_138 ?_
        refine x_iconst (4 : Int32) dX5_book_141 ic_4 ?_
        refine x_iload_n 3 rfl dX5_book_142 ?_
        refine x_imul dX5_book_143 ?_
        refine x_iconst (1 : Int32) dX5_book_144 ic_1 ?_
        refine x_iadd dX5_book_145 ?_
        obtain ⟨v38, e38, H⟩ := ob H
        refine x_iald e38 dX5_book_146 ?_
        refine x_aload_n 0 rfl dX5_book_147 ?_
        obtain ⟨v39, e39, H⟩ := ob H
        refine x_getf fg_X5_40 (gFr_spec e39) dX5_book_148 ?_
        refine x_iconst (4 : Int32) dX5_book_151 ic_4 ?_
        refine x_iload_n 3 rfl dX5_book_152 ?_
        refine x_imul dX5_book_153 ?_
        refine x_iconst (2 : Int32) dX5_book_154 ic_2 ?_
        refine x_iadd dX5_book_155 ?_
        obtain ⟨v40, e40, H⟩ := ob H
        refine x_iald e40 dX5_book_156 ?_
        refine x_aload_n 0 rfl dX5_book_157 ?_
        obtain ⟨v41, e41, H⟩ := ob H
        refine x_getf fg_X5_40 (gFr_spec e41) dX5_book_158 ?_
        refine x_iconst (4 : Int32) dX5_book_161 ic_4 ?_
        refine x_iload_n 3 rfl dX5_book_162 ?_
        refine x_imul dX5_book_163 ?_
        refine x_iconst (3 : Int32) dX5_book_164 ic_3 ?_
        refine x_iadd dX5_book_165 ?_
        obtain ⟨v42, e42, H⟩ := ob H
        refine x_iald e42 dX5_book_166 ?_
        obtain ⟨c43, H⟩ := oit H
        obtain ⟨a43, g43, e43, H⟩ := obR H
        refine x_callV (M' := mi_X5_does) (n := 4) (As := [.int v36, .int v38, .int v40, .int v42]) (t_X5_does C _ e43) c43 rfl rfl md_X5_does ⟨Nat.le_of_ble_eq_true rfl, Nat.le_of_ble_eq_true rfl⟩ q2461 q2463 qs109 q131 q2464 rfl (Nat.le_of_ble_eq_true rfl) dX5_book_167 ?_
        obtain ⟨h44, e44, H⟩ := ob H
        refine x_iast e44 dX5_book_170 ?_
        refine x_aload_n 0 rfl dX5_book_171 ?_
        obtain ⟨v45, e45, H⟩ := ob H
        refine x_getf fg_X5_77 (gFr_spec e45) dX5_book_172 ?_
        refine x_iconst (0 : Int32) dX5_book_175 ic_0 ?_
        obtain ⟨v46, e46, H⟩ := ob H
        refine x_iald e46 dX5_book_176 ?_
        refine x_if_le 185 dX5_book_177 (by decide) (fun c47 => ?_) (fun c47 => ?_)
        · rw [if_pos c47] at H
          refine x_aload_n 0 rfl dX5_book_185 ?_
          obtain ⟨v48, e48, H⟩ := ob H
          refine x_getf fg_X5_77 (gFr_spec e48) dX5_book_186 ?_
          refine x_iconst (1 : Int32) dX5_book_189 ic_1 ?_
          refine x_dup2 dX5_book_190 rfl rfl ?_
          obtain ⟨v49, e49, H⟩ := ob H
          refine x_iald e49 dX5_book_191 ?_
          refine x_iconst (1 : Int32) dX5_book_192 ic_1 ?_
          refine x_iadd dX5_book_193 ?_
          obtain ⟨h50, e50, H⟩ := ob H
          refine x_iast e50 dX5_book_194 ?_
          exact t_X5_book_b195 hE ih hk201 _ _ _ _ _ H
        · rw [if_neg c47] at H
          refine x_iload_n 3 rfl dX5_book_180 ?_
          refine x_istore_n [1, 2, 0, 3] dX5_book_181 (by decide) rfl ?_
          refine x_goto (tgt := 195) dX5_book_182 (by decide) ?_
          exact t_X5_book_b195 hE ih hk201 _ _ _ _ _ H
def f_X5_book_b107 (r0 : Nat) (x1 : Int32) (h : mH) : Option (Int32 × mH) := f_X5_book_L111 (f_X5_book_b201) xFu r0 x1 (-1 : Int32) (0 : Int32) h
theorem t_X5_book_b107 {G : xG} {C : xC} {o : Int32 × mH} (hE : xEnd G C (some (.int o.1)) o.2) (r0 : Nat) (x1 : Int32) (h : mH) (H : f_X5_book_b107 r0 x1 h = some o) : X G C mi_X5_book 107 [(0, .ref r0), (1, .int x1)] [] h := by
  unfold f_X5_book_b107 at H
  refine x_iconst (-1 : Int32) dX5_book_107 ic_m1 ?_
  refine x_istore_n [1, 2, 0] dX5_book_108 (by decide) rfl ?_
  refine x_iconst (0 : Int32) dX5_book_109 ic_0 ?_
  refine x_istore_n [1, 2, 3, 0] dX5_book_110 (by decide) rfl ?_
  exact t_X5_book_L111 hE (t_X5_book_b201 hE) xFu _ _ _ _ _ H
def f_X5_book_L89 (k107 : Nat → Int32 → mH → Option (Int32 × mH)) : Nat → Nat → Int32 → Int32 → mH → Option (Int32 × mH)
  | 0, _, _, _, _ => none
  | n + 1, r0, x1, x2, h => if (4 : Int32) ≤ x2 then k107 r0 x1 h else (gFr [4] 40 h r0).bind fun v52 => (sI .int h v52 x2 (0 : Int32)).bind fun h53 => (f_X5_book_L89 k107 n) r0 x1 (x2 + (1 : Int32)) h53
theorem t_X5_book_L89 {G : xG} {C : xC} {o : Int32 × mH} (hE : xEnd G C (some (.int o.1)) o.2) {k107 : Nat → Int32 → mH → Option (Int32 × mH)} (hk107 : ∀ (r0 : Nat) (x1 : Int32) (h : mH), k107 r0 x1 h = some o → X G C mi_X5_book 107 [(0, .ref r0), (1, .int x1)] [] h) : ∀ (n : Nat) (r0 : Nat) (x1 : Int32) (x2 : Int32) (h : mH), f_X5_book_L89 k107 n r0 x1 x2 h = some o → X G C mi_X5_book 89 [(0, .ref r0), (1, .int x1), (2, .int x2)] [] h := by
  intro n
  induction n with
  | zero => intro r0 x1 x2 h H; exact nomatch (show (none : Option (Int32 × mH)) = some o from H)
  | succ n ih =>
    intro r0 x1 x2 h H
    rw [f_X5_book_L89] at H
    refine x_iload_n 2 rfl dX5_book_89 ?_
    refine x_iconst (4 : Int32) dX5_book_90 ic_4 ?_
    refine x_icmp_ge 107 dX5_book_91 (by decide) (fun c51 => ?_) (fun c51 => ?_)
    · rw [if_pos c51] at H
      refine X.sub [0, 1] rfl ?_
      exact hk107 _ _ _ H
    · rw [if_neg c51] at H
      refine x_aload_n 0 rfl dX5_book_94 ?_
      obtain ⟨v52, e52, H⟩ := ob H
      refine x_getf fg_X5_77 (gFr_spec e52) dX5_book_95 ?_
      refine x_iload_n 2 rfl dX5_book_98 ?_
      refine x_iconst (0 : Int32) dX5_book_99 ic_0 ?_
      obtain ⟨h53, e53, H⟩ := ob H
      refine x_iast e53 dX5_book_100 ?_
      refine x_iinc 2 (x2 + (1 : Int32)) [1, 2, 0] dX5_book_101 rfl (ii_1 _) (by decide) rfl ?_
      refine x_goto (tgt := 89) dX5_book_104 (by decide) ?_
      exact ih _ _ _ _ H
def f_X5_book_b83 (r0 : Nat) (x1 : Int32) (h : mH) : Option (Int32 × mH) := if gC h r0 = 4 then bR (f_X5_tries r0  h) fun a9 g9 => f_X5_book_L89 (f_X5_book_b107) xFu r0 x1 (0 : Int32) g9 else none
theorem t_X5_book_b83 {G : xG} {C : xC} {o : Int32 × mH} (hE : xEnd G C (some (.int o.1)) o.2) (r0 : Nat) (x1 : Int32) (h : mH) (H : f_X5_book_b83 r0 x1 h = some o) : X G C mi_X5_book 83 [(0, .ref r0), (1, .int x1)] [] h := by
  unfold f_X5_book_b83 at H
  refine x_aload_n 0 rfl dX5_book_83 ?_
  obtain ⟨c9, H⟩ := oit H
  obtain ⟨a9, g9, e9, H⟩ := obR H
  refine x_callV (M' := mi_X5_tries) (n := 0) (As := []) (t_X5_tries C _ e9) c9 rfl rfl md_X5_tries ⟨Nat.le_of_ble_eq_true rfl, Nat.le_of_ble_eq_true rfl⟩ q2445 q2447 qs106 q131 q2448 rfl (Nat.le_of_ble_eq_true rfl) dX5_book_84 ?_
  refine x_iconst (0 : Int32) dX5_book_87 ic_0 ?_
  refine x_istore_n [1, 2, 0] dX5_book_88 (by decide) rfl ?_
  exact t_X5_book_L89 hE (t_X5_book_b107 hE) xFu _ _ _ _ H
def f_X5_book_L39 (k62 : Nat → mH → Option (Int32 × mH)) (k83 : Nat → Int32 → mH → Option (Int32 × mH)) : Nat → Nat → Int32 → mH → Option (Int32 × mH)
  | 0, _, _, _ => none
  | n + 1, r0, x1, h => (gFi [4] 11 h r0).bind fun v54 => if v54 = 0 then k83 r0 x1 h else if gC h r0 = 4 then bR (f_X5_bookLine r0  h) fun a56 g56 => if a56 = 0 then k62 r0 g56 else if gC g56 r0 = 4 then bR (f_X5_sign r0 (59 : Int32) g56) fun a58 g58 => if a58 = 0 then k62 r0 g58 else (gFi [4] 39 g58 r0).bind fun v60 => (pF [4] 39 (.int (v60 + (1 : Int32))) g58 r0).bind fun h61 => (f_X5_book_L39 k62 k83 n) r0 x1 h61 else none else none
theorem t_X5_book_L39 {G : xG} {C : xC} {o : Int32 × mH} (hE : xEnd G C (some (.int o.1)) o.2) {k62 : Nat → mH → Option (Int32 × mH)} (hk62 : ∀ (r0 : Nat) (h : mH), k62 r0 h = some o → X G C mi_X5_book 62 [(0, .ref r0)] [] h) {k83 : Nat → Int32 → mH → Option (Int32 × mH)} (hk83 : ∀ (r0 : Nat) (x1 : Int32) (h : mH), k83 r0 x1 h = some o → X G C mi_X5_book 83 [(0, .ref r0), (1, .int x1)] [] h) : ∀ (n : Nat) (r0 : Nat) (x1 : Int32) (h : mH), f_X5_book_L39 k62 k83 n r0 x1 h = some o → X G C mi_X5_book 39 [(0, .ref r0), (1, .int x1)] [] h := by
  intro n
  induction n with
  | zero => intro r0 x1 h H; exact nomatch (show (none : Option (Int32 × mH)) = some o from H)
  | succ n ih =>
    intro r0 x1 h H
    rw [f_X5_book_L39] at H
    refine x_aload_n 0 rfl dX5_book_39 ?_
    obtain ⟨v54, e54, H⟩ := ob H
    refine x_getf fg_X5_157 (gFi_spec e54) dX5_book_40 ?_
    refine x_if_eq 83 dX5_book_43 (by decide) (fun c55 => ?_) (fun c55 => ?_)
    · rw [if_pos c55] at H
      exact hk83 _ _ _ H
    · rw [if_neg c55] at H
      refine x_aload_n 0 rfl dX5_book_46 ?_
      obtain ⟨c56, H⟩ := oit H
      obtain ⟨a56, g56, e56, H⟩ := obR H
      refine x_callV (M' := mi_X5_bookLine) (n := 0) (As := []) (t_X5_bookLine C _ e56) c56 rfl rfl md_X5_bookLine ⟨Nat.le_of_ble_eq_true rfl, Nat.le_of_ble_eq_true rfl⟩ q2457 q2459 qs108 q131 q2460 rfl (Nat.le_of_ble_eq_true rfl) dX5_book_47 ?_
      refine x_if_eq 62 dX5_book_50 (by decide) (fun c57 => ?_) (fun c57 => ?_)
      · rw [if_pos c57] at H
        refine X.sub [0] rfl ?_
        exact hk62 _ _ H
      · rw [if_neg c57] at H
        refine x_aload_n 0 rfl dX5_book_53 ?_
        refine x_bipush (59 : Int32) dX5_book_54 bi_59 ?_
        obtain ⟨c58, H⟩ := oit H
        obtain ⟨a58, g58, e58, H⟩ := obR H
        refine x_callV (M' := mi_X5_sign) (n := 1) (As := [.int (59 : Int32)]) (t_X5_sign C _ e58) c58 rfl rfl md_X5_sign ⟨Nat.le_of_ble_eq_true rfl, Nat.le_of_ble_eq_true rfl⟩ q2180 q2182 qs69 q131 q2183 rfl (Nat.le_of_ble_eq_true rfl) dX5_book_56 ?_
        refine x_if_ne 70 dX5_book_59 (by decide) (fun c59 => ?_) (fun c59 => ?_)
        · rw [if_neg c59] at H
          refine x_aload_n 0 rfl dX5_book_70 ?_
          refine x_dup dX5_book_71 rfl ?_
          obtain ⟨v60, e60, H⟩ := ob H
          refine x_getf fg_X5_418 (gFi_spec e60) dX5_book_72 ?_
          refine x_iconst (1 : Int32) dX5_book_75 ic_1 ?_
          refine x_iadd dX5_book_76 ?_
          obtain ⟨h61, e61, H⟩ := ob H
          refine x_putf (fp_X5_418 _) rfl rfl e61 dX5_book_77 ?_
          refine x_goto (tgt := 39) dX5_book_80 (by decide) ?_
          exact ih _ _ _ H
        · rw [if_pos c59] at H
          refine X.sub [0] rfl ?_
          exact hk62 _ _ H
def f_X5_book (r0 : Nat) (x1 : Int32) (h : mH) : Option (Int32 × mH) := (pF [4] 0 (.int (0 : Int32)) h r0).bind fun h1 => bR (f_X5_isIn x1 (0 : Int32) (1 : Int32) h1) fun a2 g2 => if a2 = 0 then some ((-1000 : Int32), g2) else if gC g2 r0 = 4 then bR (f_X5_taken r0 (400 : Int32) g2) fun a4 g4 => (pF [4] 15 (.int (0 : Int32)) g4 r0).bind fun h5 => (pF [4] 39 (.int (0 : Int32)) h5 r0).bind fun h6 => if gC h6 r0 = 4 then bR (f_X5_next r0  h6) fun a7 g7 => f_X5_book_L39 (f_X5_book_b62) (f_X5_book_b83) xFu r0 x1 g7 else none else none
theorem t_X5_book {G : xG} (C0 : xC) {l : Launch} {r0 : Nat} {x1 : Int32} (h : mH) {o : Int32 × mH} (H : f_X5_book r0 x1 h = some o) : XR G l mi_X5_book [.ref r0, .int x1] h (some (.int o.1)) o.2 := by
  refine XR.of C0 (by decide) (Nat.le_of_ble_eq_true rfl) (fun C _ _ _ hE => ?_)
  show X G C mi_X5_book 0 [(0, .ref r0), (1, .int x1)] [] h
  unfold f_X5_book at H
  refine x_aload_n 0 rfl dX5_book_0 ?_
  refine x_iconst (0 : Int32) dX5_book_1 ic_0 ?_
  obtain ⟨h1, e1, H⟩ := ob H
  refine x_putf (fp_X5_1 _) rfl rfl e1 dX5_book_2 ?_
  refine x_iload_n 1 rfl dX5_book_5 ?_
  refine x_iconst (0 : Int32) dX5_book_6 ic_0 ?_
  refine x_iconst (1 : Int32) dX5_book_7 ic_1 ?_
  obtain ⟨a2, g2, e2, H⟩ := obR H
  refine x_callS (M' := mi_X5_isIn) (n := 3) (As := [.int x1, .int (0 : Int32), .int (1 : Int32)]) (t_X5_isIn C _ e2) md_X5_isIn ⟨Nat.le_of_ble_eq_true rfl, Nat.le_of_ble_eq_true rfl⟩ q2150 q2151 q131 q2152 rfl (Nat.le_of_ble_eq_true rfl) dX5_book_8 ?_
  refine x_if_ne 18 dX5_book_11 (by decide) (fun c3 => ?_) (fun c3 => ?_)
  · rw [if_neg c3] at H
    refine x_aload_n 0 rfl dX5_book_18 ?_
    refine x_sipush (400 : Int32) dX5_book_19 si_400 ?_
    obtain ⟨c4, H⟩ := oit H
    obtain ⟨a4, g4, e4, H⟩ := obR H
    refine x_callV (M' := mi_X5_taken) (n := 1) (As := [.int (400 : Int32)]) (t_X5_taken C _ e4) c4 rfl rfl md_X5_taken ⟨Nat.le_of_ble_eq_true rfl, Nat.le_of_ble_eq_true rfl⟩ q2096 q2098 qs51 q131 q2099 rfl (Nat.le_of_ble_eq_true rfl) dX5_book_22 ?_
    refine x_aload_n 0 rfl dX5_book_25 ?_
    refine x_iconst (0 : Int32) dX5_book_26 ic_0 ?_
    obtain ⟨h5, e5, H⟩ := ob H
    refine x_putf (fp_X5_174 _) rfl rfl e5 dX5_book_27 ?_
    refine x_aload_n 0 rfl dX5_book_30 ?_
    refine x_iconst (0 : Int32) dX5_book_31 ic_0 ?_
    obtain ⟨h6, e6, H⟩ := ob H
    refine x_putf (fp_X5_418 _) rfl rfl e6 dX5_book_32 ?_
    refine x_aload_n 0 rfl dX5_book_35 ?_
    obtain ⟨c7, H⟩ := oit H
    obtain ⟨a7, g7, e7, H⟩ := obR H
    refine x_callV (M' := mi_X5_next) (n := 0) (As := []) (t_X5_next C _ e7) c7 rfl rfl md_X5_next ⟨Nat.le_of_ble_eq_true rfl, Nat.le_of_ble_eq_true rfl⟩ q2100 q2102 qs52 q131 q2103 rfl (Nat.le_of_ble_eq_true rfl) dX5_book_36 ?_
    exact t_X5_book_L39 hE (t_X5_book_b62 hE) (t_X5_book_b83 hE) xFu _ _ _ H
  · rw [if_pos c3] at H
    refine x_sipush (-1000 : Int32) dX5_book_14 si_m1000 ?_
    obtain rfl := Option.some.inj H
    exact x_iret hE rfl rfl dX5_book_17
abbrev mi_X5_isGood : xM := (cX5_isGood, yX5_isGood, 2, some .boolean, 2)
theorem md_X5_isGood : xMD mi_X5_isGood 1 := ⟨by decide, by decide, by decide +kernel⟩
def f_X5_isGood (r0 : Nat) (x1 : Int32) (h : mH) : Option (Int32 × mH) := (gFr [4] 6 h r0).bind fun v1 => (aI .int h v1 (1 : Int32)).bind fun v2 => bR (f_X5_isIn x1 (0 : Int32) (v2 - (1 : Int32)) h) fun a3 g3 => rZ a3 g3
theorem t_X5_isGood {G : xG} (C0 : xC) {l : Launch} {r0 : Nat} {x1 : Int32} (h : mH) {o : Int32 × mH} (H : f_X5_isGood r0 x1 h = some o) : XR G l mi_X5_isGood [.ref r0, .int x1] h (some (.int o.1)) o.2 := by
  refine XR.of C0 (by decide) (Nat.le_of_ble_eq_true rfl) (fun C _ _ _ hE => ?_)
  show X G C mi_X5_isGood 0 [(0, .ref r0), (1, .int x1)] [] h
  unfold f_X5_isGood at H
  refine x_iload_n 1 rfl dX5_isGood_0 ?_
  refine x_iconst (0 : Int32) dX5_isGood_1 ic_0 ?_
  refine x_aload_n 0 rfl dX5_isGood_2 ?_
  obtain ⟨v1, e1, H⟩ := ob H
  refine x_getf fg_X5_33 (gFr_spec e1) dX5_isGood_3 ?_
  refine x_iconst (1 : Int32) dX5_isGood_6 ic_1 ?_
  obtain ⟨v2, e2, H⟩ := ob H
  refine x_iald e2 dX5_isGood_7 ?_
  refine x_iconst (1 : Int32) dX5_isGood_8 ic_1 ?_
  refine x_isub dX5_isGood_9 ?_
  obtain ⟨a3, g3, e3, H⟩ := obR H
  refine x_callS (M' := mi_X5_isIn) (n := 3) (As := [.int x1, .int (0 : Int32), .int (v2 - (1 : Int32))]) (t_X5_isIn C _ e3) md_X5_isIn ⟨Nat.le_of_ble_eq_true rfl, Nat.le_of_ble_eq_true rfl⟩ q2150 q2151 q131 q2152 rfl (Nat.le_of_ble_eq_true rfl) dX5_isGood_10 ?_
  obtain ⟨c, rfl⟩ := rZ_spec H
  exact x_iret hE rfl c dX5_isGood_13
abbrev mi_X5_buy : xM := (cX5_buy, yX5_buy, 5, some .int, 4)
theorem md_X5_buy : xMD mi_X5_buy 3 := ⟨by decide, by decide, by decide +kernel⟩
def f_X5_buy (r0 : Nat) (x1 : Int32) (x2 : Int32) (x3 : Int32) (h : mH) : Option (Int32 × mH) := (pF [4] 0 (.int (0 : Int32)) h r0).bind fun h1 => if gC h1 r0 = 4 then bR (f_X5_isPerson r0 x1 h1) fun a2 g2 => if a2 = 0 then some ((-1 : Int32), g2) else if gC g2 r0 = 4 then bR (f_X5_isGood r0 x2 g2) fun a4 g4 => if a4 = 0 then some ((-1 : Int32), g4) else if gC g4 r0 = 4 then bR (f_X5_isPerson r0 x3 g4) fun a6 g6 => if a6 = 0 then some ((-1 : Int32), g6) else if gC g6 r0 = 4 then bR (f_X5_whyBuy r0 x1 x2 x3 g6) fun a8 g8 => if a8 ≤ 0 then if gC g8 r0 = 4 then bR (f_X5_keep r0  g8) fun a10 g10 => if gC g10 r0 = 4 then bR (f_X5_buys r0 x1 x2 x3 g10) fun a11 g11 => some ((0 : Int32), g11) else none else none else some (a8, g8) else none else none else none else none
theorem t_X5_buy {G : xG} (C0 : xC) {l : Launch} {r0 : Nat} {x1 : Int32} {x2 : Int32} {x3 : Int32} (h : mH) {o : Int32 × mH} (H : f_X5_buy r0 x1 x2 x3 h = some o) : XR G l mi_X5_buy [.ref r0, .int x1, .int x2, .int x3] h (some (.int o.1)) o.2 := by
  refine XR.of C0 (by decide) (Nat.le_of_ble_eq_true rfl) (fun C _ _ _ hE => ?_)
  show X G C mi_X5_buy 0 [(0, .ref r0), (1, .int x1), (2, .int x2), (3, .int x3)] [] h
  unfold f_X5_buy at H
  refine x_aload_n 0 rfl dX5_buy_0 ?_
  refine x_iconst (0 : Int32) dX5_buy_1 ic_0 ?_
  obtain ⟨h1, e1, H⟩ := ob H
  refine x_putf (fp_X5_1 _) rfl rfl e1 dX5_buy_2 ?_
  refine x_aload_n 0 rfl dX5_buy_5 ?_
  refine x_iload_n 1 rfl dX5_buy_6 ?_
  obtain ⟨c2, H⟩ := oit H
  obtain ⟨a2, g2, e2, H⟩ := obR H
  refine x_callV (M' := mi_X5_isPerson) (n := 1) (As := [.int x1]) (t_X5_isPerson C _ e2) c2 rfl rfl md_X5_isPerson ⟨Nat.le_of_ble_eq_true rfl, Nat.le_of_ble_eq_true rfl⟩ q2200 q2202 qs72 q131 q2203 rfl (Nat.le_of_ble_eq_true rfl) dX5_buy_7 ?_
  refine x_if_eq 29 dX5_buy_10 (by decide) (fun c3 => ?_) (fun c3 => ?_)
  · rw [if_pos c3] at H
    refine x_iconst (-1 : Int32) dX5_buy_29 ic_m1 ?_
    obtain rfl := Option.some.inj H
    exact x_iret hE rfl rfl dX5_buy_30
  · rw [if_neg c3] at H
    refine x_aload_n 0 rfl dX5_buy_13 ?_
    refine x_iload_n 2 rfl dX5_buy_14 ?_
    obtain ⟨c4, H⟩ := oit H
    obtain ⟨a4, g4, e4, H⟩ := obR H
    refine x_callV (M' := mi_X5_isGood) (n := 1) (As := [.int x2]) (t_X5_isGood C _ e4) c4 rfl rfl md_X5_isGood ⟨Nat.le_of_ble_eq_true rfl, Nat.le_of_ble_eq_true rfl⟩ q2224 q2226 qs77 q131 q2227 rfl (Nat.le_of_ble_eq_true rfl) dX5_buy_15 ?_
    refine x_if_eq 29 dX5_buy_18 (by decide) (fun c5 => ?_) (fun c5 => ?_)
    · rw [if_pos c5] at H
      refine x_iconst (-1 : Int32) dX5_buy_29 ic_m1 ?_
      obtain rfl := Option.some.inj H
      exact x_iret hE rfl rfl dX5_buy_30
    · rw [if_neg c5] at H
      refine x_aload_n 0 rfl dX5_buy_21 ?_
      refine x_iload_n 3 rfl dX5_buy_22 ?_
      obtain ⟨c6, H⟩ := oit H
      obtain ⟨a6, g6, e6, H⟩ := obR H
      refine x_callV (M' := mi_X5_isPerson) (n := 1) (As := [.int x3]) (t_X5_isPerson C _ e6) c6 rfl rfl md_X5_isPerson ⟨Nat.le_of_ble_eq_true rfl, Nat.le_of_ble_eq_true rfl⟩ q2200 q2202 qs72 q131 q2203 rfl (Nat.le_of_ble_eq_true rfl) dX5_buy_23 ?_
      refine x_if_ne 31 dX5_buy_26 (by decide) (fun c7 => ?_) (fun c7 => ?_)
      · rw [if_neg c7] at H
        refine x_aload_n 0 rfl dX5_buy_31 ?_
        refine x_iload_n 1 rfl dX5_buy_32 ?_
        refine x_iload_n 2 rfl dX5_buy_33 ?_
        refine x_iload_n 3 rfl dX5_buy_34 ?_
        obtain ⟨c8, H⟩ := oit H
        obtain ⟨a8, g8, e8, H⟩ := obR H
        refine x_callV (M' := mi_X5_whyBuy) (n := 3) (As := [.int x1, .int x2, .int x3]) (t_X5_whyBuy C _ e8) c8 rfl rfl md_X5_whyBuy ⟨Nat.le_of_ble_eq_true rfl, Nat.le_of_ble_eq_true rfl⟩ q2247 q2249 qs79 q131 q2250 rfl (Nat.le_of_ble_eq_true rfl) dX5_buy_35 ?_
        refine x_istore [1, 2, 3, 4, 0] dX5_buy_38 (by decide) rfl ?_
        refine x_iload 4 rfl dX5_buy_40 ?_
        refine x_if_le 48 dX5_buy_42 (by decide) (fun c9 => ?_) (fun c9 => ?_)
        · rw [if_pos c9] at H
          refine x_aload_n 0 rfl dX5_buy_48 ?_
          obtain ⟨c10, H⟩ := oit H
          obtain ⟨a10, g10, e10, H⟩ := obR H
          refine x_callV (M' := mi_X5_keep) (n := 0) (As := []) (t_X5_keep C _ e10) c10 rfl rfl md_X5_keep ⟨Nat.le_of_ble_eq_true rfl, Nat.le_of_ble_eq_true rfl⟩ q2259 q2261 qs82 q131 q2262 rfl (Nat.le_of_ble_eq_true rfl) dX5_buy_49 ?_
          refine x_aload_n 0 rfl dX5_buy_52 ?_
          refine x_iload_n 1 rfl dX5_buy_53 ?_
          refine x_iload_n 2 rfl dX5_buy_54 ?_
          refine x_iload_n 3 rfl dX5_buy_55 ?_
          obtain ⟨c11, H⟩ := oit H
          obtain ⟨a11, g11, e11, H⟩ := obR H
          refine x_callV (M' := mi_X5_buys) (n := 3) (As := [.int x1, .int x2, .int x3]) (t_X5_buys C _ e11) c11 rfl rfl md_X5_buys ⟨Nat.le_of_ble_eq_true rfl, Nat.le_of_ble_eq_true rfl⟩ q2263 q2265 qs83 q131 q2266 rfl (Nat.le_of_ble_eq_true rfl) dX5_buy_56 ?_
          refine x_iconst (0 : Int32) dX5_buy_59 ic_0 ?_
          obtain rfl := Option.some.inj H
          exact x_iret hE rfl rfl dX5_buy_60
        · rw [if_neg c9] at H
          refine x_iload 4 rfl dX5_buy_45 ?_
          obtain rfl := Option.some.inj H
          exact x_iret hE rfl rfl dX5_buy_47
      · rw [if_pos c7] at H
        refine x_iconst (-1 : Int32) dX5_buy_29 ic_m1 ?_
        obtain rfl := Option.some.inj H
        exact x_iret hE rfl rfl dX5_buy_30
abbrev mi_X5_byteAt : xM := (cX5_byteAt, yX5_byteAt, 2, some .int, 2)
theorem md_X5_byteAt : xMD mi_X5_byteAt 1 := ⟨by decide, by decide, by decide +kernel⟩
def f_X5_byteAt (r0 : Nat) (x1 : Int32) (h : mH) : Option (Int32 × mH) := (pF [4] 0 (.int (0 : Int32)) h r0).bind fun h1 => (gFi [4] 37 h1 r0).bind fun v2 => bR (f_X5_isIn x1 (0 : Int32) (v2 - (1 : Int32)) h1) fun a3 g3 => if a3 = 0 then some ((-1 : Int32), g3) else (gFr [4] 36 g3 r0).bind fun v5 => (aI .byte g3 v5 x1).bind fun v6 => some (v6, g3)
theorem t_X5_byteAt {G : xG} (C0 : xC) {l : Launch} {r0 : Nat} {x1 : Int32} (h : mH) {o : Int32 × mH} (H : f_X5_byteAt r0 x1 h = some o) : XR G l mi_X5_byteAt [.ref r0, .int x1] h (some (.int o.1)) o.2 := by
  refine XR.of C0 (by decide) (Nat.le_of_ble_eq_true rfl) (fun C _ _ _ hE => ?_)
  show X G C mi_X5_byteAt 0 [(0, .ref r0), (1, .int x1)] [] h
  unfold f_X5_byteAt at H
  refine x_aload_n 0 rfl dX5_byteAt_0 ?_
  refine x_iconst (0 : Int32) dX5_byteAt_1 ic_0 ?_
  obtain ⟨h1, e1, H⟩ := ob H
  refine x_putf (fp_X5_1 _) rfl rfl e1 dX5_byteAt_2 ?_
  refine x_iload_n 1 rfl dX5_byteAt_5 ?_
  refine x_iconst (0 : Int32) dX5_byteAt_6 ic_0 ?_
  refine x_aload_n 0 rfl dX5_byteAt_7 ?_
  obtain ⟨v2, e2, H⟩ := ob H
  refine x_getf fg_X5_382 (gFi_spec e2) dX5_byteAt_8 ?_
  refine x_iconst (1 : Int32) dX5_byteAt_11 ic_1 ?_
  refine x_isub dX5_byteAt_12 ?_
  obtain ⟨a3, g3, e3, H⟩ := obR H
  refine x_callS (M' := mi_X5_isIn) (n := 3) (As := [.int x1, .int (0 : Int32), .int (v2 - (1 : Int32))]) (t_X5_isIn C _ e3) md_X5_isIn ⟨Nat.le_of_ble_eq_true rfl, Nat.le_of_ble_eq_true rfl⟩ q2150 q2151 q131 q2152 rfl (Nat.le_of_ble_eq_true rfl) dX5_byteAt_13 ?_
  refine x_if_eq 28 dX5_byteAt_16 (by decide) (fun c4 => ?_) (fun c4 => ?_)
  · rw [if_pos c4] at H
    refine x_iconst (-1 : Int32) dX5_byteAt_28 ic_m1 ?_
    obtain rfl := Option.some.inj H
    exact x_iret hE rfl rfl dX5_byteAt_29
  · rw [if_neg c4] at H
    refine x_aload_n 0 rfl dX5_byteAt_19 ?_
    obtain ⟨v5, e5, H⟩ := ob H
    refine x_getf fg_X5_74 (gFr_spec e5) dX5_byteAt_20 ?_
    refine x_iload_n 1 rfl dX5_byteAt_23 ?_
    obtain ⟨v6, e6, H⟩ := ob H
    refine x_bald e6 dX5_byteAt_24 ?_
    refine x_goto (tgt := 29) dX5_byteAt_25 (by decide) ?_
    obtain rfl := Option.some.inj H
    exact x_iret hE rfl rfl dX5_byteAt_29
abbrev mi_X5_laysSteps : xM := (cX5_laysSteps, yX5_laysSteps, 6, none, 3)
theorem md_X5_laysSteps : xMD mi_X5_laysSteps 1 := ⟨by decide, by decide, by decide +kernel⟩
def f_X5_laysSteps_b128 (kb : Nat → Int32 → mH → Option (Unit × mH)) (r0 : Nat) (x2 : Int32) (h : mH) : Option (Unit × mH) := kb r0 (x2 + (1 : Int32)) h
theorem t_X5_laysSteps_b128 {G : xG} {C : xC} {o : Unit × mH} (hE : xEnd G C none o.2) {kb : Nat → Int32 → mH → Option (Unit × mH)} (hkb : ∀ (r0 : Nat) (x2 : Int32) (h : mH), kb r0 x2 h = some o → X G C mi_X5_laysSteps 34 [(0, .ref r0), (2, .int x2)] [] h) (r0 : Nat) (x2 : Int32) (h : mH) (H : f_X5_laysSteps_b128 kb r0 x2 h = some o) : X G C mi_X5_laysSteps 128 [(0, .ref r0), (2, .int x2)] [] h := by
  unfold f_X5_laysSteps_b128 at H
  refine x_iinc 1 (x2 + (1 : Int32)) [1, 0] dX5_laysSteps_128 rfl (ii_1 _) (by decide) rfl ?_
  refine x_goto (tgt := 34) dX5_laysSteps_131 (by decide) ?_
  exact hkb _ _ _ H
def f_X5_laysSteps_b122 (kb : Nat → Int32 → Int32 → mH → Option (Unit × mH)) (k128 : Nat → Int32 → mH → Option (Unit × mH)) (r0 : Nat) (x2 : Int32) (x3 : Int32) (h : mH) : Option (Unit × mH) := kb r0 x2 (x3 + (1 : Int32)) h
theorem t_X5_laysSteps_b122 {G : xG} {C : xC} {o : Unit × mH} (hE : xEnd G C none o.2) {kb : Nat → Int32 → Int32 → mH → Option (Unit × mH)} (hkb : ∀ (r0 : Nat) (x2 : Int32) (x3 : Int32) (h : mH), kb r0 x2 x3 h = some o → X G C mi_X5_laysSteps 42 [(0, .ref r0), (2, .int x2), (3, .int x3)] [] h) {k128 : Nat → Int32 → mH → Option (Unit × mH)} (hk128 : ∀ (r0 : Nat) (x2 : Int32) (h : mH), k128 r0 x2 h = some o → X G C mi_X5_laysSteps 128 [(0, .ref r0), (2, .int x2)] [] h) (r0 : Nat) (x2 : Int32) (x3 : Int32) (h : mH) (H : f_X5_laysSteps_b122 kb k128 r0 x2 x3 h = some o) : X G C mi_X5_laysSteps 122 [(0, .ref r0), (2, .int x2), (3, .int x3)] [] h := by
  unfold f_X5_laysSteps_b122 at H
  refine x_iinc 2 (x3 + (1 : Int32)) [1, 2, 0] dX5_laysSteps_122 rfl (ii_1 _) (by decide) rfl ?_
  refine x_goto (tgt := 42) dX5_laysSteps_125 (by decide) ?_
  exact hkb _ _ _ _ H
def f_X5_laysSteps_b116 (kb : Nat → Int32 → Int32 → Int32 → Int32 → mH → Option (Unit × mH)) (k122 : Nat → Int32 → Int32 → mH → Option (Unit × mH)) (r0 : Nat) (x2 : Int32) (x3 : Int32) (x4 : Int32) (x5 : Int32) (h : mH) : Option (Unit × mH) := kb r0 x2 x3 x4 (x5 + (1 : Int32)) h
theorem t_X5_laysSteps_b116 {G : xG} {C : xC} {o : Unit × mH} (hE : xEnd G C none o.2) {kb : Nat → Int32 → Int32 → Int32 → Int32 → mH → Option (Unit × mH)} (hkb : ∀ (r0 : Nat) (x2 : Int32) (x3 : Int32) (x4 : Int32) (x5 : Int32) (h : mH), kb r0 x2 x3 x4 x5 h = some o → X G C mi_X5_laysSteps 62 [(0, .ref r0), (2, .int x2), (3, .int x3), (4, .int x4), (5, .int x5)] [] h) {k122 : Nat → Int32 → Int32 → mH → Option (Unit × mH)} (hk122 : ∀ (r0 : Nat) (x2 : Int32) (x3 : Int32) (h : mH), k122 r0 x2 x3 h = some o → X G C mi_X5_laysSteps 122 [(0, .ref r0), (2, .int x2), (3, .int x3)] [] h) (r0 : Nat) (x2 : Int32) (x3 : Int32) (x4 : Int32) (x5 : Int32) (h : mH) (H : f_X5_laysSteps_b116 kb k122 r0 x2 x3 x4 x5 h = some o) : X G C mi_X5_laysSteps 116 [(0, .ref r0), (2, .int x2), (3, .int x3), (4, .int x4), (5, .int x5)] [] h := by
  unfold f_X5_laysSteps_b116 at H
  refine x_iinc 4 (x5 + (1 : Int32)) [1, 2, 3, 4, 0] dX5_laysSteps_116 rfl (ii_1 _) (by decide) rfl ?_
  refine x_goto (tgt := 62) dX5_laysSteps_119 (by decide) ?_
  exact hkb _ _ _ _ _ _ H
def f_X5_laysSteps_L62 (k122 : Nat → Int32 → Int32 → mH → Option (Unit × mH)) : Nat → Nat → Int32 → Int32 → Int32 → Int32 → mH → Option (Unit × mH)
  | 0, _, _, _, _, _, _ => none
  | n + 1, r0, x2, x3, x4, x5, h => (gFr [4] 6 h r0).bind fun v6 => (aI .int h v6 (0 : Int32)).bind fun v7 => if v7 ≤ x5 then k122 r0 x2 x3 h else bR (f_X5_bitOf x4 x5 h) fun a9 g9 => if a9 = 0 then f_X5_laysSteps_b116 (f_X5_laysSteps_L62 k122 n) k122 r0 x2 x3 x4 x5 g9 else (gFr [4] 31 g9 r0).bind fun v11 => (aI .int g9 v11 x5).bind fun v12 => (gFr [4] 31 g9 r0).bind fun v13 => (aI .int g9 v13 x3).bind fun v14 => if v14 ≤ (v12 + (1 : Int32)) then f_X5_laysSteps_b116 (f_X5_laysSteps_L62 k122 n) k122 r0 x2 x3 x4 x5 g9 else (gFr [4] 31 g9 r0).bind fun v16 => (gFr [4] 31 g9 r0).bind fun v17 => (aI .int g9 v17 x5).bind fun v18 => (sI .int g9 v16 x3 (v18 + (1 : Int32))).bind fun h19 => f_X5_laysSteps_b116 (f_X5_laysSteps_L62 k122 n) k122 r0 x2 x3 x4 x5 h19
theorem t_X5_laysSteps_L62 {G : xG} {C : xC} {o : Unit × mH} (hE : xEnd G C none o.2) {k122 : Nat → Int32 → Int32 → mH → Option (Unit × mH)} (hk122 : ∀ (r0 : Nat) (x2 : Int32) (x3 : Int32) (h : mH), k122 r0 x2 x3 h = some o → X G C mi_X5_laysSteps 122 [(0, .ref r0), (2, .int x2), (3, .int x3)] [] h) : ∀ (n : Nat) (r0 : Nat) (x2 : Int32) (x3 : Int32) (x4 : Int32) (x5 : Int32) (h : mH), f_X5_laysSteps_L62 k122 n r0 x2 x3 x4 x5 h = some o → X G C mi_X5_laysSteps 62 [(0, .ref r0), (2, .int x2), (3, .int x3), (4, .int x4), (5, .int x5)] [] h := by
  intro n
  induction n with
  | zero => intro r0 x2 x3 x4 x5 h H; exact nomatch (show (none : Option (Unit × mH)) = some o from H)
  | succ n ih =>
    intro r0 x2 x3 x4 x5 h H
    rw [f_X5_laysSteps_L62] at H
    refine x_iload 4 rfl dX5_laysSteps_62 ?_
    refine x_aload_n 0 rfl dX5_laysSteps_64 ?_
    obtain ⟨v6, e6, H⟩ := ob H
    refine x_getf fg_X5_33 (gFr_spec e6) dX5_laysSteps_65 ?_
    refine x_iconst (0 : Int32) dX5_laysSteps_68 ic_0 ?_
    obtain ⟨v7, e7, H⟩ := ob H
    refine x_iald e7 dX5_laysSteps_69 ?_
    refine x_icmp_ge 122 dX5_laysSteps_70 (by decide) (fun c8 => ?_) (fun c8 => ?_)
    · rw [if_pos c8] at H
      refine X.sub [0, 1, 2] rfl ?_
      exact hk122 _ _ _ _ H
    · rw [if_neg c8] at H
      refine x_iload 3 rfl dX5_laysSteps_73 ?_
      refine x_iload 4 rfl dX5_laysSteps_75 ?_
      obtain ⟨a9, g9, e9, H⟩ := obR H
      refine x_callS (M' := mi_X5_bitOf) (n := 2) (As := [.int x4, .int x5]) (t_X5_bitOf C _ e9) md_X5_bitOf ⟨Nat.le_of_ble_eq_true rfl, Nat.le_of_ble_eq_true rfl⟩ q2173 q2174 q131 q2175 rfl (Nat.le_of_ble_eq_true rfl) dX5_laysSteps_77 ?_
      refine x_if_eq 116 dX5_laysSteps_80 (by decide) (fun c10 => ?_) (fun c10 => ?_)
      · rw [if_pos c10] at H
        exact t_X5_laysSteps_b116 hE ih hk122 _ _ _ _ _ _ H
      · rw [if_neg c10] at H
        refine x_aload_n 0 rfl dX5_laysSteps_83 ?_
        obtain ⟨v11, e11, H⟩ := ob H
        refine x_getf fg_X5_65 (gFr_spec e11) dX5_laysSteps_84 ?_
        refine x_iload 4 rfl dX5_laysSteps_87 ?_
        obtain ⟨v12, e12, H⟩ := ob H
        refine x_iald e12 dX5_laysSteps_89 ?_
        refine x_iconst (1 : Int32) dX5_laysSteps_90 ic_1 ?_
        refine x_iadd dX5_laysSteps_91 ?_
        refine x_aload_n 0 rfl dX5_laysSteps_92 ?_
        obtain ⟨v13, e13, H⟩ := ob H
        refine x_getf fg_X5_65 (gFr_spec e13) dX5_laysSteps_93 ?_
        refine x_iload_n 2 rfl dX5_laysSteps_96 ?_
        obtain ⟨v14, e14, H⟩ := ob H
        refine x_iald e14 dX5_laysSteps_97 ?_
        refine x_icmp_ge 116 dX5_laysSteps_98 (by decide) (fun c15 => ?_) (fun c15 => ?_)
        · rw [if_pos c15] at H
          exact t_X5_laysSteps_b116 hE ih hk122 _ _ _ _ _ _ H
        · rw [if_neg c15] at H
          refine x_aload_n 0 rfl dX5_laysSteps_101 ?_
          obtain ⟨v16, e16, H⟩ := ob H
          refine x_getf fg_X5_65 (gFr_spec e16) dX5_laysSteps_102 ?_
          refine x_iload_n 2 rfl dX5_laysSteps_105 ?_
          refine x_aload_n 0 rfl dX5_laysSteps_106 ?_
          obtain ⟨v17, e17, H⟩ := ob H
          refine x_getf fg_X5_65 (gFr_spec e17) dX5_laysSteps_107 ?_
          refine x_iload 4 rfl dX5_laysSteps_110 ?_
          obtain ⟨v18, e18, H⟩ := ob H
          refine x_iald e18 dX5_laysSteps_112 ?_
          refine x_iconst (1 : Int32) dX5_laysSteps_113 ic_1 ?_
          refine x_iadd dX5_laysSteps_114 ?_
          obtain ⟨h19, e19, H⟩ := ob H
          refine x_iast e19 dX5_laysSteps_115 ?_
          exact t_X5_laysSteps_b116 hE ih hk122 _ _ _ _ _ _ H
def f_X5_laysSteps_L42 (k128 : Nat → Int32 → mH → Option (Unit × mH)) : Nat → Nat → Int32 → Int32 → mH → Option (Unit × mH)
  | 0, _, _, _, _ => none
  | n + 1, r0, x2, x3, h => (gFr [4] 6 h r0).bind fun v2 => (aI .int h v2 (0 : Int32)).bind fun v3 => if v3 ≤ x3 then k128 r0 x2 h else if gC h r0 = 4 then bR (f_X5_mayBy r0 x3 h) fun a5 g5 => f_X5_laysSteps_L62 (f_X5_laysSteps_b122 (f_X5_laysSteps_L42 k128 n) k128) xFu r0 x2 x3 a5 (0 : Int32) g5 else none
theorem t_X5_laysSteps_L42 {G : xG} {C : xC} {o : Unit × mH} (hE : xEnd G C none o.2) {k128 : Nat → Int32 → mH → Option (Unit × mH)} (hk128 : ∀ (r0 : Nat) (x2 : Int32) (h : mH), k128 r0 x2 h = some o → X G C mi_X5_laysSteps 128 [(0, .ref r0), (2, .int x2)] [] h) : ∀ (n : Nat) (r0 : Nat) (x2 : Int32) (x3 : Int32) (h : mH), f_X5_laysSteps_L42 k128 n r0 x2 x3 h = some o → X G C mi_X5_laysSteps 42 [(0, .ref r0), (2, .int x2), (3, .int x3)] [] h := by
  intro n
  induction n with
  | zero => intro r0 x2 x3 h H; exact nomatch (show (none : Option (Unit × mH)) = some o from H)
  | succ n ih =>
    intro r0 x2 x3 h H
    rw [f_X5_laysSteps_L42] at H
    refine x_iload_n 2 rfl dX5_laysSteps_42 ?_
    refine x_aload_n 0 rfl dX5_laysSteps_43 ?_
    obtain ⟨v2, e2, H⟩ := ob H
    refine x_getf fg_X5_33 (gFr_spec e2) dX5_laysSteps_44 ?_
    refine x_iconst (0 : Int32) dX5_laysSteps_47 ic_0 ?_
    obtain ⟨v3, e3, H⟩ := ob H
    refine x_iald e3 dX5_laysSteps_48 ?_
    refine x_icmp_ge 128 dX5_laysSteps_49 (by decide) (fun c4 => ?_) (fun c4 => ?_)
    · rw [if_pos c4] at H
      refine X.sub [0, 1] rfl ?_
      exact hk128 _ _ _ H
    · rw [if_neg c4] at H
      refine x_aload_n 0 rfl dX5_laysSteps_52 ?_
      refine x_iload_n 2 rfl dX5_laysSteps_53 ?_
      obtain ⟨c5, H⟩ := oit H
      obtain ⟨a5, g5, e5, H⟩ := obR H
      refine x_callV (M' := mi_X5_mayBy) (n := 1) (As := [.int x3]) (t_X5_mayBy C _ e5) c5 rfl rfl md_X5_mayBy ⟨Nat.le_of_ble_eq_true rfl, Nat.le_of_ble_eq_true rfl⟩ q2212 q2214 qs75 q131 q2215 rfl (Nat.le_of_ble_eq_true rfl) dX5_laysSteps_54 ?_
      refine x_istore [1, 2, 3, 0] dX5_laysSteps_57 (by decide) rfl ?_
      refine x_iconst (0 : Int32) dX5_laysSteps_59 ic_0 ?_
      refine x_istore [1, 2, 3, 4, 0] dX5_laysSteps_60 (by decide) rfl ?_
      exact t_X5_laysSteps_L62 hE (t_X5_laysSteps_b122 hE ih hk128) xFu _ _ _ _ _ _ H
def f_X5_laysSteps_L34 : Nat → Nat → Int32 → mH → Option (Unit × mH)
  | 0, _, _, _ => none
  | n + 1, r0, x2, h => if (7 : Int32) ≤ x2 then some ((), h) else f_X5_laysSteps_L42 (f_X5_laysSteps_b128 (f_X5_laysSteps_L34 n)) xFu r0 x2 (0 : Int32) h
theorem t_X5_laysSteps_L34 {G : xG} {C : xC} {o : Unit × mH} (hE : xEnd G C none o.2) : ∀ (n : Nat) (r0 : Nat) (x2 : Int32) (h : mH), f_X5_laysSteps_L34 n r0 x2 h = some o → X G C mi_X5_laysSteps 34 [(0, .ref r0), (2, .int x2)] [] h := by
  intro n
  induction n with
  | zero => intro r0 x2 h H; exact nomatch (show (none : Option (Unit × mH)) = some o from H)
  | succ n ih =>
    intro r0 x2 h H
    rw [f_X5_laysSteps_L34] at H
    refine x_iload_n 1 rfl dX5_laysSteps_34 ?_
    refine x_bipush (7 : Int32) dX5_laysSteps_35 bi_7 ?_
    refine x_icmp_ge 134 dX5_laysSteps_37 (by decide) (fun c1 => ?_) (fun c1 => ?_)
    · rw [if_pos c1] at H
      obtain rfl := Option.some.inj H
      exact x_vret hE rfl dX5_laysSteps_134
    · rw [if_neg c1] at H
      refine x_iconst (0 : Int32) dX5_laysSteps_40 ic_0 ?_
      refine x_istore_n [1, 2, 0] dX5_laysSteps_41 (by decide) rfl ?_
      exact t_X5_laysSteps_L42 hE (t_X5_laysSteps_b128 hE ih) xFu _ _ _ _ H
def f_X5_laysSteps_b32 (r0 : Nat) (h : mH) : Option (Unit × mH) := f_X5_laysSteps_L34  xFu r0 (0 : Int32) h
theorem t_X5_laysSteps_b32 {G : xG} {C : xC} {o : Unit × mH} (hE : xEnd G C none o.2) (r0 : Nat) (h : mH) (H : f_X5_laysSteps_b32 r0 h = some o) : X G C mi_X5_laysSteps 32 [(0, .ref r0)] [] h := by
  unfold f_X5_laysSteps_b32 at H
  refine x_iconst (0 : Int32) dX5_laysSteps_32 ic_0 ?_
  refine x_istore_n [1, 0] dX5_laysSteps_33 (by decide) rfl ?_
  exact t_X5_laysSteps_L34 hE  xFu _ _ _ H
def f_X5_laysSteps_b25 (kb : Nat → Int32 → Int32 → mH → Option (Unit × mH)) (k32 : Nat → mH → Option (Unit × mH)) (r0 : Nat) (x1 : Int32) (x2 : Int32) (s0 : Nat) (s1 : Int32) (s2 : Int32) (h : mH) : Option (Unit × mH) := (sI .int h s0 s1 s2).bind fun h23 => kb r0 x1 (x2 + (1 : Int32)) h23
theorem t_X5_laysSteps_b25 {G : xG} {C : xC} {o : Unit × mH} (hE : xEnd G C none o.2) {kb : Nat → Int32 → Int32 → mH → Option (Unit × mH)} (hkb : ∀ (r0 : Nat) (x1 : Int32) (x2 : Int32) (h : mH), kb r0 x1 x2 h = some o → X G C mi_X5_laysSteps 2 [(0, .ref r0), (1, .int x1), (2, .int x2)] [] h) {k32 : Nat → mH → Option (Unit × mH)} (hk32 : ∀ (r0 : Nat) (h : mH), k32 r0 h = some o → X G C mi_X5_laysSteps 32 [(0, .ref r0)] [] h) (r0 : Nat) (x1 : Int32) (x2 : Int32) (s0 : Nat) (s1 : Int32) (s2 : Int32) (h : mH) (H : f_X5_laysSteps_b25 kb k32 r0 x1 x2 s0 s1 s2 h = some o) : X G C mi_X5_laysSteps 25 [(0, .ref r0), (1, .int x1), (2, .int x2)] [.int s2, .int s1, .ref s0] h := by
  unfold f_X5_laysSteps_b25 at H
  obtain ⟨h23, e23, H⟩ := ob H
  refine x_iast e23 dX5_laysSteps_25 ?_
  refine x_iinc 2 (x2 + (1 : Int32)) [1, 2, 0] dX5_laysSteps_26 rfl (ii_1 _) (by decide) rfl ?_
  refine x_goto (tgt := 2) dX5_laysSteps_29 (by decide) ?_
  exact hkb _ _ _ _ H
def f_X5_laysSteps_L2 (k32 : Nat → mH → Option (Unit × mH)) : Nat → Nat → Int32 → Int32 → mH → Option (Unit × mH)
  | 0, _, _, _, _ => none
  | n + 1, r0, x1, x2, h => if (7 : Int32) ≤ x2 then k32 r0 h else (gFr [4] 31 h r0).bind fun v21 => if x2 = x1 then f_X5_laysSteps_b25 (f_X5_laysSteps_L2 k32 n) k32 r0 x1 x2 v21 x2 (0 : Int32) h else f_X5_laysSteps_b25 (f_X5_laysSteps_L2 k32 n) k32 r0 x1 x2 v21 x2 (1000000 : Int32) h
theorem t_X5_laysSteps_L2 {G : xG} {C : xC} {o : Unit × mH} (hE : xEnd G C none o.2) {k32 : Nat → mH → Option (Unit × mH)} (hk32 : ∀ (r0 : Nat) (h : mH), k32 r0 h = some o → X G C mi_X5_laysSteps 32 [(0, .ref r0)] [] h) : ∀ (n : Nat) (r0 : Nat) (x1 : Int32) (x2 : Int32) (h : mH), f_X5_laysSteps_L2 k32 n r0 x1 x2 h = some o → X G C mi_X5_laysSteps 2 [(0, .ref r0), (1, .int x1), (2, .int x2)] [] h := by
  intro n
  induction n with
  | zero => intro r0 x1 x2 h H; exact nomatch (show (none : Option (Unit × mH)) = some o from H)
  | succ n ih =>
    intro r0 x1 x2 h H
    rw [f_X5_laysSteps_L2] at H
    refine x_iload_n 2 rfl dX5_laysSteps_2 ?_
    refine x_bipush (7 : Int32) dX5_laysSteps_3 bi_7 ?_
    refine x_icmp_ge 32 dX5_laysSteps_5 (by decide) (fun c20 => ?_) (fun c20 => ?_)
    · rw [if_pos c20] at H
      refine X.sub [0] rfl ?_
      exact hk32 _ _ H
    · rw [if_neg c20] at H
      refine x_aload_n 0 rfl dX5_laysSteps_8 ?_
      obtain ⟨v21, e21, H⟩ := ob H
      refine x_getf fg_X5_65 (gFr_spec e21) dX5_laysSteps_9 ?_
      refine x_iload_n 2 rfl dX5_laysSteps_12 ?_
      refine x_iload_n 2 rfl dX5_laysSteps_13 ?_
      refine x_iload_n 1 rfl dX5_laysSteps_14 ?_
      refine x_icmp_ne 22 dX5_laysSteps_15 (by decide) (fun c22 => ?_) (fun c22 => ?_)
      · rw [if_neg c22] at H
        refine x_ldcw q2330 dX5_laysSteps_22 ?_
        exact t_X5_laysSteps_b25 hE ih hk32 _ _ _ _ _ _ _ H
      · rw [if_pos c22] at H
        refine x_iconst (0 : Int32) dX5_laysSteps_18 ic_0 ?_
        refine x_goto (tgt := 25) dX5_laysSteps_19 (by decide) ?_
        exact t_X5_laysSteps_b25 hE ih hk32 _ _ _ _ _ _ _ H
def f_X5_laysSteps (r0 : Nat) (x1 : Int32) (h : mH) : Option (Unit × mH) := f_X5_laysSteps_L2 (f_X5_laysSteps_b32) xFu r0 x1 (0 : Int32) h
theorem t_X5_laysSteps {G : xG} (C0 : xC) {l : Launch} {r0 : Nat} {x1 : Int32} (h : mH) {o : Unit × mH} (H : f_X5_laysSteps r0 x1 h = some o) : XR G l mi_X5_laysSteps [.ref r0, .int x1] h none o.2 := by
  refine XR.of C0 (by decide) (Nat.le_of_ble_eq_true rfl) (fun C _ _ _ hE => ?_)
  show X G C mi_X5_laysSteps 0 [(0, .ref r0), (1, .int x1)] [] h
  unfold f_X5_laysSteps at H
  refine x_iconst (0 : Int32) dX5_laysSteps_0 ic_0 ?_
  refine x_istore_n [1, 2, 0] dX5_laysSteps_1 (by decide) rfl ?_
  exact t_X5_laysSteps_L2 hE (t_X5_laysSteps_b32 hE) xFu _ _ _ _ H
abbrev mi_X5_chain : xM := (cX5_chain, yX5_chain, 6, some .int, 4)
theorem md_X5_chain : xMD mi_X5_chain 2 := ⟨by decide, by decide, by decide +kernel⟩
def f_X5_chain_b130 (r0 : Nat) (h : mH) : Option (Int32 × mH) := (gFi [4] 33 h r0).bind fun v14 => some (v14, h)
theorem t_X5_chain_b130 {G : xG} {C : xC} {o : Int32 × mH} (hE : xEnd G C (some (.int o.1)) o.2) (r0 : Nat) (h : mH) (H : f_X5_chain_b130 r0 h = some o) : X G C mi_X5_chain 130 [(0, .ref r0)] [] h := by
  unfold f_X5_chain_b130 at H
  refine x_aload_n 0 rfl dX5_chain_130 ?_
  obtain ⟨v14, e14, H⟩ := ob H
  refine x_getf fg_X5_71 (gFi_spec e14) dX5_chain_131 ?_
  obtain rfl := Option.some.inj H
  exact x_iret hE rfl rfl dX5_chain_134
def f_X5_chain_b112 (kb : Nat → Int32 → Int32 → mH → Option (Int32 × mH)) (k130 : Nat → mH → Option (Int32 × mH)) (r0 : Nat) (x4 : Int32) (x5 : Int32) (h : mH) : Option (Int32 × mH) := (gFr [4] 32 h r0).bind fun v17 => (sI .int h v17 x4 x5).bind fun h18 => kb r0 x5 (x4 + (1 : Int32)) h18
theorem t_X5_chain_b112 {G : xG} {C : xC} {o : Int32 × mH} (hE : xEnd G C (some (.int o.1)) o.2) {kb : Nat → Int32 → Int32 → mH → Option (Int32 × mH)} (hkb : ∀ (r0 : Nat) (x3 : Int32) (x4 : Int32) (h : mH), kb r0 x3 x4 h = some o → X G C mi_X5_chain 64 [(0, .ref r0), (3, .int x3), (4, .int x4)] [] h) {k130 : Nat → mH → Option (Int32 × mH)} (hk130 : ∀ (r0 : Nat) (h : mH), k130 r0 h = some o → X G C mi_X5_chain 130 [(0, .ref r0)] [] h) (r0 : Nat) (x4 : Int32) (x5 : Int32) (h : mH) (H : f_X5_chain_b112 kb k130 r0 x4 x5 h = some o) : X G C mi_X5_chain 112 [(0, .ref r0), (4, .int x4), (5, .int x5)] [] h := by
  unfold f_X5_chain_b112 at H
  refine x_aload_n 0 rfl dX5_chain_112 ?_
  obtain ⟨v17, e17, H⟩ := ob H
  refine x_getf fg_X5_68 (gFr_spec e17) dX5_chain_113 ?_
  refine x_iload 1 rfl dX5_chain_116 ?_
  refine x_iload 2 rfl dX5_chain_118 ?_
  obtain ⟨h18, e18, H⟩ := ob H
  refine x_iast e18 dX5_chain_120 ?_
  refine x_iload 2 rfl dX5_chain_121 ?_
  refine x_istore_n [1, 0, 2, 3] dX5_chain_123 (by decide) rfl ?_
  refine x_iinc 2 (x4 + (1 : Int32)) [1, 2, 0, 3] dX5_chain_124 rfl (ii_1 _) (by decide) rfl ?_
  refine x_goto (tgt := 64) dX5_chain_127 (by decide) ?_
  refine X.sub [0, 1, 2] rfl ?_
  exact hkb _ _ _ _ H
def f_X5_chain_b106 (kb : Nat → Int32 → Int32 → Int32 → mH → Option (Int32 × mH)) (k112 : Nat → Int32 → Int32 → mH → Option (Int32 × mH)) (r0 : Nat) (x3 : Int32) (x4 : Int32) (x5 : Int32) (h : mH) : Option (Int32 × mH) := kb r0 x3 x4 (x5 + (1 : Int32)) h
theorem t_X5_chain_b106 {G : xG} {C : xC} {o : Int32 × mH} (hE : xEnd G C (some (.int o.1)) o.2) {kb : Nat → Int32 → Int32 → Int32 → mH → Option (Int32 × mH)} (hkb : ∀ (r0 : Nat) (x3 : Int32) (x4 : Int32) (x5 : Int32) (h : mH), kb r0 x3 x4 x5 h = some o → X G C mi_X5_chain 76 [(0, .ref r0), (3, .int x3), (4, .int x4), (5, .int x5)] [] h) {k112 : Nat → Int32 → Int32 → mH → Option (Int32 × mH)} (hk112 : ∀ (r0 : Nat) (x4 : Int32) (x5 : Int32) (h : mH), k112 r0 x4 x5 h = some o → X G C mi_X5_chain 112 [(0, .ref r0), (4, .int x4), (5, .int x5)] [] h) (r0 : Nat) (x3 : Int32) (x4 : Int32) (x5 : Int32) (h : mH) (H : f_X5_chain_b106 kb k112 r0 x3 x4 x5 h = some o) : X G C mi_X5_chain 106 [(0, .ref r0), (3, .int x3), (4, .int x4), (5, .int x5)] [] h := by
  unfold f_X5_chain_b106 at H
  refine x_iinc 3 (x5 + (1 : Int32)) [1, 2, 3, 0] dX5_chain_106 rfl (ii_1 _) (by decide) rfl ?_
  refine x_goto (tgt := 76) dX5_chain_109 (by decide) ?_
  exact hkb _ _ _ _ _ H
def f_X5_chain_L76 (k112 : Nat → Int32 → Int32 → mH → Option (Int32 × mH)) : Nat → Nat → Int32 → Int32 → Int32 → mH → Option (Int32 × mH)
  | 0, _, _, _, _, _ => none
  | n + 1, r0, x3, x4, x5, h => if gC h r0 = 4 then bR (f_X5_mayBy r0 x3 h) fun a19 g19 => bR (f_X5_bitOf a19 x5 g19) fun a20 g20 => if a20 = 0 then f_X5_chain_b106 (f_X5_chain_L76 k112 n) k112 r0 x3 x4 x5 g20 else (gFr [4] 31 g20 r0).bind fun v22 => (aI .int g20 v22 x5).bind fun v23 => (gFi [4] 33 g20 r0).bind fun v24 => if v23 = (v24 - x4) then k112 r0 x4 x5 g20 else f_X5_chain_b106 (f_X5_chain_L76 k112 n) k112 r0 x3 x4 x5 g20 else none
theorem t_X5_chain_L76 {G : xG} {C : xC} {o : Int32 × mH} (hE : xEnd G C (some (.int o.1)) o.2) {k112 : Nat → Int32 → Int32 → mH → Option (Int32 × mH)} (hk112 : ∀ (r0 : Nat) (x4 : Int32) (x5 : Int32) (h : mH), k112 r0 x4 x5 h = some o → X G C mi_X5_chain 112 [(0, .ref r0), (4, .int x4), (5, .int x5)] [] h) : ∀ (n : Nat) (r0 : Nat) (x3 : Int32) (x4 : Int32) (x5 : Int32) (h : mH), f_X5_chain_L76 k112 n r0 x3 x4 x5 h = some o → X G C mi_X5_chain 76 [(0, .ref r0), (3, .int x3), (4, .int x4), (5, .int x5)] [] h := by
  intro n
  induction n with
  | zero => intro r0 x3 x4 x5 h H; exact nomatch (show (none : Option (Int32 × mH)) = some o from H)
  | succ n ih =>
    intro r0 x3 x4 x5 h H
    rw [f_X5_chain_L76] at H
    refine x_aload_n 0 rfl dX5_chain_76 ?_
    refine x_iload_n 1 rfl dX5_chain_77 ?_
    obtain ⟨c19, H⟩ := oit H
    obtain ⟨a19, g19, e19, H⟩ := obR H
    refine x_callV (M' := mi_X5_mayBy) (n := 1) (As := [.int x3]) (t_X5_mayBy C _ e19) c19 rfl rfl md_X5_mayBy ⟨Nat.le_of_ble_eq_true rfl, Nat.le_of_ble_eq_true rfl⟩ q2212 q2214 qs75 q131 q2215 rfl (Nat.le_of_ble_eq_true rfl) dX5_chain_78 ?_
    refine x_iload 3 rfl dX5_chain_81 ?_
    obtain ⟨a20, g20, e20, H⟩ := obR H
    refine x_callS (M' := mi_X5_bitOf) (n := 2) (As := [.int a19, .int x5]) (t_X5_bitOf C _ e20) md_X5_bitOf ⟨Nat.le_of_ble_eq_true rfl, Nat.le_of_ble_eq_true rfl⟩ q2173 q2174 q131 q2175 rfl (Nat.le_of_ble_eq_true rfl) dX5_chain_83 ?_
    refine x_if_eq 106 dX5_chain_86 (by decide) (fun c21 => ?_) (fun c21 => ?_)
    · rw [if_pos c21] at H
      exact t_X5_chain_b106 hE ih hk112 _ _ _ _ _ H
    · rw [if_neg c21] at H
      refine x_aload_n 0 rfl dX5_chain_89 ?_
      obtain ⟨v22, e22, H⟩ := ob H
      refine x_getf fg_X5_65 (gFr_spec e22) dX5_chain_90 ?_
      refine x_iload 3 rfl dX5_chain_93 ?_
      obtain ⟨v23, e23, H⟩ := ob H
      refine x_iald e23 dX5_chain_95 ?_
      refine x_aload_n 0 rfl dX5_chain_96 ?_
      obtain ⟨v24, e24, H⟩ := ob H
      refine x_getf fg_X5_71 (gFi_spec e24) dX5_chain_97 ?_
      refine x_iload 2 rfl dX5_chain_100 ?_
      refine x_isub dX5_chain_102 ?_
      refine x_icmp_eq 112 dX5_chain_103 (by decide) (fun c25 => ?_) (fun c25 => ?_)
      · rw [if_pos c25] at H
        refine X.sub [0, 2, 3] rfl ?_
        exact hk112 _ _ _ _ H
      · rw [if_neg c25] at H
        exact t_X5_chain_b106 hE ih hk112 _ _ _ _ _ H
def f_X5_chain_L64 (k130 : Nat → mH → Option (Int32 × mH)) : Nat → Nat → Int32 → Int32 → mH → Option (Int32 × mH)
  | 0, _, _, _, _ => none
  | n + 1, r0, x3, x4, h => (gFi [4] 33 h r0).bind fun v15 => if v15 ≤ x4 then k130 r0 h else f_X5_chain_L76 (f_X5_chain_b112 (f_X5_chain_L64 k130 n) k130) xFu r0 x3 x4 (0 : Int32) h
theorem t_X5_chain_L64 {G : xG} {C : xC} {o : Int32 × mH} (hE : xEnd G C (some (.int o.1)) o.2) {k130 : Nat → mH → Option (Int32 × mH)} (hk130 : ∀ (r0 : Nat) (h : mH), k130 r0 h = some o → X G C mi_X5_chain 130 [(0, .ref r0)] [] h) : ∀ (n : Nat) (r0 : Nat) (x3 : Int32) (x4 : Int32) (h : mH), f_X5_chain_L64 k130 n r0 x3 x4 h = some o → X G C mi_X5_chain 64 [(0, .ref r0), (3, .int x3), (4, .int x4)] [] h := by
  intro n
  induction n with
  | zero => intro r0 x3 x4 h H; exact nomatch (show (none : Option (Int32 × mH)) = some o from H)
  | succ n ih =>
    intro r0 x3 x4 h H
    rw [f_X5_chain_L64] at H
    refine x_iload 2 rfl dX5_chain_64 ?_
    refine x_aload_n 0 rfl dX5_chain_66 ?_
    obtain ⟨v15, e15, H⟩ := ob H
    refine x_getf fg_X5_71 (gFi_spec e15) dX5_chain_67 ?_
    refine x_icmp_ge 130 dX5_chain_70 (by decide) (fun c16 => ?_) (fun c16 => ?_)
    · rw [if_pos c16] at H
      refine X.sub [0] rfl ?_
      exact hk130 _ _ H
    · rw [if_neg c16] at H
      refine x_iconst (0 : Int32) dX5_chain_73 ic_0 ?_
      refine x_istore [1, 2, 3, 0] dX5_chain_74 (by decide) rfl ?_
      exact t_X5_chain_L76 hE (t_X5_chain_b112 hE ih hk130) xFu _ _ _ _ _ H
def f_X5_chain (r0 : Nat) (x1 : Int32) (x2 : Int32) (h : mH) : Option (Int32 × mH) := (pF [4] 0 (.int (0 : Int32)) h r0).bind fun h1 => if gC h1 r0 = 4 then bR (f_X5_isPerson r0 x1 h1) fun a2 g2 => if a2 = 0 then some ((-1 : Int32), g2) else if gC g2 r0 = 4 then bR (f_X5_isPerson r0 x2 g2) fun a4 g4 => if a4 = 0 then some ((-1 : Int32), g4) else if x1 = x2 then some ((-1 : Int32), g4) else if gC g4 r0 = 4 then bR (f_X5_laysSteps r0 x2 g4) fun a7 g7 => (gFr [4] 31 g7 r0).bind fun v8 => (aI .int g7 v8 x1).bind fun v9 => if v9 < (1000000 : Int32) then (gFr [4] 31 g7 r0).bind fun v11 => (aI .int g7 v11 x1).bind fun v12 => (pF [4] 33 (.int (v12 - (1 : Int32))) g7 r0).bind fun h13 => f_X5_chain_L64 (f_X5_chain_b130) xFu r0 x1 (0 : Int32) h13 else some ((-1 : Int32), g7) else none else none else none
theorem t_X5_chain {G : xG} (C0 : xC) {l : Launch} {r0 : Nat} {x1 : Int32} {x2 : Int32} (h : mH) {o : Int32 × mH} (H : f_X5_chain r0 x1 x2 h = some o) : XR G l mi_X5_chain [.ref r0, .int x1, .int x2] h (some (.int o.1)) o.2 := by
  refine XR.of C0 (by decide) (Nat.le_of_ble_eq_true rfl) (fun C _ _ _ hE => ?_)
  show X G C mi_X5_chain 0 [(0, .ref r0), (1, .int x1), (2, .int x2)] [] h
  unfold f_X5_chain at H
  refine x_aload_n 0 rfl dX5_chain_0 ?_
  refine x_iconst (0 : Int32) dX5_chain_1 ic_0 ?_
  obtain ⟨h1, e1, H⟩ := ob H
  refine x_putf (fp_X5_1 _) rfl rfl e1 dX5_chain_2 ?_
  refine x_aload_n 0 rfl dX5_chain_5 ?_
  refine x_iload_n 1 rfl dX5_chain_6 ?_
  obtain ⟨c2, H⟩ := oit H
  obtain ⟨a2, g2, e2, H⟩ := obR H
  refine x_callV (M' := mi_X5_isPerson) (n := 1) (As := [.int x1]) (t_X5_isPerson C _ e2) c2 rfl rfl md_X5_isPerson ⟨Nat.le_of_ble_eq_true rfl, Nat.le_of_ble_eq_true rfl⟩ q2200 q2202 qs72 q131 q2203 rfl (Nat.le_of_ble_eq_true rfl) dX5_chain_7 ?_
  refine x_if_eq 26 dX5_chain_10 (by decide) (fun c3 => ?_) (fun c3 => ?_)
  · rw [if_pos c3] at H
    refine x_iconst (-1 : Int32) dX5_chain_26 ic_m1 ?_
    obtain rfl := Option.some.inj H
    exact x_iret hE rfl rfl dX5_chain_27
  · rw [if_neg c3] at H
    refine x_aload_n 0 rfl dX5_chain_13 ?_
    refine x_iload_n 2 rfl dX5_chain_14 ?_
    obtain ⟨c4, H⟩ := oit H
    obtain ⟨a4, g4, e4, H⟩ := obR H
    refine x_callV (M' := mi_X5_isPerson) (n := 1) (As := [.int x2]) (t_X5_isPerson C _ e4) c4 rfl rfl md_X5_isPerson ⟨Nat.le_of_ble_eq_true rfl, Nat.le_of_ble_eq_true rfl⟩ q2200 q2202 qs72 q131 q2203 rfl (Nat.le_of_ble_eq_true rfl) dX5_chain_15 ?_
    refine x_if_eq 26 dX5_chain_18 (by decide) (fun c5 => ?_) (fun c5 => ?_)
    · rw [if_pos c5] at H
      refine x_iconst (-1 : Int32) dX5_chain_26 ic_m1 ?_
      obtain rfl := Option.some.inj H
      exact x_iret hE rfl rfl dX5_chain_27
    · rw [if_neg c5] at H
      refine x_iload_n 1 rfl dX5_chain_21 ?_
      refine x_iload_n 2 rfl dX5_chain_22 ?_
      refine x_icmp_ne 28 dX5_chain_23 (by decide) (fun c6 => ?_) (fun c6 => ?_)
      · rw [if_neg c6] at H
        refine x_aload_n 0 rfl dX5_chain_28 ?_
        refine x_iload_n 2 rfl dX5_chain_29 ?_
        obtain ⟨c7, H⟩ := oit H
        obtain ⟨a7, g7, e7, H⟩ := obR H
        refine x_callV (M' := mi_X5_laysSteps) (n := 1) (As := [.int x2]) (t_X5_laysSteps C _ e7) c7 rfl rfl md_X5_laysSteps ⟨Nat.le_of_ble_eq_true rfl, Nat.le_of_ble_eq_true rfl⟩ q2370 q2372 qs97 q131 q2373 rfl (Nat.le_of_ble_eq_true rfl) dX5_chain_30 ?_
        refine x_aload_n 0 rfl dX5_chain_33 ?_
        obtain ⟨v8, e8, H⟩ := ob H
        refine x_getf fg_X5_65 (gFr_spec e8) dX5_chain_34 ?_
        refine x_iload_n 1 rfl dX5_chain_37 ?_
        obtain ⟨v9, e9, H⟩ := ob H
        refine x_iald e9 dX5_chain_38 ?_
        refine x_ldcw q2330 dX5_chain_39 ?_
        refine x_icmp_lt 47 dX5_chain_42 (by decide) (fun c10 => ?_) (fun c10 => ?_)
        · rw [if_pos c10] at H
          refine x_aload_n 0 rfl dX5_chain_47 ?_
          refine x_aload_n 0 rfl dX5_chain_48 ?_
          obtain ⟨v11, e11, H⟩ := ob H
          refine x_getf fg_X5_65 (gFr_spec e11) dX5_chain_49 ?_
          refine x_iload_n 1 rfl dX5_chain_52 ?_
          obtain ⟨v12, e12, H⟩ := ob H
          refine x_iald e12 dX5_chain_53 ?_
          refine x_iconst (1 : Int32) dX5_chain_54 ic_1 ?_
          refine x_isub dX5_chain_55 ?_
          obtain ⟨h13, e13, H⟩ := ob H
          refine x_putf (fp_X5_71 _) rfl rfl e13 dX5_chain_56 ?_
          refine x_iload_n 1 rfl dX5_chain_59 ?_
          refine x_istore_n [1, 2, 3, 0] dX5_chain_60 (by decide) rfl ?_
          refine x_iconst (0 : Int32) dX5_chain_61 ic_0 ?_
          refine x_istore [1, 2, 3, 4, 0] dX5_chain_62 (by decide) rfl ?_
          refine X.sub [0, 3, 4] rfl ?_
          exact t_X5_chain_L64 hE (t_X5_chain_b130 hE) xFu _ _ _ _ H
        · rw [if_neg c10] at H
          refine x_iconst (-1 : Int32) dX5_chain_45 ic_m1 ?_
          obtain rfl := Option.some.inj H
          exact x_iret hE rfl rfl dX5_chain_46
      · rw [if_pos c6] at H
        refine x_iconst (-1 : Int32) dX5_chain_26 ic_m1 ?_
        obtain rfl := Option.some.inj H
        exact x_iret hE rfl rfl dX5_chain_27
abbrev mi_X5_chainAt : xM := (cX5_chainAt, yX5_chainAt, 2, some .int, 2)
theorem md_X5_chainAt : xMD mi_X5_chainAt 1 := ⟨by decide, by decide, by decide +kernel⟩
def f_X5_chainAt (r0 : Nat) (x1 : Int32) (h : mH) : Option (Int32 × mH) := (pF [4] 0 (.int (0 : Int32)) h r0).bind fun h1 => (gFi [4] 33 h1 r0).bind fun v2 => bR (f_X5_isIn x1 (0 : Int32) (v2 - (1 : Int32)) h1) fun a3 g3 => if a3 = 0 then some ((-1 : Int32), g3) else (gFr [4] 32 g3 r0).bind fun v5 => (aI .int g3 v5 x1).bind fun v6 => some (v6, g3)
theorem t_X5_chainAt {G : xG} (C0 : xC) {l : Launch} {r0 : Nat} {x1 : Int32} (h : mH) {o : Int32 × mH} (H : f_X5_chainAt r0 x1 h = some o) : XR G l mi_X5_chainAt [.ref r0, .int x1] h (some (.int o.1)) o.2 := by
  refine XR.of C0 (by decide) (Nat.le_of_ble_eq_true rfl) (fun C _ _ _ hE => ?_)
  show X G C mi_X5_chainAt 0 [(0, .ref r0), (1, .int x1)] [] h
  unfold f_X5_chainAt at H
  refine x_aload_n 0 rfl dX5_chainAt_0 ?_
  refine x_iconst (0 : Int32) dX5_chainAt_1 ic_0 ?_
  obtain ⟨h1, e1, H⟩ := ob H
  refine x_putf (fp_X5_1 _) rfl rfl e1 dX5_chainAt_2 ?_
  refine x_iload_n 1 rfl dX5_chainAt_5 ?_
  refine x_iconst (0 : Int32) dX5_chainAt_6 ic_0 ?_
  refine x_aload_n 0 rfl dX5_chainAt_7 ?_
  obtain ⟨v2, e2, H⟩ := ob H
  refine x_getf fg_X5_71 (gFi_spec e2) dX5_chainAt_8 ?_
  refine x_iconst (1 : Int32) dX5_chainAt_11 ic_1 ?_
  refine x_isub dX5_chainAt_12 ?_
  obtain ⟨a3, g3, e3, H⟩ := obR H
  refine x_callS (M' := mi_X5_isIn) (n := 3) (As := [.int x1, .int (0 : Int32), .int (v2 - (1 : Int32))]) (t_X5_isIn C _ e3) md_X5_isIn ⟨Nat.le_of_ble_eq_true rfl, Nat.le_of_ble_eq_true rfl⟩ q2150 q2151 q131 q2152 rfl (Nat.le_of_ble_eq_true rfl) dX5_chainAt_13 ?_
  refine x_if_eq 28 dX5_chainAt_16 (by decide) (fun c4 => ?_) (fun c4 => ?_)
  · rw [if_pos c4] at H
    refine x_iconst (-1 : Int32) dX5_chainAt_28 ic_m1 ?_
    obtain rfl := Option.some.inj H
    exact x_iret hE rfl rfl dX5_chainAt_29
  · rw [if_neg c4] at H
    refine x_aload_n 0 rfl dX5_chainAt_19 ?_
    obtain ⟨v5, e5, H⟩ := ob H
    refine x_getf fg_X5_68 (gFr_spec e5) dX5_chainAt_20 ?_
    refine x_iload_n 1 rfl dX5_chainAt_23 ?_
    obtain ⟨v6, e6, H⟩ := ob H
    refine x_iald e6 dX5_chainAt_24 ?_
    refine x_goto (tgt := 29) dX5_chainAt_25 (by decide) ?_
    obtain rfl := Option.some.inj H
    exact x_iret hE rfl rfl dX5_chainAt_29
abbrev mi_X5_clears : xM := (cX5_clears, yX5_clears, 2, none, 1)
theorem md_X5_clears : xMD mi_X5_clears 0 := ⟨by decide, by decide, by decide +kernel⟩
def f_X5_clears_b22 (r0 : Nat) (h : mH) : Option (Unit × mH) := (gFr [4] 7 h r0).bind fun v1 => (sI .int h v1 (2 : Int32) (2 : Int32)).bind fun h2 => (gFr [4] 7 h2 r0).bind fun v3 => (sI .int h2 v3 (3 : Int32) (1 : Int32)).bind fun h4 => some ((), h4)
theorem t_X5_clears_b22 {G : xG} {C : xC} {o : Unit × mH} (hE : xEnd G C none o.2) (r0 : Nat) (h : mH) (H : f_X5_clears_b22 r0 h = some o) : X G C mi_X5_clears 22 [(0, .ref r0)] [] h := by
  unfold f_X5_clears_b22 at H
  refine x_aload_n 0 rfl dX5_clears_22 ?_
  obtain ⟨v1, e1, H⟩ := ob H
  refine x_getf fg_X5_37 (gFr_spec e1) dX5_clears_23 ?_
  refine x_iconst (2 : Int32) dX5_clears_26 ic_2 ?_
  refine x_iconst (2 : Int32) dX5_clears_27 ic_2 ?_
  obtain ⟨h2, e2, H⟩ := ob H
  refine x_iast e2 dX5_clears_28 ?_
  refine x_aload_n 0 rfl dX5_clears_29 ?_
  obtain ⟨v3, e3, H⟩ := ob H
  refine x_getf fg_X5_37 (gFr_spec e3) dX5_clears_30 ?_
  refine x_iconst (3 : Int32) dX5_clears_33 ic_3 ?_
  refine x_iconst (1 : Int32) dX5_clears_34 ic_1 ?_
  obtain ⟨h4, e4, H⟩ := ob H
  refine x_iast e4 dX5_clears_35 ?_
  obtain rfl := Option.some.inj H
  exact x_vret hE rfl dX5_clears_36
def f_X5_clears_L2 (k22 : Nat → mH → Option (Unit × mH)) : Nat → Nat → Int32 → mH → Option (Unit × mH)
  | 0, _, _, _ => none
  | n + 1, r0, x1, h => if (131 : Int32) ≤ x1 then k22 r0 h else (gFr [4] 7 h r0).bind fun v6 => (sI .int h v6 x1 (0 : Int32)).bind fun h7 => (f_X5_clears_L2 k22 n) r0 (x1 + (1 : Int32)) h7
theorem t_X5_clears_L2 {G : xG} {C : xC} {o : Unit × mH} (hE : xEnd G C none o.2) {k22 : Nat → mH → Option (Unit × mH)} (hk22 : ∀ (r0 : Nat) (h : mH), k22 r0 h = some o → X G C mi_X5_clears 22 [(0, .ref r0)] [] h) : ∀ (n : Nat) (r0 : Nat) (x1 : Int32) (h : mH), f_X5_clears_L2 k22 n r0 x1 h = some o → X G C mi_X5_clears 2 [(0, .ref r0), (1, .int x1)] [] h := by
  intro n
  induction n with
  | zero => intro r0 x1 h H; exact nomatch (show (none : Option (Unit × mH)) = some o from H)
  | succ n ih =>
    intro r0 x1 h H
    rw [f_X5_clears_L2] at H
    refine x_iload_n 1 rfl dX5_clears_2 ?_
    refine x_sipush (131 : Int32) dX5_clears_3 si_131 ?_
    refine x_icmp_ge 22 dX5_clears_6 (by decide) (fun c5 => ?_) (fun c5 => ?_)
    · rw [if_pos c5] at H
      refine X.sub [0] rfl ?_
      exact hk22 _ _ H
    · rw [if_neg c5] at H
      refine x_aload_n 0 rfl dX5_clears_9 ?_
      obtain ⟨v6, e6, H⟩ := ob H
      refine x_getf fg_X5_37 (gFr_spec e6) dX5_clears_10 ?_
      refine x_iload_n 1 rfl dX5_clears_13 ?_
      refine x_iconst (0 : Int32) dX5_clears_14 ic_0 ?_
      obtain ⟨h7, e7, H⟩ := ob H
      refine x_iast e7 dX5_clears_15 ?_
      refine x_iinc 1 (x1 + (1 : Int32)) [1, 0] dX5_clears_16 rfl (ii_1 _) (by decide) rfl ?_
      refine x_goto (tgt := 2) dX5_clears_19 (by decide) ?_
      exact ih _ _ _ H
def f_X5_clears (r0 : Nat) (h : mH) : Option (Unit × mH) := f_X5_clears_L2 (f_X5_clears_b22) xFu r0 (0 : Int32) h
theorem t_X5_clears {G : xG} (C0 : xC) {l : Launch} {r0 : Nat} (h : mH) {o : Unit × mH} (H : f_X5_clears r0 h = some o) : XR G l mi_X5_clears [.ref r0] h none o.2 := by
  refine XR.of C0 (by decide) (Nat.le_of_ble_eq_true rfl) (fun C _ _ _ hE => ?_)
  show X G C mi_X5_clears 0 [(0, .ref r0)] [] h
  unfold f_X5_clears at H
  refine x_iconst (0 : Int32) dX5_clears_0 ic_0 ?_
  refine x_istore_n [1, 0] dX5_clears_1 (by decide) rfl ?_
  exact t_X5_clears_L2 hE (t_X5_clears_b22 hE) xFu _ _ _ H
abbrev mi_X5_count : xM := (cX5_count, yX5_count, 2, some .int, 2)
theorem md_X5_count : xMD mi_X5_count 1 := ⟨by decide, by decide, by decide +kernel⟩
def f_X5_count (r0 : Nat) (x1 : Int32) (h : mH) : Option (Int32 × mH) := (pF [4] 0 (.int (0 : Int32)) h r0).bind fun h1 => if x1 = (5 : Int32) then (gFi [4] 2 h1 r0).bind fun v7 => some (v7, h1) else bR (f_X5_isIn x1 (0 : Int32) (4 : Int32) h1) fun a3 g3 => if a3 = 0 then some ((-1 : Int32), g3) else (gFr [4] 6 g3 r0).bind fun v5 => (aI .int g3 v5 x1).bind fun v6 => some (v6, g3)
theorem t_X5_count {G : xG} (C0 : xC) {l : Launch} {r0 : Nat} {x1 : Int32} (h : mH) {o : Int32 × mH} (H : f_X5_count r0 x1 h = some o) : XR G l mi_X5_count [.ref r0, .int x1] h (some (.int o.1)) o.2 := by
  refine XR.of C0 (by decide) (Nat.le_of_ble_eq_true rfl) (fun C _ _ _ hE => ?_)
  show X G C mi_X5_count 0 [(0, .ref r0), (1, .int x1)] [] h
  unfold f_X5_count at H
  refine x_aload_n 0 rfl dX5_count_0 ?_
  refine x_iconst (0 : Int32) dX5_count_1 ic_0 ?_
  obtain ⟨h1, e1, H⟩ := ob H
  refine x_putf (fp_X5_1 _) rfl rfl e1 dX5_count_2 ?_
  refine x_iload_n 1 rfl dX5_count_5 ?_
  refine x_iconst (5 : Int32) dX5_count_6 ic_5 ?_
  refine x_icmp_ne 17 dX5_count_7 (by decide) (fun c2 => ?_) (fun c2 => ?_)
  · rw [if_neg c2] at H
    refine x_iload_n 1 rfl dX5_count_17 ?_
    refine x_iconst (0 : Int32) dX5_count_18 ic_0 ?_
    refine x_iconst (4 : Int32) dX5_count_19 ic_4 ?_
    obtain ⟨a3, g3, e3, H⟩ := obR H
    refine x_callS (M' := mi_X5_isIn) (n := 3) (As := [.int x1, .int (0 : Int32), .int (4 : Int32)]) (t_X5_isIn C _ e3) md_X5_isIn ⟨Nat.le_of_ble_eq_true rfl, Nat.le_of_ble_eq_true rfl⟩ q2150 q2151 q131 q2152 rfl (Nat.le_of_ble_eq_true rfl) dX5_count_20 ?_
    refine x_if_eq 35 dX5_count_23 (by decide) (fun c4 => ?_) (fun c4 => ?_)
    · rw [if_pos c4] at H
      refine x_iconst (-1 : Int32) dX5_count_35 ic_m1 ?_
      obtain rfl := Option.some.inj H
      exact x_iret hE rfl rfl dX5_count_36
    · rw [if_neg c4] at H
      refine x_aload_n 0 rfl dX5_count_26 ?_
      obtain ⟨v5, e5, H⟩ := ob H
      refine x_getf fg_X5_33 (gFr_spec e5) dX5_count_27 ?_
      refine x_iload_n 1 rfl dX5_count_30 ?_
      obtain ⟨v6, e6, H⟩ := ob H
      refine x_iald e6 dX5_count_31 ?_
      refine x_goto (tgt := 36) dX5_count_32 (by decide) ?_
      obtain rfl := Option.some.inj H
      exact x_iret hE rfl rfl dX5_count_36
  · rw [if_pos c2] at H
    refine x_aload_n 0 rfl dX5_count_10 ?_
    obtain ⟨v7, e7, H⟩ := ob H
    refine x_getf fg_X5_7 (gFi_spec e7) dX5_count_11 ?_
    refine x_goto (tgt := 36) dX5_count_14 (by decide) ?_
    obtain rfl := Option.some.inj H
    exact x_iret hE rfl rfl dX5_count_36
abbrev mi_X5_puts : xM := (cX5_puts, yX5_puts, 4, some .boolean, 4)
theorem md_X5_puts : xMD mi_X5_puts 3 := ⟨by decide, by decide, by decide +kernel⟩
def f_X5_puts (r0 : Nat) (x1 : Int32) (x2 : Int32) (x3 : Int32) (h : mH) : Option (Int32 × mH) := if gC h r0 = 4 then bR (f_X5_takes r0 x2 x3 h) fun a1 g1 => if a1 = 0 then some ((0 : Int32), g1) else (gFr [4] 7 g1 r0).bind fun v3 => (gFi [4] 18 g1 r0).bind fun v4 => (sI .int g1 v3 x1 v4).bind fun h5 => some ((1 : Int32), h5) else none
theorem t_X5_puts {G : xG} (C0 : xC) {l : Launch} {r0 : Nat} {x1 : Int32} {x2 : Int32} {x3 : Int32} (h : mH) {o : Int32 × mH} (H : f_X5_puts r0 x1 x2 x3 h = some o) : XR G l mi_X5_puts [.ref r0, .int x1, .int x2, .int x3] h (some (.int o.1)) o.2 := by
  refine XR.of C0 (by decide) (Nat.le_of_ble_eq_true rfl) (fun C _ _ _ hE => ?_)
  show X G C mi_X5_puts 0 [(0, .ref r0), (1, .int x1), (2, .int x2), (3, .int x3)] [] h
  unfold f_X5_puts at H
  refine x_aload_n 0 rfl dX5_puts_0 ?_
  refine x_iload_n 2 rfl dX5_puts_1 ?_
  refine x_iload_n 3 rfl dX5_puts_2 ?_
  obtain ⟨c1, H⟩ := oit H
  obtain ⟨a1, g1, e1, H⟩ := obR H
  refine x_callV (M' := mi_X5_takes) (n := 2) (As := [.int x2, .int x3]) (t_X5_takes C _ e1) c1 rfl rfl md_X5_takes ⟨Nat.le_of_ble_eq_true rfl, Nat.le_of_ble_eq_true rfl⟩ q2146 q2148 qs62 q131 q2149 rfl (Nat.le_of_ble_eq_true rfl) dX5_puts_3 ?_
  refine x_if_ne 11 dX5_puts_6 (by decide) (fun c2 => ?_) (fun c2 => ?_)
  · rw [if_neg c2] at H
    refine x_aload_n 0 rfl dX5_puts_11 ?_
    obtain ⟨v3, e3, H⟩ := ob H
    refine x_getf fg_X5_37 (gFr_spec e3) dX5_puts_12 ?_
    refine x_iload_n 1 rfl dX5_puts_15 ?_
    refine x_aload_n 0 rfl dX5_puts_16 ?_
    obtain ⟨v4, e4, H⟩ := ob H
    refine x_getf fg_X5_193 (gFi_spec e4) dX5_puts_17 ?_
    obtain ⟨h5, e5, H⟩ := ob H
    refine x_iast e5 dX5_puts_20 ?_
    refine x_iconst (1 : Int32) dX5_puts_21 ic_1 ?_
    obtain rfl := Option.some.inj H
    exact x_iret hE rfl rfl dX5_puts_22
  · rw [if_pos c2] at H
    refine x_iconst (0 : Int32) dX5_puts_9 ic_0 ?_
    obtain rfl := Option.some.inj H
    exact x_iret hE rfl rfl dX5_puts_10
abbrev mi_X5_once : xM := (cX5_once, yX5_once, 5, some .boolean, 5)
theorem md_X5_once : xMD mi_X5_once 4 := ⟨by decide, by decide, by decide +kernel⟩
def f_X5_once (r0 : Nat) (x1 : Int32) (x2 : Int32) (x3 : Int32) (x4 : Int32) (h : mH) : Option (Int32 × mH) := (gFi [4] 20 h r0).bind fun v1 => bR (f_X5_bitOf v1 x1 h) fun a2 g2 => if a2 = 0 then (gFi [4] 20 g2 r0).bind fun v4 => (pF [4] 20 (.int (v4 ||| ((1 : Int32) <<< (x1 &&& 31)))) g2 r0).bind fun h5 => if gC h5 r0 = 4 then bR (f_X5_next r0  h5) fun a6 g6 => if gC g6 r0 = 4 then bR (f_X5_puts r0 x2 x3 x4 g6) fun a7 g7 => rZ a7 g7 else none else none else if gC g2 r0 = 4 then bR (f_X5_bad r0 (3 : Int32) g2) fun a8 g8 => rZ a8 g8 else none
theorem t_X5_once {G : xG} (C0 : xC) {l : Launch} {r0 : Nat} {x1 : Int32} {x2 : Int32} {x3 : Int32} {x4 : Int32} (h : mH) {o : Int32 × mH} (H : f_X5_once r0 x1 x2 x3 x4 h = some o) : XR G l mi_X5_once [.ref r0, .int x1, .int x2, .int x3, .int x4] h (some (.int o.1)) o.2 := by
  refine XR.of C0 (by decide) (Nat.le_of_ble_eq_true rfl) (fun C _ _ _ hE => ?_)
  show X G C mi_X5_once 0 [(0, .ref r0), (1, .int x1), (2, .int x2), (3, .int x3), (4, .int x4)] [] h
  unfold f_X5_once at H
  refine x_aload_n 0 rfl dX5_once_0 ?_
  obtain ⟨v1, e1, H⟩ := ob H
  refine x_getf fg_X5_211 (gFi_spec e1) dX5_once_1 ?_
  refine x_iload_n 1 rfl dX5_once_4 ?_
  obtain ⟨a2, g2, e2, H⟩ := obR H
  refine x_callS (M' := mi_X5_bitOf) (n := 2) (As := [.int v1, .int x1]) (t_X5_bitOf C _ e2) md_X5_bitOf ⟨Nat.le_of_ble_eq_true rfl, Nat.le_of_ble_eq_true rfl⟩ q2173 q2174 q131 q2175 rfl (Nat.le_of_ble_eq_true rfl) dX5_once_5 ?_
  refine x_if_eq 17 dX5_once_8 (by decide) (fun c3 => ?_) (fun c3 => ?_)
  · rw [if_pos c3] at H
    refine x_aload_n 0 rfl dX5_once_17 ?_
    refine x_dup dX5_once_18 rfl ?_
    obtain ⟨v4, e4, H⟩ := ob H
    refine x_getf fg_X5_211 (gFi_spec e4) dX5_once_19 ?_
    refine x_iconst (1 : Int32) dX5_once_22 ic_1 ?_
    refine x_iload_n 1 rfl dX5_once_23 ?_
    refine x_ishl dX5_once_24 ?_
    refine x_ior dX5_once_25 ?_
    obtain ⟨h5, e5, H⟩ := ob H
    refine x_putf (fp_X5_211 _) rfl rfl e5 dX5_once_26 ?_
    refine x_aload_n 0 rfl dX5_once_29 ?_
    obtain ⟨c6, H⟩ := oit H
    obtain ⟨a6, g6, e6, H⟩ := obR H
    refine x_callV (M' := mi_X5_next) (n := 0) (As := []) (t_X5_next C _ e6) c6 rfl rfl md_X5_next ⟨Nat.le_of_ble_eq_true rfl, Nat.le_of_ble_eq_true rfl⟩ q2100 q2102 qs52 q131 q2103 rfl (Nat.le_of_ble_eq_true rfl) dX5_once_30 ?_
    refine x_aload_n 0 rfl dX5_once_33 ?_
    refine x_iload_n 2 rfl dX5_once_34 ?_
    refine x_iload_n 3 rfl dX5_once_35 ?_
    refine x_iload 4 rfl dX5_once_36 ?_
    obtain ⟨c7, H⟩ := oit H
    obtain ⟨a7, g7, e7, H⟩ := obR H
    refine x_callV (M' := mi_X5_puts) (n := 3) (As := [.int x2, .int x3, .int x4]) (t_X5_puts C _ e7) c7 rfl rfl md_X5_puts ⟨Nat.le_of_ble_eq_true rfl, Nat.le_of_ble_eq_true rfl⟩ q2142 q2144 qs61 q131 q2145 rfl (Nat.le_of_ble_eq_true rfl) dX5_once_38 ?_
    obtain ⟨c, rfl⟩ := rZ_spec H
    exact x_iret hE rfl c dX5_once_41
  · rw [if_neg c3] at H
    refine x_aload_n 0 rfl dX5_once_11 ?_
    refine x_iconst (3 : Int32) dX5_once_12 ic_3 ?_
    obtain ⟨c8, H⟩ := oit H
    obtain ⟨a8, g8, e8, H⟩ := obR H
    refine x_callV (M' := mi_X5_bad) (n := 1) (As := [.int (3 : Int32)]) (t_X5_bad C _ e8) c8 rfl rfl md_X5_bad ⟨Nat.le_of_ble_eq_true rfl, Nat.le_of_ble_eq_true rfl⟩ q2126 q2128 qs57 q131 q2129 rfl (Nat.le_of_ble_eq_true rfl) dX5_once_13 ?_
    obtain ⟨c, rfl⟩ := rZ_spec H
    exact x_iret hE rfl c dX5_once_16
abbrev mi_X5_fresh : xM := (cX5_fresh, yX5_fresh, 2, some .boolean, 3)
theorem md_X5_fresh : xMD mi_X5_fresh 1 := ⟨by decide, by decide, by decide +kernel⟩
def f_X5_fresh_b43 (r0 : Nat) (h : mH) : Option (Int32 × mH) := if gC h r0 = 4 then bR (f_X5_bad r0 (3 : Int32) h) fun a7 g7 => rZ a7 g7 else none
theorem t_X5_fresh_b43 {G : xG} {C : xC} {o : Int32 × mH} (hE : xEnd G C (some (.int o.1)) o.2) (r0 : Nat) (h : mH) (H : f_X5_fresh_b43 r0 h = some o) : X G C mi_X5_fresh 43 [(0, .ref r0)] [] h := by
  unfold f_X5_fresh_b43 at H
  refine x_aload_n 0 rfl dX5_fresh_43 ?_
  refine x_iconst (3 : Int32) dX5_fresh_44 ic_3 ?_
  obtain ⟨c7, H⟩ := oit H
  obtain ⟨a7, g7, e7, H⟩ := obR H
  refine x_callV (M' := mi_X5_bad) (n := 1) (As := [.int (3 : Int32)]) (t_X5_bad C _ e7) c7 rfl rfl md_X5_bad ⟨Nat.le_of_ble_eq_true rfl, Nat.le_of_ble_eq_true rfl⟩ q2126 q2128 qs57 q131 q2129 rfl (Nat.le_of_ble_eq_true rfl) dX5_fresh_45 ?_
  obtain ⟨c, rfl⟩ := rZ_spec H
  exact x_iret hE rfl c dX5_fresh_48
def f_X5_fresh (r0 : Nat) (x1 : Int32) (h : mH) : Option (Int32 × mH) := if gC h r0 = 4 then bR (f_X5_isName r0  h) fun a1 g1 => if a1 = 0 then if gC g1 r0 = 4 then bR (f_X5_bad r0 (1 : Int32) g1) fun a16 g16 => rZ a16 g16 else none else (gFr [4] 7 g1 r0).bind fun v3 => (aI .int g1 v3 (0 : Int32)).bind fun v4 => if gC g1 r0 = 4 then bR (f_X5_seek r0 (12 : Int32) v4 g1) fun a5 g5 => if 0 ≤ a5 then f_X5_fresh_b43 r0 g5 else (gFr [4] 7 g5 r0).bind fun v8 => (aI .int g5 v8 (1 : Int32)).bind fun v9 => if gC g5 r0 = 4 then bR (f_X5_seek r0 (19 : Int32) v9 g5) fun a10 g10 => if a10 < 0 then (gFr [4] 9 g10 r0).bind fun v12 => (gFl [4] 17 g10 r0).bind fun v13 => (sL g10 v12 x1 v13).bind fun h14 => if gC h14 r0 = 4 then bR (f_X5_next r0  h14) fun a15 g15 => some ((1 : Int32), g15) else none else f_X5_fresh_b43 r0 g10 else none else none else none
theorem t_X5_fresh {G : xG} (C0 : xC) {l : Launch} {r0 : Nat} {x1 : Int32} (h : mH) {o : Int32 × mH} (H : f_X5_fresh r0 x1 h = some o) : XR G l mi_X5_fresh [.ref r0, .int x1] h (some (.int o.1)) o.2 := by
  refine XR.of C0 (by decide) (Nat.le_of_ble_eq_true rfl) (fun C _ _ _ hE => ?_)
  show X G C mi_X5_fresh 0 [(0, .ref r0), (1, .int x1)] [] h
  unfold f_X5_fresh at H
  refine x_aload_n 0 rfl dX5_fresh_0 ?_
  obtain ⟨c1, H⟩ := oit H
  obtain ⟨a1, g1, e1, H⟩ := obR H
  refine x_callV (M' := mi_X5_isName) (n := 0) (As := []) (t_X5_isName C _ e1) c1 rfl rfl md_X5_isName ⟨Nat.le_of_ble_eq_true rfl, Nat.le_of_ble_eq_true rfl⟩ q2134 q2136 qs59 q131 q2137 rfl (Nat.le_of_ble_eq_true rfl) dX5_fresh_1 ?_
  refine x_if_ne 13 dX5_fresh_4 (by decide) (fun c2 => ?_) (fun c2 => ?_)
  · rw [if_neg c2] at H
    refine x_aload_n 0 rfl dX5_fresh_13 ?_
    refine x_bipush (12 : Int32) dX5_fresh_14 bi_12 ?_
    refine x_aload_n 0 rfl dX5_fresh_16 ?_
    obtain ⟨v3, e3, H⟩ := ob H
    refine x_getf fg_X5_37 (gFr_spec e3) dX5_fresh_17 ?_
    refine x_iconst (0 : Int32) dX5_fresh_20 ic_0 ?_
    obtain ⟨v4, e4, H⟩ := ob H
    refine x_iald e4 dX5_fresh_21 ?_
    obtain ⟨c5, H⟩ := oit H
    obtain ⟨a5, g5, e5, H⟩ := obR H
    refine x_callV (M' := mi_X5_seek) (n := 2) (As := [.int (12 : Int32), .int v4]) (t_X5_seek C _ e5) c5 rfl rfl md_X5_seek ⟨Nat.le_of_ble_eq_true rfl, Nat.le_of_ble_eq_true rfl⟩ q2138 q2140 qs60 q131 q2141 rfl (Nat.le_of_ble_eq_true rfl) dX5_fresh_22 ?_
    refine x_if_ge 43 dX5_fresh_25 (by decide) (fun c6 => ?_) (fun c6 => ?_)
    · rw [if_pos c6] at H
      refine X.sub [0] rfl ?_
      exact t_X5_fresh_b43 hE _ _ H
    · rw [if_neg c6] at H
      refine x_aload_n 0 rfl dX5_fresh_28 ?_
      refine x_bipush (19 : Int32) dX5_fresh_29 bi_19 ?_
      refine x_aload_n 0 rfl dX5_fresh_31 ?_
      obtain ⟨v8, e8, H⟩ := ob H
      refine x_getf fg_X5_37 (gFr_spec e8) dX5_fresh_32 ?_
      refine x_iconst (1 : Int32) dX5_fresh_35 ic_1 ?_
      obtain ⟨v9, e9, H⟩ := ob H
      refine x_iald e9 dX5_fresh_36 ?_
      obtain ⟨c10, H⟩ := oit H
      obtain ⟨a10, g10, e10, H⟩ := obR H
      refine x_callV (M' := mi_X5_seek) (n := 2) (As := [.int (19 : Int32), .int v9]) (t_X5_seek C _ e10) c10 rfl rfl md_X5_seek ⟨Nat.le_of_ble_eq_true rfl, Nat.le_of_ble_eq_true rfl⟩ q2138 q2140 qs60 q131 q2141 rfl (Nat.le_of_ble_eq_true rfl) dX5_fresh_37 ?_
      refine x_if_lt 49 dX5_fresh_40 (by decide) (fun c11 => ?_) (fun c11 => ?_)
      · rw [if_pos c11] at H
        refine x_aload_n 0 rfl dX5_fresh_49 ?_
        obtain ⟨v12, e12, H⟩ := ob H
        refine x_getf fg_X5_43 (gFr_spec e12) dX5_fresh_50 ?_
        refine x_iload_n 1 rfl dX5_fresh_53 ?_
        refine x_aload_n 0 rfl dX5_fresh_54 ?_
        obtain ⟨v13, e13, H⟩ := ob H
        refine x_getf fg_X5_170 (gFl_spec e13) dX5_fresh_55 ?_
        obtain ⟨h14, e14, H⟩ := ob H
        refine x_last e14 dX5_fresh_58 ?_
        refine x_aload_n 0 rfl dX5_fresh_59 ?_
        obtain ⟨c15, H⟩ := oit H
        obtain ⟨a15, g15, e15, H⟩ := obR H
        refine x_callV (M' := mi_X5_next) (n := 0) (As := []) (t_X5_next C _ e15) c15 rfl rfl md_X5_next ⟨Nat.le_of_ble_eq_true rfl, Nat.le_of_ble_eq_true rfl⟩ q2100 q2102 qs52 q131 q2103 rfl (Nat.le_of_ble_eq_true rfl) dX5_fresh_60 ?_
        refine x_iconst (1 : Int32) dX5_fresh_63 ic_1 ?_
        obtain rfl := Option.some.inj H
        exact x_iret hE rfl rfl dX5_fresh_64
      · rw [if_neg c11] at H
        refine X.sub [0] rfl ?_
        exact t_X5_fresh_b43 hE _ _ H
  · rw [if_pos c2] at H
    refine x_aload_n 0 rfl dX5_fresh_7 ?_
    refine x_iconst (1 : Int32) dX5_fresh_8 ic_1 ?_
    obtain ⟨c16, H⟩ := oit H
    obtain ⟨a16, g16, e16, H⟩ := obR H
    refine x_callV (M' := mi_X5_bad) (n := 1) (As := [.int (1 : Int32)]) (t_X5_bad C _ e16) c16 rfl rfl md_X5_bad ⟨Nat.le_of_ble_eq_true rfl, Nat.le_of_ble_eq_true rfl⟩ q2126 q2128 qs57 q131 q2129 rfl (Nat.le_of_ble_eq_true rfl) dX5_fresh_9 ?_
    obtain ⟨c, rfl⟩ := rZ_spec H
    exact x_iret hE rfl c dX5_fresh_12
abbrev mi_X5_readGood : xM := (cX5_readGood, yX5_readGood, 2, some .boolean, 4)
theorem md_X5_readGood : xMD mi_X5_readGood 0 := ⟨by decide, by decide, by decide +kernel⟩
def f_X5_readGood (r0 : Nat) (h : mH) : Option (Int32 × mH) := (gFr [4] 7 h r0).bind fun v1 => (aI .int h v1 (1 : Int32)).bind fun v2 => if v2 = (5 : Int32) then if gC h r0 = 4 then bR (f_X5_bad r0 (4 : Int32) h) fun a10 g10 => rZ a10 g10 else none else if gC h r0 = 4 then bR (f_X5_next r0  h) fun a4 g4 => if gC g4 r0 = 4 then bR (f_X5_fresh r0 ((19 : Int32) + v2) g4) fun a5 g5 => if a5 = 0 then some ((0 : Int32), g5) else (gFr [4] 7 g5 r0).bind fun v7 => (aI .int g5 v7 (1 : Int32)).bind fun v8 => (sI .int g5 v7 (1 : Int32) (v8 + (1 : Int32))).bind fun h9 => some ((1 : Int32), h9) else none else none
theorem t_X5_readGood {G : xG} (C0 : xC) {l : Launch} {r0 : Nat} (h : mH) {o : Int32 × mH} (H : f_X5_readGood r0 h = some o) : XR G l mi_X5_readGood [.ref r0] h (some (.int o.1)) o.2 := by
  refine XR.of C0 (by decide) (Nat.le_of_ble_eq_true rfl) (fun C _ _ _ hE => ?_)
  show X G C mi_X5_readGood 0 [(0, .ref r0)] [] h
  unfold f_X5_readGood at H
  refine x_aload_n 0 rfl dX5_readGood_0 ?_
  obtain ⟨v1, e1, H⟩ := ob H
  refine x_getf fg_X5_37 (gFr_spec e1) dX5_readGood_1 ?_
  refine x_iconst (1 : Int32) dX5_readGood_4 ic_1 ?_
  obtain ⟨v2, e2, H⟩ := ob H
  refine x_iald e2 dX5_readGood_5 ?_
  refine x_istore_n [1, 0] dX5_readGood_6 (by decide) rfl ?_
  refine x_iload_n 1 rfl dX5_readGood_7 ?_
  refine x_iconst (5 : Int32) dX5_readGood_8 ic_5 ?_
  refine x_icmp_ne 18 dX5_readGood_9 (by decide) (fun c3 => ?_) (fun c3 => ?_)
  · rw [if_neg c3] at H
    refine x_aload_n 0 rfl dX5_readGood_18 ?_
    obtain ⟨c4, H⟩ := oit H
    obtain ⟨a4, g4, e4, H⟩ := obR H
    refine x_callV (M' := mi_X5_next) (n := 0) (As := []) (t_X5_next C _ e4) c4 rfl rfl md_X5_next ⟨Nat.le_of_ble_eq_true rfl, Nat.le_of_ble_eq_true rfl⟩ q2100 q2102 qs52 q131 q2103 rfl (Nat.le_of_ble_eq_true rfl) dX5_readGood_19 ?_
    refine x_aload_n 0 rfl dX5_readGood_22 ?_
    refine x_bipush (19 : Int32) dX5_readGood_23 bi_19 ?_
    refine x_iload_n 1 rfl dX5_readGood_25 ?_
    refine x_iadd dX5_readGood_26 ?_
    obtain ⟨c5, H⟩ := oit H
    obtain ⟨a5, g5, e5, H⟩ := obR H
    refine x_callV (M' := mi_X5_fresh) (n := 1) (As := [.int ((19 : Int32) + v2)]) (t_X5_fresh C _ e5) c5 rfl rfl md_X5_fresh ⟨Nat.le_of_ble_eq_true rfl, Nat.le_of_ble_eq_true rfl⟩ q2130 q2132 qs58 q131 q2133 rfl (Nat.le_of_ble_eq_true rfl) dX5_readGood_27 ?_
    refine x_if_ne 35 dX5_readGood_30 (by decide) (fun c6 => ?_) (fun c6 => ?_)
    · rw [if_neg c6] at H
      refine x_aload_n 0 rfl dX5_readGood_35 ?_
      obtain ⟨v7, e7, H⟩ := ob H
      refine x_getf fg_X5_37 (gFr_spec e7) dX5_readGood_36 ?_
      refine x_iconst (1 : Int32) dX5_readGood_39 ic_1 ?_
      refine x_dup2 dX5_readGood_40 rfl rfl ?_
      obtain ⟨v8, e8, H⟩ := ob H
      refine x_iald e8 dX5_readGood_41 ?_
      refine x_iconst (1 : Int32) dX5_readGood_42 ic_1 ?_
      refine x_iadd dX5_readGood_43 ?_
      obtain ⟨h9, e9, H⟩ := ob H
      refine x_iast e9 dX5_readGood_44 ?_
      refine x_iconst (1 : Int32) dX5_readGood_45 ic_1 ?_
      obtain rfl := Option.some.inj H
      exact x_iret hE rfl rfl dX5_readGood_46
    · rw [if_pos c6] at H
      refine x_iconst (0 : Int32) dX5_readGood_33 ic_0 ?_
      obtain rfl := Option.some.inj H
      exact x_iret hE rfl rfl dX5_readGood_34
  · rw [if_pos c3] at H
    refine x_aload_n 0 rfl dX5_readGood_12 ?_
    refine x_iconst (4 : Int32) dX5_readGood_13 ic_4 ?_
    obtain ⟨c10, H⟩ := oit H
    obtain ⟨a10, g10, e10, H⟩ := obR H
    refine x_callV (M' := mi_X5_bad) (n := 1) (As := [.int (4 : Int32)]) (t_X5_bad C _ e10) c10 rfl rfl md_X5_bad ⟨Nat.le_of_ble_eq_true rfl, Nat.le_of_ble_eq_true rfl⟩ q2126 q2128 qs57 q131 q2129 rfl (Nat.le_of_ble_eq_true rfl) dX5_readGood_14 ?_
    obtain ⟨c, rfl⟩ := rZ_spec H
    exact x_iret hE rfl c dX5_readGood_17
abbrev mi_X5_readPair : xM := (cX5_readPair, yX5_readPair, 3, some .boolean, 4)
theorem md_X5_readPair : xMD mi_X5_readPair 1 := ⟨by decide, by decide, by decide +kernel⟩
def f_X5_readPair_b69 (r0 : Nat) (h : mH) : Option (Int32 × mH) := if gC h r0 = 4 then bR (f_X5_bad r0 (3 : Int32) h) fun a13 g13 => rZ a13 g13 else none
theorem t_X5_readPair_b69 {G : xG} {C : xC} {o : Int32 × mH} (hE : xEnd G C (some (.int o.1)) o.2) (r0 : Nat) (h : mH) (H : f_X5_readPair_b69 r0 h = some o) : X G C mi_X5_readPair 69 [(0, .ref r0)] [] h := by
  unfold f_X5_readPair_b69 at H
  refine x_aload_n 0 rfl dX5_readPair_69 ?_
  refine x_iconst (3 : Int32) dX5_readPair_70 ic_3 ?_
  obtain ⟨c13, H⟩ := oit H
  obtain ⟨a13, g13, e13, H⟩ := obR H
  refine x_callV (M' := mi_X5_bad) (n := 1) (As := [.int (3 : Int32)]) (t_X5_bad C _ e13) c13 rfl rfl md_X5_bad ⟨Nat.le_of_ble_eq_true rfl, Nat.le_of_ble_eq_true rfl⟩ q2126 q2128 qs57 q131 q2129 rfl (Nat.le_of_ble_eq_true rfl) dX5_readPair_71 ?_
  obtain ⟨c, rfl⟩ := rZ_spec H
  exact x_iret hE rfl c dX5_readPair_74
def f_X5_readPair (r0 : Nat) (x1 : Int32) (h : mH) : Option (Int32 × mH) := if gC h r0 = 4 then bR (f_X5_next r0  h) fun a1 g1 => (gFr [4] 7 g1 r0).bind fun v2 => (aI .int g1 v2 (0 : Int32)).bind fun v3 => if gC g1 r0 = 4 then bR (f_X5_takesName r0 (12 : Int32) v3 g1) fun a4 g4 => if a4 = 0 then some ((0 : Int32), g4) else (gFi [4] 18 g4 r0).bind fun v6 => (gFr [4] 7 g4 r0).bind fun v7 => (aI .int g4 v7 (0 : Int32)).bind fun v8 => if gC g4 r0 = 4 then bR (f_X5_looksAt r0 (12 : Int32) v8 g4) fun a9 g9 => if a9 = 0 then some ((0 : Int32), g9) else (gFi [4] 18 g9 r0).bind fun v11 => if v11 = v6 then f_X5_readPair_b69 r0 g9 else (gFr [4] 7 g9 r0).bind fun v14 => (aI .int g9 v14 (x1 + v6)).bind fun v15 => (gFi [4] 18 g9 r0).bind fun v16 => bR (f_X5_bitOf v15 v16 g9) fun a17 g17 => if a17 = 0 then (gFr [4] 7 g17 r0).bind fun v19 => (aI .int g17 v19 (x1 + v6)).bind fun v20 => (gFi [4] 18 g17 r0).bind fun v21 => (sI .int g17 v19 (x1 + v6) (v20 ||| ((1 : Int32) <<< (v21 &&& 31)))).bind fun h22 => (gFr [4] 7 h22 r0).bind fun v23 => (gFi [4] 18 h22 r0).bind fun v24 => (aI .int h22 v23 (x1 + v24)).bind fun v25 => (sI .int h22 v23 (x1 + v24) (v25 ||| ((1 : Int32) <<< (v6 &&& 31)))).bind fun h26 => if gC h26 r0 = 4 then bR (f_X5_next r0  h26) fun a27 g27 => some ((1 : Int32), g27) else none else f_X5_readPair_b69 r0 g17 else none else none else none
theorem t_X5_readPair {G : xG} (C0 : xC) {l : Launch} {r0 : Nat} {x1 : Int32} (h : mH) {o : Int32 × mH} (H : f_X5_readPair r0 x1 h = some o) : XR G l mi_X5_readPair [.ref r0, .int x1] h (some (.int o.1)) o.2 := by
  refine XR.of C0 (by decide) (Nat.le_of_ble_eq_true rfl) (fun C _ _ _ hE => ?_)
  show X G C mi_X5_readPair 0 [(0, .ref r0), (1, .int x1)] [] h
  unfold f_X5_readPair at H
  refine x_aload_n 0 rfl dX5_readPair_0 ?_
  obtain ⟨c1, H⟩ := oit H
  obtain ⟨a1, g1, e1, H⟩ := obR H
  refine x_callV (M' := mi_X5_next) (n := 0) (As := []) (t_X5_next C _ e1) c1 rfl rfl md_X5_next ⟨Nat.le_of_ble_eq_true rfl, Nat.le_of_ble_eq_true rfl⟩ q2100 q2102 qs52 q131 q2103 rfl (Nat.le_of_ble_eq_true rfl) dX5_readPair_1 ?_
  refine x_aload_n 0 rfl dX5_readPair_4 ?_
  refine x_bipush (12 : Int32) dX5_readPair_5 bi_12 ?_
  refine x_aload_n 0 rfl dX5_readPair_7 ?_
  obtain ⟨v2, e2, H⟩ := ob H
  refine x_getf fg_X5_37 (gFr_spec e2) dX5_readPair_8 ?_
  refine x_iconst (0 : Int32) dX5_readPair_11 ic_0 ?_
  obtain ⟨v3, e3, H⟩ := ob H
  refine x_iald e3 dX5_readPair_12 ?_
  obtain ⟨c4, H⟩ := oit H
  obtain ⟨a4, g4, e4, H⟩ := obR H
  refine x_callV (M' := mi_X5_takesName) (n := 2) (As := [.int (12 : Int32), .int v3]) (t_X5_takesName C _ e4) c4 rfl rfl md_X5_takesName ⟨Nat.le_of_ble_eq_true rfl, Nat.le_of_ble_eq_true rfl⟩ q2161 q2163 qs65 q131 q2164 rfl (Nat.le_of_ble_eq_true rfl) dX5_readPair_13 ?_
  refine x_if_ne 21 dX5_readPair_16 (by decide) (fun c5 => ?_) (fun c5 => ?_)
  · rw [if_neg c5] at H
    refine x_aload_n 0 rfl dX5_readPair_21 ?_
    obtain ⟨v6, e6, H⟩ := ob H
    refine x_getf fg_X5_193 (gFi_spec e6) dX5_readPair_22 ?_
    refine x_istore_n [1, 2, 0] dX5_readPair_25 (by decide) rfl ?_
    refine x_aload_n 0 rfl dX5_readPair_26 ?_
    refine x_bipush (12 : Int32) dX5_readPair_27 bi_12 ?_
    refine x_aload_n 0 rfl dX5_readPair_29 ?_
    obtain ⟨v7, e7, H⟩ := ob H
    refine x_getf fg_X5_37 (gFr_spec e7) dX5_readPair_30 ?_
    refine x_iconst (0 : Int32) dX5_readPair_33 ic_0 ?_
    obtain ⟨v8, e8, H⟩ := ob H
    refine x_iald e8 dX5_readPair_34 ?_
    obtain ⟨c9, H⟩ := oit H
    obtain ⟨a9, g9, e9, H⟩ := obR H
    refine x_callV (M' := mi_X5_looksAt) (n := 2) (As := [.int (12 : Int32), .int v8]) (t_X5_looksAt C _ e9) c9 rfl rfl md_X5_looksAt ⟨Nat.le_of_ble_eq_true rfl, Nat.le_of_ble_eq_true rfl⟩ q2165 q2167 qs66 q131 q2168 rfl (Nat.le_of_ble_eq_true rfl) dX5_readPair_35 ?_
    refine x_if_ne 43 dX5_readPair_38 (by decide) (fun c10 => ?_) (fun c10 => ?_)
    · rw [if_neg c10] at H
      refine x_aload_n 0 rfl dX5_readPair_43 ?_
      obtain ⟨v11, e11, H⟩ := ob H
      refine x_getf fg_X5_193 (gFi_spec e11) dX5_readPair_44 ?_
      refine x_iload_n 2 rfl dX5_readPair_47 ?_
      refine x_icmp_eq 69 dX5_readPair_48 (by decide) (fun c12 => ?_) (fun c12 => ?_)
      · rw [if_pos c12] at H
        refine X.sub [0] rfl ?_
        exact t_X5_readPair_b69 hE _ _ H
      · rw [if_neg c12] at H
        refine x_aload_n 0 rfl dX5_readPair_51 ?_
        obtain ⟨v14, e14, H⟩ := ob H
        refine x_getf fg_X5_37 (gFr_spec e14) dX5_readPair_52 ?_
        refine x_iload_n 1 rfl dX5_readPair_55 ?_
        refine x_iload_n 2 rfl dX5_readPair_56 ?_
        refine x_iadd dX5_readPair_57 ?_
        obtain ⟨v15, e15, H⟩ := ob H
        refine x_iald e15 dX5_readPair_58 ?_
        refine x_aload_n 0 rfl dX5_readPair_59 ?_
        obtain ⟨v16, e16, H⟩ := ob H
        refine x_getf fg_X5_193 (gFi_spec e16) dX5_readPair_60 ?_
        obtain ⟨a17, g17, e17, H⟩ := obR H
        refine x_callS (M' := mi_X5_bitOf) (n := 2) (As := [.int v15, .int v16]) (t_X5_bitOf C _ e17) md_X5_bitOf ⟨Nat.le_of_ble_eq_true rfl, Nat.le_of_ble_eq_true rfl⟩ q2173 q2174 q131 q2175 rfl (Nat.le_of_ble_eq_true rfl) dX5_readPair_63 ?_
        refine x_if_eq 75 dX5_readPair_66 (by decide) (fun c18 => ?_) (fun c18 => ?_)
        · rw [if_pos c18] at H
          refine x_aload_n 0 rfl dX5_readPair_75 ?_
          obtain ⟨v19, e19, H⟩ := ob H
          refine x_getf fg_X5_37 (gFr_spec e19) dX5_readPair_76 ?_
          refine x_iload_n 1 rfl dX5_readPair_79 ?_
          refine x_iload_n 2 rfl dX5_readPair_80 ?_
          refine x_iadd dX5_readPair_81 ?_
          refine x_dup2 dX5_readPair_82 rfl rfl ?_
          obtain ⟨v20, e20, H⟩ := ob H
          refine x_iald e20 dX5_readPair_83 ?_
          refine x_iconst (1 : Int32) dX5_readPair_84 ic_1 ?_
          refine x_aload_n 0 rfl dX5_readPair_85 ?_
          obtain ⟨v21, e21, H⟩ := ob H
          refine x_getf fg_X5_193 (gFi_spec e21) dX5_readPair_86 ?_
          refine x_ishl dX5_readPair_89 ?_
          refine x_ior dX5_readPair_90 ?_
          obtain ⟨h22, e22, H⟩ := ob H
          refine x_iast e22 dX5_readPair_91 ?_
          refine x_aload_n 0 rfl dX5_readPair_92 ?_
          obtain ⟨v23, e23, H⟩ := ob H
          refine x_getf fg_X5_37 (gFr_spec e23) dX5_readPair_93 ?_
          refine x_iload_n 1 rfl dX5_readPair_96 ?_
          refine x_aload_n 0 rfl dX5_readPair_97 ?_
          obtain ⟨v24, e24, H⟩ := ob H
          refine x_getf fg_X5_193 (gFi_spec e24) dX5_readPair_98 ?_
          refine x_iadd dX5_readPair_101 ?_
          refine x_dup2 dX5_readPair_102 rfl rfl ?_
          obtain ⟨v25, e25, H⟩ := ob H
          refine x_iald e25 dX5_readPair_103 ?_
          refine x_iconst (1 : Int32) dX5_readPair_104 ic_1 ?_
          refine x_iload_n 2 rfl dX5_readPair_105 ?_
          refine x_ishl dX5_readPair_106 ?_
          refine x_ior dX5_readPair_107 ?_
          obtain ⟨h26, e26, H⟩ := ob H
          refine x_iast e26 dX5_readPair_108 ?_
          refine x_aload_n 0 rfl dX5_readPair_109 ?_
          obtain ⟨c27, H⟩ := oit H
          obtain ⟨a27, g27, e27, H⟩ := obR H
          refine x_callV (M' := mi_X5_next) (n := 0) (As := []) (t_X5_next C _ e27) c27 rfl rfl md_X5_next ⟨Nat.le_of_ble_eq_true rfl, Nat.le_of_ble_eq_true rfl⟩ q2100 q2102 qs52 q131 q2103 rfl (Nat.le_of_ble_eq_true rfl) dX5_readPair_110 ?_
          refine x_iconst (1 : Int32) dX5_readPair_113 ic_1 ?_
          obtain rfl := Option.some.inj H
          exact x_iret hE rfl rfl dX5_readPair_114
        · rw [if_neg c18] at H
          refine X.sub [0] rfl ?_
          exact t_X5_readPair_b69 hE _ _ H
    · rw [if_pos c10] at H
      refine x_iconst (0 : Int32) dX5_readPair_41 ic_0 ?_
      obtain rfl := Option.some.inj H
      exact x_iret hE rfl rfl dX5_readPair_42
  · rw [if_pos c5] at H
    refine x_iconst (0 : Int32) dX5_readPair_19 ic_0 ?_
    obtain rfl := Option.some.inj H
    exact x_iret hE rfl rfl dX5_readPair_20
abbrev mi_X5_readPerson : xM := (cX5_readPerson, yX5_readPerson, 2, some .boolean, 5)
theorem md_X5_readPerson : xMD mi_X5_readPerson 0 := ⟨by decide, by decide, by decide +kernel⟩
def f_X5_readPerson (r0 : Nat) (h : mH) : Option (Int32 × mH) := (gFr [4] 7 h r0).bind fun v1 => (aI .int h v1 (0 : Int32)).bind fun v2 => if v2 = (7 : Int32) then if gC h r0 = 4 then bR (f_X5_bad r0 (4 : Int32) h) fun a12 g12 => rZ a12 g12 else none else if gC h r0 = 4 then bR (f_X5_next r0  h) fun a4 g4 => if gC g4 r0 = 4 then bR (f_X5_fresh r0 ((12 : Int32) + v2) g4) fun a5 g5 => if a5 = 0 then some ((0 : Int32), g5) else if gC g5 r0 = 4 then bR (f_X5_puts r0 ((5 : Int32) + v2) (0 : Int32) (99 : Int32) g5) fun a7 g7 => if a7 = 0 then some ((0 : Int32), g7) else (gFr [4] 7 g7 r0).bind fun v9 => (aI .int g7 v9 (0 : Int32)).bind fun v10 => (sI .int g7 v9 (0 : Int32) (v10 + (1 : Int32))).bind fun h11 => some ((1 : Int32), h11) else none else none else none
theorem t_X5_readPerson {G : xG} (C0 : xC) {l : Launch} {r0 : Nat} (h : mH) {o : Int32 × mH} (H : f_X5_readPerson r0 h = some o) : XR G l mi_X5_readPerson [.ref r0] h (some (.int o.1)) o.2 := by
  refine XR.of C0 (by decide) (Nat.le_of_ble_eq_true rfl) (fun C _ _ _ hE => ?_)
  show X G C mi_X5_readPerson 0 [(0, .ref r0)] [] h
  unfold f_X5_readPerson at H
  refine x_aload_n 0 rfl dX5_readPerson_0 ?_
  obtain ⟨v1, e1, H⟩ := ob H
  refine x_getf fg_X5_37 (gFr_spec e1) dX5_readPerson_1 ?_
  refine x_iconst (0 : Int32) dX5_readPerson_4 ic_0 ?_
  obtain ⟨v2, e2, H⟩ := ob H
  refine x_iald e2 dX5_readPerson_5 ?_
  refine x_istore_n [1, 0] dX5_readPerson_6 (by decide) rfl ?_
  refine x_iload_n 1 rfl dX5_readPerson_7 ?_
  refine x_bipush (7 : Int32) dX5_readPerson_8 bi_7 ?_
  refine x_icmp_ne 19 dX5_readPerson_10 (by decide) (fun c3 => ?_) (fun c3 => ?_)
  · rw [if_neg c3] at H
    refine x_aload_n 0 rfl dX5_readPerson_19 ?_
    obtain ⟨c4, H⟩ := oit H
    obtain ⟨a4, g4, e4, H⟩ := obR H
    refine x_callV (M' := mi_X5_next) (n := 0) (As := []) (t_X5_next C _ e4) c4 rfl rfl md_X5_next ⟨Nat.le_of_ble_eq_true rfl, Nat.le_of_ble_eq_true rfl⟩ q2100 q2102 qs52 q131 q2103 rfl (Nat.le_of_ble_eq_true rfl) dX5_readPerson_20 ?_
    refine x_aload_n 0 rfl dX5_readPerson_23 ?_
    refine x_bipush (12 : Int32) dX5_readPerson_24 bi_12 ?_
    refine x_iload_n 1 rfl dX5_readPerson_26 ?_
    refine x_iadd dX5_readPerson_27 ?_
    obtain ⟨c5, H⟩ := oit H
    obtain ⟨a5, g5, e5, H⟩ := obR H
    refine x_callV (M' := mi_X5_fresh) (n := 1) (As := [.int ((12 : Int32) + v2)]) (t_X5_fresh C _ e5) c5 rfl rfl md_X5_fresh ⟨Nat.le_of_ble_eq_true rfl, Nat.le_of_ble_eq_true rfl⟩ q2130 q2132 qs58 q131 q2133 rfl (Nat.le_of_ble_eq_true rfl) dX5_readPerson_28 ?_
    refine x_if_eq 47 dX5_readPerson_31 (by decide) (fun c6 => ?_) (fun c6 => ?_)
    · rw [if_pos c6] at H
      refine x_iconst (0 : Int32) dX5_readPerson_47 ic_0 ?_
      obtain rfl := Option.some.inj H
      exact x_iret hE rfl rfl dX5_readPerson_48
    · rw [if_neg c6] at H
      refine x_aload_n 0 rfl dX5_readPerson_34 ?_
      refine x_iconst (5 : Int32) dX5_readPerson_35 ic_5 ?_
      refine x_iload_n 1 rfl dX5_readPerson_36 ?_
      refine x_iadd dX5_readPerson_37 ?_
      refine x_iconst (0 : Int32) dX5_readPerson_38 ic_0 ?_
      refine x_bipush (99 : Int32) dX5_readPerson_39 bi_99 ?_
      obtain ⟨c7, H⟩ := oit H
      obtain ⟨a7, g7, e7, H⟩ := obR H
      refine x_callV (M' := mi_X5_puts) (n := 3) (As := [.int ((5 : Int32) + v2), .int (0 : Int32), .int (99 : Int32)]) (t_X5_puts C _ e7) c7 rfl rfl md_X5_puts ⟨Nat.le_of_ble_eq_true rfl, Nat.le_of_ble_eq_true rfl⟩ q2142 q2144 qs61 q131 q2145 rfl (Nat.le_of_ble_eq_true rfl) dX5_readPerson_41 ?_
      refine x_if_ne 49 dX5_readPerson_44 (by decide) (fun c8 => ?_) (fun c8 => ?_)
      · rw [if_neg c8] at H
        refine x_aload_n 0 rfl dX5_readPerson_49 ?_
        obtain ⟨v9, e9, H⟩ := ob H
        refine x_getf fg_X5_37 (gFr_spec e9) dX5_readPerson_50 ?_
        refine x_iconst (0 : Int32) dX5_readPerson_53 ic_0 ?_
        refine x_dup2 dX5_readPerson_54 rfl rfl ?_
        obtain ⟨v10, e10, H⟩ := ob H
        refine x_iald e10 dX5_readPerson_55 ?_
        refine x_iconst (1 : Int32) dX5_readPerson_56 ic_1 ?_
        refine x_iadd dX5_readPerson_57 ?_
        obtain ⟨h11, e11, H⟩ := ob H
        refine x_iast e11 dX5_readPerson_58 ?_
        refine x_iconst (1 : Int32) dX5_readPerson_59 ic_1 ?_
        obtain rfl := Option.some.inj H
        exact x_iret hE rfl rfl dX5_readPerson_60
      · rw [if_pos c8] at H
        refine x_iconst (0 : Int32) dX5_readPerson_47 ic_0 ?_
        obtain rfl := Option.some.inj H
        exact x_iret hE rfl rfl dX5_readPerson_48
  · rw [if_pos c3] at H
    refine x_aload_n 0 rfl dX5_readPerson_13 ?_
    refine x_iconst (4 : Int32) dX5_readPerson_14 ic_4 ?_
    obtain ⟨c12, H⟩ := oit H
    obtain ⟨a12, g12, e12, H⟩ := obR H
    refine x_callV (M' := mi_X5_bad) (n := 1) (As := [.int (4 : Int32)]) (t_X5_bad C _ e12) c12 rfl rfl md_X5_bad ⟨Nat.le_of_ble_eq_true rfl, Nat.le_of_ble_eq_true rfl⟩ q2126 q2128 qs57 q131 q2129 rfl (Nat.le_of_ble_eq_true rfl) dX5_readPerson_15 ?_
    obtain ⟨c, rfl⟩ := rZ_spec H
    exact x_iret hE rfl c dX5_readPerson_18
abbrev mi_X5_readTrade : xM := (cX5_readTrade, yX5_readTrade, 3, some .boolean, 5)
theorem md_X5_readTrade : xMD mi_X5_readTrade 1 := ⟨by decide, by decide, by decide +kernel⟩
def f_X5_readTrade_b76 (r0 : Nat) (h : mH) : Option (Int32 × mH) := if gC h r0 = 4 then bR (f_X5_bad r0 (3 : Int32) h) fun a15 g15 => rZ a15 g15 else none
theorem t_X5_readTrade_b76 {G : xG} {C : xC} {o : Int32 × mH} (hE : xEnd G C (some (.int o.1)) o.2) (r0 : Nat) (h : mH) (H : f_X5_readTrade_b76 r0 h = some o) : X G C mi_X5_readTrade 76 [(0, .ref r0)] [] h := by
  unfold f_X5_readTrade_b76 at H
  refine x_aload_n 0 rfl dX5_readTrade_76 ?_
  refine x_iconst (3 : Int32) dX5_readTrade_77 ic_3 ?_
  obtain ⟨c15, H⟩ := oit H
  obtain ⟨a15, g15, e15, H⟩ := obR H
  refine x_callV (M' := mi_X5_bad) (n := 1) (As := [.int (3 : Int32)]) (t_X5_bad C _ e15) c15 rfl rfl md_X5_bad ⟨Nat.le_of_ble_eq_true rfl, Nat.le_of_ble_eq_true rfl⟩ q2126 q2128 qs57 q131 q2129 rfl (Nat.le_of_ble_eq_true rfl) dX5_readTrade_78 ?_
  obtain ⟨c, rfl⟩ := rZ_spec H
  exact x_iret hE rfl c dX5_readTrade_81
def f_X5_readTrade (r0 : Nat) (x1 : Int32) (h : mH) : Option (Int32 × mH) := if gC h r0 = 4 then bR (f_X5_next r0  h) fun a1 g1 => (gFr [4] 7 g1 r0).bind fun v2 => (aI .int g1 v2 (0 : Int32)).bind fun v3 => if gC g1 r0 = 4 then bR (f_X5_takesName r0 (12 : Int32) v3 g1) fun a4 g4 => if a4 = 0 then some ((0 : Int32), g4) else (gFi [4] 18 g4 r0).bind fun v6 => (gFr [4] 7 g4 r0).bind fun v7 => (aI .int g4 v7 (1 : Int32)).bind fun v8 => if gC g4 r0 = 4 then bR (f_X5_looksAt r0 (19 : Int32) v8 g4) fun a9 g9 => if a9 = 0 then some ((0 : Int32), g9) else (gFi [4] 18 g9 r0).bind fun v11 => (gFr [4] 7 g9 r0).bind fun v12 => (aI .int g9 v12 ((47 : Int32) + (((5 : Int32) * v6) + v11))).bind fun v13 => if 0 < v13 then f_X5_readTrade_b76 r0 g9 else (gFr [4] 7 g9 r0).bind fun v16 => (aI .int g9 v16 ((82 : Int32) + (((5 : Int32) * v6) + v11))).bind fun v17 => if v17 ≤ 0 then if gC g9 r0 = 4 then bR (f_X5_next r0  g9) fun a19 g19 => if x1 = 0 then if gC g19 r0 = 4 then bR (f_X5_puts r0 ((82 : Int32) + (((5 : Int32) * v6) + v11)) (1 : Int32) (9 : Int32) g19) fun a28 g28 => rZ a28 g28 else none else if gC g19 r0 = 4 then bR (f_X5_puts r0 ((12 : Int32) + (((5 : Int32) * v6) + v11)) (1 : Int32) (9 : Int32) g19) fun a21 g21 => if a21 = 0 then some ((0 : Int32), g21) else if gC g21 r0 = 4 then bR (f_X5_puts r0 ((47 : Int32) + (((5 : Int32) * v6) + v11)) (0 : Int32) (20 : Int32) g21) fun a23 g23 => if a23 = 0 then some ((0 : Int32), g23) else (gFr [4] 7 g23 r0).bind fun v25 => (aI .int g23 v25 ((47 : Int32) + (((5 : Int32) * v6) + v11))).bind fun v26 => (sI .int g23 v25 ((47 : Int32) + (((5 : Int32) * v6) + v11)) (v26 + (1 : Int32))).bind fun h27 => some ((1 : Int32), h27) else none else none else none else f_X5_readTrade_b76 r0 g9 else none else none else none
theorem t_X5_readTrade {G : xG} (C0 : xC) {l : Launch} {r0 : Nat} {x1 : Int32} (h : mH) {o : Int32 × mH} (H : f_X5_readTrade r0 x1 h = some o) : XR G l mi_X5_readTrade [.ref r0, .int x1] h (some (.int o.1)) o.2 := by
  refine XR.of C0 (by decide) (Nat.le_of_ble_eq_true rfl) (fun C _ _ _ hE => ?_)
  show X G C mi_X5_readTrade 0 [(0, .ref r0), (1, .int x1)] [] h
  unfold f_X5_readTrade at H
  refine x_aload_n 0 rfl dX5_readTrade_0 ?_
  obtain ⟨c1, H⟩ := oit H
  obtain ⟨a1, g1, e1, H⟩ := obR H
  refine x_callV (M' := mi_X5_next) (n := 0) (As := []) (t_X5_next C _ e1) c1 rfl rfl md_X5_next ⟨Nat.le_of_ble_eq_true rfl, Nat.le_of_ble_eq_true rfl⟩ q2100 q2102 qs52 q131 q2103 rfl (Nat.le_of_ble_eq_true rfl) dX5_readTrade_1 ?_
  refine x_aload_n 0 rfl dX5_readTrade_4 ?_
  refine x_bipush (12 : Int32) dX5_readTrade_5 bi_12 ?_
  refine x_aload_n 0 rfl dX5_readTrade_7 ?_
  obtain ⟨v2, e2, H⟩ := ob H
  refine x_getf fg_X5_37 (gFr_spec e2) dX5_readTrade_8 ?_
  refine x_iconst (0 : Int32) dX5_readTrade_11 ic_0 ?_
  obtain ⟨v3, e3, H⟩ := ob H
  refine x_iald e3 dX5_readTrade_12 ?_
  obtain ⟨c4, H⟩ := oit H
  obtain ⟨a4, g4, e4, H⟩ := obR H
  refine x_callV (M' := mi_X5_takesName) (n := 2) (As := [.int (12 : Int32), .int v3]) (t_X5_takesName C _ e4) c4 rfl rfl md_X5_takesName ⟨Nat.le_of_ble_eq_true rfl, Nat.le_of_ble_eq_true rfl⟩ q2161 q2163 qs65 q131 q2164 rfl (Nat.le_of_ble_eq_true rfl) dX5_readTrade_13 ?_
  refine x_if_ne 21 dX5_readTrade_16 (by decide) (fun c5 => ?_) (fun c5 => ?_)
  · rw [if_neg c5] at H
    refine x_iconst (5 : Int32) dX5_readTrade_21 ic_5 ?_
    refine x_aload_n 0 rfl dX5_readTrade_22 ?_
    obtain ⟨v6, e6, H⟩ := ob H
    refine x_getf fg_X5_193 (gFi_spec e6) dX5_readTrade_23 ?_
    refine x_imul dX5_readTrade_26 ?_
    refine x_istore_n [1, 2, 0] dX5_readTrade_27 (by decide) rfl ?_
    refine x_aload_n 0 rfl dX5_readTrade_28 ?_
    refine x_bipush (19 : Int32) dX5_readTrade_29 bi_19 ?_
    refine x_aload_n 0 rfl dX5_readTrade_31 ?_
    obtain ⟨v7, e7, H⟩ := ob H
    refine x_getf fg_X5_37 (gFr_spec e7) dX5_readTrade_32 ?_
    refine x_iconst (1 : Int32) dX5_readTrade_35 ic_1 ?_
    obtain ⟨v8, e8, H⟩ := ob H
    refine x_iald e8 dX5_readTrade_36 ?_
    obtain ⟨c9, H⟩ := oit H
    obtain ⟨a9, g9, e9, H⟩ := obR H
    refine x_callV (M' := mi_X5_looksAt) (n := 2) (As := [.int (19 : Int32), .int v8]) (t_X5_looksAt C _ e9) c9 rfl rfl md_X5_looksAt ⟨Nat.le_of_ble_eq_true rfl, Nat.le_of_ble_eq_true rfl⟩ q2165 q2167 qs66 q131 q2168 rfl (Nat.le_of_ble_eq_true rfl) dX5_readTrade_37 ?_
    refine x_if_ne 45 dX5_readTrade_40 (by decide) (fun c10 => ?_) (fun c10 => ?_)
    · rw [if_neg c10] at H
      refine x_iload_n 2 rfl dX5_readTrade_45 ?_
      refine x_aload_n 0 rfl dX5_readTrade_46 ?_
      obtain ⟨v11, e11, H⟩ := ob H
      refine x_getf fg_X5_193 (gFi_spec e11) dX5_readTrade_47 ?_
      refine x_iadd dX5_readTrade_50 ?_
      refine x_istore_n [1, 2, 0] dX5_readTrade_51 (by decide) rfl ?_
      refine x_aload_n 0 rfl dX5_readTrade_52 ?_
      obtain ⟨v12, e12, H⟩ := ob H
      refine x_getf fg_X5_37 (gFr_spec e12) dX5_readTrade_53 ?_
      refine x_bipush (47 : Int32) dX5_readTrade_56 bi_47 ?_
      refine x_iload_n 2 rfl dX5_readTrade_58 ?_
      refine x_iadd dX5_readTrade_59 ?_
      obtain ⟨v13, e13, H⟩ := ob H
      refine x_iald e13 dX5_readTrade_60 ?_
      refine x_if_gt 76 dX5_readTrade_61 (by decide) (fun c14 => ?_) (fun c14 => ?_)
      · rw [if_pos c14] at H
        refine X.sub [0] rfl ?_
        exact t_X5_readTrade_b76 hE _ _ H
      · rw [if_neg c14] at H
        refine x_aload_n 0 rfl dX5_readTrade_64 ?_
        obtain ⟨v16, e16, H⟩ := ob H
        refine x_getf fg_X5_37 (gFr_spec e16) dX5_readTrade_65 ?_
        refine x_bipush (82 : Int32) dX5_readTrade_68 bi_82 ?_
        refine x_iload_n 2 rfl dX5_readTrade_70 ?_
        refine x_iadd dX5_readTrade_71 ?_
        obtain ⟨v17, e17, H⟩ := ob H
        refine x_iald e17 dX5_readTrade_72 ?_
        refine x_if_le 82 dX5_readTrade_73 (by decide) (fun c18 => ?_) (fun c18 => ?_)
        · rw [if_pos c18] at H
          refine x_aload_n 0 rfl dX5_readTrade_82 ?_
          obtain ⟨c19, H⟩ := oit H
          obtain ⟨a19, g19, e19, H⟩ := obR H
          refine x_callV (M' := mi_X5_next) (n := 0) (As := []) (t_X5_next C _ e19) c19 rfl rfl md_X5_next ⟨Nat.le_of_ble_eq_true rfl, Nat.le_of_ble_eq_true rfl⟩ q2100 q2102 qs52 q131 q2103 rfl (Nat.le_of_ble_eq_true rfl) dX5_readTrade_83 ?_
          refine x_iload_n 1 rfl dX5_readTrade_86 ?_
          refine x_if_ne 102 dX5_readTrade_87 (by decide) (fun c20 => ?_) (fun c20 => ?_)
          · rw [if_neg c20] at H
            refine x_aload_n 0 rfl dX5_readTrade_102 ?_
            refine x_bipush (12 : Int32) dX5_readTrade_103 bi_12 ?_
            refine x_iload_n 2 rfl dX5_readTrade_105 ?_
            refine x_iadd dX5_readTrade_106 ?_
            refine x_iconst (1 : Int32) dX5_readTrade_107 ic_1 ?_
            refine x_bipush (9 : Int32) dX5_readTrade_108 bi_9 ?_
            obtain ⟨c21, H⟩ := oit H
            obtain ⟨a21, g21, e21, H⟩ := obR H
            refine x_callV (M' := mi_X5_puts) (n := 3) (As := [.int ((12 : Int32) + (((5 : Int32) * v6) + v11)), .int (1 : Int32), .int (9 : Int32)]) (t_X5_puts C _ e21) c21 rfl rfl md_X5_puts ⟨Nat.le_of_ble_eq_true rfl, Nat.le_of_ble_eq_true rfl⟩ q2142 q2144 qs61 q131 q2145 rfl (Nat.le_of_ble_eq_true rfl) dX5_readTrade_110 ?_
            refine x_if_eq 130 dX5_readTrade_113 (by decide) (fun c22 => ?_) (fun c22 => ?_)
            · rw [if_pos c22] at H
              refine x_iconst (0 : Int32) dX5_readTrade_130 ic_0 ?_
              obtain rfl := Option.some.inj H
              exact x_iret hE rfl rfl dX5_readTrade_131
            · rw [if_neg c22] at H
              refine x_aload_n 0 rfl dX5_readTrade_116 ?_
              refine x_bipush (47 : Int32) dX5_readTrade_117 bi_47 ?_
              refine x_iload_n 2 rfl dX5_readTrade_119 ?_
              refine x_iadd dX5_readTrade_120 ?_
              refine x_iconst (0 : Int32) dX5_readTrade_121 ic_0 ?_
              refine x_bipush (20 : Int32) dX5_readTrade_122 bi_20 ?_
              obtain ⟨c23, H⟩ := oit H
              obtain ⟨a23, g23, e23, H⟩ := obR H
              refine x_callV (M' := mi_X5_puts) (n := 3) (As := [.int ((47 : Int32) + (((5 : Int32) * v6) + v11)), .int (0 : Int32), .int (20 : Int32)]) (t_X5_puts C _ e23) c23 rfl rfl md_X5_puts ⟨Nat.le_of_ble_eq_true rfl, Nat.le_of_ble_eq_true rfl⟩ q2142 q2144 qs61 q131 q2145 rfl (Nat.le_of_ble_eq_true rfl) dX5_readTrade_124 ?_
              refine x_if_ne 132 dX5_readTrade_127 (by decide) (fun c24 => ?_) (fun c24 => ?_)
              · rw [if_neg c24] at H
                refine x_aload_n 0 rfl dX5_readTrade_132 ?_
                obtain ⟨v25, e25, H⟩ := ob H
                refine x_getf fg_X5_37 (gFr_spec e25) dX5_readTrade_133 ?_
                refine x_bipush (47 : Int32) dX5_readTrade_136 bi_47 ?_
                refine x_iload_n 2 rfl dX5_readTrade_138 ?_
                refine x_iadd dX5_readTrade_139 ?_
                refine x_dup2 dX5_readTrade_140 rfl rfl ?_
                obtain ⟨v26, e26, H⟩ := ob H
                refine x_iald e26 dX5_readTrade_141 ?_
                refine x_iconst (1 : Int32) dX5_readTrade_142 ic_1 ?_
                refine x_iadd dX5_readTrade_143 ?_
                obtain ⟨h27, e27, H⟩ := ob H
                refine x_iast e27 dX5_readTrade_144 ?_
                refine x_iconst (1 : Int32) dX5_readTrade_145 ic_1 ?_
                obtain rfl := Option.some.inj H
                exact x_iret hE rfl rfl dX5_readTrade_146
              · rw [if_pos c24] at H
                refine x_iconst (0 : Int32) dX5_readTrade_130 ic_0 ?_
                obtain rfl := Option.some.inj H
                exact x_iret hE rfl rfl dX5_readTrade_131
          · rw [if_pos c20] at H
            refine x_aload_n 0 rfl dX5_readTrade_90 ?_
            refine x_bipush (82 : Int32) dX5_readTrade_91 bi_82 ?_
            refine x_iload_n 2 rfl dX5_readTrade_93 ?_
            refine x_iadd dX5_readTrade_94 ?_
            refine x_iconst (1 : Int32) dX5_readTrade_95 ic_1 ?_
            refine x_bipush (9 : Int32) dX5_readTrade_96 bi_9 ?_
            obtain ⟨c28, H⟩ := oit H
            obtain ⟨a28, g28, e28, H⟩ := obR H
            refine x_callV (M' := mi_X5_puts) (n := 3) (As := [.int ((82 : Int32) + (((5 : Int32) * v6) + v11)), .int (1 : Int32), .int (9 : Int32)]) (t_X5_puts C _ e28) c28 rfl rfl md_X5_puts ⟨Nat.le_of_ble_eq_true rfl, Nat.le_of_ble_eq_true rfl⟩ q2142 q2144 qs61 q131 q2145 rfl (Nat.le_of_ble_eq_true rfl) dX5_readTrade_98 ?_
            obtain ⟨c, rfl⟩ := rZ_spec H
            exact x_iret hE rfl c dX5_readTrade_101
        · rw [if_neg c18] at H
          refine X.sub [0] rfl ?_
          exact t_X5_readTrade_b76 hE _ _ H
    · rw [if_pos c10] at H
      refine x_iconst (0 : Int32) dX5_readTrade_43 ic_0 ?_
      obtain rfl := Option.some.inj H
      exact x_iret hE rfl rfl dX5_readTrade_44
  · rw [if_pos c5] at H
    refine x_iconst (0 : Int32) dX5_readTrade_19 ic_0 ?_
    obtain rfl := Option.some.inj H
    exact x_iret hE rfl rfl dX5_readTrade_20
abbrev mi_X5_line : xM := (cX5_line, yX5_line, 1, some .boolean, 6)
theorem md_X5_line : xMD mi_X5_line 0 := ⟨by decide, by decide, by decide +kernel⟩
def f_X5_line (r0 : Nat) (h : mH) : Option (Int32 × mH) := if gC h r0 = 4 then bR (f_X5_isWord r0 (123581014175598 : Int64) h) fun a1 g1 => if a1 = 0 then if gC g1 r0 = 4 then bR (f_X5_isWord r0 (1735356260 : Int64) g1) fun a3 g3 => if a3 = 0 then if gC g3 r0 = 4 then bR (f_X5_isWord r0 (495622843507 : Int64) g3) fun a5 g5 => if a5 = 0 then if gC g5 r0 = 4 then bR (f_X5_isWord r0 (512735736947 : Int64) g5) fun a7 g7 => if a7 = 0 then if gC g7 r0 = 4 then bR (f_X5_isWord r0 (461414299507 : Int64) g7) fun a9 g9 => if a9 = 0 then if gC g9 r0 = 4 then bR (f_X5_isWord r0 (1718576499 : Int64) g9) fun a11 g11 => if a11 = 0 then if gC g11 r0 = 4 then bR (f_X5_isWord r0 (431197613171 : Int64) g11) fun a13 g13 => if a13 = 0 then if gC g13 r0 = 4 then bR (f_X5_isWord r0 (508507548787 : Int64) g13) fun a15 g15 => if a15 = 0 then if gC g15 r0 = 4 then bR (f_X5_isWord r0 (1650814060 : Int64) g15) fun a17 g17 => if a17 = 0 then if gC g17 r0 = 4 then bR (f_X5_bad r0 (1 : Int32) g17) fun a19 g19 => rZ a19 g19 else none else if gC g17 r0 = 4 then bR (f_X5_once r0 (2 : Int32) (4 : Int32) (2 : Int32) (30 : Int32) g17) fun a20 g20 => rZ a20 g20 else none else none else if gC g15 r0 = 4 then bR (f_X5_once r0 (1 : Int32) (3 : Int32) (0 : Int32) (9 : Int32) g15) fun a21 g21 => rZ a21 g21 else none else none else if gC g13 r0 = 4 then bR (f_X5_once r0 (0 : Int32) (2 : Int32) (1 : Int32) (9 : Int32) g13) fun a22 g22 => rZ a22 g22 else none else none else if gC g11 r0 = 4 then bR (f_X5_readPair r0 (124 : Int32) g11) fun a23 g23 => rZ a23 g23 else none else none else if gC g9 r0 = 4 then bR (f_X5_readPair r0 (117 : Int32) g9) fun a24 g24 => rZ a24 g24 else none else none else if gC g7 r0 = 4 then bR (f_X5_readTrade r0 (0 : Int32) g7) fun a25 g25 => rZ a25 g25 else none else none else if gC g5 r0 = 4 then bR (f_X5_readTrade r0 (1 : Int32) g5) fun a26 g26 => rZ a26 g26 else none else none else if gC g3 r0 = 4 then bR (f_X5_readGood r0  g3) fun a27 g27 => rZ a27 g27 else none else none else if gC g1 r0 = 4 then bR (f_X5_readPerson r0  g1) fun a28 g28 => rZ a28 g28 else none else none
theorem t_X5_line {G : xG} (C0 : xC) {l : Launch} {r0 : Nat} (h : mH) {o : Int32 × mH} (H : f_X5_line r0 h = some o) : XR G l mi_X5_line [.ref r0] h (some (.int o.1)) o.2 := by
  refine XR.of C0 (by decide) (Nat.le_of_ble_eq_true rfl) (fun C _ _ _ hE => ?_)
  show X G C mi_X5_line 0 [(0, .ref r0)] [] h
  unfold f_X5_line at H
  refine x_aload_n 0 rfl dX5_line_0 ?_
  refine x_ldc2 q1905 dX5_line_1 ?_
  obtain ⟨c1, H⟩ := oit H
  obtain ⟨a1, g1, e1, H⟩ := obR H
  refine x_callV (M' := mi_X5_isWord) (n := 1) (As := [.long (123581014175598 : Int64)]) (t_X5_isWord C _ e1) c1 rfl rfl md_X5_isWord ⟨Nat.le_of_ble_eq_true rfl, Nat.le_of_ble_eq_true rfl⟩ q2118 q2120 qs55 q131 q2121 rfl (Nat.le_of_ble_eq_true rfl) dX5_line_4 ?_
  refine x_if_eq 15 dX5_line_7 (by decide) (fun c2 => ?_) (fun c2 => ?_)
  · rw [if_pos c2] at H
    refine x_aload_n 0 rfl dX5_line_15 ?_
    refine x_ldc2 q1906 dX5_line_16 ?_
    obtain ⟨c3, H⟩ := oit H
    obtain ⟨a3, g3, e3, H⟩ := obR H
    refine x_callV (M' := mi_X5_isWord) (n := 1) (As := [.long (1735356260 : Int64)]) (t_X5_isWord C _ e3) c3 rfl rfl md_X5_isWord ⟨Nat.le_of_ble_eq_true rfl, Nat.le_of_ble_eq_true rfl⟩ q2118 q2120 qs55 q131 q2121 rfl (Nat.le_of_ble_eq_true rfl) dX5_line_19 ?_
    refine x_if_eq 30 dX5_line_22 (by decide) (fun c4 => ?_) (fun c4 => ?_)
    · rw [if_pos c4] at H
      refine x_aload_n 0 rfl dX5_line_30 ?_
      refine x_ldc2 q1907 dX5_line_31 ?_
      obtain ⟨c5, H⟩ := oit H
      obtain ⟨a5, g5, e5, H⟩ := obR H
      refine x_callV (M' := mi_X5_isWord) (n := 1) (As := [.long (495622843507 : Int64)]) (t_X5_isWord C _ e5) c5 rfl rfl md_X5_isWord ⟨Nat.le_of_ble_eq_true rfl, Nat.le_of_ble_eq_true rfl⟩ q2118 q2120 qs55 q131 q2121 rfl (Nat.le_of_ble_eq_true rfl) dX5_line_34 ?_
      refine x_if_eq 46 dX5_line_37 (by decide) (fun c6 => ?_) (fun c6 => ?_)
      · rw [if_pos c6] at H
        refine x_aload_n 0 rfl dX5_line_46 ?_
        refine x_ldc2 q1908 dX5_line_47 ?_
        obtain ⟨c7, H⟩ := oit H
        obtain ⟨a7, g7, e7, H⟩ := obR H
        refine x_callV (M' := mi_X5_isWord) (n := 1) (As := [.long (512735736947 : Int64)]) (t_X5_isWord C _ e7) c7 rfl rfl md_X5_isWord ⟨Nat.le_of_ble_eq_true rfl, Nat.le_of_ble_eq_true rfl⟩ q2118 q2120 qs55 q131 q2121 rfl (Nat.le_of_ble_eq_true rfl) dX5_line_50 ?_
        refine x_if_eq 62 dX5_line_53 (by decide) (fun c8 => ?_) (fun c8 => ?_)
        · rw [if_pos c8] at H
          refine x_aload_n 0 rfl dX5_line_62 ?_
          refine x_ldc2 q1909 dX5_line_63 ?_
          obtain ⟨c9, H⟩ := oit H
          obtain ⟨a9, g9, e9, H⟩ := obR H
          refine x_callV (M' := mi_X5_isWord) (n := 1) (As := [.long (461414299507 : Int64)]) (t_X5_isWord C _ e9) c9 rfl rfl md_X5_isWord ⟨Nat.le_of_ble_eq_true rfl, Nat.le_of_ble_eq_true rfl⟩ q2118 q2120 qs55 q131 q2121 rfl (Nat.le_of_ble_eq_true rfl) dX5_line_66 ?_
          refine x_if_eq 79 dX5_line_69 (by decide) (fun c10 => ?_) (fun c10 => ?_)
          · rw [if_pos c10] at H
            refine x_aload_n 0 rfl dX5_line_79 ?_
            refine x_ldc2 q1910 dX5_line_80 ?_
            obtain ⟨c11, H⟩ := oit H
            obtain ⟨a11, g11, e11, H⟩ := obR H
            refine x_callV (M' := mi_X5_isWord) (n := 1) (As := [.long (1718576499 : Int64)]) (t_X5_isWord C _ e11) c11 rfl rfl md_X5_isWord ⟨Nat.le_of_ble_eq_true rfl, Nat.le_of_ble_eq_true rfl⟩ q2118 q2120 qs55 q131 q2121 rfl (Nat.le_of_ble_eq_true rfl) dX5_line_83 ?_
            refine x_if_eq 96 dX5_line_86 (by decide) (fun c12 => ?_) (fun c12 => ?_)
            · rw [if_pos c12] at H
              refine x_aload_n 0 rfl dX5_line_96 ?_
              refine x_ldc2 q1911 dX5_line_97 ?_
              obtain ⟨c13, H⟩ := oit H
              obtain ⟨a13, g13, e13, H⟩ := obR H
              refine x_callV (M' := mi_X5_isWord) (n := 1) (As := [.long (431197613171 : Int64)]) (t_X5_isWord C _ e13) c13 rfl rfl md_X5_isWord ⟨Nat.le_of_ble_eq_true rfl, Nat.le_of_ble_eq_true rfl⟩ q2118 q2120 qs55 q131 q2121 rfl (Nat.le_of_ble_eq_true rfl) dX5_line_100 ?_
              refine x_if_eq 116 dX5_line_103 (by decide) (fun c14 => ?_) (fun c14 => ?_)
              · rw [if_pos c14] at H
                refine x_aload_n 0 rfl dX5_line_116 ?_
                refine x_ldc2 q1912 dX5_line_117 ?_
                obtain ⟨c15, H⟩ := oit H
                obtain ⟨a15, g15, e15, H⟩ := obR H
                refine x_callV (M' := mi_X5_isWord) (n := 1) (As := [.long (508507548787 : Int64)]) (t_X5_isWord C _ e15) c15 rfl rfl md_X5_isWord ⟨Nat.le_of_ble_eq_true rfl, Nat.le_of_ble_eq_true rfl⟩ q2118 q2120 qs55 q131 q2121 rfl (Nat.le_of_ble_eq_true rfl) dX5_line_120 ?_
                refine x_if_eq 136 dX5_line_123 (by decide) (fun c16 => ?_) (fun c16 => ?_)
                · rw [if_pos c16] at H
                  refine x_aload_n 0 rfl dX5_line_136 ?_
                  refine x_ldc2 q1913 dX5_line_137 ?_
                  obtain ⟨c17, H⟩ := oit H
                  obtain ⟨a17, g17, e17, H⟩ := obR H
                  refine x_callV (M' := mi_X5_isWord) (n := 1) (As := [.long (1650814060 : Int64)]) (t_X5_isWord C _ e17) c17 rfl rfl md_X5_isWord ⟨Nat.le_of_ble_eq_true rfl, Nat.le_of_ble_eq_true rfl⟩ q2118 q2120 qs55 q131 q2121 rfl (Nat.le_of_ble_eq_true rfl) dX5_line_140 ?_
                  refine x_if_eq 158 dX5_line_143 (by decide) (fun c18 => ?_) (fun c18 => ?_)
                  · rw [if_pos c18] at H
                    refine x_aload_n 0 rfl dX5_line_158 ?_
                    refine x_iconst (1 : Int32) dX5_line_159 ic_1 ?_
                    obtain ⟨c19, H⟩ := oit H
                    obtain ⟨a19, g19, e19, H⟩ := obR H
                    refine x_callV (M' := mi_X5_bad) (n := 1) (As := [.int (1 : Int32)]) (t_X5_bad C _ e19) c19 rfl rfl md_X5_bad ⟨Nat.le_of_ble_eq_true rfl, Nat.le_of_ble_eq_true rfl⟩ q2126 q2128 qs57 q131 q2129 rfl (Nat.le_of_ble_eq_true rfl) dX5_line_160 ?_
                    obtain ⟨c, rfl⟩ := rZ_spec H
                    exact x_iret hE rfl c dX5_line_163
                  · rw [if_neg c18] at H
                    refine x_aload_n 0 rfl dX5_line_146 ?_
                    refine x_iconst (2 : Int32) dX5_line_147 ic_2 ?_
                    refine x_iconst (4 : Int32) dX5_line_148 ic_4 ?_
                    refine x_iconst (2 : Int32) dX5_line_149 ic_2 ?_
                    refine x_bipush (30 : Int32) dX5_line_150 bi_30 ?_
                    obtain ⟨c20, H⟩ := oit H
                    obtain ⟨a20, g20, e20, H⟩ := obR H
                    refine x_callV (M' := mi_X5_once) (n := 4) (As := [.int (2 : Int32), .int (4 : Int32), .int (2 : Int32), .int (30 : Int32)]) (t_X5_once C _ e20) c20 rfl rfl md_X5_once ⟨Nat.le_of_ble_eq_true rfl, Nat.le_of_ble_eq_true rfl⟩ q2176 q2178 qs68 q131 q2179 rfl (Nat.le_of_ble_eq_true rfl) dX5_line_152 ?_
                    refine x_goto (tgt := 163) dX5_line_155 (by decide) ?_
                    obtain ⟨c, rfl⟩ := rZ_spec H
                    exact x_iret hE rfl c dX5_line_163
                · rw [if_neg c16] at H
                  refine x_aload_n 0 rfl dX5_line_126 ?_
                  refine x_iconst (1 : Int32) dX5_line_127 ic_1 ?_
                  refine x_iconst (3 : Int32) dX5_line_128 ic_3 ?_
                  refine x_iconst (0 : Int32) dX5_line_129 ic_0 ?_
                  refine x_bipush (9 : Int32) dX5_line_130 bi_9 ?_
                  obtain ⟨c21, H⟩ := oit H
                  obtain ⟨a21, g21, e21, H⟩ := obR H
                  refine x_callV (M' := mi_X5_once) (n := 4) (As := [.int (1 : Int32), .int (3 : Int32), .int (0 : Int32), .int (9 : Int32)]) (t_X5_once C _ e21) c21 rfl rfl md_X5_once ⟨Nat.le_of_ble_eq_true rfl, Nat.le_of_ble_eq_true rfl⟩ q2176 q2178 qs68 q131 q2179 rfl (Nat.le_of_ble_eq_true rfl) dX5_line_132 ?_
                  obtain ⟨c, rfl⟩ := rZ_spec H
                  exact x_iret hE rfl c dX5_line_135
              · rw [if_neg c14] at H
                refine x_aload_n 0 rfl dX5_line_106 ?_
                refine x_iconst (0 : Int32) dX5_line_107 ic_0 ?_
                refine x_iconst (2 : Int32) dX5_line_108 ic_2 ?_
                refine x_iconst (1 : Int32) dX5_line_109 ic_1 ?_
                refine x_bipush (9 : Int32) dX5_line_110 bi_9 ?_
                obtain ⟨c22, H⟩ := oit H
                obtain ⟨a22, g22, e22, H⟩ := obR H
                refine x_callV (M' := mi_X5_once) (n := 4) (As := [.int (0 : Int32), .int (2 : Int32), .int (1 : Int32), .int (9 : Int32)]) (t_X5_once C _ e22) c22 rfl rfl md_X5_once ⟨Nat.le_of_ble_eq_true rfl, Nat.le_of_ble_eq_true rfl⟩ q2176 q2178 qs68 q131 q2179 rfl (Nat.le_of_ble_eq_true rfl) dX5_line_112 ?_
                obtain ⟨c, rfl⟩ := rZ_spec H
                exact x_iret hE rfl c dX5_line_115
            · rw [if_neg c12] at H
              refine x_aload_n 0 rfl dX5_line_89 ?_
              refine x_bipush (124 : Int32) dX5_line_90 bi_124 ?_
              obtain ⟨c23, H⟩ := oit H
              obtain ⟨a23, g23, e23, H⟩ := obR H
              refine x_callV (M' := mi_X5_readPair) (n := 1) (As := [.int (124 : Int32)]) (t_X5_readPair C _ e23) c23 rfl rfl md_X5_readPair ⟨Nat.le_of_ble_eq_true rfl, Nat.le_of_ble_eq_true rfl⟩ q2169 q2171 qs67 q131 q2172 rfl (Nat.le_of_ble_eq_true rfl) dX5_line_92 ?_
              obtain ⟨c, rfl⟩ := rZ_spec H
              exact x_iret hE rfl c dX5_line_95
          · rw [if_neg c10] at H
            refine x_aload_n 0 rfl dX5_line_72 ?_
            refine x_bipush (117 : Int32) dX5_line_73 bi_117 ?_
            obtain ⟨c24, H⟩ := oit H
            obtain ⟨a24, g24, e24, H⟩ := obR H
            refine x_callV (M' := mi_X5_readPair) (n := 1) (As := [.int (117 : Int32)]) (t_X5_readPair C _ e24) c24 rfl rfl md_X5_readPair ⟨Nat.le_of_ble_eq_true rfl, Nat.le_of_ble_eq_true rfl⟩ q2169 q2171 qs67 q131 q2172 rfl (Nat.le_of_ble_eq_true rfl) dX5_line_75 ?_
            obtain ⟨c, rfl⟩ := rZ_spec H
            exact x_iret hE rfl c dX5_line_78
        · rw [if_neg c8] at H
          refine x_aload_n 0 rfl dX5_line_56 ?_
          refine x_iconst (0 : Int32) dX5_line_57 ic_0 ?_
          obtain ⟨c25, H⟩ := oit H
          obtain ⟨a25, g25, e25, H⟩ := obR H
          refine x_callV (M' := mi_X5_readTrade) (n := 1) (As := [.int (0 : Int32)]) (t_X5_readTrade C _ e25) c25 rfl rfl md_X5_readTrade ⟨Nat.le_of_ble_eq_true rfl, Nat.le_of_ble_eq_true rfl⟩ q2157 q2159 qs64 q131 q2160 rfl (Nat.le_of_ble_eq_true rfl) dX5_line_58 ?_
          obtain ⟨c, rfl⟩ := rZ_spec H
          exact x_iret hE rfl c dX5_line_61
      · rw [if_neg c6] at H
        refine x_aload_n 0 rfl dX5_line_40 ?_
        refine x_iconst (1 : Int32) dX5_line_41 ic_1 ?_
        obtain ⟨c26, H⟩ := oit H
        obtain ⟨a26, g26, e26, H⟩ := obR H
        refine x_callV (M' := mi_X5_readTrade) (n := 1) (As := [.int (1 : Int32)]) (t_X5_readTrade C _ e26) c26 rfl rfl md_X5_readTrade ⟨Nat.le_of_ble_eq_true rfl, Nat.le_of_ble_eq_true rfl⟩ q2157 q2159 qs64 q131 q2160 rfl (Nat.le_of_ble_eq_true rfl) dX5_line_42 ?_
        obtain ⟨c, rfl⟩ := rZ_spec H
        exact x_iret hE rfl c dX5_line_45
    · rw [if_neg c4] at H
      refine x_aload_n 0 rfl dX5_line_25 ?_
      obtain ⟨c27, H⟩ := oit H
      obtain ⟨a27, g27, e27, H⟩ := obR H
      refine x_callV (M' := mi_X5_readGood) (n := 0) (As := []) (t_X5_readGood C _ e27) c27 rfl rfl md_X5_readGood ⟨Nat.le_of_ble_eq_true rfl, Nat.le_of_ble_eq_true rfl⟩ q2153 q2155 qs63 q131 q2156 rfl (Nat.le_of_ble_eq_true rfl) dX5_line_26 ?_
      obtain ⟨c, rfl⟩ := rZ_spec H
      exact x_iret hE rfl c dX5_line_29
  · rw [if_neg c2] at H
    refine x_aload_n 0 rfl dX5_line_10 ?_
    obtain ⟨c28, H⟩ := oit H
    obtain ⟨a28, g28, e28, H⟩ := obR H
    refine x_callV (M' := mi_X5_readPerson) (n := 0) (As := []) (t_X5_readPerson C _ e28) c28 rfl rfl md_X5_readPerson ⟨Nat.le_of_ble_eq_true rfl, Nat.le_of_ble_eq_true rfl⟩ q2122 q2124 qs56 q131 q2125 rfl (Nat.le_of_ble_eq_true rfl) dX5_line_11 ?_
    obtain ⟨c, rfl⟩ := rZ_spec H
    exact x_iret hE rfl c dX5_line_14
abbrev mi_X5_county : xM := (cX5_county, yX5_county, 2, some .int, 7)
theorem md_X5_county : xMD mi_X5_county 0 := ⟨by decide, by decide, by decide +kernel⟩
def f_X5_county_b58 (r0 : Nat) (h : mH) : Option (Int32 × mH) := (gFi [4] 16 h r0).bind fun v8 => some (((-1 : Int32) - v8), h)
theorem t_X5_county_b58 {G : xG} {C : xC} {o : Int32 × mH} (hE : xEnd G C (some (.int o.1)) o.2) (r0 : Nat) (h : mH) (H : f_X5_county_b58 r0 h = some o) : X G C mi_X5_county 58 [(0, .ref r0)] [] h := by
  unfold f_X5_county_b58 at H
  refine x_iconst (-1 : Int32) dX5_county_58 ic_m1 ?_
  refine x_aload_n 0 rfl dX5_county_59 ?_
  obtain ⟨v8, e8, H⟩ := ob H
  refine x_getf fg_X5_177 (gFi_spec e8) dX5_county_60 ?_
  refine x_isub dX5_county_63 ?_
  obtain rfl := Option.some.inj H
  exact x_iret hE rfl rfl dX5_county_64
def f_X5_county_b177 (r0 : Nat) (h : mH) : Option (Int32 × mH) := if gC h r0 = 4 then bR (f_X5_morning r0  h) fun a9 g9 => (pF [4] 23 (.int (0 : Int32)) g9 r0).bind fun h10 => (gFi [4] 19 h10 r0).bind fun v11 => some (v11, h10) else none
theorem t_X5_county_b177 {G : xG} {C : xC} {o : Int32 × mH} (hE : xEnd G C (some (.int o.1)) o.2) (r0 : Nat) (h : mH) (H : f_X5_county_b177 r0 h = some o) : X G C mi_X5_county 177 [(0, .ref r0)] [] h := by
  unfold f_X5_county_b177 at H
  refine x_aload_n 0 rfl dX5_county_177 ?_
  obtain ⟨c9, H⟩ := oit H
  obtain ⟨a9, g9, e9, H⟩ := obR H
  refine x_callV (M' := mi_X5_morning) (n := 0) (As := []) (t_X5_morning C _ e9) c9 rfl rfl md_X5_morning ⟨Nat.le_of_ble_eq_true rfl, Nat.le_of_ble_eq_true rfl⟩ q2188 q2190 qs71 q131 q2191 rfl (Nat.le_of_ble_eq_true rfl) dX5_county_178 ?_
  refine x_aload_n 0 rfl dX5_county_181 ?_
  refine x_iconst (0 : Int32) dX5_county_182 ic_0 ?_
  obtain ⟨h10, e10, H⟩ := ob H
  refine x_putf (fp_X5_262 _) rfl rfl e10 dX5_county_183 ?_
  refine x_aload_n 0 rfl dX5_county_186 ?_
  obtain ⟨v11, e11, H⟩ := ob H
  refine x_getf fg_X5_250 (gFi_spec e11) dX5_county_187 ?_
  obtain rfl := Option.some.inj H
  exact x_iret hE rfl rfl dX5_county_190
def f_X5_county_L147 (k177 : Nat → mH → Option (Int32 × mH)) : Nat → Nat → Int32 → mH → Option (Int32 × mH)
  | 0, _, _, _ => none
  | n + 1, r0, x1, h => if (7 : Int32) ≤ x1 then k177 r0 h else (gFr [4] 6 h r0).bind fun v13 => (gFr [4] 6 h r0).bind fun v14 => (aI .int h v14 ((5 : Int32) + x1)).bind fun v15 => (sI .int h v13 ((136 : Int32) + x1) v15).bind fun h16 => (f_X5_county_L147 k177 n) r0 (x1 + (1 : Int32)) h16
theorem t_X5_county_L147 {G : xG} {C : xC} {o : Int32 × mH} (hE : xEnd G C (some (.int o.1)) o.2) {k177 : Nat → mH → Option (Int32 × mH)} (hk177 : ∀ (r0 : Nat) (h : mH), k177 r0 h = some o → X G C mi_X5_county 177 [(0, .ref r0)] [] h) : ∀ (n : Nat) (r0 : Nat) (x1 : Int32) (h : mH), f_X5_county_L147 k177 n r0 x1 h = some o → X G C mi_X5_county 147 [(0, .ref r0), (1, .int x1)] [] h := by
  intro n
  induction n with
  | zero => intro r0 x1 h H; exact nomatch (show (none : Option (Int32 × mH)) = some o from H)
  | succ n ih =>
    intro r0 x1 h H
    rw [f_X5_county_L147] at H
    refine x_iload_n 1 rfl dX5_county_147 ?_
    refine x_bipush (7 : Int32) dX5_county_148 bi_7 ?_
    refine x_icmp_ge 177 dX5_county_150 (by decide) (fun c12 => ?_) (fun c12 => ?_)
    · rw [if_pos c12] at H
      refine X.sub [0] rfl ?_
      exact hk177 _ _ H
    · rw [if_neg c12] at H
      refine x_aload_n 0 rfl dX5_county_153 ?_
      obtain ⟨v13, e13, H⟩ := ob H
      refine x_getf fg_X5_33 (gFr_spec e13) dX5_county_154 ?_
      refine x_sipush (136 : Int32) dX5_county_157 si_136 ?_
      refine x_iload_n 1 rfl dX5_county_160 ?_
      refine x_iadd dX5_county_161 ?_
      refine x_aload_n 0 rfl dX5_county_162 ?_
      obtain ⟨v14, e14, H⟩ := ob H
      refine x_getf fg_X5_33 (gFr_spec e14) dX5_county_163 ?_
      refine x_iconst (5 : Int32) dX5_county_166 ic_5 ?_
      refine x_iload_n 1 rfl dX5_county_167 ?_
      refine x_iadd dX5_county_168 ?_
      obtain ⟨v15, e15, H⟩ := ob H
      refine x_iald e15 dX5_county_169 ?_
      obtain ⟨h16, e16, H⟩ := ob H
      refine x_iast e16 dX5_county_170 ?_
      refine x_iinc 1 (x1 + (1 : Int32)) [1, 0] dX5_county_171 rfl (ii_1 _) (by decide) rfl ?_
      refine x_goto (tgt := 147) dX5_county_174 (by decide) ?_
      exact ih _ _ _ H
def f_X5_county_b145 (r0 : Nat) (h : mH) : Option (Int32 × mH) := f_X5_county_L147 (f_X5_county_b177) xFu r0 (0 : Int32) h
theorem t_X5_county_b145 {G : xG} {C : xC} {o : Int32 × mH} (hE : xEnd G C (some (.int o.1)) o.2) (r0 : Nat) (h : mH) (H : f_X5_county_b145 r0 h = some o) : X G C mi_X5_county 145 [(0, .ref r0)] [] h := by
  unfold f_X5_county_b145 at H
  refine x_iconst (0 : Int32) dX5_county_145 ic_0 ?_
  refine x_istore_n [1, 0] dX5_county_146 (by decide) rfl ?_
  exact t_X5_county_L147 hE (t_X5_county_b177 hE) xFu _ _ _ H
def f_X5_county_L118 (k145 : Nat → mH → Option (Int32 × mH)) : Nat → Nat → Int32 → mH → Option (Int32 × mH)
  | 0, _, _, _ => none
  | n + 1, r0, x1, h => if (12 : Int32) ≤ x1 then k145 r0 h else (gFr [4] 9 h r0).bind fun v18 => (gFr [4] 9 h r0).bind fun v19 => (aL h v19 ((12 : Int32) + x1)).bind fun v20 => (sL h v18 x1 v20).bind fun h21 => (f_X5_county_L118 k145 n) r0 (x1 + (1 : Int32)) h21
theorem t_X5_county_L118 {G : xG} {C : xC} {o : Int32 × mH} (hE : xEnd G C (some (.int o.1)) o.2) {k145 : Nat → mH → Option (Int32 × mH)} (hk145 : ∀ (r0 : Nat) (h : mH), k145 r0 h = some o → X G C mi_X5_county 145 [(0, .ref r0)] [] h) : ∀ (n : Nat) (r0 : Nat) (x1 : Int32) (h : mH), f_X5_county_L118 k145 n r0 x1 h = some o → X G C mi_X5_county 118 [(0, .ref r0), (1, .int x1)] [] h := by
  intro n
  induction n with
  | zero => intro r0 x1 h H; exact nomatch (show (none : Option (Int32 × mH)) = some o from H)
  | succ n ih =>
    intro r0 x1 h H
    rw [f_X5_county_L118] at H
    refine x_iload_n 1 rfl dX5_county_118 ?_
    refine x_bipush (12 : Int32) dX5_county_119 bi_12 ?_
    refine x_icmp_ge 145 dX5_county_121 (by decide) (fun c17 => ?_) (fun c17 => ?_)
    · rw [if_pos c17] at H
      refine X.sub [0] rfl ?_
      exact hk145 _ _ H
    · rw [if_neg c17] at H
      refine x_aload_n 0 rfl dX5_county_124 ?_
      obtain ⟨v18, e18, H⟩ := ob H
      refine x_getf fg_X5_43 (gFr_spec e18) dX5_county_125 ?_
      refine x_iload_n 1 rfl dX5_county_128 ?_
      refine x_aload_n 0 rfl dX5_county_129 ?_
      obtain ⟨v19, e19, H⟩ := ob H
      refine x_getf fg_X5_43 (gFr_spec e19) dX5_county_130 ?_
      refine x_bipush (12 : Int32) dX5_county_133 bi_12 ?_
      refine x_iload_n 1 rfl dX5_county_135 ?_
      refine x_iadd dX5_county_136 ?_
      obtain ⟨v20, e20, H⟩ := ob H
      refine x_lald e20 dX5_county_137 ?_
      obtain ⟨h21, e21, H⟩ := ob H
      refine x_last e21 dX5_county_138 ?_
      refine x_iinc 1 (x1 + (1 : Int32)) [1, 0] dX5_county_139 rfl (ii_1 _) (by decide) rfl ?_
      refine x_goto (tgt := 118) dX5_county_142 (by decide) ?_
      exact ih _ _ _ H
def f_X5_county_b116 (r0 : Nat) (h : mH) : Option (Int32 × mH) := f_X5_county_L118 (f_X5_county_b145) xFu r0 (0 : Int32) h
theorem t_X5_county_b116 {G : xG} {C : xC} {o : Int32 × mH} (hE : xEnd G C (some (.int o.1)) o.2) (r0 : Nat) (h : mH) (H : f_X5_county_b116 r0 h = some o) : X G C mi_X5_county 116 [(0, .ref r0)] [] h := by
  unfold f_X5_county_b116 at H
  refine x_iconst (0 : Int32) dX5_county_116 ic_0 ?_
  refine x_istore_n [1, 0] dX5_county_117 (by decide) rfl ?_
  exact t_X5_county_L118 hE (t_X5_county_b145 hE) xFu _ _ _ H
def f_X5_county_b109 (kb : Nat → Int32 → mH → Option (Int32 × mH)) (k116 : Nat → mH → Option (Int32 × mH)) (r0 : Nat) (x1 : Int32) (s0 : Nat) (s1 : Int32) (s2 : Int32) (h : mH) : Option (Int32 × mH) := (sI .int h s0 s1 s2).bind fun h25 => kb r0 (x1 + (1 : Int32)) h25
theorem t_X5_county_b109 {G : xG} {C : xC} {o : Int32 × mH} (hE : xEnd G C (some (.int o.1)) o.2) {kb : Nat → Int32 → mH → Option (Int32 × mH)} (hkb : ∀ (r0 : Nat) (x1 : Int32) (h : mH), kb r0 x1 h = some o → X G C mi_X5_county 80 [(0, .ref r0), (1, .int x1)] [] h) {k116 : Nat → mH → Option (Int32 × mH)} (hk116 : ∀ (r0 : Nat) (h : mH), k116 r0 h = some o → X G C mi_X5_county 116 [(0, .ref r0)] [] h) (r0 : Nat) (x1 : Int32) (s0 : Nat) (s1 : Int32) (s2 : Int32) (h : mH) (H : f_X5_county_b109 kb k116 r0 x1 s0 s1 s2 h = some o) : X G C mi_X5_county 109 [(0, .ref r0), (1, .int x1)] [.int s2, .int s1, .ref s0] h := by
  unfold f_X5_county_b109 at H
  obtain ⟨h25, e25, H⟩ := ob H
  refine x_iast e25 dX5_county_109 ?_
  refine x_iinc 1 (x1 + (1 : Int32)) [1, 0] dX5_county_110 rfl (ii_1 _) (by decide) rfl ?_
  refine x_goto (tgt := 80) dX5_county_113 (by decide) ?_
  exact hkb _ _ _ H
def f_X5_county_L80 (k116 : Nat → mH → Option (Int32 × mH)) : Nat → Nat → Int32 → mH → Option (Int32 × mH)
  | 0, _, _, _ => none
  | n + 1, r0, x1, h => if (457 : Int32) ≤ x1 then k116 r0 h else (gFr [4] 6 h r0).bind fun v23 => if (131 : Int32) ≤ x1 then f_X5_county_b109 (f_X5_county_L80 k116 n) k116 r0 x1 v23 x1 (0 : Int32) h else (gFr [4] 7 h r0).bind fun v26 => (aI .int h v26 x1).bind fun v27 => f_X5_county_b109 (f_X5_county_L80 k116 n) k116 r0 x1 v23 x1 v27 h
theorem t_X5_county_L80 {G : xG} {C : xC} {o : Int32 × mH} (hE : xEnd G C (some (.int o.1)) o.2) {k116 : Nat → mH → Option (Int32 × mH)} (hk116 : ∀ (r0 : Nat) (h : mH), k116 r0 h = some o → X G C mi_X5_county 116 [(0, .ref r0)] [] h) : ∀ (n : Nat) (r0 : Nat) (x1 : Int32) (h : mH), f_X5_county_L80 k116 n r0 x1 h = some o → X G C mi_X5_county 80 [(0, .ref r0), (1, .int x1)] [] h := by
  intro n
  induction n with
  | zero => intro r0 x1 h H; exact nomatch (show (none : Option (Int32 × mH)) = some o from H)
  | succ n ih =>
    intro r0 x1 h H
    rw [f_X5_county_L80] at H
    refine x_iload_n 1 rfl dX5_county_80 ?_
    refine x_sipush (457 : Int32) dX5_county_81 si_457 ?_
    refine x_icmp_ge 116 dX5_county_84 (by decide) (fun c22 => ?_) (fun c22 => ?_)
    · rw [if_pos c22] at H
      refine X.sub [0] rfl ?_
      exact hk116 _ _ H
    · rw [if_neg c22] at H
      refine x_aload_n 0 rfl dX5_county_87 ?_
      obtain ⟨v23, e23, H⟩ := ob H
      refine x_getf fg_X5_33 (gFr_spec e23) dX5_county_88 ?_
      refine x_iload_n 1 rfl dX5_county_91 ?_
      refine x_iload_n 1 rfl dX5_county_92 ?_
      refine x_sipush (131 : Int32) dX5_county_93 si_131 ?_
      refine x_icmp_ge 108 dX5_county_96 (by decide) (fun c24 => ?_) (fun c24 => ?_)
      · rw [if_pos c24] at H
        refine x_iconst (0 : Int32) dX5_county_108 ic_0 ?_
        exact t_X5_county_b109 hE ih hk116 _ _ _ _ _ _ H
      · rw [if_neg c24] at H
        refine x_aload_n 0 rfl dX5_county_99 ?_
        obtain ⟨v26, e26, H⟩ := ob H
        refine x_getf fg_X5_37 (gFr_spec e26) dX5_county_100 ?_
        refine x_iload_n 1 rfl dX5_county_103 ?_
        obtain ⟨v27, e27, H⟩ := ob H
        refine x_iald e27 dX5_county_104 ?_
        refine x_goto (tgt := 109) dX5_county_105 (by decide) ?_
        exact t_X5_county_b109 hE ih hk116 _ _ _ _ _ _ H
def f_X5_county_b78 (r0 : Nat) (h : mH) : Option (Int32 × mH) := f_X5_county_L80 (f_X5_county_b116) xFu r0 (0 : Int32) h
theorem t_X5_county_b78 {G : xG} {C : xC} {o : Int32 × mH} (hE : xEnd G C (some (.int o.1)) o.2) (r0 : Nat) (h : mH) (H : f_X5_county_b78 r0 h = some o) : X G C mi_X5_county 78 [(0, .ref r0)] [] h := by
  unfold f_X5_county_b78 at H
  refine x_iconst (0 : Int32) dX5_county_78 ic_0 ?_
  refine x_istore_n [1, 0] dX5_county_79 (by decide) rfl ?_
  exact t_X5_county_L80 hE (t_X5_county_b116 hE) xFu _ _ _ H
def f_X5_county_L35 (k58 : Nat → mH → Option (Int32 × mH)) (k78 : Nat → mH → Option (Int32 × mH)) : Nat → Nat → mH → Option (Int32 × mH)
  | 0, _, _ => none
  | n + 1, r0, h => (gFi [4] 11 h r0).bind fun v28 => if v28 = 0 then k78 r0 h else if gC h r0 = 4 then bR (f_X5_line r0  h) fun a30 g30 => if a30 = 0 then k58 r0 g30 else if gC g30 r0 = 4 then bR (f_X5_sign r0 (59 : Int32) g30) fun a32 g32 => if a32 = 0 then k58 r0 g32 else (gFi [4] 19 g32 r0).bind fun v34 => (pF [4] 19 (.int (v34 + (1 : Int32))) g32 r0).bind fun h35 => (f_X5_county_L35 k58 k78 n) r0 h35 else none else none
theorem t_X5_county_L35 {G : xG} {C : xC} {o : Int32 × mH} (hE : xEnd G C (some (.int o.1)) o.2) {k58 : Nat → mH → Option (Int32 × mH)} (hk58 : ∀ (r0 : Nat) (h : mH), k58 r0 h = some o → X G C mi_X5_county 58 [(0, .ref r0)] [] h) {k78 : Nat → mH → Option (Int32 × mH)} (hk78 : ∀ (r0 : Nat) (h : mH), k78 r0 h = some o → X G C mi_X5_county 78 [(0, .ref r0)] [] h) : ∀ (n : Nat) (r0 : Nat) (h : mH), f_X5_county_L35 k58 k78 n r0 h = some o → X G C mi_X5_county 35 [(0, .ref r0)] [] h := by
  intro n
  induction n with
  | zero => intro r0 h H; exact nomatch (show (none : Option (Int32 × mH)) = some o from H)
  | succ n ih =>
    intro r0 h H
    rw [f_X5_county_L35] at H
    refine x_aload_n 0 rfl dX5_county_35 ?_
    obtain ⟨v28, e28, H⟩ := ob H
    refine x_getf fg_X5_157 (gFi_spec e28) dX5_county_36 ?_
    refine x_if_eq 78 dX5_county_39 (by decide) (fun c29 => ?_) (fun c29 => ?_)
    · rw [if_pos c29] at H
      exact hk78 _ _ H
    · rw [if_neg c29] at H
      refine x_aload_n 0 rfl dX5_county_42 ?_
      obtain ⟨c30, H⟩ := oit H
      obtain ⟨a30, g30, e30, H⟩ := obR H
      refine x_callV (M' := mi_X5_line) (n := 0) (As := []) (t_X5_line C _ e30) c30 rfl rfl md_X5_line ⟨Nat.le_of_ble_eq_true rfl, Nat.le_of_ble_eq_true rfl⟩ q2114 q2116 qs54 q131 q2117 rfl (Nat.le_of_ble_eq_true rfl) dX5_county_43 ?_
      refine x_if_eq 58 dX5_county_46 (by decide) (fun c31 => ?_) (fun c31 => ?_)
      · rw [if_pos c31] at H
        exact hk58 _ _ H
      · rw [if_neg c31] at H
        refine x_aload_n 0 rfl dX5_county_49 ?_
        refine x_bipush (59 : Int32) dX5_county_50 bi_59 ?_
        obtain ⟨c32, H⟩ := oit H
        obtain ⟨a32, g32, e32, H⟩ := obR H
        refine x_callV (M' := mi_X5_sign) (n := 1) (As := [.int (59 : Int32)]) (t_X5_sign C _ e32) c32 rfl rfl md_X5_sign ⟨Nat.le_of_ble_eq_true rfl, Nat.le_of_ble_eq_true rfl⟩ q2180 q2182 qs69 q131 q2183 rfl (Nat.le_of_ble_eq_true rfl) dX5_county_52 ?_
        refine x_if_ne 65 dX5_county_55 (by decide) (fun c33 => ?_) (fun c33 => ?_)
        · rw [if_neg c33] at H
          refine x_aload_n 0 rfl dX5_county_65 ?_
          refine x_dup dX5_county_66 rfl ?_
          obtain ⟨v34, e34, H⟩ := ob H
          refine x_getf fg_X5_250 (gFi_spec e34) dX5_county_67 ?_
          refine x_iconst (1 : Int32) dX5_county_70 ic_1 ?_
          refine x_iadd dX5_county_71 ?_
          obtain ⟨h35, e35, H⟩ := ob H
          refine x_putf (fp_X5_250 _) rfl rfl e35 dX5_county_72 ?_
          refine x_goto (tgt := 35) dX5_county_75 (by decide) ?_
          exact ih _ _ H
        · rw [if_pos c33] at H
          exact hk58 _ _ H
def f_X5_county (r0 : Nat) (h : mH) : Option (Int32 × mH) := (pF [4] 0 (.int (0 : Int32)) h r0).bind fun h1 => if gC h1 r0 = 4 then bR (f_X5_taken r0 (900 : Int32) h1) fun a2 g2 => (pF [4] 15 (.int (0 : Int32)) g2 r0).bind fun h3 => (pF [4] 19 (.int (0 : Int32)) h3 r0).bind fun h4 => (pF [4] 20 (.int (0 : Int32)) h4 r0).bind fun h5 => if gC h5 r0 = 4 then bR (f_X5_clears r0  h5) fun a6 g6 => if gC g6 r0 = 4 then bR (f_X5_next r0  g6) fun a7 g7 => f_X5_county_L35 (f_X5_county_b58) (f_X5_county_b78) xFu r0 g7 else none else none else none
theorem t_X5_county {G : xG} (C0 : xC) {l : Launch} {r0 : Nat} (h : mH) {o : Int32 × mH} (H : f_X5_county r0 h = some o) : XR G l mi_X5_county [.ref r0] h (some (.int o.1)) o.2 := by
  refine XR.of C0 (by decide) (Nat.le_of_ble_eq_true rfl) (fun C _ _ _ hE => ?_)
  show X G C mi_X5_county 0 [(0, .ref r0)] [] h
  unfold f_X5_county at H
  refine x_aload_n 0 rfl dX5_county_0 ?_
  refine x_iconst (0 : Int32) dX5_county_1 ic_0 ?_
  obtain ⟨h1, e1, H⟩ := ob H
  refine x_putf (fp_X5_1 _) rfl rfl e1 dX5_county_2 ?_
  refine x_aload_n 0 rfl dX5_county_5 ?_
  refine x_sipush (900 : Int32) dX5_county_6 si_900 ?_
  obtain ⟨c2, H⟩ := oit H
  obtain ⟨a2, g2, e2, H⟩ := obR H
  refine x_callV (M' := mi_X5_taken) (n := 1) (As := [.int (900 : Int32)]) (t_X5_taken C _ e2) c2 rfl rfl md_X5_taken ⟨Nat.le_of_ble_eq_true rfl, Nat.le_of_ble_eq_true rfl⟩ q2096 q2098 qs51 q131 q2099 rfl (Nat.le_of_ble_eq_true rfl) dX5_county_9 ?_
  refine x_aload_n 0 rfl dX5_county_12 ?_
  refine x_iconst (0 : Int32) dX5_county_13 ic_0 ?_
  obtain ⟨h3, e3, H⟩ := ob H
  refine x_putf (fp_X5_174 _) rfl rfl e3 dX5_county_14 ?_
  refine x_aload_n 0 rfl dX5_county_17 ?_
  refine x_iconst (0 : Int32) dX5_county_18 ic_0 ?_
  obtain ⟨h4, e4, H⟩ := ob H
  refine x_putf (fp_X5_250 _) rfl rfl e4 dX5_county_19 ?_
  refine x_aload_n 0 rfl dX5_county_22 ?_
  refine x_iconst (0 : Int32) dX5_county_23 ic_0 ?_
  obtain ⟨h5, e5, H⟩ := ob H
  refine x_putf (fp_X5_211 _) rfl rfl e5 dX5_county_24 ?_
  refine x_aload_n 0 rfl dX5_county_27 ?_
  obtain ⟨c6, H⟩ := oit H
  obtain ⟨a6, g6, e6, H⟩ := obR H
  refine x_callV (M' := mi_X5_clears) (n := 0) (As := []) (t_X5_clears C _ e6) c6 rfl rfl md_X5_clears ⟨Nat.le_of_ble_eq_true rfl, Nat.le_of_ble_eq_true rfl⟩ q1929 q1931 qs50 q131 q1932 rfl (Nat.le_of_ble_eq_true rfl) dX5_county_28 ?_
  refine x_aload_n 0 rfl dX5_county_31 ?_
  obtain ⟨c7, H⟩ := oit H
  obtain ⟨a7, g7, e7, H⟩ := obR H
  refine x_callV (M' := mi_X5_next) (n := 0) (As := []) (t_X5_next C _ e7) c7 rfl rfl md_X5_next ⟨Nat.le_of_ble_eq_true rfl, Nat.le_of_ble_eq_true rfl⟩ q2100 q2102 qs52 q131 q2103 rfl (Nat.le_of_ble_eq_true rfl) dX5_county_32 ?_
  exact t_X5_county_L35 hE (t_X5_county_b58 hE) (t_X5_county_b78 hE) xFu _ _ H
abbrev mi_X5_days : xM := (cX5_days, yX5_days, 2, some .int, 4)
theorem md_X5_days : xMD mi_X5_days 1 := ⟨by decide, by decide, by decide +kernel⟩
def f_X5_days (r0 : Nat) (x1 : Int32) (h : mH) : Option (Int32 × mH) := (pF [4] 0 (.int (0 : Int32)) h r0).bind fun h1 => bR (f_X5_isIn x1 (1 : Int32) (60 : Int32) h1) fun a2 g2 => if a2 = 0 then some ((-1 : Int32), g2) else (gFr [4] 6 g2 r0).bind fun v4 => (aI .int g2 v4 (131 : Int32)).bind fun v5 => if v5 = (400 : Int32) then some ((0 : Int32), g2) else if gC g2 r0 = 4 then bR (f_X5_keep r0  g2) fun a7 g7 => if gC g7 r0 = 4 then bR (f_X5_goesOn r0 x1 g7) fun a8 g8 => some (a8, g8) else none else none
theorem t_X5_days {G : xG} (C0 : xC) {l : Launch} {r0 : Nat} {x1 : Int32} (h : mH) {o : Int32 × mH} (H : f_X5_days r0 x1 h = some o) : XR G l mi_X5_days [.ref r0, .int x1] h (some (.int o.1)) o.2 := by
  refine XR.of C0 (by decide) (Nat.le_of_ble_eq_true rfl) (fun C _ _ _ hE => ?_)
  show X G C mi_X5_days 0 [(0, .ref r0), (1, .int x1)] [] h
  unfold f_X5_days at H
  refine x_aload_n 0 rfl dX5_days_0 ?_
  refine x_iconst (0 : Int32) dX5_days_1 ic_0 ?_
  obtain ⟨h1, e1, H⟩ := ob H
  refine x_putf (fp_X5_1 _) rfl rfl e1 dX5_days_2 ?_
  refine x_iload_n 1 rfl dX5_days_5 ?_
  refine x_iconst (1 : Int32) dX5_days_6 ic_1 ?_
  refine x_bipush (60 : Int32) dX5_days_7 bi_60 ?_
  obtain ⟨a2, g2, e2, H⟩ := obR H
  refine x_callS (M' := mi_X5_isIn) (n := 3) (As := [.int x1, .int (1 : Int32), .int (60 : Int32)]) (t_X5_isIn C _ e2) md_X5_isIn ⟨Nat.le_of_ble_eq_true rfl, Nat.le_of_ble_eq_true rfl⟩ q2150 q2151 q131 q2152 rfl (Nat.le_of_ble_eq_true rfl) dX5_days_9 ?_
  refine x_if_ne 17 dX5_days_12 (by decide) (fun c3 => ?_) (fun c3 => ?_)
  · rw [if_neg c3] at H
    refine x_aload_n 0 rfl dX5_days_17 ?_
    obtain ⟨v4, e4, H⟩ := ob H
    refine x_getf fg_X5_33 (gFr_spec e4) dX5_days_18 ?_
    refine x_sipush (131 : Int32) dX5_days_21 si_131 ?_
    obtain ⟨v5, e5, H⟩ := ob H
    refine x_iald e5 dX5_days_24 ?_
    refine x_sipush (400 : Int32) dX5_days_25 si_400 ?_
    refine x_icmp_ne 33 dX5_days_28 (by decide) (fun c6 => ?_) (fun c6 => ?_)
    · rw [if_neg c6] at H
      refine x_aload_n 0 rfl dX5_days_33 ?_
      obtain ⟨c7, H⟩ := oit H
      obtain ⟨a7, g7, e7, H⟩ := obR H
      refine x_callV (M' := mi_X5_keep) (n := 0) (As := []) (t_X5_keep C _ e7) c7 rfl rfl md_X5_keep ⟨Nat.le_of_ble_eq_true rfl, Nat.le_of_ble_eq_true rfl⟩ q2259 q2261 qs82 q131 q2262 rfl (Nat.le_of_ble_eq_true rfl) dX5_days_34 ?_
      refine x_aload_n 0 rfl dX5_days_37 ?_
      refine x_iload_n 1 rfl dX5_days_38 ?_
      obtain ⟨c8, H⟩ := oit H
      obtain ⟨a8, g8, e8, H⟩ := obR H
      refine x_callV (M' := mi_X5_goesOn) (n := 1) (As := [.int x1]) (t_X5_goesOn C _ e8) c8 rfl rfl md_X5_goesOn ⟨Nat.le_of_ble_eq_true rfl, Nat.le_of_ble_eq_true rfl⟩ q2307 q2309 qs90 q131 q2310 rfl (Nat.le_of_ble_eq_true rfl) dX5_days_39 ?_
      obtain rfl := Option.some.inj H
      exact x_iret hE rfl rfl dX5_days_42
    · rw [if_pos c6] at H
      refine x_iconst (0 : Int32) dX5_days_31 ic_0 ?_
      obtain rfl := Option.some.inj H
      exact x_iret hE rfl rfl dX5_days_32
  · rw [if_pos c3] at H
    refine x_iconst (-1 : Int32) dX5_days_15 ic_m1 ?_
    obtain rfl := Option.some.inj H
    exact x_iret hE rfl rfl dX5_days_16
abbrev mi_X5_deals : xM := (cX5_deals, yX5_deals, 3, some .int, 3)
theorem md_X5_deals : xMD mi_X5_deals 2 := ⟨by decide, by decide, by decide +kernel⟩
def f_X5_deals (r0 : Nat) (x1 : Int32) (x2 : Int32) (h : mH) : Option (Int32 × mH) := (pF [4] 0 (.int (0 : Int32)) h r0).bind fun h1 => if gC h1 r0 = 4 then bR (f_X5_isPerson r0 x1 h1) fun a2 g2 => if a2 = 0 then some ((-1 : Int32), g2) else if gC g2 r0 = 4 then bR (f_X5_isPerson r0 x2 g2) fun a4 g4 => if a4 = 0 then some ((-1 : Int32), g4) else if x1 = x2 then some ((-1 : Int32), g4) else (gFr [4] 6 g4 r0).bind fun v7 => (aI .int g4 v7 (((227 : Int32) + ((7 : Int32) * x1)) + x2)).bind fun v8 => some (v8, g4) else none else none
theorem t_X5_deals {G : xG} (C0 : xC) {l : Launch} {r0 : Nat} {x1 : Int32} {x2 : Int32} (h : mH) {o : Int32 × mH} (H : f_X5_deals r0 x1 x2 h = some o) : XR G l mi_X5_deals [.ref r0, .int x1, .int x2] h (some (.int o.1)) o.2 := by
  refine XR.of C0 (by decide) (Nat.le_of_ble_eq_true rfl) (fun C _ _ _ hE => ?_)
  show X G C mi_X5_deals 0 [(0, .ref r0), (1, .int x1), (2, .int x2)] [] h
  unfold f_X5_deals at H
  refine x_aload_n 0 rfl dX5_deals_0 ?_
  refine x_iconst (0 : Int32) dX5_deals_1 ic_0 ?_
  obtain ⟨h1, e1, H⟩ := ob H
  refine x_putf (fp_X5_1 _) rfl rfl e1 dX5_deals_2 ?_
  refine x_aload_n 0 rfl dX5_deals_5 ?_
  refine x_iload_n 1 rfl dX5_deals_6 ?_
  obtain ⟨c2, H⟩ := oit H
  obtain ⟨a2, g2, e2, H⟩ := obR H
  refine x_callV (M' := mi_X5_isPerson) (n := 1) (As := [.int x1]) (t_X5_isPerson C _ e2) c2 rfl rfl md_X5_isPerson ⟨Nat.le_of_ble_eq_true rfl, Nat.le_of_ble_eq_true rfl⟩ q2200 q2202 qs72 q131 q2203 rfl (Nat.le_of_ble_eq_true rfl) dX5_deals_7 ?_
  refine x_if_eq 44 dX5_deals_10 (by decide) (fun c3 => ?_) (fun c3 => ?_)
  · rw [if_pos c3] at H
    refine x_iconst (-1 : Int32) dX5_deals_44 ic_m1 ?_
    obtain rfl := Option.some.inj H
    exact x_iret hE rfl rfl dX5_deals_45
  · rw [if_neg c3] at H
    refine x_aload_n 0 rfl dX5_deals_13 ?_
    refine x_iload_n 2 rfl dX5_deals_14 ?_
    obtain ⟨c4, H⟩ := oit H
    obtain ⟨a4, g4, e4, H⟩ := obR H
    refine x_callV (M' := mi_X5_isPerson) (n := 1) (As := [.int x2]) (t_X5_isPerson C _ e4) c4 rfl rfl md_X5_isPerson ⟨Nat.le_of_ble_eq_true rfl, Nat.le_of_ble_eq_true rfl⟩ q2200 q2202 qs72 q131 q2203 rfl (Nat.le_of_ble_eq_true rfl) dX5_deals_15 ?_
    refine x_if_eq 44 dX5_deals_18 (by decide) (fun c5 => ?_) (fun c5 => ?_)
    · rw [if_pos c5] at H
      refine x_iconst (-1 : Int32) dX5_deals_44 ic_m1 ?_
      obtain rfl := Option.some.inj H
      exact x_iret hE rfl rfl dX5_deals_45
    · rw [if_neg c5] at H
      refine x_iload_n 1 rfl dX5_deals_21 ?_
      refine x_iload_n 2 rfl dX5_deals_22 ?_
      refine x_icmp_eq 44 dX5_deals_23 (by decide) (fun c6 => ?_) (fun c6 => ?_)
      · rw [if_pos c6] at H
        refine x_iconst (-1 : Int32) dX5_deals_44 ic_m1 ?_
        obtain rfl := Option.some.inj H
        exact x_iret hE rfl rfl dX5_deals_45
      · rw [if_neg c6] at H
        refine x_aload_n 0 rfl dX5_deals_26 ?_
        obtain ⟨v7, e7, H⟩ := ob H
        refine x_getf fg_X5_33 (gFr_spec e7) dX5_deals_27 ?_
        refine x_sipush (227 : Int32) dX5_deals_30 si_227 ?_
        refine x_bipush (7 : Int32) dX5_deals_33 bi_7 ?_
        refine x_iload_n 1 rfl dX5_deals_35 ?_
        refine x_imul dX5_deals_36 ?_
        refine x_iadd dX5_deals_37 ?_
        refine x_iload_n 2 rfl dX5_deals_38 ?_
        refine x_iadd dX5_deals_39 ?_
        obtain ⟨v8, e8, H⟩ := ob H
        refine x_iald e8 dX5_deals_40 ?_
        refine x_goto (tgt := 45) dX5_deals_41 (by decide) ?_
        obtain rfl := Option.some.inj H
        exact x_iret hE rfl rfl dX5_deals_45
abbrev mi_X5_greater : xM := (cX5_greater, yX5_greater, 2, some .int, 1)
theorem md_X5_greater : xMD mi_X5_greater 2 := ⟨by decide, by decide, by decide +kernel⟩
def f_X5_greater (x0 : Int32) (x1 : Int32) (h : mH) : Option (Int32 × mH) := if x0 ≤ x1 then some (x1, h) else some (x0, h)
theorem t_X5_greater {G : xG} (C0 : xC) {l : Launch} {x0 : Int32} {x1 : Int32} (h : mH) {o : Int32 × mH} (H : f_X5_greater x0 x1 h = some o) : XR G l mi_X5_greater [.int x0, .int x1] h (some (.int o.1)) o.2 := by
  refine XR.of C0 (by decide) (Nat.le_of_ble_eq_true rfl) (fun C _ _ _ hE => ?_)
  show X G C mi_X5_greater 0 [(0, .int x0), (1, .int x1)] [] h
  unfold f_X5_greater at H
  refine x_iload_n 0 rfl dX5_greater_0 ?_
  refine x_iload_n 1 rfl dX5_greater_1 ?_
  refine x_icmp_le 9 dX5_greater_2 (by decide) (fun c1 => ?_) (fun c1 => ?_)
  · rw [if_pos c1] at H
    refine x_iload_n 1 rfl dX5_greater_9 ?_
    obtain rfl := Option.some.inj H
    exact x_iret hE rfl rfl dX5_greater_10
  · rw [if_neg c1] at H
    refine x_iload_n 0 rfl dX5_greater_5 ?_
    refine x_goto (tgt := 10) dX5_greater_6 (by decide) ?_
    obtain rfl := Option.some.inj H
    exact x_iret hE rfl rfl dX5_greater_10
abbrev mi_X5_dealsLeft : xM := (cX5_dealsLeft, yX5_dealsLeft, 3, some .int, 3)
theorem md_X5_dealsLeft : xMD mi_X5_dealsLeft 2 := ⟨by decide, by decide, by decide +kernel⟩
def f_X5_dealsLeft (r0 : Nat) (x1 : Int32) (x2 : Int32) (h : mH) : Option (Int32 × mH) := if gC h r0 = 4 then bR (f_X5_mayBy r0 x1 h) fun a1 g1 => bR (f_X5_bitOf a1 x2 g1) fun a2 g2 => if a2 = 0 then some ((0 : Int32), g2) else (gFr [4] 6 g2 r0).bind fun v4 => (aI .int g2 v4 ((124 : Int32) + x1)).bind fun v5 => bR (f_X5_bitOf v5 x2 g2) fun a6 g6 => if a6 = 0 then (gFr [4] 6 g6 r0).bind fun v8 => (aI .int g6 v8 (2 : Int32)).bind fun v9 => (gFr [4] 6 g6 r0).bind fun v10 => (aI .int g6 v10 (((227 : Int32) + ((7 : Int32) * x1)) + x2)).bind fun v11 => bR (f_X5_greater (0 : Int32) (v9 - v11) g6) fun a12 g12 => some (a12, g12) else some ((1000000 : Int32), g6) else none
theorem t_X5_dealsLeft {G : xG} (C0 : xC) {l : Launch} {r0 : Nat} {x1 : Int32} {x2 : Int32} (h : mH) {o : Int32 × mH} (H : f_X5_dealsLeft r0 x1 x2 h = some o) : XR G l mi_X5_dealsLeft [.ref r0, .int x1, .int x2] h (some (.int o.1)) o.2 := by
  refine XR.of C0 (by decide) (Nat.le_of_ble_eq_true rfl) (fun C _ _ _ hE => ?_)
  show X G C mi_X5_dealsLeft 0 [(0, .ref r0), (1, .int x1), (2, .int x2)] [] h
  unfold f_X5_dealsLeft at H
  refine x_aload_n 0 rfl dX5_dealsLeft_0 ?_
  refine x_iload_n 1 rfl dX5_dealsLeft_1 ?_
  obtain ⟨c1, H⟩ := oit H
  obtain ⟨a1, g1, e1, H⟩ := obR H
  refine x_callV (M' := mi_X5_mayBy) (n := 1) (As := [.int x1]) (t_X5_mayBy C _ e1) c1 rfl rfl md_X5_mayBy ⟨Nat.le_of_ble_eq_true rfl, Nat.le_of_ble_eq_true rfl⟩ q2212 q2214 qs75 q131 q2215 rfl (Nat.le_of_ble_eq_true rfl) dX5_dealsLeft_2 ?_
  refine x_iload_n 2 rfl dX5_dealsLeft_5 ?_
  obtain ⟨a2, g2, e2, H⟩ := obR H
  refine x_callS (M' := mi_X5_bitOf) (n := 2) (As := [.int a1, .int x2]) (t_X5_bitOf C _ e2) md_X5_bitOf ⟨Nat.le_of_ble_eq_true rfl, Nat.le_of_ble_eq_true rfl⟩ q2173 q2174 q131 q2175 rfl (Nat.le_of_ble_eq_true rfl) dX5_dealsLeft_6 ?_
  refine x_if_ne 16 dX5_dealsLeft_9 (by decide) (fun c3 => ?_) (fun c3 => ?_)
  · rw [if_neg c3] at H
    refine x_aload_n 0 rfl dX5_dealsLeft_16 ?_
    obtain ⟨v4, e4, H⟩ := ob H
    refine x_getf fg_X5_33 (gFr_spec e4) dX5_dealsLeft_17 ?_
    refine x_bipush (124 : Int32) dX5_dealsLeft_20 bi_124 ?_
    refine x_iload_n 1 rfl dX5_dealsLeft_22 ?_
    refine x_iadd dX5_dealsLeft_23 ?_
    obtain ⟨v5, e5, H⟩ := ob H
    refine x_iald e5 dX5_dealsLeft_24 ?_
    refine x_iload_n 2 rfl dX5_dealsLeft_25 ?_
    obtain ⟨a6, g6, e6, H⟩ := obR H
    refine x_callS (M' := mi_X5_bitOf) (n := 2) (As := [.int v5, .int x2]) (t_X5_bitOf C _ e6) md_X5_bitOf ⟨Nat.le_of_ble_eq_true rfl, Nat.le_of_ble_eq_true rfl⟩ q2173 q2174 q131 q2175 rfl (Nat.le_of_ble_eq_true rfl) dX5_dealsLeft_26 ?_
    refine x_if_eq 38 dX5_dealsLeft_29 (by decide) (fun c7 => ?_) (fun c7 => ?_)
    · rw [if_pos c7] at H
      refine x_iconst (0 : Int32) dX5_dealsLeft_38 ic_0 ?_
      refine x_aload_n 0 rfl dX5_dealsLeft_39 ?_
      obtain ⟨v8, e8, H⟩ := ob H
      refine x_getf fg_X5_33 (gFr_spec e8) dX5_dealsLeft_40 ?_
      refine x_iconst (2 : Int32) dX5_dealsLeft_43 ic_2 ?_
      obtain ⟨v9, e9, H⟩ := ob H
      refine x_iald e9 dX5_dealsLeft_44 ?_
      refine x_aload_n 0 rfl dX5_dealsLeft_45 ?_
      obtain ⟨v10, e10, H⟩ := ob H
      refine x_getf fg_X5_33 (gFr_spec e10) dX5_dealsLeft_46 ?_
      refine x_sipush (227 : Int32) dX5_dealsLeft_49 si_227 ?_
      refine x_bipush (7 : Int32) dX5_dealsLeft_52 bi_7 ?_
      refine x_iload_n 1 rfl dX5_dealsLeft_54 ?_
      refine x_imul dX5_dealsLeft_55 ?_
      refine x_iadd dX5_dealsLeft_56 ?_
      refine x_iload_n 2 rfl dX5_dealsLeft_57 ?_
      refine x_iadd dX5_dealsLeft_58 ?_
      obtain ⟨v11, e11, H⟩ := ob H
      refine x_iald e11 dX5_dealsLeft_59 ?_
      refine x_isub dX5_dealsLeft_60 ?_
      obtain ⟨a12, g12, e12, H⟩ := obR H
      refine x_callS (M' := mi_X5_greater) (n := 2) (As := [.int (0 : Int32), .int (v9 - v11)]) (t_X5_greater C _ e12) md_X5_greater ⟨Nat.le_of_ble_eq_true rfl, Nat.le_of_ble_eq_true rfl⟩ q2331 q2332 q131 q2333 rfl (Nat.le_of_ble_eq_true rfl) dX5_dealsLeft_61 ?_
      obtain rfl := Option.some.inj H
      exact x_iret hE rfl rfl dX5_dealsLeft_64
    · rw [if_neg c7] at H
      refine x_ldcw q2330 dX5_dealsLeft_32 ?_
      refine x_goto (tgt := 64) dX5_dealsLeft_35 (by decide) ?_
      obtain rfl := Option.some.inj H
      exact x_iret hE rfl rfl dX5_dealsLeft_64
  · rw [if_pos c3] at H
    refine x_iconst (0 : Int32) dX5_dealsLeft_12 ic_0 ?_
    refine x_goto (tgt := 64) dX5_dealsLeft_13 (by decide) ?_
    obtain rfl := Option.some.inj H
    exact x_iret hE rfl rfl dX5_dealsLeft_64
abbrev mi_X5_draw : xM := (cX5_draw, yX5_draw, 2, some .int, 1)
theorem md_X5_draw : xMD mi_X5_draw 1 := ⟨by decide, by decide, by decide +kernel⟩
def f_X5_draw (r0 : Nat) (x1 : Int32) (h : mH) : Option (Int32 × mH) := (gFi [4] 38 h r0).bind fun v1 => (pF [4] 38 (.int ((v1 * (1103515245 : Int32)) + (12345 : Int32))) h r0).bind fun h2 => (gFi [4] 38 h2 r0).bind fun v3 => if x1 = 0 then none else some ((((v3.toUInt32 >>> ((8 : Int32).toUInt32 &&& Int32.toUInt32 31)).toInt32) - ((v3.toUInt32 >>> ((8 : Int32).toUInt32 &&& Int32.toUInt32 31)).toInt32) / x1 * x1), h2)
theorem t_X5_draw {G : xG} (C0 : xC) {l : Launch} {r0 : Nat} {x1 : Int32} (h : mH) {o : Int32 × mH} (H : f_X5_draw r0 x1 h = some o) : XR G l mi_X5_draw [.ref r0, .int x1] h (some (.int o.1)) o.2 := by
  refine XR.of C0 (by decide) (Nat.le_of_ble_eq_true rfl) (fun C _ _ _ hE => ?_)
  show X G C mi_X5_draw 0 [(0, .ref r0), (1, .int x1)] [] h
  unfold f_X5_draw at H
  refine x_aload_n 0 rfl dX5_draw_0 ?_
  refine x_aload_n 0 rfl dX5_draw_1 ?_
  obtain ⟨v1, e1, H⟩ := ob H
  refine x_getf fg_X5_399 (gFi_spec e1) dX5_draw_2 ?_
  refine x_ldcw q2440 dX5_draw_5 ?_
  refine x_imul dX5_draw_8 ?_
  refine x_sipush (12345 : Int32) dX5_draw_9 si_12345 ?_
  refine x_iadd dX5_draw_12 ?_
  obtain ⟨h2, e2, H⟩ := ob H
  refine x_putf (fp_X5_399 _) rfl rfl e2 dX5_draw_13 ?_
  refine x_aload_n 0 rfl dX5_draw_16 ?_
  obtain ⟨v3, e3, H⟩ := ob H
  refine x_getf fg_X5_399 (gFi_spec e3) dX5_draw_17 ?_
  refine x_bipush (8 : Int32) dX5_draw_20 bi_8 ?_
  refine x_iushr dX5_draw_22 ?_
  refine x_iload_n 1 rfl dX5_draw_23 ?_
  obtain ⟨c4, H⟩ := oif H
  refine x_irem dX5_draw_24 c4 ?_
  obtain rfl := Option.some.inj H
  exact x_iret hE rfl rfl dX5_draw_25
abbrev mi_X5_drawPerson : xM := (cX5_drawPerson, yX5_drawPerson, 5, none, 4)
theorem md_X5_drawPerson : xMD mi_X5_drawPerson 1 := ⟨by decide, by decide, by decide +kernel⟩
def f_X5_drawPerson_b94 (r0 : Nat) (x1 : Int32) (x2 : Int32) (h : mH) : Option (Unit × mH) := if x2 = (4 : Int32) then if gC h r0 = 4 then bR (f_X5_whyVeil r0 x1 h) fun a5 g5 => if a5 = 0 then if gC g5 r0 = 4 then bR (f_X5_veils r0 x1 g5) fun a7 g7 => some ((), g7) else none else some ((), g5) else none else some ((), h)
theorem t_X5_drawPerson_b94 {G : xG} {C : xC} {o : Unit × mH} (hE : xEnd G C none o.2) (r0 : Nat) (x1 : Int32) (x2 : Int32) (h : mH) (H : f_X5_drawPerson_b94 r0 x1 x2 h = some o) : X G C mi_X5_drawPerson 94 [(0, .ref r0), (1, .int x1), (2, .int x2)] [] h := by
  unfold f_X5_drawPerson_b94 at H
  refine x_iload_n 2 rfl dX5_drawPerson_94 ?_
  refine x_iconst (4 : Int32) dX5_drawPerson_95 ic_4 ?_
  refine x_icmp_ne 112 dX5_drawPerson_96 (by decide) (fun c4 => ?_) (fun c4 => ?_)
  · rw [if_neg c4] at H
    obtain rfl := Option.some.inj H
    exact x_vret hE rfl dX5_drawPerson_112
  · rw [if_pos c4] at H
    refine x_aload_n 0 rfl dX5_drawPerson_99 ?_
    refine x_iload_n 1 rfl dX5_drawPerson_100 ?_
    obtain ⟨c5, H⟩ := oit H
    obtain ⟨a5, g5, e5, H⟩ := obR H
    refine x_callV (M' := mi_X5_whyVeil) (n := 1) (As := [.int x1]) (t_X5_whyVeil C _ e5) c5 rfl rfl md_X5_whyVeil ⟨Nat.le_of_ble_eq_true rfl, Nat.le_of_ble_eq_true rfl⟩ q2287 q2289 qs87 q131 q2290 rfl (Nat.le_of_ble_eq_true rfl) dX5_drawPerson_101 ?_
    refine x_if_ne 112 dX5_drawPerson_104 (by decide) (fun c6 => ?_) (fun c6 => ?_)
    · rw [if_neg c6] at H
      obtain rfl := Option.some.inj H
      exact x_vret hE rfl dX5_drawPerson_112
    · rw [if_pos c6] at H
      refine x_aload_n 0 rfl dX5_drawPerson_107 ?_
      refine x_iload_n 1 rfl dX5_drawPerson_108 ?_
      obtain ⟨c7, H⟩ := oit H
      obtain ⟨a7, g7, e7, H⟩ := obR H
      refine x_callV (M' := mi_X5_veils) (n := 1) (As := [.int x1]) (t_X5_veils C _ e7) c7 rfl rfl md_X5_veils ⟨Nat.le_of_ble_eq_true rfl, Nat.le_of_ble_eq_true rfl⟩ q2291 q2293 qs88 q131 q2294 rfl (Nat.le_of_ble_eq_true rfl) dX5_drawPerson_109 ?_
      obtain rfl := Option.some.inj H
      exact x_vret hE rfl dX5_drawPerson_112
def f_X5_drawPerson_b63 (r0 : Nat) (x1 : Int32) (x2 : Int32) (h : mH) : Option (Unit × mH) := if x2 = (3 : Int32) then (gFr [4] 6 h r0).bind fun v8 => (aI .int h v8 (0 : Int32)).bind fun v9 => if gC h r0 = 4 then bR (f_X5_draw r0 v9 h) fun a10 g10 => if gC g10 r0 = 4 then bR (f_X5_whyNod r0 x1 a10 g10) fun a11 g11 => if a11 = 0 then if gC g11 r0 = 4 then bR (f_X5_nods r0 x1 a10 g11) fun a13 g13 => f_X5_drawPerson_b94 r0 x1 x2 g13 else none else f_X5_drawPerson_b94 r0 x1 x2 g11 else none else none else f_X5_drawPerson_b94 r0 x1 x2 h
theorem t_X5_drawPerson_b63 {G : xG} {C : xC} {o : Unit × mH} (hE : xEnd G C none o.2) (r0 : Nat) (x1 : Int32) (x2 : Int32) (h : mH) (H : f_X5_drawPerson_b63 r0 x1 x2 h = some o) : X G C mi_X5_drawPerson 63 [(0, .ref r0), (1, .int x1), (2, .int x2)] [] h := by
  unfold f_X5_drawPerson_b63 at H
  refine x_iload_n 2 rfl dX5_drawPerson_63 ?_
  refine x_iconst (3 : Int32) dX5_drawPerson_64 ic_3 ?_
  refine x_icmp_ne 94 dX5_drawPerson_65 (by decide) (fun c3 => ?_) (fun c3 => ?_)
  · rw [if_neg c3] at H
    exact t_X5_drawPerson_b94 hE _ _ _ _ H
  · rw [if_pos c3] at H
    refine x_aload_n 0 rfl dX5_drawPerson_68 ?_
    refine x_aload_n 0 rfl dX5_drawPerson_69 ?_
    obtain ⟨v8, e8, H⟩ := ob H
    refine x_getf fg_X5_33 (gFr_spec e8) dX5_drawPerson_70 ?_
    refine x_iconst (0 : Int32) dX5_drawPerson_73 ic_0 ?_
    obtain ⟨v9, e9, H⟩ := ob H
    refine x_iald e9 dX5_drawPerson_74 ?_
    obtain ⟨c10, H⟩ := oit H
    obtain ⟨a10, g10, e10, H⟩ := obR H
    refine x_callV (M' := mi_X5_draw) (n := 1) (As := [.int v9]) (t_X5_draw C _ e10) c10 rfl rfl md_X5_draw ⟨Nat.le_of_ble_eq_true rfl, Nat.le_of_ble_eq_true rfl⟩ q2436 q2438 qs105 q131 q2439 rfl (Nat.le_of_ble_eq_true rfl) dX5_drawPerson_75 ?_
    refine x_istore_n [1, 2, 3, 0] dX5_drawPerson_78 (by decide) rfl ?_
    refine x_aload_n 0 rfl dX5_drawPerson_79 ?_
    refine x_iload_n 1 rfl dX5_drawPerson_80 ?_
    refine x_iload_n 3 rfl dX5_drawPerson_81 ?_
    obtain ⟨c11, H⟩ := oit H
    obtain ⟨a11, g11, e11, H⟩ := obR H
    refine x_callV (M' := mi_X5_whyNod) (n := 2) (As := [.int x1, .int a10]) (t_X5_whyNod C _ e11) c11 rfl rfl md_X5_whyNod ⟨Nat.le_of_ble_eq_true rfl, Nat.le_of_ble_eq_true rfl⟩ q2275 q2277 qs85 q131 q2278 rfl (Nat.le_of_ble_eq_true rfl) dX5_drawPerson_82 ?_
    refine x_if_ne 94 dX5_drawPerson_85 (by decide) (fun c12 => ?_) (fun c12 => ?_)
    · rw [if_neg c12] at H
      refine X.sub [0, 1, 2] rfl ?_
      exact t_X5_drawPerson_b94 hE _ _ _ _ H
    · rw [if_pos c12] at H
      refine x_aload_n 0 rfl dX5_drawPerson_88 ?_
      refine x_iload_n 1 rfl dX5_drawPerson_89 ?_
      refine x_iload_n 3 rfl dX5_drawPerson_90 ?_
      obtain ⟨c13, H⟩ := oit H
      obtain ⟨a13, g13, e13, H⟩ := obR H
      refine x_callV (M' := mi_X5_nods) (n := 2) (As := [.int x1, .int a10]) (t_X5_nods C _ e13) c13 rfl rfl md_X5_nods ⟨Nat.le_of_ble_eq_true rfl, Nat.le_of_ble_eq_true rfl⟩ q2279 q2281 qs86 q131 q2282 rfl (Nat.le_of_ble_eq_true rfl) dX5_drawPerson_91 ?_
      refine X.sub [0, 1, 2] rfl ?_
      exact t_X5_drawPerson_b94 hE _ _ _ _ H
def f_X5_drawPerson (r0 : Nat) (x1 : Int32) (h : mH) : Option (Unit × mH) := if gC h r0 = 4 then bR (f_X5_draw r0 (6 : Int32) h) fun a1 g1 => if (3 : Int32) ≤ a1 then f_X5_drawPerson_b63 r0 x1 a1 g1 else (gFr [4] 6 g1 r0).bind fun v14 => (aI .int g1 v14 (1 : Int32)).bind fun v15 => if v15 ≤ 0 then f_X5_drawPerson_b63 r0 x1 a1 g1 else (gFr [4] 6 g1 r0).bind fun v17 => (aI .int g1 v17 (1 : Int32)).bind fun v18 => if gC g1 r0 = 4 then bR (f_X5_draw r0 v18 g1) fun a19 g19 => (gFr [4] 6 g19 r0).bind fun v20 => (aI .int g19 v20 (0 : Int32)).bind fun v21 => if gC g19 r0 = 4 then bR (f_X5_draw r0 v21 g19) fun a22 g22 => if gC g22 r0 = 4 then bR (f_X5_whyBuy r0 x1 a19 a22 g22) fun a23 g23 => if a23 = 0 then if gC g23 r0 = 4 then bR (f_X5_buys r0 x1 a19 a22 g23) fun a25 g25 => f_X5_drawPerson_b63 r0 x1 a1 g25 else none else f_X5_drawPerson_b63 r0 x1 a1 g23 else none else none else none else none
theorem t_X5_drawPerson {G : xG} (C0 : xC) {l : Launch} {r0 : Nat} {x1 : Int32} (h : mH) {o : Unit × mH} (H : f_X5_drawPerson r0 x1 h = some o) : XR G l mi_X5_drawPerson [.ref r0, .int x1] h none o.2 := by
  refine XR.of C0 (by decide) (Nat.le_of_ble_eq_true rfl) (fun C _ _ _ hE => ?_)
  show X G C mi_X5_drawPerson 0 [(0, .ref r0), (1, .int x1)] [] h
  unfold f_X5_drawPerson at H
  refine x_aload_n 0 rfl dX5_drawPerson_0 ?_
  refine x_bipush (6 : Int32) dX5_drawPerson_1 bi_6 ?_
  obtain ⟨c1, H⟩ := oit H
  obtain ⟨a1, g1, e1, H⟩ := obR H
  refine x_callV (M' := mi_X5_draw) (n := 1) (As := [.int (6 : Int32)]) (t_X5_draw C _ e1) c1 rfl rfl md_X5_draw ⟨Nat.le_of_ble_eq_true rfl, Nat.le_of_ble_eq_true rfl⟩ q2436 q2438 qs105 q131 q2439 rfl (Nat.le_of_ble_eq_true rfl) dX5_drawPerson_3 ?_
  refine x_istore_n [1, 2, 0] dX5_drawPerson_6 (by decide) rfl ?_
  refine x_iload_n 2 rfl dX5_drawPerson_7 ?_
  refine x_iconst (3 : Int32) dX5_drawPerson_8 ic_3 ?_
  refine x_icmp_ge 63 dX5_drawPerson_9 (by decide) (fun c2 => ?_) (fun c2 => ?_)
  · rw [if_pos c2] at H
    exact t_X5_drawPerson_b63 hE _ _ _ _ H
  · rw [if_neg c2] at H
    refine x_aload_n 0 rfl dX5_drawPerson_12 ?_
    obtain ⟨v14, e14, H⟩ := ob H
    refine x_getf fg_X5_33 (gFr_spec e14) dX5_drawPerson_13 ?_
    refine x_iconst (1 : Int32) dX5_drawPerson_16 ic_1 ?_
    obtain ⟨v15, e15, H⟩ := ob H
    refine x_iald e15 dX5_drawPerson_17 ?_
    refine x_if_le 63 dX5_drawPerson_18 (by decide) (fun c16 => ?_) (fun c16 => ?_)
    · rw [if_pos c16] at H
      exact t_X5_drawPerson_b63 hE _ _ _ _ H
    · rw [if_neg c16] at H
      refine x_aload_n 0 rfl dX5_drawPerson_21 ?_
      refine x_aload_n 0 rfl dX5_drawPerson_22 ?_
      obtain ⟨v17, e17, H⟩ := ob H
      refine x_getf fg_X5_33 (gFr_spec e17) dX5_drawPerson_23 ?_
      refine x_iconst (1 : Int32) dX5_drawPerson_26 ic_1 ?_
      obtain ⟨v18, e18, H⟩ := ob H
      refine x_iald e18 dX5_drawPerson_27 ?_
      obtain ⟨c19, H⟩ := oit H
      obtain ⟨a19, g19, e19, H⟩ := obR H
      refine x_callV (M' := mi_X5_draw) (n := 1) (As := [.int v18]) (t_X5_draw C _ e19) c19 rfl rfl md_X5_draw ⟨Nat.le_of_ble_eq_true rfl, Nat.le_of_ble_eq_true rfl⟩ q2436 q2438 qs105 q131 q2439 rfl (Nat.le_of_ble_eq_true rfl) dX5_drawPerson_28 ?_
      refine x_istore_n [1, 2, 3, 0] dX5_drawPerson_31 (by decide) rfl ?_
      refine x_aload_n 0 rfl dX5_drawPerson_32 ?_
      refine x_aload_n 0 rfl dX5_drawPerson_33 ?_
      obtain ⟨v20, e20, H⟩ := ob H
      refine x_getf fg_X5_33 (gFr_spec e20) dX5_drawPerson_34 ?_
      refine x_iconst (0 : Int32) dX5_drawPerson_37 ic_0 ?_
      obtain ⟨v21, e21, H⟩ := ob H
      refine x_iald e21 dX5_drawPerson_38 ?_
      obtain ⟨c22, H⟩ := oit H
      obtain ⟨a22, g22, e22, H⟩ := obR H
      refine x_callV (M' := mi_X5_draw) (n := 1) (As := [.int v21]) (t_X5_draw C _ e22) c22 rfl rfl md_X5_draw ⟨Nat.le_of_ble_eq_true rfl, Nat.le_of_ble_eq_true rfl⟩ q2436 q2438 qs105 q131 q2439 rfl (Nat.le_of_ble_eq_true rfl) dX5_drawPerson_39 ?_
      refine x_istore [1, 2, 3, 4, 0] dX5_drawPerson_42 (by decide) rfl ?_
      refine x_aload_n 0 rfl dX5_drawPerson_44 ?_
      refine x_iload_n 1 rfl dX5_drawPerson_45 ?_
      refine x_iload_n 3 rfl dX5_drawPerson_46 ?_
      refine x_iload 4 rfl dX5_drawPerson_47 ?_
      obtain ⟨c23, H⟩ := oit H
      obtain ⟨a23, g23, e23, H⟩ := obR H
      refine x_callV (M' := mi_X5_whyBuy) (n := 3) (As := [.int x1, .int a19, .int a22]) (t_X5_whyBuy C _ e23) c23 rfl rfl md_X5_whyBuy ⟨Nat.le_of_ble_eq_true rfl, Nat.le_of_ble_eq_true rfl⟩ q2247 q2249 qs79 q131 q2250 rfl (Nat.le_of_ble_eq_true rfl) dX5_drawPerson_49 ?_
      refine x_if_ne 63 dX5_drawPerson_52 (by decide) (fun c24 => ?_) (fun c24 => ?_)
      · rw [if_neg c24] at H
        refine X.sub [0, 1, 2] rfl ?_
        exact t_X5_drawPerson_b63 hE _ _ _ _ H
      · rw [if_pos c24] at H
        refine x_aload_n 0 rfl dX5_drawPerson_55 ?_
        refine x_iload_n 1 rfl dX5_drawPerson_56 ?_
        refine x_iload_n 3 rfl dX5_drawPerson_57 ?_
        refine x_iload 4 rfl dX5_drawPerson_58 ?_
        obtain ⟨c25, H⟩ := oit H
        obtain ⟨a25, g25, e25, H⟩ := obR H
        refine x_callV (M' := mi_X5_buys) (n := 3) (As := [.int x1, .int a19, .int a22]) (t_X5_buys C _ e25) c25 rfl rfl md_X5_buys ⟨Nat.le_of_ble_eq_true rfl, Nat.le_of_ble_eq_true rfl⟩ q2263 q2265 qs83 q131 q2266 rfl (Nat.le_of_ble_eq_true rfl) dX5_drawPerson_60 ?_
        refine X.sub [0, 1, 2] rfl ?_
        exact t_X5_drawPerson_b63 hE _ _ _ _ H
abbrev mi_X5_draws : xM := (cX5_draws, yX5_draws, 5, some .int, 5)
theorem md_X5_draws : xMD mi_X5_draws 2 := ⟨by decide, by decide, by decide +kernel⟩
def f_X5_draws_b52 (kb : Nat → Int32 → Int32 → mH → Option (Int32 × mH)) (r0 : Nat) (x1 : Int32) (x3 : Int32) (h : mH) : Option (Int32 × mH) := if gC h r0 = 4 then bR (f_X5_day r0  h) fun a6 g6 => kb r0 x1 (x3 + (1 : Int32)) g6 else none
theorem t_X5_draws_b52 {G : xG} {C : xC} {o : Int32 × mH} (hE : xEnd G C (some (.int o.1)) o.2) {kb : Nat → Int32 → Int32 → mH → Option (Int32 × mH)} (hkb : ∀ (r0 : Nat) (x1 : Int32) (x3 : Int32) (h : mH), kb r0 x1 x3 h = some o → X G C mi_X5_draws 7 [(0, .ref r0), (1, .int x1), (3, .int x3)] [] h) (r0 : Nat) (x1 : Int32) (x3 : Int32) (h : mH) (H : f_X5_draws_b52 kb r0 x1 x3 h = some o) : X G C mi_X5_draws 52 [(0, .ref r0), (1, .int x1), (3, .int x3)] [] h := by
  unfold f_X5_draws_b52 at H
  refine x_aload_n 0 rfl dX5_draws_52 ?_
  obtain ⟨c6, H⟩ := oit H
  obtain ⟨a6, g6, e6, H⟩ := obR H
  refine x_callV (M' := mi_X5_day) (n := 0) (As := []) (t_X5_day C _ e6) c6 rfl rfl md_X5_day ⟨Nat.le_of_ble_eq_true rfl, Nat.le_of_ble_eq_true rfl⟩ q2311 q2313 qs91 q131 q2314 rfl (Nat.le_of_ble_eq_true rfl) dX5_draws_53 ?_
  refine x_iinc 2 (x3 + (1 : Int32)) [1, 2, 0] dX5_draws_56 rfl (ii_1 _) (by decide) rfl ?_
  refine x_goto (tgt := 7) dX5_draws_59 (by decide) ?_
  exact hkb _ _ _ _ H
def f_X5_draws_L29 (k52 : Nat → Int32 → Int32 → mH → Option (Int32 × mH)) : Nat → Nat → Int32 → Int32 → Int32 → mH → Option (Int32 × mH)
  | 0, _, _, _, _, _ => none
  | n + 1, r0, x1, x3, x4, h => (gFr [4] 6 h r0).bind fun v7 => (aI .int h v7 (0 : Int32)).bind fun v8 => if v8 ≤ x4 then k52 r0 x1 x3 h else if gC h r0 = 4 then bR (f_X5_drawPerson r0 x4 h) fun a10 g10 => (f_X5_draws_L29 k52 n) r0 x1 x3 (x4 + (1 : Int32)) g10 else none
theorem t_X5_draws_L29 {G : xG} {C : xC} {o : Int32 × mH} (hE : xEnd G C (some (.int o.1)) o.2) {k52 : Nat → Int32 → Int32 → mH → Option (Int32 × mH)} (hk52 : ∀ (r0 : Nat) (x1 : Int32) (x3 : Int32) (h : mH), k52 r0 x1 x3 h = some o → X G C mi_X5_draws 52 [(0, .ref r0), (1, .int x1), (3, .int x3)] [] h) : ∀ (n : Nat) (r0 : Nat) (x1 : Int32) (x3 : Int32) (x4 : Int32) (h : mH), f_X5_draws_L29 k52 n r0 x1 x3 x4 h = some o → X G C mi_X5_draws 29 [(0, .ref r0), (1, .int x1), (3, .int x3), (4, .int x4)] [] h := by
  intro n
  induction n with
  | zero => intro r0 x1 x3 x4 h H; exact nomatch (show (none : Option (Int32 × mH)) = some o from H)
  | succ n ih =>
    intro r0 x1 x3 x4 h H
    rw [f_X5_draws_L29] at H
    refine x_iload 3 rfl dX5_draws_29 ?_
    refine x_aload_n 0 rfl dX5_draws_31 ?_
    obtain ⟨v7, e7, H⟩ := ob H
    refine x_getf fg_X5_33 (gFr_spec e7) dX5_draws_32 ?_
    refine x_iconst (0 : Int32) dX5_draws_35 ic_0 ?_
    obtain ⟨v8, e8, H⟩ := ob H
    refine x_iald e8 dX5_draws_36 ?_
    refine x_icmp_ge 52 dX5_draws_37 (by decide) (fun c9 => ?_) (fun c9 => ?_)
    · rw [if_pos c9] at H
      refine X.sub [0, 1, 2] rfl ?_
      exact hk52 _ _ _ _ H
    · rw [if_neg c9] at H
      refine x_aload_n 0 rfl dX5_draws_40 ?_
      refine x_iload 3 rfl dX5_draws_41 ?_
      obtain ⟨c10, H⟩ := oit H
      obtain ⟨a10, g10, e10, H⟩ := obR H
      refine x_callV (M' := mi_X5_drawPerson) (n := 1) (As := [.int x4]) (t_X5_drawPerson C _ e10) c10 rfl rfl md_X5_drawPerson ⟨Nat.le_of_ble_eq_true rfl, Nat.le_of_ble_eq_true rfl⟩ q2432 q2434 qs104 q131 q2435 rfl (Nat.le_of_ble_eq_true rfl) dX5_draws_43 ?_
      refine x_iinc 3 (x4 + (1 : Int32)) [1, 2, 3, 0] dX5_draws_46 rfl (ii_1 _) (by decide) rfl ?_
      refine x_goto (tgt := 29) dX5_draws_49 (by decide) ?_
      exact ih _ _ _ _ _ H
def f_X5_draws_L7 : Nat → Nat → Int32 → Int32 → mH → Option (Int32 × mH)
  | 0, _, _, _, _ => none
  | n + 1, r0, x1, x3, h => if x1 ≤ x3 then some (x3, h) else (gFr [4] 6 h r0).bind fun v3 => (aI .int h v3 (131 : Int32)).bind fun v4 => if (400 : Int32) ≤ v4 then some (x3, h) else f_X5_draws_L29 (f_X5_draws_b52 (f_X5_draws_L7 n)) xFu r0 x1 x3 (0 : Int32) h
theorem t_X5_draws_L7 {G : xG} {C : xC} {o : Int32 × mH} (hE : xEnd G C (some (.int o.1)) o.2) : ∀ (n : Nat) (r0 : Nat) (x1 : Int32) (x3 : Int32) (h : mH), f_X5_draws_L7 n r0 x1 x3 h = some o → X G C mi_X5_draws 7 [(0, .ref r0), (1, .int x1), (3, .int x3)] [] h := by
  intro n
  induction n with
  | zero => intro r0 x1 x3 h H; exact nomatch (show (none : Option (Int32 × mH)) = some o from H)
  | succ n ih =>
    intro r0 x1 x3 h H
    rw [f_X5_draws_L7] at H
    refine x_iload_n 2 rfl dX5_draws_7 ?_
    refine x_iload_n 1 rfl dX5_draws_8 ?_
    refine x_icmp_ge 62 dX5_draws_9 (by decide) (fun c2 => ?_) (fun c2 => ?_)
    · rw [if_pos c2] at H
      refine x_iload_n 2 rfl dX5_draws_62 ?_
      obtain rfl := Option.some.inj H
      exact x_iret hE rfl rfl dX5_draws_63
    · rw [if_neg c2] at H
      refine x_aload_n 0 rfl dX5_draws_12 ?_
      obtain ⟨v3, e3, H⟩ := ob H
      refine x_getf fg_X5_33 (gFr_spec e3) dX5_draws_13 ?_
      refine x_sipush (131 : Int32) dX5_draws_16 si_131 ?_
      obtain ⟨v4, e4, H⟩ := ob H
      refine x_iald e4 dX5_draws_19 ?_
      refine x_sipush (400 : Int32) dX5_draws_20 si_400 ?_
      refine x_icmp_ge 62 dX5_draws_23 (by decide) (fun c5 => ?_) (fun c5 => ?_)
      · rw [if_pos c5] at H
        refine x_iload_n 2 rfl dX5_draws_62 ?_
        obtain rfl := Option.some.inj H
        exact x_iret hE rfl rfl dX5_draws_63
      · rw [if_neg c5] at H
        refine x_iconst (0 : Int32) dX5_draws_26 ic_0 ?_
        refine x_istore [1, 2, 3, 0] dX5_draws_27 (by decide) rfl ?_
        exact t_X5_draws_L29 hE (t_X5_draws_b52 hE ih) xFu _ _ _ _ _ H
def f_X5_draws (r0 : Nat) (x1 : Int32) (x2 : Int32) (h : mH) : Option (Int32 × mH) := (pF [4] 38 (.int x2) h r0).bind fun h1 => f_X5_draws_L7  xFu r0 x1 (0 : Int32) h1
theorem t_X5_draws {G : xG} (C0 : xC) {l : Launch} {r0 : Nat} {x1 : Int32} {x2 : Int32} (h : mH) {o : Int32 × mH} (H : f_X5_draws r0 x1 x2 h = some o) : XR G l mi_X5_draws [.ref r0, .int x1, .int x2] h (some (.int o.1)) o.2 := by
  refine XR.of C0 (by decide) (Nat.le_of_ble_eq_true rfl) (fun C _ _ _ hE => ?_)
  show X G C mi_X5_draws 0 [(0, .ref r0), (1, .int x1), (2, .int x2)] [] h
  unfold f_X5_draws at H
  refine x_aload_n 0 rfl dX5_draws_0 ?_
  refine x_iload_n 2 rfl dX5_draws_1 ?_
  obtain ⟨h1, e1, H⟩ := ob H
  refine x_putf (fp_X5_399 _) rfl rfl e1 dX5_draws_2 ?_
  refine x_iconst (0 : Int32) dX5_draws_5 ic_0 ?_
  refine x_istore_n [1, 2, 3, 0] dX5_draws_6 (by decide) rfl ?_
  refine X.sub [0, 1, 3] rfl ?_
  exact t_X5_draws_L7 hE  xFu _ _ _ _ H
abbrev mi_X5_drawn : xM := (cX5_drawn, yX5_drawn, 3, some .int, 6)
theorem md_X5_drawn : xMD mi_X5_drawn 2 := ⟨by decide, by decide, by decide +kernel⟩
def f_X5_drawn_b35 (r0 : Nat) (x1 : Int32) (x2 : Int32) (h : mH) : Option (Int32 × mH) := if gC h r0 = 4 then bR (f_X5_draws r0 x1 x2 h) fun a7 g7 => some (a7, g7) else none
theorem t_X5_drawn_b35 {G : xG} {C : xC} {o : Int32 × mH} (hE : xEnd G C (some (.int o.1)) o.2) (r0 : Nat) (x1 : Int32) (x2 : Int32) (h : mH) (H : f_X5_drawn_b35 r0 x1 x2 h = some o) : X G C mi_X5_drawn 35 [(0, .ref r0), (1, .int x1), (2, .int x2)] [] h := by
  unfold f_X5_drawn_b35 at H
  refine x_aload_n 0 rfl dX5_drawn_35 ?_
  refine x_iload_n 1 rfl dX5_drawn_36 ?_
  refine x_iload_n 2 rfl dX5_drawn_37 ?_
  obtain ⟨c7, H⟩ := oit H
  obtain ⟨a7, g7, e7, H⟩ := obR H
  refine x_callV (M' := mi_X5_draws) (n := 2) (As := [.int x1, .int x2]) (t_X5_draws C _ e7) c7 rfl rfl md_X5_draws ⟨Nat.le_of_ble_eq_true rfl, Nat.le_of_ble_eq_true rfl⟩ q2428 q2430 qs103 q131 q2431 rfl (Nat.le_of_ble_eq_true rfl) dX5_drawn_38 ?_
  obtain rfl := Option.some.inj H
  exact x_iret hE rfl rfl dX5_drawn_41
def f_X5_drawn (r0 : Nat) (x1 : Int32) (x2 : Int32) (h : mH) : Option (Int32 × mH) := (pF [4] 0 (.int (0 : Int32)) h r0).bind fun h1 => bR (f_X5_isIn x1 (1 : Int32) (60 : Int32) h1) fun a2 g2 => if a2 = 0 then some ((-1 : Int32), g2) else (gFr [4] 6 g2 r0).bind fun v4 => (aI .int g2 v4 (131 : Int32)).bind fun v5 => if (400 : Int32) ≤ v5 then f_X5_drawn_b35 r0 x1 x2 g2 else if gC g2 r0 = 4 then bR (f_X5_keep r0  g2) fun a8 g8 => f_X5_drawn_b35 r0 x1 x2 g8 else none
theorem t_X5_drawn {G : xG} (C0 : xC) {l : Launch} {r0 : Nat} {x1 : Int32} {x2 : Int32} (h : mH) {o : Int32 × mH} (H : f_X5_drawn r0 x1 x2 h = some o) : XR G l mi_X5_drawn [.ref r0, .int x1, .int x2] h (some (.int o.1)) o.2 := by
  refine XR.of C0 (by decide) (Nat.le_of_ble_eq_true rfl) (fun C _ _ _ hE => ?_)
  show X G C mi_X5_drawn 0 [(0, .ref r0), (1, .int x1), (2, .int x2)] [] h
  unfold f_X5_drawn at H
  refine x_aload_n 0 rfl dX5_drawn_0 ?_
  refine x_iconst (0 : Int32) dX5_drawn_1 ic_0 ?_
  obtain ⟨h1, e1, H⟩ := ob H
  refine x_putf (fp_X5_1 _) rfl rfl e1 dX5_drawn_2 ?_
  refine x_iload_n 1 rfl dX5_drawn_5 ?_
  refine x_iconst (1 : Int32) dX5_drawn_6 ic_1 ?_
  refine x_bipush (60 : Int32) dX5_drawn_7 bi_60 ?_
  obtain ⟨a2, g2, e2, H⟩ := obR H
  refine x_callS (M' := mi_X5_isIn) (n := 3) (As := [.int x1, .int (1 : Int32), .int (60 : Int32)]) (t_X5_isIn C _ e2) md_X5_isIn ⟨Nat.le_of_ble_eq_true rfl, Nat.le_of_ble_eq_true rfl⟩ q2150 q2151 q131 q2152 rfl (Nat.le_of_ble_eq_true rfl) dX5_drawn_9 ?_
  refine x_if_ne 17 dX5_drawn_12 (by decide) (fun c3 => ?_) (fun c3 => ?_)
  · rw [if_neg c3] at H
    refine x_aload_n 0 rfl dX5_drawn_17 ?_
    obtain ⟨v4, e4, H⟩ := ob H
    refine x_getf fg_X5_33 (gFr_spec e4) dX5_drawn_18 ?_
    refine x_sipush (131 : Int32) dX5_drawn_21 si_131 ?_
    obtain ⟨v5, e5, H⟩ := ob H
    refine x_iald e5 dX5_drawn_24 ?_
    refine x_sipush (400 : Int32) dX5_drawn_25 si_400 ?_
    refine x_icmp_ge 35 dX5_drawn_28 (by decide) (fun c6 => ?_) (fun c6 => ?_)
    · rw [if_pos c6] at H
      exact t_X5_drawn_b35 hE _ _ _ _ H
    · rw [if_neg c6] at H
      refine x_aload_n 0 rfl dX5_drawn_31 ?_
      obtain ⟨c8, H⟩ := oit H
      obtain ⟨a8, g8, e8, H⟩ := obR H
      refine x_callV (M' := mi_X5_keep) (n := 0) (As := []) (t_X5_keep C _ e8) c8 rfl rfl md_X5_keep ⟨Nat.le_of_ble_eq_true rfl, Nat.le_of_ble_eq_true rfl⟩ q2259 q2261 qs82 q131 q2262 rfl (Nat.le_of_ble_eq_true rfl) dX5_drawn_32 ?_
      exact t_X5_drawn_b35 hE _ _ _ _ H
  · rw [if_pos c3] at H
    refine x_iconst (-1 : Int32) dX5_drawn_15 ic_m1 ?_
    obtain rfl := Option.some.inj H
    exact x_iret hE rfl rfl dX5_drawn_16
abbrev mi_X5_end : xM := (cX5_end, yX5_end, 2, some .boolean, 1)
theorem md_X5_end : xMD mi_X5_end 1 := ⟨by decide, by decide, by decide +kernel⟩
def f_X5_end (r0 : Nat) (x1 : Int32) (h : mH) : Option (Int32 × mH) := (pF [4] 0 (.int (0 : Int32)) h r0).bind fun h1 => if x1 < 0 then some ((0 : Int32), h1) else (gFi [4] 2 h1 r0).bind fun v3 => if x1 ≤ v3 then (pF [4] 2 (.int x1) h1 r0).bind fun h5 => some ((1 : Int32), h5) else some ((0 : Int32), h1)
theorem t_X5_end {G : xG} (C0 : xC) {l : Launch} {r0 : Nat} {x1 : Int32} (h : mH) {o : Int32 × mH} (H : f_X5_end r0 x1 h = some o) : XR G l mi_X5_end [.ref r0, .int x1] h (some (.int o.1)) o.2 := by
  refine XR.of C0 (by decide) (Nat.le_of_ble_eq_true rfl) (fun C _ _ _ hE => ?_)
  show X G C mi_X5_end 0 [(0, .ref r0), (1, .int x1)] [] h
  unfold f_X5_end at H
  refine x_aload_n 0 rfl dX5_end_0 ?_
  refine x_iconst (0 : Int32) dX5_end_1 ic_0 ?_
  obtain ⟨h1, e1, H⟩ := ob H
  refine x_putf (fp_X5_1 _) rfl rfl e1 dX5_end_2 ?_
  refine x_iload_n 1 rfl dX5_end_5 ?_
  refine x_if_lt 17 dX5_end_6 (by decide) (fun c2 => ?_) (fun c2 => ?_)
  · rw [if_pos c2] at H
    refine x_iconst (0 : Int32) dX5_end_17 ic_0 ?_
    obtain rfl := Option.some.inj H
    exact x_iret hE rfl rfl dX5_end_18
  · rw [if_neg c2] at H
    refine x_iload_n 1 rfl dX5_end_9 ?_
    refine x_aload_n 0 rfl dX5_end_10 ?_
    obtain ⟨v3, e3, H⟩ := ob H
    refine x_getf fg_X5_7 (gFi_spec e3) dX5_end_11 ?_
    refine x_icmp_le 19 dX5_end_14 (by decide) (fun c4 => ?_) (fun c4 => ?_)
    · rw [if_pos c4] at H
      refine x_aload_n 0 rfl dX5_end_19 ?_
      refine x_iload_n 1 rfl dX5_end_20 ?_
      obtain ⟨h5, e5, H⟩ := ob H
      refine x_putf (fp_X5_7 _) rfl rfl e5 dX5_end_21 ?_
      refine x_iconst (1 : Int32) dX5_end_24 ic_1 ?_
      obtain rfl := Option.some.inj H
      exact x_iret hE rfl rfl dX5_end_25
    · rw [if_neg c4] at H
      refine x_iconst (0 : Int32) dX5_end_17 ic_0 ?_
      obtain rfl := Option.some.inj H
      exact x_iret hE rfl rfl dX5_end_18
abbrev mi_X5_lays : xM := (cX5_lays, yX5_lays, 2, none, 1)
theorem md_X5_lays : xMD mi_X5_lays 1 := ⟨by decide, by decide, by decide +kernel⟩
def f_X5_lays (r0 : Nat) (x1 : Int32) (h : mH) : Option (Unit × mH) := (gFr [4] 36 h r0).bind fun v1 => (gFi [4] 37 h r0).bind fun v2 => (sI .byte h v1 v2 (x1.toInt8.toInt32)).bind fun h3 => (gFi [4] 37 h3 r0).bind fun v4 => (pF [4] 37 (.int (v4 + (1 : Int32))) h3 r0).bind fun h5 => some ((), h5)
theorem t_X5_lays {G : xG} (C0 : xC) {l : Launch} {r0 : Nat} {x1 : Int32} (h : mH) {o : Unit × mH} (H : f_X5_lays r0 x1 h = some o) : XR G l mi_X5_lays [.ref r0, .int x1] h none o.2 := by
  refine XR.of C0 (by decide) (Nat.le_of_ble_eq_true rfl) (fun C _ _ _ hE => ?_)
  show X G C mi_X5_lays 0 [(0, .ref r0), (1, .int x1)] [] h
  unfold f_X5_lays at H
  refine x_aload_n 0 rfl dX5_lays_0 ?_
  obtain ⟨v1, e1, H⟩ := ob H
  refine x_getf fg_X5_74 (gFr_spec e1) dX5_lays_1 ?_
  refine x_aload_n 0 rfl dX5_lays_4 ?_
  obtain ⟨v2, e2, H⟩ := ob H
  refine x_getf fg_X5_382 (gFi_spec e2) dX5_lays_5 ?_
  refine x_iload_n 1 rfl dX5_lays_8 ?_
  refine x_i2b dX5_lays_9 ?_
  obtain ⟨h3, e3, H⟩ := ob H
  refine x_bast e3 dX5_lays_10 ?_
  refine x_aload_n 0 rfl dX5_lays_11 ?_
  refine x_dup dX5_lays_12 rfl ?_
  obtain ⟨v4, e4, H⟩ := ob H
  refine x_getf fg_X5_382 (gFi_spec e4) dX5_lays_13 ?_
  refine x_iconst (1 : Int32) dX5_lays_16 ic_1 ?_
  refine x_iadd dX5_lays_17 ?_
  obtain ⟨h5, e5, H⟩ := ob H
  refine x_putf (fp_X5_382 _) rfl rfl e5 dX5_lays_18 ?_
  obtain rfl := Option.some.inj H
  exact x_vret hE rfl dX5_lays_21
abbrev mi_X5_spells : xM := (cX5_spells, yX5_spells, 4, none, 2)
theorem md_X5_spells : xMD mi_X5_spells 1 := ⟨by decide, by decide, by decide +kernel⟩
def f_X5_spells_b31 (kb : Nat → Int64 → Int32 → mH → Option (Unit × mH)) (r0 : Nat) (l1 : Int64) (x3 : Int32) (h : mH) : Option (Unit × mH) := kb r0 l1 (x3 + (-8 : Int32)) h
theorem t_X5_spells_b31 {G : xG} {C : xC} {o : Unit × mH} (hE : xEnd G C none o.2) {kb : Nat → Int64 → Int32 → mH → Option (Unit × mH)} (hkb : ∀ (r0 : Nat) (l1 : Int64) (x3 : Int32) (h : mH), kb r0 l1 x3 h = some o → X G C mi_X5_spells 3 [(0, .ref r0), (1, .long l1), (3, .int x3)] [] h) (r0 : Nat) (l1 : Int64) (x3 : Int32) (h : mH) (H : f_X5_spells_b31 kb r0 l1 x3 h = some o) : X G C mi_X5_spells 31 [(0, .ref r0), (1, .long l1), (3, .int x3)] [] h := by
  unfold f_X5_spells_b31 at H
  refine x_iinc 2 (x3 + (-8 : Int32)) [1, 2, 0] dX5_spells_31 rfl (ii_m8 _) (by decide) rfl ?_
  refine x_goto (tgt := 3) dX5_spells_34 (by decide) ?_
  exact hkb _ _ _ _ H
def f_X5_spells_L3 : Nat → Nat → Int64 → Int32 → mH → Option (Unit × mH)
  | 0, _, _, _, _ => none
  | n + 1, r0, l1, x3, h => if x3 < 0 then some ((), h) else if (lg_cmp ((l1 >>> (x3.toInt64 &&& 63)) &&& (255 : Int64)) (0 : Int64)) = 0 then f_X5_spells_b31 (f_X5_spells_L3 n) r0 l1 x3 h else if gC h r0 = 4 then bR (f_X5_lays r0 (((l1 >>> (x3.toInt64 &&& 63)) &&& (255 : Int64)).toInt32) h) fun a3 g3 => f_X5_spells_b31 (f_X5_spells_L3 n) r0 l1 x3 g3 else none
theorem t_X5_spells_L3 {G : xG} {C : xC} {o : Unit × mH} (hE : xEnd G C none o.2) : ∀ (n : Nat) (r0 : Nat) (l1 : Int64) (x3 : Int32) (h : mH), f_X5_spells_L3 n r0 l1 x3 h = some o → X G C mi_X5_spells 3 [(0, .ref r0), (1, .long l1), (3, .int x3)] [] h := by
  intro n
  induction n with
  | zero => intro r0 l1 x3 h H; exact nomatch (show (none : Option (Unit × mH)) = some o from H)
  | succ n ih =>
    intro r0 l1 x3 h H
    rw [f_X5_spells_L3] at H
    refine x_iload_n 2 rfl dX5_spells_3 ?_
    refine x_if_lt 37 dX5_spells_4 (by decide) (fun c1 => ?_) (fun c1 => ?_)
    · rw [if_pos c1] at H
      obtain rfl := Option.some.inj H
      exact x_vret hE rfl dX5_spells_37
    · rw [if_neg c1] at H
      refine x_lload_n 1 rfl dX5_spells_7 ?_
      refine x_iload_n 2 rfl dX5_spells_8 ?_
      refine x_lshr dX5_spells_9 ?_
      refine x_ldc2 q2410 dX5_spells_10 ?_
      refine x_land dX5_spells_13 ?_
      refine x_lconst (0 : Int64) dX5_spells_14 (by decide) ?_
      refine x_lcmp dX5_spells_15 ?_
      refine x_if_eq 31 dX5_spells_16 (by decide) (fun c2 => ?_) (fun c2 => ?_)
      · rw [if_pos c2] at H
        exact t_X5_spells_b31 hE ih _ _ _ _ H
      · rw [if_neg c2] at H
        refine x_aload_n 0 rfl dX5_spells_19 ?_
        refine x_lload_n 1 rfl dX5_spells_20 ?_
        refine x_iload_n 2 rfl dX5_spells_21 ?_
        refine x_lshr dX5_spells_22 ?_
        refine x_ldc2 q2410 dX5_spells_23 ?_
        refine x_land dX5_spells_26 ?_
        refine x_l2i dX5_spells_27 ?_
        obtain ⟨c3, H⟩ := oit H
        obtain ⟨a3, g3, e3, H⟩ := obR H
        refine x_callV (M' := mi_X5_lays) (n := 1) (As := [.int (((l1 >>> (x3.toInt64 &&& 63)) &&& (255 : Int64)).toInt32)]) (t_X5_lays C _ e3) c3 rfl rfl md_X5_lays ⟨Nat.le_of_ble_eq_true rfl, Nat.le_of_ble_eq_true rfl⟩ q2411 q2413 qs101 q131 q2414 rfl (Nat.le_of_ble_eq_true rfl) dX5_spells_28 ?_
        exact t_X5_spells_b31 hE ih _ _ _ _ H
def f_X5_spells (r0 : Nat) (l1 : Int64) (h : mH) : Option (Unit × mH) := f_X5_spells_L3  xFu r0 l1 (56 : Int32) h
theorem t_X5_spells {G : xG} (C0 : xC) {l : Launch} {r0 : Nat} {l1 : Int64} (h : mH) {o : Unit × mH} (H : f_X5_spells r0 l1 h = some o) : XR G l mi_X5_spells [.ref r0, .long l1] h none o.2 := by
  refine XR.of C0 (by decide) (Nat.le_of_ble_eq_true rfl) (fun C _ _ _ hE => ?_)
  show X G C mi_X5_spells 0 [(0, .ref r0), (1, .long l1)] [] h
  unfold f_X5_spells at H
  refine x_bipush (56 : Int32) dX5_spells_0 bi_56 ?_
  refine x_istore_n [1, 2, 0] dX5_spells_2 (by decide) rfl ?_
  exact t_X5_spells_L3 hE  xFu _ _ _ _ H
abbrev mi_X5_says : xM := (cX5_says, yX5_says, 3, none, 3)
theorem md_X5_says : xMD mi_X5_says 1 := ⟨by decide, by decide, by decide +kernel⟩
def f_X5_says (r0 : Nat) (l1 : Int64) (h : mH) : Option (Unit × mH) := if gC h r0 = 4 then bR (f_X5_lays r0 (32 : Int32) h) fun a1 g1 => if gC g1 r0 = 4 then bR (f_X5_spells r0 l1 g1) fun a2 g2 => some ((), g2) else none else none
theorem t_X5_says {G : xG} (C0 : xC) {l : Launch} {r0 : Nat} {l1 : Int64} (h : mH) {o : Unit × mH} (H : f_X5_says r0 l1 h = some o) : XR G l mi_X5_says [.ref r0, .long l1] h none o.2 := by
  refine XR.of C0 (by decide) (Nat.le_of_ble_eq_true rfl) (fun C _ _ _ hE => ?_)
  show X G C mi_X5_says 0 [(0, .ref r0), (1, .long l1)] [] h
  unfold f_X5_says at H
  refine x_aload_n 0 rfl dX5_says_0 ?_
  refine x_bipush (32 : Int32) dX5_says_1 bi_32 ?_
  obtain ⟨c1, H⟩ := oit H
  obtain ⟨a1, g1, e1, H⟩ := obR H
  refine x_callV (M' := mi_X5_lays) (n := 1) (As := [.int (32 : Int32)]) (t_X5_lays C _ e1) c1 rfl rfl md_X5_lays ⟨Nat.le_of_ble_eq_true rfl, Nat.le_of_ble_eq_true rfl⟩ q2411 q2413 qs101 q131 q2414 rfl (Nat.le_of_ble_eq_true rfl) dX5_says_3 ?_
  refine x_aload_n 0 rfl dX5_says_6 ?_
  refine x_lload_n 1 rfl dX5_says_7 ?_
  obtain ⟨c2, H⟩ := oit H
  obtain ⟨a2, g2, e2, H⟩ := obR H
  refine x_callV (M' := mi_X5_spells) (n := 1) (As := [.long l1]) (t_X5_spells C _ e2) c2 rfl rfl md_X5_spells ⟨Nat.le_of_ble_eq_true rfl, Nat.le_of_ble_eq_true rfl⟩ q2406 q2408 qs100 q131 q2409 rfl (Nat.le_of_ble_eq_true rfl) dX5_says_8 ?_
  obtain rfl := Option.some.inj H
  exact x_vret hE rfl dX5_says_11
abbrev mi_X5_face : xM := (cX5_face, yX5_face, 3, some .int, 4)
theorem md_X5_face : xMD mi_X5_face 1 := ⟨by decide, by decide, by decide +kernel⟩
def f_X5_face_b122 (r0 : Nat) (h : mH) : Option (Int32 × mH) := (gFi [4] 37 h r0).bind fun v15 => some (v15, h)
theorem t_X5_face_b122 {G : xG} {C : xC} {o : Int32 × mH} (hE : xEnd G C (some (.int o.1)) o.2) (r0 : Nat) (h : mH) (H : f_X5_face_b122 r0 h = some o) : X G C mi_X5_face 122 [(0, .ref r0)] [] h := by
  unfold f_X5_face_b122 at H
  refine x_aload_n 0 rfl dX5_face_122 ?_
  obtain ⟨v15, e15, H⟩ := ob H
  refine x_getf fg_X5_382 (gFi_spec e15) dX5_face_123 ?_
  obtain rfl := Option.some.inj H
  exact x_iret hE rfl rfl dX5_face_126
def f_X5_face_b107 (r0 : Nat) (x1 : Int32) (h : mH) : Option (Int32 × mH) := if gC h r0 = 4 then bR (f_X5_isHome r0 x1 h) fun a13 g13 => if a13 = 0 then f_X5_face_b122 r0 g13 else if gC g13 r0 = 4 then bR (f_X5_says r0 (1752132965 : Int64) g13) fun a16 g16 => f_X5_face_b122 r0 g16 else none else none
theorem t_X5_face_b107 {G : xG} {C : xC} {o : Int32 × mH} (hE : xEnd G C (some (.int o.1)) o.2) (r0 : Nat) (x1 : Int32) (h : mH) (H : f_X5_face_b107 r0 x1 h = some o) : X G C mi_X5_face 107 [(0, .ref r0), (1, .int x1)] [] h := by
  unfold f_X5_face_b107 at H
  refine x_aload_n 0 rfl dX5_face_107 ?_
  refine x_iload_n 1 rfl dX5_face_108 ?_
  obtain ⟨c13, H⟩ := oit H
  obtain ⟨a13, g13, e13, H⟩ := obR H
  refine x_callV (M' := mi_X5_isHome) (n := 1) (As := [.int x1]) (t_X5_isHome C _ e13) c13 rfl rfl md_X5_isHome ⟨Nat.le_of_ble_eq_true rfl, Nat.le_of_ble_eq_true rfl⟩ q2251 q2253 qs80 q131 q2254 rfl (Nat.le_of_ble_eq_true rfl) dX5_face_109 ?_
  refine x_if_eq 122 dX5_face_112 (by decide) (fun c14 => ?_) (fun c14 => ?_)
  · rw [if_pos c14] at H
    refine X.sub [0] rfl ?_
    exact t_X5_face_b122 hE _ _ H
  · rw [if_neg c14] at H
    refine x_aload_n 0 rfl dX5_face_115 ?_
    refine x_ldc2 q1921 dX5_face_116 ?_
    obtain ⟨c16, H⟩ := oit H
    obtain ⟨a16, g16, e16, H⟩ := obR H
    refine x_callV (M' := mi_X5_says) (n := 1) (As := [.long (1752132965 : Int64)]) (t_X5_says C _ e16) c16 rfl rfl md_X5_says ⟨Nat.le_of_ble_eq_true rfl, Nat.le_of_ble_eq_true rfl⟩ q2415 q2417 qs102 q131 q2418 rfl (Nat.le_of_ble_eq_true rfl) dX5_face_119 ?_
    refine X.sub [0] rfl ?_
    exact t_X5_face_b122 hE _ _ H
def f_X5_face_b92 (r0 : Nat) (x1 : Int32) (h : mH) : Option (Int32 × mH) := if gC h r0 = 4 then bR (f_X5_isVeiled r0 x1 h) fun a11 g11 => if a11 = 0 then f_X5_face_b107 r0 x1 g11 else if gC g11 r0 = 4 then bR (f_X5_says r0 (130177932485988 : Int64) g11) fun a17 g17 => f_X5_face_b107 r0 x1 g17 else none else none
theorem t_X5_face_b92 {G : xG} {C : xC} {o : Int32 × mH} (hE : xEnd G C (some (.int o.1)) o.2) (r0 : Nat) (x1 : Int32) (h : mH) (H : f_X5_face_b92 r0 x1 h = some o) : X G C mi_X5_face 92 [(0, .ref r0), (1, .int x1)] [] h := by
  unfold f_X5_face_b92 at H
  refine x_aload_n 0 rfl dX5_face_92 ?_
  refine x_iload_n 1 rfl dX5_face_93 ?_
  obtain ⟨c11, H⟩ := oit H
  obtain ⟨a11, g11, e11, H⟩ := obR H
  refine x_callV (M' := mi_X5_isVeiled) (n := 1) (As := [.int x1]) (t_X5_isVeiled C _ e11) c11 rfl rfl md_X5_isVeiled ⟨Nat.le_of_ble_eq_true rfl, Nat.le_of_ble_eq_true rfl⟩ q2255 q2257 qs81 q131 q2258 rfl (Nat.le_of_ble_eq_true rfl) dX5_face_94 ?_
  refine x_if_eq 107 dX5_face_97 (by decide) (fun c12 => ?_) (fun c12 => ?_)
  · rw [if_pos c12] at H
    exact t_X5_face_b107 hE _ _ _ H
  · rw [if_neg c12] at H
    refine x_aload_n 0 rfl dX5_face_100 ?_
    refine x_ldc2 q1922 dX5_face_101 ?_
    obtain ⟨c17, H⟩ := oit H
    obtain ⟨a17, g17, e17, H⟩ := obR H
    refine x_callV (M' := mi_X5_says) (n := 1) (As := [.long (130177932485988 : Int64)]) (t_X5_says C _ e17) c17 rfl rfl md_X5_says ⟨Nat.le_of_ble_eq_true rfl, Nat.le_of_ble_eq_true rfl⟩ q2415 q2417 qs102 q131 q2418 rfl (Nat.le_of_ble_eq_true rfl) dX5_face_104 ?_
    exact t_X5_face_b107 hE _ _ _ H
def f_X5_face_b86 (kb : Nat → Int32 → Int32 → mH → Option (Int32 × mH)) (k92 : Nat → Int32 → mH → Option (Int32 × mH)) (r0 : Nat) (x1 : Int32) (x2 : Int32) (h : mH) : Option (Int32 × mH) := kb r0 x1 (x2 + (1 : Int32)) h
theorem t_X5_face_b86 {G : xG} {C : xC} {o : Int32 × mH} (hE : xEnd G C (some (.int o.1)) o.2) {kb : Nat → Int32 → Int32 → mH → Option (Int32 × mH)} (hkb : ∀ (r0 : Nat) (x1 : Int32) (x2 : Int32) (h : mH), kb r0 x1 x2 h = some o → X G C mi_X5_face 54 [(0, .ref r0), (1, .int x1), (2, .int x2)] [] h) {k92 : Nat → Int32 → mH → Option (Int32 × mH)} (hk92 : ∀ (r0 : Nat) (x1 : Int32) (h : mH), k92 r0 x1 h = some o → X G C mi_X5_face 92 [(0, .ref r0), (1, .int x1)] [] h) (r0 : Nat) (x1 : Int32) (x2 : Int32) (h : mH) (H : f_X5_face_b86 kb k92 r0 x1 x2 h = some o) : X G C mi_X5_face 86 [(0, .ref r0), (1, .int x1), (2, .int x2)] [] h := by
  unfold f_X5_face_b86 at H
  refine x_iinc 2 (x2 + (1 : Int32)) [1, 2, 0] dX5_face_86 rfl (ii_1 _) (by decide) rfl ?_
  refine x_goto (tgt := 54) dX5_face_89 (by decide) ?_
  exact hkb _ _ _ _ H
def f_X5_face_L54 (k92 : Nat → Int32 → mH → Option (Int32 × mH)) : Nat → Nat → Int32 → Int32 → mH → Option (Int32 × mH)
  | 0, _, _, _, _ => none
  | n + 1, r0, x1, x2, h => (gFr [4] 6 h r0).bind fun v18 => (aI .int h v18 (0 : Int32)).bind fun v19 => if v19 ≤ x2 then k92 r0 x1 h else if gC h r0 = 4 then bR (f_X5_knownBy r0 x1 h) fun a21 g21 => bR (f_X5_bitOf a21 x2 g21) fun a22 g22 => if a22 = 0 then f_X5_face_b86 (f_X5_face_L54 k92 n) k92 r0 x1 x2 g22 else (gFr [4] 9 g22 r0).bind fun v24 => (aL g22 v24 x2).bind fun v25 => if gC g22 r0 = 4 then bR (f_X5_says r0 v25 g22) fun a26 g26 => f_X5_face_b86 (f_X5_face_L54 k92 n) k92 r0 x1 x2 g26 else none else none
theorem t_X5_face_L54 {G : xG} {C : xC} {o : Int32 × mH} (hE : xEnd G C (some (.int o.1)) o.2) {k92 : Nat → Int32 → mH → Option (Int32 × mH)} (hk92 : ∀ (r0 : Nat) (x1 : Int32) (h : mH), k92 r0 x1 h = some o → X G C mi_X5_face 92 [(0, .ref r0), (1, .int x1)] [] h) : ∀ (n : Nat) (r0 : Nat) (x1 : Int32) (x2 : Int32) (h : mH), f_X5_face_L54 k92 n r0 x1 x2 h = some o → X G C mi_X5_face 54 [(0, .ref r0), (1, .int x1), (2, .int x2)] [] h := by
  intro n
  induction n with
  | zero => intro r0 x1 x2 h H; exact nomatch (show (none : Option (Int32 × mH)) = some o from H)
  | succ n ih =>
    intro r0 x1 x2 h H
    rw [f_X5_face_L54] at H
    refine x_iload_n 2 rfl dX5_face_54 ?_
    refine x_aload_n 0 rfl dX5_face_55 ?_
    obtain ⟨v18, e18, H⟩ := ob H
    refine x_getf fg_X5_33 (gFr_spec e18) dX5_face_56 ?_
    refine x_iconst (0 : Int32) dX5_face_59 ic_0 ?_
    obtain ⟨v19, e19, H⟩ := ob H
    refine x_iald e19 dX5_face_60 ?_
    refine x_icmp_ge 92 dX5_face_61 (by decide) (fun c20 => ?_) (fun c20 => ?_)
    · rw [if_pos c20] at H
      refine X.sub [0, 1] rfl ?_
      exact hk92 _ _ _ H
    · rw [if_neg c20] at H
      refine x_aload_n 0 rfl dX5_face_64 ?_
      refine x_iload_n 1 rfl dX5_face_65 ?_
      obtain ⟨c21, H⟩ := oit H
      obtain ⟨a21, g21, e21, H⟩ := obR H
      refine x_callV (M' := mi_X5_knownBy) (n := 1) (As := [.int x1]) (t_X5_knownBy C _ e21) c21 rfl rfl md_X5_knownBy ⟨Nat.le_of_ble_eq_true rfl, Nat.le_of_ble_eq_true rfl⟩ q2208 q2210 qs74 q131 q2211 rfl (Nat.le_of_ble_eq_true rfl) dX5_face_66 ?_
      refine x_iload_n 2 rfl dX5_face_69 ?_
      obtain ⟨a22, g22, e22, H⟩ := obR H
      refine x_callS (M' := mi_X5_bitOf) (n := 2) (As := [.int a21, .int x2]) (t_X5_bitOf C _ e22) md_X5_bitOf ⟨Nat.le_of_ble_eq_true rfl, Nat.le_of_ble_eq_true rfl⟩ q2173 q2174 q131 q2175 rfl (Nat.le_of_ble_eq_true rfl) dX5_face_70 ?_
      refine x_if_eq 86 dX5_face_73 (by decide) (fun c23 => ?_) (fun c23 => ?_)
      · rw [if_pos c23] at H
        exact t_X5_face_b86 hE ih hk92 _ _ _ _ H
      · rw [if_neg c23] at H
        refine x_aload_n 0 rfl dX5_face_76 ?_
        refine x_aload_n 0 rfl dX5_face_77 ?_
        obtain ⟨v24, e24, H⟩ := ob H
        refine x_getf fg_X5_43 (gFr_spec e24) dX5_face_78 ?_
        refine x_iload_n 2 rfl dX5_face_81 ?_
        obtain ⟨v25, e25, H⟩ := ob H
        refine x_lald e25 dX5_face_82 ?_
        obtain ⟨c26, H⟩ := oit H
        obtain ⟨a26, g26, e26, H⟩ := obR H
        refine x_callV (M' := mi_X5_says) (n := 1) (As := [.long v25]) (t_X5_says C _ e26) c26 rfl rfl md_X5_says ⟨Nat.le_of_ble_eq_true rfl, Nat.le_of_ble_eq_true rfl⟩ q2415 q2417 qs102 q131 q2418 rfl (Nat.le_of_ble_eq_true rfl) dX5_face_83 ?_
        exact t_X5_face_b86 hE ih hk92 _ _ _ _ H
def f_X5_face_b52 (r0 : Nat) (x1 : Int32) (h : mH) : Option (Int32 × mH) := f_X5_face_L54 (f_X5_face_b92) xFu r0 x1 (0 : Int32) h
theorem t_X5_face_b52 {G : xG} {C : xC} {o : Int32 × mH} (hE : xEnd G C (some (.int o.1)) o.2) (r0 : Nat) (x1 : Int32) (h : mH) (H : f_X5_face_b52 r0 x1 h = some o) : X G C mi_X5_face 52 [(0, .ref r0), (1, .int x1)] [] h := by
  unfold f_X5_face_b52 at H
  refine x_iconst (0 : Int32) dX5_face_52 ic_0 ?_
  refine x_istore_n [1, 2, 0] dX5_face_53 (by decide) rfl ?_
  exact t_X5_face_L54 hE (t_X5_face_b92 hE) xFu _ _ _ _ H
def f_X5_face (r0 : Nat) (x1 : Int32) (h : mH) : Option (Int32 × mH) := (pF [4] 0 (.int (0 : Int32)) h r0).bind fun h1 => if gC h1 r0 = 4 then bR (f_X5_isPerson r0 x1 h1) fun a2 g2 => if a2 = 0 then some ((-1 : Int32), g2) else (pF [4] 37 (.int (0 : Int32)) g2 r0).bind fun h4 => (gFr [4] 9 h4 r0).bind fun v5 => (aL h4 v5 x1).bind fun v6 => if gC h4 r0 = 4 then bR (f_X5_spells r0 v6 h4) fun a7 g7 => if gC g7 r0 = 4 then bR (f_X5_says r0 (461414299507 : Int64) g7) fun a8 g8 => if gC g8 r0 = 4 then bR (f_X5_knownBy r0 x1 g8) fun a9 g9 => if a9 = 0 then if gC g9 r0 = 4 then bR (f_X5_says r0 (121424671892601 : Int64) g9) fun a27 g27 => f_X5_face_b52 r0 x1 g27 else none else f_X5_face_b52 r0 x1 g9 else none else none else none else none
theorem t_X5_face {G : xG} (C0 : xC) {l : Launch} {r0 : Nat} {x1 : Int32} (h : mH) {o : Int32 × mH} (H : f_X5_face r0 x1 h = some o) : XR G l mi_X5_face [.ref r0, .int x1] h (some (.int o.1)) o.2 := by
  refine XR.of C0 (by decide) (Nat.le_of_ble_eq_true rfl) (fun C _ _ _ hE => ?_)
  show X G C mi_X5_face 0 [(0, .ref r0), (1, .int x1)] [] h
  unfold f_X5_face at H
  refine x_aload_n 0 rfl dX5_face_0 ?_
  refine x_iconst (0 : Int32) dX5_face_1 ic_0 ?_
  obtain ⟨h1, e1, H⟩ := ob H
  refine x_putf (fp_X5_1 _) rfl rfl e1 dX5_face_2 ?_
  refine x_aload_n 0 rfl dX5_face_5 ?_
  refine x_iload_n 1 rfl dX5_face_6 ?_
  obtain ⟨c2, H⟩ := oit H
  obtain ⟨a2, g2, e2, H⟩ := obR H
  refine x_callV (M' := mi_X5_isPerson) (n := 1) (As := [.int x1]) (t_X5_isPerson C _ e2) c2 rfl rfl md_X5_isPerson ⟨Nat.le_of_ble_eq_true rfl, Nat.le_of_ble_eq_true rfl⟩ q2200 q2202 qs72 q131 q2203 rfl (Nat.le_of_ble_eq_true rfl) dX5_face_7 ?_
  refine x_if_ne 15 dX5_face_10 (by decide) (fun c3 => ?_) (fun c3 => ?_)
  · rw [if_neg c3] at H
    refine x_aload_n 0 rfl dX5_face_15 ?_
    refine x_iconst (0 : Int32) dX5_face_16 ic_0 ?_
    obtain ⟨h4, e4, H⟩ := ob H
    refine x_putf (fp_X5_382 _) rfl rfl e4 dX5_face_17 ?_
    refine x_aload_n 0 rfl dX5_face_20 ?_
    refine x_aload_n 0 rfl dX5_face_21 ?_
    obtain ⟨v5, e5, H⟩ := ob H
    refine x_getf fg_X5_43 (gFr_spec e5) dX5_face_22 ?_
    refine x_iload_n 1 rfl dX5_face_25 ?_
    obtain ⟨v6, e6, H⟩ := ob H
    refine x_lald e6 dX5_face_26 ?_
    obtain ⟨c7, H⟩ := oit H
    obtain ⟨a7, g7, e7, H⟩ := obR H
    refine x_callV (M' := mi_X5_spells) (n := 1) (As := [.long v6]) (t_X5_spells C _ e7) c7 rfl rfl md_X5_spells ⟨Nat.le_of_ble_eq_true rfl, Nat.le_of_ble_eq_true rfl⟩ q2406 q2408 qs100 q131 q2409 rfl (Nat.le_of_ble_eq_true rfl) dX5_face_27 ?_
    refine x_aload_n 0 rfl dX5_face_30 ?_
    refine x_ldc2 q1909 dX5_face_31 ?_
    obtain ⟨c8, H⟩ := oit H
    obtain ⟨a8, g8, e8, H⟩ := obR H
    refine x_callV (M' := mi_X5_says) (n := 1) (As := [.long (461414299507 : Int64)]) (t_X5_says C _ e8) c8 rfl rfl md_X5_says ⟨Nat.le_of_ble_eq_true rfl, Nat.le_of_ble_eq_true rfl⟩ q2415 q2417 qs102 q131 q2418 rfl (Nat.le_of_ble_eq_true rfl) dX5_face_34 ?_
    refine x_aload_n 0 rfl dX5_face_37 ?_
    refine x_iload_n 1 rfl dX5_face_38 ?_
    obtain ⟨c9, H⟩ := oit H
    obtain ⟨a9, g9, e9, H⟩ := obR H
    refine x_callV (M' := mi_X5_knownBy) (n := 1) (As := [.int x1]) (t_X5_knownBy C _ e9) c9 rfl rfl md_X5_knownBy ⟨Nat.le_of_ble_eq_true rfl, Nat.le_of_ble_eq_true rfl⟩ q2208 q2210 qs74 q131 q2211 rfl (Nat.le_of_ble_eq_true rfl) dX5_face_39 ?_
    refine x_if_ne 52 dX5_face_42 (by decide) (fun c10 => ?_) (fun c10 => ?_)
    · rw [if_neg c10] at H
      exact t_X5_face_b52 hE _ _ _ H
    · rw [if_pos c10] at H
      refine x_aload_n 0 rfl dX5_face_45 ?_
      refine x_ldc2 q2419 dX5_face_46 ?_
      obtain ⟨c27, H⟩ := oit H
      obtain ⟨a27, g27, e27, H⟩ := obR H
      refine x_callV (M' := mi_X5_says) (n := 1) (As := [.long (121424671892601 : Int64)]) (t_X5_says C _ e27) c27 rfl rfl md_X5_says ⟨Nat.le_of_ble_eq_true rfl, Nat.le_of_ble_eq_true rfl⟩ q2415 q2417 qs102 q131 q2418 rfl (Nat.le_of_ble_eq_true rfl) dX5_face_49 ?_
      exact t_X5_face_b52 hE _ _ _ H
  · rw [if_pos c3] at H
    refine x_iconst (-1 : Int32) dX5_face_13 ic_m1 ?_
    obtain rfl := Option.some.inj H
    exact x_iret hE rfl rfl dX5_face_14
abbrev mi_X5_fault : xM := (cX5_fault, yX5_fault, 1, some .int, 1)
theorem md_X5_fault : xMD mi_X5_fault 0 := ⟨by decide, by decide, by decide +kernel⟩
def f_X5_fault (r0 : Nat) (h : mH) : Option (Int32 × mH) := (pF [4] 0 (.int (0 : Int32)) h r0).bind fun h1 => (gFi [4] 15 h1 r0).bind fun v2 => some (v2, h1)
theorem t_X5_fault {G : xG} (C0 : xC) {l : Launch} {r0 : Nat} (h : mH) {o : Int32 × mH} (H : f_X5_fault r0 h = some o) : XR G l mi_X5_fault [.ref r0] h (some (.int o.1)) o.2 := by
  refine XR.of C0 (by decide) (Nat.le_of_ble_eq_true rfl) (fun C _ _ _ hE => ?_)
  show X G C mi_X5_fault 0 [(0, .ref r0)] [] h
  unfold f_X5_fault at H
  refine x_aload_n 0 rfl dX5_fault_0 ?_
  refine x_iconst (0 : Int32) dX5_fault_1 ic_0 ?_
  obtain ⟨h1, e1, H⟩ := ob H
  refine x_putf (fp_X5_1 _) rfl rfl e1 dX5_fault_2 ?_
  refine x_aload_n 0 rfl dX5_fault_5 ?_
  obtain ⟨v2, e2, H⟩ := ob H
  refine x_getf fg_X5_174 (gFi_spec e2) dX5_fault_6 ?_
  obtain rfl := Option.some.inj H
  exact x_iret hE rfl rfl dX5_fault_9
abbrev mi_X5_four : xM := (cX5_four, yX5_four, 3, none, 1)
theorem md_X5_four : xMD mi_X5_four 1 := ⟨by decide, by decide, by decide +kernel⟩
def f_X5_four_L3 : Nat → Nat → Int32 → Int32 → mH → Option (Unit × mH)
  | 0, _, _, _, _ => none
  | n + 1, r0, x1, x2, h => if x2 < 0 then some ((), h) else (gFr [4] 1 h r0).bind fun v2 => (gFi [4] 2 h r0).bind fun v3 => (sI .byte h v2 v3 ((x1 >>> (x2 &&& 31)).toInt8.toInt32)).bind fun h4 => (gFi [4] 2 h4 r0).bind fun v5 => (pF [4] 2 (.int (v5 + (1 : Int32))) h4 r0).bind fun h6 => (f_X5_four_L3 n) r0 x1 (x2 + (-8 : Int32)) h6
theorem t_X5_four_L3 {G : xG} {C : xC} {o : Unit × mH} (hE : xEnd G C none o.2) : ∀ (n : Nat) (r0 : Nat) (x1 : Int32) (x2 : Int32) (h : mH), f_X5_four_L3 n r0 x1 x2 h = some o → X G C mi_X5_four 3 [(0, .ref r0), (1, .int x1), (2, .int x2)] [] h := by
  intro n
  induction n with
  | zero => intro r0 x1 x2 h H; exact nomatch (show (none : Option (Unit × mH)) = some o from H)
  | succ n ih =>
    intro r0 x1 x2 h H
    rw [f_X5_four_L3] at H
    refine x_iload_n 2 rfl dX5_four_3 ?_
    refine x_if_lt 36 dX5_four_4 (by decide) (fun c1 => ?_) (fun c1 => ?_)
    · rw [if_pos c1] at H
      obtain rfl := Option.some.inj H
      exact x_vret hE rfl dX5_four_36
    · rw [if_neg c1] at H
      refine x_aload_n 0 rfl dX5_four_7 ?_
      obtain ⟨v2, e2, H⟩ := ob H
      refine x_getf fg_X5_14 (gFr_spec e2) dX5_four_8 ?_
      refine x_aload_n 0 rfl dX5_four_11 ?_
      obtain ⟨v3, e3, H⟩ := ob H
      refine x_getf fg_X5_7 (gFi_spec e3) dX5_four_12 ?_
      refine x_iload_n 1 rfl dX5_four_15 ?_
      refine x_iload_n 2 rfl dX5_four_16 ?_
      refine x_ishr dX5_four_17 ?_
      refine x_i2b dX5_four_18 ?_
      obtain ⟨h4, e4, H⟩ := ob H
      refine x_bast e4 dX5_four_19 ?_
      refine x_aload_n 0 rfl dX5_four_20 ?_
      refine x_dup dX5_four_21 rfl ?_
      obtain ⟨v5, e5, H⟩ := ob H
      refine x_getf fg_X5_7 (gFi_spec e5) dX5_four_22 ?_
      refine x_iconst (1 : Int32) dX5_four_25 ic_1 ?_
      refine x_iadd dX5_four_26 ?_
      obtain ⟨h6, e6, H⟩ := ob H
      refine x_putf (fp_X5_7 _) rfl rfl e6 dX5_four_27 ?_
      refine x_iinc 2 (x2 + (-8 : Int32)) [1, 2, 0] dX5_four_30 rfl (ii_m8 _) (by decide) rfl ?_
      refine x_goto (tgt := 3) dX5_four_33 (by decide) ?_
      exact ih _ _ _ _ H
def f_X5_four (r0 : Nat) (x1 : Int32) (h : mH) : Option (Unit × mH) := f_X5_four_L3  xFu r0 x1 (24 : Int32) h
theorem t_X5_four {G : xG} (C0 : xC) {l : Launch} {r0 : Nat} {x1 : Int32} (h : mH) {o : Unit × mH} (H : f_X5_four r0 x1 h = some o) : XR G l mi_X5_four [.ref r0, .int x1] h none o.2 := by
  refine XR.of C0 (by decide) (Nat.le_of_ble_eq_true rfl) (fun C _ _ _ hE => ?_)
  show X G C mi_X5_four 0 [(0, .ref r0), (1, .int x1)] [] h
  unfold f_X5_four at H
  refine x_bipush (24 : Int32) dX5_four_0 bi_24 ?_
  refine x_istore_n [1, 2, 0] dX5_four_2 (by decide) rfl ?_
  exact t_X5_four_L3 hE  xFu _ _ _ _ H
abbrev mi_X5_feed : xM := (cX5_feed, yX5_feed, 6, some .int, 2)
theorem md_X5_feed : xMD mi_X5_feed 5 := ⟨by decide, by decide, by decide +kernel⟩
def f_X5_feed (r0 : Nat) (x1 : Int32) (x2 : Int32) (x3 : Int32) (x4 : Int32) (x5 : Int32) (h : mH) : Option (Int32 × mH) := (pF [4] 0 (.int (0 : Int32)) h r0).bind fun h1 => (gFi [4] 2 h1 r0).bind fun v2 => if (v2 + (20 : Int32)) ≤ (940 : Int32) then if gC h1 r0 = 4 then bR (f_X5_four r0 x1 h1) fun a4 g4 => if gC g4 r0 = 4 then bR (f_X5_four r0 x2 g4) fun a5 g5 => if gC g5 r0 = 4 then bR (f_X5_four r0 x3 g5) fun a6 g6 => if gC g6 r0 = 4 then bR (f_X5_four r0 x4 g6) fun a7 g7 => if gC g7 r0 = 4 then bR (f_X5_four r0 x5 g7) fun a8 g8 => (gFi [4] 2 g8 r0).bind fun v9 => some (v9, g8) else none else none else none else none else none else some ((-1 : Int32), h1)
theorem t_X5_feed {G : xG} (C0 : xC) {l : Launch} {r0 : Nat} {x1 : Int32} {x2 : Int32} {x3 : Int32} {x4 : Int32} {x5 : Int32} (h : mH) {o : Int32 × mH} (H : f_X5_feed r0 x1 x2 x3 x4 x5 h = some o) : XR G l mi_X5_feed [.ref r0, .int x1, .int x2, .int x3, .int x4, .int x5] h (some (.int o.1)) o.2 := by
  refine XR.of C0 (by decide) (Nat.le_of_ble_eq_true rfl) (fun C _ _ _ hE => ?_)
  show X G C mi_X5_feed 0 [(0, .ref r0), (1, .int x1), (2, .int x2), (3, .int x3), (4, .int x4), (5, .int x5)] [] h
  unfold f_X5_feed at H
  refine x_aload_n 0 rfl dX5_feed_0 ?_
  refine x_iconst (0 : Int32) dX5_feed_1 ic_0 ?_
  obtain ⟨h1, e1, H⟩ := ob H
  refine x_putf (fp_X5_1 _) rfl rfl e1 dX5_feed_2 ?_
  refine x_aload_n 0 rfl dX5_feed_5 ?_
  obtain ⟨v2, e2, H⟩ := ob H
  refine x_getf fg_X5_7 (gFi_spec e2) dX5_feed_6 ?_
  refine x_bipush (20 : Int32) dX5_feed_9 bi_20 ?_
  refine x_iadd dX5_feed_11 ?_
  refine x_sipush (940 : Int32) dX5_feed_12 si_940 ?_
  refine x_icmp_le 20 dX5_feed_15 (by decide) (fun c3 => ?_) (fun c3 => ?_)
  · rw [if_pos c3] at H
    refine x_aload_n 0 rfl dX5_feed_20 ?_
    refine x_iload_n 1 rfl dX5_feed_21 ?_
    obtain ⟨c4, H⟩ := oit H
    obtain ⟨a4, g4, e4, H⟩ := obR H
    refine x_callV (M' := mi_X5_four) (n := 1) (As := [.int x1]) (t_X5_four C _ e4) c4 rfl rfl md_X5_four ⟨Nat.le_of_ble_eq_true rfl, Nat.le_of_ble_eq_true rfl⟩ q1891 q1893 qs49 q131 q1895 rfl (Nat.le_of_ble_eq_true rfl) dX5_feed_22 ?_
    refine x_aload_n 0 rfl dX5_feed_25 ?_
    refine x_iload_n 2 rfl dX5_feed_26 ?_
    obtain ⟨c5, H⟩ := oit H
    obtain ⟨a5, g5, e5, H⟩ := obR H
    refine x_callV (M' := mi_X5_four) (n := 1) (As := [.int x2]) (t_X5_four C _ e5) c5 rfl rfl md_X5_four ⟨Nat.le_of_ble_eq_true rfl, Nat.le_of_ble_eq_true rfl⟩ q1891 q1893 qs49 q131 q1895 rfl (Nat.le_of_ble_eq_true rfl) dX5_feed_27 ?_
    refine x_aload_n 0 rfl dX5_feed_30 ?_
    refine x_iload_n 3 rfl dX5_feed_31 ?_
    obtain ⟨c6, H⟩ := oit H
    obtain ⟨a6, g6, e6, H⟩ := obR H
    refine x_callV (M' := mi_X5_four) (n := 1) (As := [.int x3]) (t_X5_four C _ e6) c6 rfl rfl md_X5_four ⟨Nat.le_of_ble_eq_true rfl, Nat.le_of_ble_eq_true rfl⟩ q1891 q1893 qs49 q131 q1895 rfl (Nat.le_of_ble_eq_true rfl) dX5_feed_32 ?_
    refine x_aload_n 0 rfl dX5_feed_35 ?_
    refine x_iload 4 rfl dX5_feed_36 ?_
    obtain ⟨c7, H⟩ := oit H
    obtain ⟨a7, g7, e7, H⟩ := obR H
    refine x_callV (M' := mi_X5_four) (n := 1) (As := [.int x4]) (t_X5_four C _ e7) c7 rfl rfl md_X5_four ⟨Nat.le_of_ble_eq_true rfl, Nat.le_of_ble_eq_true rfl⟩ q1891 q1893 qs49 q131 q1895 rfl (Nat.le_of_ble_eq_true rfl) dX5_feed_38 ?_
    refine x_aload_n 0 rfl dX5_feed_41 ?_
    refine x_iload 5 rfl dX5_feed_42 ?_
    obtain ⟨c8, H⟩ := oit H
    obtain ⟨a8, g8, e8, H⟩ := obR H
    refine x_callV (M' := mi_X5_four) (n := 1) (As := [.int x5]) (t_X5_four C _ e8) c8 rfl rfl md_X5_four ⟨Nat.le_of_ble_eq_true rfl, Nat.le_of_ble_eq_true rfl⟩ q1891 q1893 qs49 q131 q1895 rfl (Nat.le_of_ble_eq_true rfl) dX5_feed_44 ?_
    refine x_aload_n 0 rfl dX5_feed_47 ?_
    obtain ⟨v9, e9, H⟩ := ob H
    refine x_getf fg_X5_7 (gFi_spec e9) dX5_feed_48 ?_
    obtain rfl := Option.some.inj H
    exact x_iret hE rfl rfl dX5_feed_51
  · rw [if_neg c3] at H
    refine x_iconst (-1 : Int32) dX5_feed_18 ic_m1 ?_
    obtain rfl := Option.some.inj H
    exact x_iret hE rfl rfl dX5_feed_19
abbrev mi_X5_finds : xM := (cX5_finds, yX5_finds, 4, some .boolean, 1)
theorem md_X5_finds : xMD mi_X5_finds 0 := ⟨by decide, by decide, by decide +kernel⟩
def f_X5_finds_b120 (r0 : Nat) (h : mH) : Option (Int32 × mH) := (gFr [4] 25 h r0).bind fun v5 => (aI .int h v5 (15 : Int32)).bind fun v6 => if v6 < 0 then some ((0 : Int32), h) else some ((1 : Int32), h)
theorem t_X5_finds_b120 {G : xG} {C : xC} {o : Int32 × mH} (hE : xEnd G C (some (.int o.1)) o.2) (r0 : Nat) (h : mH) (H : f_X5_finds_b120 r0 h = some o) : X G C mi_X5_finds 120 [(0, .ref r0)] [] h := by
  unfold f_X5_finds_b120 at H
  refine x_aload_n 0 rfl dX5_finds_120 ?_
  obtain ⟨v5, e5, H⟩ := ob H
  refine x_getf fg_X5_59 (gFr_spec e5) dX5_finds_121 ?_
  refine x_bipush (15 : Int32) dX5_finds_124 bi_15 ?_
  obtain ⟨v6, e6, H⟩ := ob H
  refine x_iald e6 dX5_finds_126 ?_
  refine x_if_lt 134 dX5_finds_127 (by decide) (fun c7 => ?_) (fun c7 => ?_)
  · rw [if_pos c7] at H
    refine x_iconst (0 : Int32) dX5_finds_134 ic_0 ?_
    obtain rfl := Option.some.inj H
    exact x_iret hE rfl rfl dX5_finds_135
  · rw [if_neg c7] at H
    refine x_iconst (1 : Int32) dX5_finds_130 ic_1 ?_
    refine x_goto (tgt := 135) dX5_finds_131 (by decide) ?_
    obtain rfl := Option.some.inj H
    exact x_iret hE rfl rfl dX5_finds_135
def f_X5_finds_b114 (kb : Nat → Int32 → Int32 → mH → Option (Int32 × mH)) (k120 : Nat → mH → Option (Int32 × mH)) (r0 : Nat) (x1 : Int32) (x2 : Int32) (h : mH) : Option (Int32 × mH) := kb r0 x1 (x2 + (1 : Int32)) h
theorem t_X5_finds_b114 {G : xG} {C : xC} {o : Int32 × mH} (hE : xEnd G C (some (.int o.1)) o.2) {kb : Nat → Int32 → Int32 → mH → Option (Int32 × mH)} (hkb : ∀ (r0 : Nat) (x1 : Int32) (x2 : Int32) (h : mH), kb r0 x1 x2 h = some o → X G C mi_X5_finds 42 [(0, .ref r0), (1, .int x1), (2, .int x2)] [] h) {k120 : Nat → mH → Option (Int32 × mH)} (hk120 : ∀ (r0 : Nat) (h : mH), k120 r0 h = some o → X G C mi_X5_finds 120 [(0, .ref r0)] [] h) (r0 : Nat) (x1 : Int32) (x2 : Int32) (h : mH) (H : f_X5_finds_b114 kb k120 r0 x1 x2 h = some o) : X G C mi_X5_finds 114 [(0, .ref r0), (1, .int x1), (2, .int x2)] [] h := by
  unfold f_X5_finds_b114 at H
  refine x_iinc 2 (x2 + (1 : Int32)) [1, 2, 0] dX5_finds_114 rfl (ii_1 _) (by decide) rfl ?_
  refine x_goto (tgt := 42) dX5_finds_117 (by decide) ?_
  exact hkb _ _ _ _ H
def f_X5_finds_b108 (kb : Nat → Int32 → Int32 → Int32 → mH → Option (Int32 × mH)) (k114 : Nat → Int32 → Int32 → mH → Option (Int32 × mH)) (r0 : Nat) (x1 : Int32) (x2 : Int32) (x3 : Int32) (h : mH) : Option (Int32 × mH) := kb r0 x1 x2 (x3 + (1 : Int32)) h
theorem t_X5_finds_b108 {G : xG} {C : xC} {o : Int32 × mH} (hE : xEnd G C (some (.int o.1)) o.2) {kb : Nat → Int32 → Int32 → Int32 → mH → Option (Int32 × mH)} (hkb : ∀ (r0 : Nat) (x1 : Int32) (x2 : Int32) (x3 : Int32) (h : mH), kb r0 x1 x2 x3 h = some o → X G C mi_X5_finds 49 [(0, .ref r0), (1, .int x1), (2, .int x2), (3, .int x3)] [] h) {k114 : Nat → Int32 → Int32 → mH → Option (Int32 × mH)} (hk114 : ∀ (r0 : Nat) (x1 : Int32) (x2 : Int32) (h : mH), k114 r0 x1 x2 h = some o → X G C mi_X5_finds 114 [(0, .ref r0), (1, .int x1), (2, .int x2)] [] h) (r0 : Nat) (x1 : Int32) (x2 : Int32) (x3 : Int32) (h : mH) (H : f_X5_finds_b108 kb k114 r0 x1 x2 x3 h = some o) : X G C mi_X5_finds 108 [(0, .ref r0), (1, .int x1), (2, .int x2), (3, .int x3)] [] h := by
  unfold f_X5_finds_b108 at H
  refine x_iinc 3 (x3 + (1 : Int32)) [1, 2, 3, 0] dX5_finds_108 rfl (ii_1 _) (by decide) rfl ?_
  refine x_goto (tgt := 49) dX5_finds_111 (by decide) ?_
  exact hkb _ _ _ _ _ H
def f_X5_finds_L49 (k114 : Nat → Int32 → Int32 → mH → Option (Int32 × mH)) : Nat → Nat → Int32 → Int32 → Int32 → mH → Option (Int32 × mH)
  | 0, _, _, _, _, _ => none
  | n + 1, r0, x1, x2, x3, h => if (16 : Int32) ≤ x3 then k114 r0 x1 x2 h else (gFr [4] 25 h r0).bind fun v10 => (aI .int h v10 x3).bind fun v11 => if 0 ≤ v11 then f_X5_finds_b108 (f_X5_finds_L49 k114 n) k114 r0 x1 x2 x3 h else (gFr [4] 24 h r0).bind fun v13 => (gFr [4] 26 h r0).bind fun v14 => (aI .int h v14 x2).bind fun v15 => (aI .int h v13 (((16 : Int32) * v15) + x3)).bind fun v16 => if v16 = 0 then f_X5_finds_b108 (f_X5_finds_L49 k114 n) k114 r0 x1 x2 x3 h else (gFr [4] 25 h r0).bind fun v18 => (gFr [4] 26 h r0).bind fun v19 => (aI .int h v19 x2).bind fun v20 => (sI .int h v18 x3 v20).bind fun h21 => (gFr [4] 26 h21 r0).bind fun v22 => (sI .int h21 v22 x1 x3).bind fun h23 => f_X5_finds_b108 (f_X5_finds_L49 k114 n) k114 r0 (x1 + (1 : Int32)) x2 x3 h23
theorem t_X5_finds_L49 {G : xG} {C : xC} {o : Int32 × mH} (hE : xEnd G C (some (.int o.1)) o.2) {k114 : Nat → Int32 → Int32 → mH → Option (Int32 × mH)} (hk114 : ∀ (r0 : Nat) (x1 : Int32) (x2 : Int32) (h : mH), k114 r0 x1 x2 h = some o → X G C mi_X5_finds 114 [(0, .ref r0), (1, .int x1), (2, .int x2)] [] h) : ∀ (n : Nat) (r0 : Nat) (x1 : Int32) (x2 : Int32) (x3 : Int32) (h : mH), f_X5_finds_L49 k114 n r0 x1 x2 x3 h = some o → X G C mi_X5_finds 49 [(0, .ref r0), (1, .int x1), (2, .int x2), (3, .int x3)] [] h := by
  intro n
  induction n with
  | zero => intro r0 x1 x2 x3 h H; exact nomatch (show (none : Option (Int32 × mH)) = some o from H)
  | succ n ih =>
    intro r0 x1 x2 x3 h H
    rw [f_X5_finds_L49] at H
    refine x_iload_n 3 rfl dX5_finds_49 ?_
    refine x_bipush (16 : Int32) dX5_finds_50 bi_16 ?_
    refine x_icmp_ge 114 dX5_finds_52 (by decide) (fun c9 => ?_) (fun c9 => ?_)
    · rw [if_pos c9] at H
      refine X.sub [0, 1, 2] rfl ?_
      exact hk114 _ _ _ _ H
    · rw [if_neg c9] at H
      refine x_aload_n 0 rfl dX5_finds_55 ?_
      obtain ⟨v10, e10, H⟩ := ob H
      refine x_getf fg_X5_59 (gFr_spec e10) dX5_finds_56 ?_
      refine x_iload_n 3 rfl dX5_finds_59 ?_
      obtain ⟨v11, e11, H⟩ := ob H
      refine x_iald e11 dX5_finds_60 ?_
      refine x_if_ge 108 dX5_finds_61 (by decide) (fun c12 => ?_) (fun c12 => ?_)
      · rw [if_pos c12] at H
        exact t_X5_finds_b108 hE ih hk114 _ _ _ _ _ H
      · rw [if_neg c12] at H
        refine x_aload_n 0 rfl dX5_finds_64 ?_
        obtain ⟨v13, e13, H⟩ := ob H
        refine x_getf fg_X5_56 (gFr_spec e13) dX5_finds_65 ?_
        refine x_bipush (16 : Int32) dX5_finds_68 bi_16 ?_
        refine x_aload_n 0 rfl dX5_finds_70 ?_
        obtain ⟨v14, e14, H⟩ := ob H
        refine x_getf fg_X5_62 (gFr_spec e14) dX5_finds_71 ?_
        refine x_iload_n 2 rfl dX5_finds_74 ?_
        obtain ⟨v15, e15, H⟩ := ob H
        refine x_iald e15 dX5_finds_75 ?_
        refine x_imul dX5_finds_76 ?_
        refine x_iload_n 3 rfl dX5_finds_77 ?_
        refine x_iadd dX5_finds_78 ?_
        obtain ⟨v16, e16, H⟩ := ob H
        refine x_iald e16 dX5_finds_79 ?_
        refine x_if_ne 86 dX5_finds_80 (by decide) (fun c17 => ?_) (fun c17 => ?_)
        · rw [if_neg c17] at H
          refine x_aload_n 0 rfl dX5_finds_86 ?_
          obtain ⟨v18, e18, H⟩ := ob H
          refine x_getf fg_X5_59 (gFr_spec e18) dX5_finds_87 ?_
          refine x_iload_n 3 rfl dX5_finds_90 ?_
          refine x_aload_n 0 rfl dX5_finds_91 ?_
          obtain ⟨v19, e19, H⟩ := ob H
          refine x_getf fg_X5_62 (gFr_spec e19) dX5_finds_92 ?_
          refine x_iload_n 2 rfl dX5_finds_95 ?_
          obtain ⟨v20, e20, H⟩ := ob H
          refine x_iald e20 dX5_finds_96 ?_
          obtain ⟨h21, e21, H⟩ := ob H
          refine x_iast e21 dX5_finds_97 ?_
          refine x_aload_n 0 rfl dX5_finds_98 ?_
          obtain ⟨v22, e22, H⟩ := ob H
          refine x_getf fg_X5_62 (gFr_spec e22) dX5_finds_99 ?_
          refine x_iload_n 1 rfl dX5_finds_102 ?_
          refine x_iload_n 3 rfl dX5_finds_103 ?_
          obtain ⟨h23, e23, H⟩ := ob H
          refine x_iast e23 dX5_finds_104 ?_
          refine x_iinc 1 (x1 + (1 : Int32)) [1, 0, 2, 3] dX5_finds_105 rfl (ii_1 _) (by decide) rfl ?_
          exact t_X5_finds_b108 hE ih hk114 _ _ _ _ _ H
        · rw [if_pos c17] at H
          refine x_goto (tgt := 108) dX5_finds_83 (by decide) ?_
          exact t_X5_finds_b108 hE ih hk114 _ _ _ _ _ H
def f_X5_finds_L42 (k120 : Nat → mH → Option (Int32 × mH)) : Nat → Nat → Int32 → Int32 → mH → Option (Int32 × mH)
  | 0, _, _, _, _ => none
  | n + 1, r0, x1, x2, h => if x1 ≤ x2 then k120 r0 h else f_X5_finds_L49 (f_X5_finds_b114 (f_X5_finds_L42 k120 n) k120) xFu r0 x1 x2 (0 : Int32) h
theorem t_X5_finds_L42 {G : xG} {C : xC} {o : Int32 × mH} (hE : xEnd G C (some (.int o.1)) o.2) {k120 : Nat → mH → Option (Int32 × mH)} (hk120 : ∀ (r0 : Nat) (h : mH), k120 r0 h = some o → X G C mi_X5_finds 120 [(0, .ref r0)] [] h) : ∀ (n : Nat) (r0 : Nat) (x1 : Int32) (x2 : Int32) (h : mH), f_X5_finds_L42 k120 n r0 x1 x2 h = some o → X G C mi_X5_finds 42 [(0, .ref r0), (1, .int x1), (2, .int x2)] [] h := by
  intro n
  induction n with
  | zero => intro r0 x1 x2 h H; exact nomatch (show (none : Option (Int32 × mH)) = some o from H)
  | succ n ih =>
    intro r0 x1 x2 h H
    rw [f_X5_finds_L42] at H
    refine x_iload_n 2 rfl dX5_finds_42 ?_
    refine x_iload_n 1 rfl dX5_finds_43 ?_
    refine x_icmp_ge 120 dX5_finds_44 (by decide) (fun c8 => ?_) (fun c8 => ?_)
    · rw [if_pos c8] at H
      refine X.sub [0] rfl ?_
      exact hk120 _ _ H
    · rw [if_neg c8] at H
      refine x_iconst (0 : Int32) dX5_finds_47 ic_0 ?_
      refine x_istore_n [1, 2, 3, 0] dX5_finds_48 (by decide) rfl ?_
      exact t_X5_finds_L49 hE (t_X5_finds_b114 hE ih hk120) xFu _ _ _ _ _ H
def f_X5_finds_b21 (r0 : Nat) (h : mH) : Option (Int32 × mH) := (gFr [4] 25 h r0).bind fun v1 => (sI .int h v1 (14 : Int32) (14 : Int32)).bind fun h2 => (gFr [4] 26 h2 r0).bind fun v3 => (sI .int h2 v3 (0 : Int32) (14 : Int32)).bind fun h4 => f_X5_finds_L42 (f_X5_finds_b120) xFu r0 (1 : Int32) (0 : Int32) h4
theorem t_X5_finds_b21 {G : xG} {C : xC} {o : Int32 × mH} (hE : xEnd G C (some (.int o.1)) o.2) (r0 : Nat) (h : mH) (H : f_X5_finds_b21 r0 h = some o) : X G C mi_X5_finds 21 [(0, .ref r0)] [] h := by
  unfold f_X5_finds_b21 at H
  refine x_aload_n 0 rfl dX5_finds_21 ?_
  obtain ⟨v1, e1, H⟩ := ob H
  refine x_getf fg_X5_59 (gFr_spec e1) dX5_finds_22 ?_
  refine x_bipush (14 : Int32) dX5_finds_25 bi_14 ?_
  refine x_bipush (14 : Int32) dX5_finds_27 bi_14 ?_
  obtain ⟨h2, e2, H⟩ := ob H
  refine x_iast e2 dX5_finds_29 ?_
  refine x_aload_n 0 rfl dX5_finds_30 ?_
  obtain ⟨v3, e3, H⟩ := ob H
  refine x_getf fg_X5_62 (gFr_spec e3) dX5_finds_31 ?_
  refine x_iconst (0 : Int32) dX5_finds_34 ic_0 ?_
  refine x_bipush (14 : Int32) dX5_finds_35 bi_14 ?_
  obtain ⟨h4, e4, H⟩ := ob H
  refine x_iast e4 dX5_finds_37 ?_
  refine x_iconst (1 : Int32) dX5_finds_38 ic_1 ?_
  refine x_istore_n [1, 0] dX5_finds_39 (by decide) rfl ?_
  refine x_iconst (0 : Int32) dX5_finds_40 ic_0 ?_
  refine x_istore_n [1, 2, 0] dX5_finds_41 (by decide) rfl ?_
  exact t_X5_finds_L42 hE (t_X5_finds_b120 hE) xFu _ _ _ _ H
def f_X5_finds_L2 (k21 : Nat → mH → Option (Int32 × mH)) : Nat → Nat → Int32 → mH → Option (Int32 × mH)
  | 0, _, _, _ => none
  | n + 1, r0, x1, h => if (16 : Int32) ≤ x1 then k21 r0 h else (gFr [4] 25 h r0).bind fun v25 => (sI .int h v25 x1 (-1 : Int32)).bind fun h26 => (f_X5_finds_L2 k21 n) r0 (x1 + (1 : Int32)) h26
theorem t_X5_finds_L2 {G : xG} {C : xC} {o : Int32 × mH} (hE : xEnd G C (some (.int o.1)) o.2) {k21 : Nat → mH → Option (Int32 × mH)} (hk21 : ∀ (r0 : Nat) (h : mH), k21 r0 h = some o → X G C mi_X5_finds 21 [(0, .ref r0)] [] h) : ∀ (n : Nat) (r0 : Nat) (x1 : Int32) (h : mH), f_X5_finds_L2 k21 n r0 x1 h = some o → X G C mi_X5_finds 2 [(0, .ref r0), (1, .int x1)] [] h := by
  intro n
  induction n with
  | zero => intro r0 x1 h H; exact nomatch (show (none : Option (Int32 × mH)) = some o from H)
  | succ n ih =>
    intro r0 x1 h H
    rw [f_X5_finds_L2] at H
    refine x_iload_n 1 rfl dX5_finds_2 ?_
    refine x_bipush (16 : Int32) dX5_finds_3 bi_16 ?_
    refine x_icmp_ge 21 dX5_finds_5 (by decide) (fun c24 => ?_) (fun c24 => ?_)
    · rw [if_pos c24] at H
      refine X.sub [0] rfl ?_
      exact hk21 _ _ H
    · rw [if_neg c24] at H
      refine x_aload_n 0 rfl dX5_finds_8 ?_
      obtain ⟨v25, e25, H⟩ := ob H
      refine x_getf fg_X5_59 (gFr_spec e25) dX5_finds_9 ?_
      refine x_iload_n 1 rfl dX5_finds_12 ?_
      refine x_iconst (-1 : Int32) dX5_finds_13 ic_m1 ?_
      obtain ⟨h26, e26, H⟩ := ob H
      refine x_iast e26 dX5_finds_14 ?_
      refine x_iinc 1 (x1 + (1 : Int32)) [1, 0] dX5_finds_15 rfl (ii_1 _) (by decide) rfl ?_
      refine x_goto (tgt := 2) dX5_finds_18 (by decide) ?_
      exact ih _ _ _ H
def f_X5_finds (r0 : Nat) (h : mH) : Option (Int32 × mH) := f_X5_finds_L2 (f_X5_finds_b21) xFu r0 (0 : Int32) h
theorem t_X5_finds {G : xG} (C0 : xC) {l : Launch} {r0 : Nat} (h : mH) {o : Int32 × mH} (H : f_X5_finds r0 h = some o) : XR G l mi_X5_finds [.ref r0] h (some (.int o.1)) o.2 := by
  refine XR.of C0 (by decide) (Nat.le_of_ble_eq_true rfl) (fun C _ _ _ hE => ?_)
  show X G C mi_X5_finds 0 [(0, .ref r0)] [] h
  unfold f_X5_finds at H
  refine x_iconst (0 : Int32) dX5_finds_0 ic_0 ?_
  refine x_istore_n [1, 0] dX5_finds_1 (by decide) rfl ?_
  exact t_X5_finds_L2 hE (t_X5_finds_b21 hE) xFu _ _ _ H
abbrev mi_X5_good : xM := (cX5_good, yX5_good, 5, some .int, 3)
theorem md_X5_good : xMD mi_X5_good 3 := ⟨by decide, by decide, by decide +kernel⟩
def f_X5_good (r0 : Nat) (x1 : Int32) (x2 : Int32) (x3 : Int32) (h : mH) : Option (Int32 × mH) := (pF [4] 0 (.int (0 : Int32)) h r0).bind fun h1 => if gC h1 r0 = 4 then bR (f_X5_isPerson r0 x1 h1) fun a2 g2 => if a2 = 0 then some ((-1 : Int32), g2) else if gC g2 r0 = 4 then bR (f_X5_isGood r0 x2 g2) fun a4 g4 => if a4 = 0 then some ((-1 : Int32), g4) else if x3 = 0 then (gFr [4] 6 g4 r0).bind fun v13 => (aI .int g4 v13 ((143 : Int32) + (((5 : Int32) * x1) + x2))).bind fun v14 => some (v14, g4) else if x3 = (1 : Int32) then (gFr [4] 6 g4 r0).bind fun v11 => (aI .int g4 v11 ((178 : Int32) + (((5 : Int32) * x1) + x2))).bind fun v12 => some (v12, g4) else if x3 = (2 : Int32) then (gFr [4] 6 g4 r0).bind fun v9 => (aI .int g4 v9 ((47 : Int32) + (((5 : Int32) * x1) + x2))).bind fun v10 => some ((v10 - (1 : Int32)), g4) else some ((-1 : Int32), g4) else none else none
theorem t_X5_good {G : xG} (C0 : xC) {l : Launch} {r0 : Nat} {x1 : Int32} {x2 : Int32} {x3 : Int32} (h : mH) {o : Int32 × mH} (H : f_X5_good r0 x1 x2 x3 h = some o) : XR G l mi_X5_good [.ref r0, .int x1, .int x2, .int x3] h (some (.int o.1)) o.2 := by
  refine XR.of C0 (by decide) (Nat.le_of_ble_eq_true rfl) (fun C _ _ _ hE => ?_)
  show X G C mi_X5_good 0 [(0, .ref r0), (1, .int x1), (2, .int x2), (3, .int x3)] [] h
  unfold f_X5_good at H
  refine x_aload_n 0 rfl dX5_good_0 ?_
  refine x_iconst (0 : Int32) dX5_good_1 ic_0 ?_
  obtain ⟨h1, e1, H⟩ := ob H
  refine x_putf (fp_X5_1 _) rfl rfl e1 dX5_good_2 ?_
  refine x_aload_n 0 rfl dX5_good_5 ?_
  refine x_iload_n 1 rfl dX5_good_6 ?_
  obtain ⟨c2, H⟩ := oit H
  obtain ⟨a2, g2, e2, H⟩ := obR H
  refine x_callV (M' := mi_X5_isPerson) (n := 1) (As := [.int x1]) (t_X5_isPerson C _ e2) c2 rfl rfl md_X5_isPerson ⟨Nat.le_of_ble_eq_true rfl, Nat.le_of_ble_eq_true rfl⟩ q2200 q2202 qs72 q131 q2203 rfl (Nat.le_of_ble_eq_true rfl) dX5_good_7 ?_
  refine x_if_eq 21 dX5_good_10 (by decide) (fun c3 => ?_) (fun c3 => ?_)
  · rw [if_pos c3] at H
    refine x_iconst (-1 : Int32) dX5_good_21 ic_m1 ?_
    obtain rfl := Option.some.inj H
    exact x_iret hE rfl rfl dX5_good_22
  · rw [if_neg c3] at H
    refine x_aload_n 0 rfl dX5_good_13 ?_
    refine x_iload_n 2 rfl dX5_good_14 ?_
    obtain ⟨c4, H⟩ := oit H
    obtain ⟨a4, g4, e4, H⟩ := obR H
    refine x_callV (M' := mi_X5_isGood) (n := 1) (As := [.int x2]) (t_X5_isGood C _ e4) c4 rfl rfl md_X5_isGood ⟨Nat.le_of_ble_eq_true rfl, Nat.le_of_ble_eq_true rfl⟩ q2224 q2226 qs77 q131 q2227 rfl (Nat.le_of_ble_eq_true rfl) dX5_good_15 ?_
    refine x_if_ne 23 dX5_good_18 (by decide) (fun c5 => ?_) (fun c5 => ?_)
    · rw [if_neg c5] at H
      refine x_iconst (5 : Int32) dX5_good_23 ic_5 ?_
      refine x_iload_n 1 rfl dX5_good_24 ?_
      refine x_imul dX5_good_25 ?_
      refine x_iload_n 2 rfl dX5_good_26 ?_
      refine x_iadd dX5_good_27 ?_
      refine x_istore [1, 2, 3, 4, 0] dX5_good_28 (by decide) rfl ?_
      refine x_iload_n 3 rfl dX5_good_30 ?_
      refine x_if_ne 48 dX5_good_31 (by decide) (fun c6 => ?_) (fun c6 => ?_)
      · rw [if_neg c6] at H
        refine x_iload_n 3 rfl dX5_good_48 ?_
        refine x_iconst (1 : Int32) dX5_good_49 ic_1 ?_
        refine x_icmp_ne 67 dX5_good_50 (by decide) (fun c7 => ?_) (fun c7 => ?_)
        · rw [if_neg c7] at H
          refine x_iload_n 3 rfl dX5_good_67 ?_
          refine x_iconst (2 : Int32) dX5_good_68 ic_2 ?_
          refine x_icmp_ne 87 dX5_good_69 (by decide) (fun c8 => ?_) (fun c8 => ?_)
          · rw [if_neg c8] at H
            refine x_iconst (-1 : Int32) dX5_good_87 ic_m1 ?_
            obtain rfl := Option.some.inj H
            exact x_iret hE rfl rfl dX5_good_88
          · rw [if_pos c8] at H
            refine x_aload_n 0 rfl dX5_good_72 ?_
            obtain ⟨v9, e9, H⟩ := ob H
            refine x_getf fg_X5_33 (gFr_spec e9) dX5_good_73 ?_
            refine x_bipush (47 : Int32) dX5_good_76 bi_47 ?_
            refine x_iload 4 rfl dX5_good_78 ?_
            refine x_iadd dX5_good_80 ?_
            obtain ⟨v10, e10, H⟩ := ob H
            refine x_iald e10 dX5_good_81 ?_
            refine x_iconst (1 : Int32) dX5_good_82 ic_1 ?_
            refine x_isub dX5_good_83 ?_
            refine x_goto (tgt := 88) dX5_good_84 (by decide) ?_
            obtain rfl := Option.some.inj H
            exact x_iret hE rfl rfl dX5_good_88
        · rw [if_pos c7] at H
          refine x_aload_n 0 rfl dX5_good_53 ?_
          obtain ⟨v11, e11, H⟩ := ob H
          refine x_getf fg_X5_33 (gFr_spec e11) dX5_good_54 ?_
          refine x_sipush (178 : Int32) dX5_good_57 si_178 ?_
          refine x_iload 4 rfl dX5_good_60 ?_
          refine x_iadd dX5_good_62 ?_
          obtain ⟨v12, e12, H⟩ := ob H
          refine x_iald e12 dX5_good_63 ?_
          refine x_goto (tgt := 88) dX5_good_64 (by decide) ?_
          obtain rfl := Option.some.inj H
          exact x_iret hE rfl rfl dX5_good_88
      · rw [if_pos c6] at H
        refine x_aload_n 0 rfl dX5_good_34 ?_
        obtain ⟨v13, e13, H⟩ := ob H
        refine x_getf fg_X5_33 (gFr_spec e13) dX5_good_35 ?_
        refine x_sipush (143 : Int32) dX5_good_38 si_143 ?_
        refine x_iload 4 rfl dX5_good_41 ?_
        refine x_iadd dX5_good_43 ?_
        obtain ⟨v14, e14, H⟩ := ob H
        refine x_iald e14 dX5_good_44 ?_
        refine x_goto (tgt := 88) dX5_good_45 (by decide) ?_
        obtain rfl := Option.some.inj H
        exact x_iret hE rfl rfl dX5_good_88
    · rw [if_pos c5] at H
      refine x_iconst (-1 : Int32) dX5_good_21 ic_m1 ?_
      obtain rfl := Option.some.inj H
      exact x_iret hE rfl rfl dX5_good_22
abbrev mi_X5_image : xM := (cX5_image, yX5_image, 3, some .boolean, 2)
theorem md_X5_image : xMD mi_X5_image 1 := ⟨by decide, by decide, by decide +kernel⟩
def f_X5_image_b80 (r0 : Nat) (x1 : Int32) (h : mH) : Option (Int32 × mH) := (gFr [4] 51 h r0).bind fun v4 => (sI .boolean h v4 x1 (1 : Int32)).bind fun h5 => some ((1 : Int32), h5)
theorem t_X5_image_b80 {G : xG} {C : xC} {o : Int32 × mH} (hE : xEnd G C (some (.int o.1)) o.2) (r0 : Nat) (x1 : Int32) (h : mH) (H : f_X5_image_b80 r0 x1 h = some o) : X G C mi_X5_image 80 [(0, .ref r0), (1, .int x1)] [] h := by
  unfold f_X5_image_b80 at H
  refine x_aload_n 0 rfl dX5_image_80 ?_
  obtain ⟨v4, e4, H⟩ := ob H
  refine x_getf fg_X5_93 (gFr_spec e4) dX5_image_81 ?_
  refine x_iload_n 1 rfl dX5_image_84 ?_
  refine x_iconst (1 : Int32) dX5_image_85 ic_1 ?_
  obtain ⟨h5, e5, H⟩ := ob H
  refine x_zast e5 dX5_image_86 ?_
  refine x_iconst (1 : Int32) dX5_image_87 ic_1 ?_
  obtain rfl := Option.some.inj H
  exact x_iret hE rfl rfl dX5_image_88
def f_X5_image_L51 (k80 : Nat → Int32 → mH → Option (Int32 × mH)) : Nat → Nat → Int32 → Int32 → mH → Option (Int32 × mH)
  | 0, _, _, _, _ => none
  | n + 1, r0, x1, x2, h => if (12 : Int32) ≤ x2 then k80 r0 x1 h else (gFr [4] 50 h r0).bind fun v7 => (gFr [4] 9 h r0).bind fun v8 => (aL h v8 x2).bind fun v9 => (sL h v7 (((12 : Int32) * x1) + x2) v9).bind fun h10 => (f_X5_image_L51 k80 n) r0 x1 (x2 + (1 : Int32)) h10
theorem t_X5_image_L51 {G : xG} {C : xC} {o : Int32 × mH} (hE : xEnd G C (some (.int o.1)) o.2) {k80 : Nat → Int32 → mH → Option (Int32 × mH)} (hk80 : ∀ (r0 : Nat) (x1 : Int32) (h : mH), k80 r0 x1 h = some o → X G C mi_X5_image 80 [(0, .ref r0), (1, .int x1)] [] h) : ∀ (n : Nat) (r0 : Nat) (x1 : Int32) (x2 : Int32) (h : mH), f_X5_image_L51 k80 n r0 x1 x2 h = some o → X G C mi_X5_image 51 [(0, .ref r0), (1, .int x1), (2, .int x2)] [] h := by
  intro n
  induction n with
  | zero => intro r0 x1 x2 h H; exact nomatch (show (none : Option (Int32 × mH)) = some o from H)
  | succ n ih =>
    intro r0 x1 x2 h H
    rw [f_X5_image_L51] at H
    refine x_iload_n 2 rfl dX5_image_51 ?_
    refine x_bipush (12 : Int32) dX5_image_52 bi_12 ?_
    refine x_icmp_ge 80 dX5_image_54 (by decide) (fun c6 => ?_) (fun c6 => ?_)
    · rw [if_pos c6] at H
      refine X.sub [0, 1] rfl ?_
      exact hk80 _ _ _ H
    · rw [if_neg c6] at H
      refine x_aload_n 0 rfl dX5_image_57 ?_
      obtain ⟨v7, e7, H⟩ := ob H
      refine x_getf fg_X5_90 (gFr_spec e7) dX5_image_58 ?_
      refine x_bipush (12 : Int32) dX5_image_61 bi_12 ?_
      refine x_iload_n 1 rfl dX5_image_63 ?_
      refine x_imul dX5_image_64 ?_
      refine x_iload_n 2 rfl dX5_image_65 ?_
      refine x_iadd dX5_image_66 ?_
      refine x_aload_n 0 rfl dX5_image_67 ?_
      obtain ⟨v8, e8, H⟩ := ob H
      refine x_getf fg_X5_43 (gFr_spec e8) dX5_image_68 ?_
      refine x_iload_n 2 rfl dX5_image_71 ?_
      obtain ⟨v9, e9, H⟩ := ob H
      refine x_lald e9 dX5_image_72 ?_
      obtain ⟨h10, e10, H⟩ := ob H
      refine x_last e10 dX5_image_73 ?_
      refine x_iinc 2 (x2 + (1 : Int32)) [1, 2, 0] dX5_image_74 rfl (ii_1 _) (by decide) rfl ?_
      refine x_goto (tgt := 51) dX5_image_77 (by decide) ?_
      exact ih _ _ _ _ H
def f_X5_image_b49 (r0 : Nat) (x1 : Int32) (h : mH) : Option (Int32 × mH) := f_X5_image_L51 (f_X5_image_b80) xFu r0 x1 (0 : Int32) h
theorem t_X5_image_b49 {G : xG} {C : xC} {o : Int32 × mH} (hE : xEnd G C (some (.int o.1)) o.2) (r0 : Nat) (x1 : Int32) (h : mH) (H : f_X5_image_b49 r0 x1 h = some o) : X G C mi_X5_image 49 [(0, .ref r0), (1, .int x1)] [] h := by
  unfold f_X5_image_b49 at H
  refine x_iconst (0 : Int32) dX5_image_49 ic_0 ?_
  refine x_istore_n [1, 2, 0] dX5_image_50 (by decide) rfl ?_
  exact t_X5_image_L51 hE (t_X5_image_b80 hE) xFu _ _ _ _ H
def f_X5_image_L18 (k49 : Nat → Int32 → mH → Option (Int32 × mH)) : Nat → Nat → Int32 → Int32 → mH → Option (Int32 × mH)
  | 0, _, _, _, _ => none
  | n + 1, r0, x1, x2, h => if (457 : Int32) ≤ x2 then k49 r0 x1 h else (gFr [4] 49 h r0).bind fun v12 => (gFr [4] 6 h r0).bind fun v13 => (aI .int h v13 x2).bind fun v14 => (sI .int h v12 (((457 : Int32) * x1) + x2) v14).bind fun h15 => (f_X5_image_L18 k49 n) r0 x1 (x2 + (1 : Int32)) h15
theorem t_X5_image_L18 {G : xG} {C : xC} {o : Int32 × mH} (hE : xEnd G C (some (.int o.1)) o.2) {k49 : Nat → Int32 → mH → Option (Int32 × mH)} (hk49 : ∀ (r0 : Nat) (x1 : Int32) (h : mH), k49 r0 x1 h = some o → X G C mi_X5_image 49 [(0, .ref r0), (1, .int x1)] [] h) : ∀ (n : Nat) (r0 : Nat) (x1 : Int32) (x2 : Int32) (h : mH), f_X5_image_L18 k49 n r0 x1 x2 h = some o → X G C mi_X5_image 18 [(0, .ref r0), (1, .int x1), (2, .int x2)] [] h := by
  intro n
  induction n with
  | zero => intro r0 x1 x2 h H; exact nomatch (show (none : Option (Int32 × mH)) = some o from H)
  | succ n ih =>
    intro r0 x1 x2 h H
    rw [f_X5_image_L18] at H
    refine x_iload_n 2 rfl dX5_image_18 ?_
    refine x_sipush (457 : Int32) dX5_image_19 si_457 ?_
    refine x_icmp_ge 49 dX5_image_22 (by decide) (fun c11 => ?_) (fun c11 => ?_)
    · rw [if_pos c11] at H
      refine X.sub [0, 1] rfl ?_
      exact hk49 _ _ _ H
    · rw [if_neg c11] at H
      refine x_aload_n 0 rfl dX5_image_25 ?_
      obtain ⟨v12, e12, H⟩ := ob H
      refine x_getf fg_X5_87 (gFr_spec e12) dX5_image_26 ?_
      refine x_sipush (457 : Int32) dX5_image_29 si_457 ?_
      refine x_iload_n 1 rfl dX5_image_32 ?_
      refine x_imul dX5_image_33 ?_
      refine x_iload_n 2 rfl dX5_image_34 ?_
      refine x_iadd dX5_image_35 ?_
      refine x_aload_n 0 rfl dX5_image_36 ?_
      obtain ⟨v13, e13, H⟩ := ob H
      refine x_getf fg_X5_33 (gFr_spec e13) dX5_image_37 ?_
      refine x_iload_n 2 rfl dX5_image_40 ?_
      obtain ⟨v14, e14, H⟩ := ob H
      refine x_iald e14 dX5_image_41 ?_
      obtain ⟨h15, e15, H⟩ := ob H
      refine x_iast e15 dX5_image_42 ?_
      refine x_iinc 2 (x2 + (1 : Int32)) [1, 2, 0] dX5_image_43 rfl (ii_1 _) (by decide) rfl ?_
      refine x_goto (tgt := 18) dX5_image_46 (by decide) ?_
      exact ih _ _ _ _ H
def f_X5_image (r0 : Nat) (x1 : Int32) (h : mH) : Option (Int32 × mH) := (pF [4] 0 (.int (0 : Int32)) h r0).bind fun h1 => bR (f_X5_isIn x1 (0 : Int32) (1 : Int32) h1) fun a2 g2 => if a2 = 0 then some ((0 : Int32), g2) else f_X5_image_L18 (f_X5_image_b49) xFu r0 x1 (0 : Int32) g2
theorem t_X5_image {G : xG} (C0 : xC) {l : Launch} {r0 : Nat} {x1 : Int32} (h : mH) {o : Int32 × mH} (H : f_X5_image r0 x1 h = some o) : XR G l mi_X5_image [.ref r0, .int x1] h (some (.int o.1)) o.2 := by
  refine XR.of C0 (by decide) (Nat.le_of_ble_eq_true rfl) (fun C _ _ _ hE => ?_)
  show X G C mi_X5_image 0 [(0, .ref r0), (1, .int x1)] [] h
  unfold f_X5_image at H
  refine x_aload_n 0 rfl dX5_image_0 ?_
  refine x_iconst (0 : Int32) dX5_image_1 ic_0 ?_
  obtain ⟨h1, e1, H⟩ := ob H
  refine x_putf (fp_X5_1 _) rfl rfl e1 dX5_image_2 ?_
  refine x_iload_n 1 rfl dX5_image_5 ?_
  refine x_iconst (0 : Int32) dX5_image_6 ic_0 ?_
  refine x_iconst (1 : Int32) dX5_image_7 ic_1 ?_
  obtain ⟨a2, g2, e2, H⟩ := obR H
  refine x_callS (M' := mi_X5_isIn) (n := 3) (As := [.int x1, .int (0 : Int32), .int (1 : Int32)]) (t_X5_isIn C _ e2) md_X5_isIn ⟨Nat.le_of_ble_eq_true rfl, Nat.le_of_ble_eq_true rfl⟩ q2150 q2151 q131 q2152 rfl (Nat.le_of_ble_eq_true rfl) dX5_image_8 ?_
  refine x_if_ne 16 dX5_image_11 (by decide) (fun c3 => ?_) (fun c3 => ?_)
  · rw [if_neg c3] at H
    refine x_iconst (0 : Int32) dX5_image_16 ic_0 ?_
    refine x_istore_n [1, 2, 0] dX5_image_17 (by decide) rfl ?_
    exact t_X5_image_L18 hE (t_X5_image_b49 hE) xFu _ _ _ _ H
  · rw [if_pos c3] at H
    refine x_iconst (0 : Int32) dX5_image_14 ic_0 ?_
    obtain rfl := Option.some.inj H
    exact x_iret hE rfl rfl dX5_image_15
abbrev mi_X5_init : xM := (cX5_init, yX5_init, 2, none, 2)
theorem md_X5_init : xMD mi_X5_init 0 := ⟨by decide, by decide, by decide +kernel⟩
def f_X5_init_b440 (r0 : Nat) (h : mH) : Option (Unit × mH) := (gFr [4] 6 h r0).bind fun v92 => (sI .int h v92 (135 : Int32) (1 : Int32)).bind fun h93 => some ((), h93)
theorem t_X5_init_b440 {G : xG} {C : xC} {o : Unit × mH} (hE : xEnd G C none o.2) (r0 : Nat) (h : mH) (H : f_X5_init_b440 r0 h = some o) : X G C mi_X5_init 440 [(0, .ref r0)] [] h := by
  unfold f_X5_init_b440 at H
  refine x_aload_n 0 rfl dX5_init_440 ?_
  obtain ⟨v92, e92, H⟩ := ob H
  refine x_getf fg_X5_33 (gFr_spec e92) dX5_init_441 ?_
  refine x_sipush (135 : Int32) dX5_init_444 si_135 ?_
  refine x_iconst (1 : Int32) dX5_init_447 ic_1 ?_
  obtain ⟨h93, e93, H⟩ := ob H
  refine x_iast e93 dX5_init_448 ?_
  obtain rfl := Option.some.inj H
  exact x_vret hE rfl dX5_init_449
def f_X5_init_L415 (k440 : Nat → mH → Option (Unit × mH)) : Nat → Nat → Int32 → mH → Option (Unit × mH)
  | 0, _, _, _ => none
  | n + 1, r0, x1, h => if (131 : Int32) ≤ x1 then k440 r0 h else (gFr [4] 6 h r0).bind fun v95 => (gFr [4] 7 h r0).bind fun v96 => (aI .int h v96 x1).bind fun v97 => (sI .int h v95 x1 v97).bind fun h98 => (f_X5_init_L415 k440 n) r0 (x1 + (1 : Int32)) h98
theorem t_X5_init_L415 {G : xG} {C : xC} {o : Unit × mH} (hE : xEnd G C none o.2) {k440 : Nat → mH → Option (Unit × mH)} (hk440 : ∀ (r0 : Nat) (h : mH), k440 r0 h = some o → X G C mi_X5_init 440 [(0, .ref r0)] [] h) : ∀ (n : Nat) (r0 : Nat) (x1 : Int32) (h : mH), f_X5_init_L415 k440 n r0 x1 h = some o → X G C mi_X5_init 415 [(0, .ref r0), (1, .int x1)] [] h := by
  intro n
  induction n with
  | zero => intro r0 x1 h H; exact nomatch (show (none : Option (Unit × mH)) = some o from H)
  | succ n ih =>
    intro r0 x1 h H
    rw [f_X5_init_L415] at H
    refine x_iload_n 1 rfl dX5_init_415 ?_
    refine x_sipush (131 : Int32) dX5_init_416 si_131 ?_
    refine x_icmp_ge 440 dX5_init_419 (by decide) (fun c94 => ?_) (fun c94 => ?_)
    · rw [if_pos c94] at H
      refine X.sub [0] rfl ?_
      exact hk440 _ _ H
    · rw [if_neg c94] at H
      refine x_aload_n 0 rfl dX5_init_422 ?_
      obtain ⟨v95, e95, H⟩ := ob H
      refine x_getf fg_X5_33 (gFr_spec e95) dX5_init_423 ?_
      refine x_iload_n 1 rfl dX5_init_426 ?_
      refine x_aload_n 0 rfl dX5_init_427 ?_
      obtain ⟨v96, e96, H⟩ := ob H
      refine x_getf fg_X5_37 (gFr_spec e96) dX5_init_428 ?_
      refine x_iload_n 1 rfl dX5_init_431 ?_
      obtain ⟨v97, e97, H⟩ := ob H
      refine x_iald e97 dX5_init_432 ?_
      obtain ⟨h98, e98, H⟩ := ob H
      refine x_iast e98 dX5_init_433 ?_
      refine x_iinc 1 (x1 + (1 : Int32)) [1, 0] dX5_init_434 rfl (ii_1 _) (by decide) rfl ?_
      refine x_goto (tgt := 415) dX5_init_437 (by decide) ?_
      exact ih _ _ _ H
def f_X5_init (r0 : Nat) (h : mH) : Option (Unit × mH) := if 6 ≤ r0 then bR (nA .byte h (940 : Int32)) fun a2 g2 => (pF [4] 1 (.ref a2) g2 r0).bind fun h3 => bR (nA .int h3 (457 : Int32)) fun a4 g4 => (pF [4] 6 (.ref a4) g4 r0).bind fun h5 => bR (nA .int h5 (131 : Int32)) fun a6 g6 => (pF [4] 7 (.ref a6) g6 r0).bind fun h7 => bR (nA .int h7 (160 : Int32)) fun a8 g8 => (pF [4] 8 (.ref a8) g8 r0).bind fun h9 => bR (nA .long h9 (24 : Int32)) fun a10 g10 => (pF [4] 9 (.ref a10) g10 r0).bind fun h11 => bR (nA .long h11 (24 : Int32)) fun a12 g12 => (pF [4] 10 (.ref a12) g12 r0).bind fun h13 => bR (nA .int h13 (1160 : Int32)) fun a14 g14 => (pF [4] 21 (.ref a14) g14 r0).bind fun h15 => bR (nA .int h15 (145 : Int32)) fun a16 g16 => (pF [4] 22 (.ref a16) g16 r0).bind fun h17 => bR (nA .int h17 (256 : Int32)) fun a18 g18 => (pF [4] 24 (.ref a18) g18 r0).bind fun h19 => bR (nA .int h19 (16 : Int32)) fun a20 g20 => (pF [4] 25 (.ref a20) g20 r0).bind fun h21 => bR (nA .int h21 (16 : Int32)) fun a22 g22 => (pF [4] 26 (.ref a22) g22 r0).bind fun h23 => bR (nA .int h23 (7 : Int32)) fun a24 g24 => (pF [4] 31 (.ref a24) g24 r0).bind fun h25 => bR (nA .int h25 (7 : Int32)) fun a26 g26 => (pF [4] 32 (.ref a26) g26 r0).bind fun h27 => (pF [4] 33 (.int (-1 : Int32)) h27 r0).bind fun h28 => bR (nA .byte h28 (80 : Int32)) fun a29 g29 => (pF [4] 36 (.ref a29) g29 r0).bind fun h30 => bR (nA .int h30 (4 : Int32)) fun a31 g31 => (pF [4] 40 (.ref a31) g31 r0).bind fun h32 => bR (nA .int h32 (45 : Int32)) fun a33 g33 => (pF [4] 42 (.ref a33) g33 r0).bind fun h34 => bR (nA .boolean h34 (45 : Int32)) fun a35 g35 => (pF [4] 48 (.ref a35) g35 r0).bind fun h36 => bR (nA .int h36 (914 : Int32)) fun a37 g37 => (pF [4] 49 (.ref a37) g37 r0).bind fun h38 => bR (nA .long h38 (24 : Int32)) fun a39 g39 => (pF [4] 50 (.ref a39) g39 r0).bind fun h40 => bR (nA .boolean h40 (2 : Int32)) fun a41 g41 => (pF [4] 51 (.ref a41) g41 r0).bind fun h42 => (gFr [4] 10 h42 r0).bind fun v43 => (sL h42 v43 (0 : Int32) (123581014175598 : Int64)).bind fun h44 => (gFr [4] 10 h44 r0).bind fun v45 => (sL h44 v45 (1 : Int32) (1735356260 : Int64)).bind fun h46 => (gFr [4] 10 h46 r0).bind fun v47 => (sL h46 v47 (2 : Int32) (495622843507 : Int64)).bind fun h48 => (gFr [4] 10 h48 r0).bind fun v49 => (sL h48 v49 (3 : Int32) (512735736947 : Int64)).bind fun h50 => (gFr [4] 10 h50 r0).bind fun v51 => (sL h50 v51 (4 : Int32) (461414299507 : Int64)).bind fun h52 => (gFr [4] 10 h52 r0).bind fun v53 => (sL h52 v53 (5 : Int32) (1718576499 : Int64)).bind fun h54 => (gFr [4] 10 h54 r0).bind fun v55 => (sL h54 v55 (6 : Int32) (431197613171 : Int64)).bind fun h56 => (gFr [4] 10 h56 r0).bind fun v57 => (sL h56 v57 (7 : Int32) (508507548787 : Int64)).bind fun h58 => (gFr [4] 10 h58 r0).bind fun v59 => (sL h58 v59 (8 : Int32) (1650814060 : Int64)).bind fun h60 => (gFr [4] 10 h60 r0).bind fun v61 => (sL h60 v61 (9 : Int32) (1651865971 : Int64)).bind fun h62 => (gFr [4] 10 h62 r0).bind fun v63 => (sL h62 v63 (10 : Int32) (1852793971 : Int64)).bind fun h64 => (gFr [4] 10 h64 r0).bind fun v65 => (sL h64 v65 (11 : Int32) (499917810803 : Int64)).bind fun h66 => (gFr [4] 10 h66 r0).bind fun v67 => (sL h66 v67 (12 : Int32) (6578553 : Int64)).bind fun h68 => (gFr [4] 10 h68 r0).bind fun v69 => (sL h68 v69 (13 : Int32) (28530 : Int64)).bind fun h70 => (gFr [4] 10 h70 r0).bind fun v71 => (sL h70 v71 (14 : Int32) (6385252 : Int64)).bind fun h72 => (gFr [4] 10 h72 r0).bind fun v73 => (sL h72 v73 (15 : Int32) (7237492 : Int64)).bind fun h74 => (gFr [4] 10 h74 r0).bind fun v75 => (sL h74 v75 (16 : Int32) (1752132965 : Int64)).bind fun h76 => (gFr [4] 10 h76 r0).bind fun v77 => (sL h76 v77 (17 : Int32) (130177932485988 : Int64)).bind fun h78 => (gFr [4] 10 h78 r0).bind fun v79 => (sL h78 v79 (18 : Int32) (6710628 : Int64)).bind fun h80 => (gFr [4] 10 h80 r0).bind fun v81 => (sL h80 v81 (19 : Int32) (1936682084 : Int64)).bind fun h82 => (gFr [4] 10 h82 r0).bind fun v83 => (sL h82 v83 (20 : Int32) (427070942835 : Int64)).bind fun h84 => (gFr [4] 10 h84 r0).bind fun v85 => (sL h84 v85 (21 : Int32) (28836244623352947 : Int64)).bind fun h86 => (gFr [4] 10 h86 r0).bind fun v87 => (sL h86 v87 (22 : Int32) (114853572732274 : Int64)).bind fun h88 => (gFr [4] 10 h88 r0).bind fun v89 => (sL h88 v89 (23 : Int32) (121450625394034 : Int64)).bind fun h90 => if gC h90 r0 = 4 then bR (f_X5_clears r0  h90) fun a91 g91 => f_X5_init_L415 (f_X5_init_b440) xFu r0 (0 : Int32) g91 else none else none
theorem t_X5_init {G : xG} (C0 : xC) {l : Launch} {r0 : Nat} (h : mH) {o : Unit × mH} (H : f_X5_init r0 h = some o) : XR G l mi_X5_init [.ref r0] h none o.2 := by
  refine XR.of C0 (by decide) (Nat.le_of_ble_eq_true rfl) (fun C _ _ _ hE => ?_)
  show X G C mi_X5_init 0 [(0, .ref r0)] [] h
  unfold f_X5_init at H
  refine x_aload_n 0 rfl dX5_init_0 ?_
  obtain ⟨c1, H⟩ := oit H
  refine x_oinit c1 (by decide) q1904 q170 q171 (Nat.le_of_ble_eq_true rfl) dX5_init_1 ?_
  refine x_aload_n 0 rfl dX5_init_4 ?_
  refine x_sipush (940 : Int32) dX5_init_5 si_940 ?_
  obtain ⟨a2, g2, e2, H⟩ := obR H
  refine x_newa (at_ := .byte) (ty := .byte) rfl (by decide) q204 e2 dX5_init_8 ?_
  obtain ⟨h3, e3, H⟩ := ob H
  refine x_putf fp_X5_14 rfl rfl e3 dX5_init_10 ?_
  refine x_aload_n 0 rfl dX5_init_13 ?_
  refine x_sipush (457 : Int32) dX5_init_14 si_457 ?_
  obtain ⟨a4, g4, e4, H⟩ := obR H
  refine x_newa (at_ := .int) (ty := .int) rfl (by decide) q304 e4 dX5_init_17 ?_
  obtain ⟨h5, e5, H⟩ := ob H
  refine x_putf fp_X5_33 rfl rfl e5 dX5_init_19 ?_
  refine x_aload_n 0 rfl dX5_init_22 ?_
  refine x_sipush (131 : Int32) dX5_init_23 si_131 ?_
  obtain ⟨a6, g6, e6, H⟩ := obR H
  refine x_newa (at_ := .int) (ty := .int) rfl (by decide) q304 e6 dX5_init_26 ?_
  obtain ⟨h7, e7, H⟩ := ob H
  refine x_putf fp_X5_37 rfl rfl e7 dX5_init_28 ?_
  refine x_aload_n 0 rfl dX5_init_31 ?_
  refine x_sipush (160 : Int32) dX5_init_32 si_160 ?_
  obtain ⟨a8, g8, e8, H⟩ := obR H
  refine x_newa (at_ := .int) (ty := .int) rfl (by decide) q304 e8 dX5_init_35 ?_
  obtain ⟨h9, e9, H⟩ := ob H
  refine x_putf fp_X5_40 rfl rfl e9 dX5_init_37 ?_
  refine x_aload_n 0 rfl dX5_init_40 ?_
  refine x_bipush (24 : Int32) dX5_init_41 bi_24 ?_
  obtain ⟨a10, g10, e10, H⟩ := obR H
  refine x_newa (at_ := .long) (ty := .long) rfl (by decide) q2090 e10 dX5_init_43 ?_
  obtain ⟨h11, e11, H⟩ := ob H
  refine x_putf fp_X5_43 rfl rfl e11 dX5_init_45 ?_
  refine x_aload_n 0 rfl dX5_init_48 ?_
  refine x_bipush (24 : Int32) dX5_init_49 bi_24 ?_
  obtain ⟨a12, g12, e12, H⟩ := obR H
  refine x_newa (at_ := .long) (ty := .long) rfl (by decide) q2090 e12 dX5_init_51 ?_
  obtain ⟨h13, e13, H⟩ := ob H
  refine x_putf fp_X5_47 rfl rfl e13 dX5_init_53 ?_
  refine x_aload_n 0 rfl dX5_init_56 ?_
  refine x_sipush (1160 : Int32) dX5_init_57 si_1160 ?_
  obtain ⟨a14, g14, e14, H⟩ := obR H
  refine x_newa (at_ := .int) (ty := .int) rfl (by decide) q304 e14 dX5_init_60 ?_
  obtain ⟨h15, e15, H⟩ := ob H
  refine x_putf fp_X5_50 rfl rfl e15 dX5_init_62 ?_
  refine x_aload_n 0 rfl dX5_init_65 ?_
  refine x_sipush (145 : Int32) dX5_init_66 si_145 ?_
  obtain ⟨a16, g16, e16, H⟩ := obR H
  refine x_newa (at_ := .int) (ty := .int) rfl (by decide) q304 e16 dX5_init_69 ?_
  obtain ⟨h17, e17, H⟩ := ob H
  refine x_putf fp_X5_53 rfl rfl e17 dX5_init_71 ?_
  refine x_aload_n 0 rfl dX5_init_74 ?_
  refine x_sipush (256 : Int32) dX5_init_75 si_256 ?_
  obtain ⟨a18, g18, e18, H⟩ := obR H
  refine x_newa (at_ := .int) (ty := .int) rfl (by decide) q304 e18 dX5_init_78 ?_
  obtain ⟨h19, e19, H⟩ := ob H
  refine x_putf fp_X5_56 rfl rfl e19 dX5_init_80 ?_
  refine x_aload_n 0 rfl dX5_init_83 ?_
  refine x_bipush (16 : Int32) dX5_init_84 bi_16 ?_
  obtain ⟨a20, g20, e20, H⟩ := obR H
  refine x_newa (at_ := .int) (ty := .int) rfl (by decide) q304 e20 dX5_init_86 ?_
  obtain ⟨h21, e21, H⟩ := ob H
  refine x_putf fp_X5_59 rfl rfl e21 dX5_init_88 ?_
  refine x_aload_n 0 rfl dX5_init_91 ?_
  refine x_bipush (16 : Int32) dX5_init_92 bi_16 ?_
  obtain ⟨a22, g22, e22, H⟩ := obR H
  refine x_newa (at_ := .int) (ty := .int) rfl (by decide) q304 e22 dX5_init_94 ?_
  obtain ⟨h23, e23, H⟩ := ob H
  refine x_putf fp_X5_62 rfl rfl e23 dX5_init_96 ?_
  refine x_aload_n 0 rfl dX5_init_99 ?_
  refine x_bipush (7 : Int32) dX5_init_100 bi_7 ?_
  obtain ⟨a24, g24, e24, H⟩ := obR H
  refine x_newa (at_ := .int) (ty := .int) rfl (by decide) q304 e24 dX5_init_102 ?_
  obtain ⟨h25, e25, H⟩ := ob H
  refine x_putf fp_X5_65 rfl rfl e25 dX5_init_104 ?_
  refine x_aload_n 0 rfl dX5_init_107 ?_
  refine x_bipush (7 : Int32) dX5_init_108 bi_7 ?_
  obtain ⟨a26, g26, e26, H⟩ := obR H
  refine x_newa (at_ := .int) (ty := .int) rfl (by decide) q304 e26 dX5_init_110 ?_
  obtain ⟨h27, e27, H⟩ := ob H
  refine x_putf fp_X5_68 rfl rfl e27 dX5_init_112 ?_
  refine x_aload_n 0 rfl dX5_init_115 ?_
  refine x_iconst (-1 : Int32) dX5_init_116 ic_m1 ?_
  obtain ⟨h28, e28, H⟩ := ob H
  refine x_putf (fp_X5_71 _) rfl rfl e28 dX5_init_117 ?_
  refine x_aload_n 0 rfl dX5_init_120 ?_
  refine x_bipush (80 : Int32) dX5_init_121 bi_80 ?_
  obtain ⟨a29, g29, e29, H⟩ := obR H
  refine x_newa (at_ := .byte) (ty := .byte) rfl (by decide) q204 e29 dX5_init_123 ?_
  obtain ⟨h30, e30, H⟩ := ob H
  refine x_putf fp_X5_74 rfl rfl e30 dX5_init_125 ?_
  refine x_aload_n 0 rfl dX5_init_128 ?_
  refine x_iconst (4 : Int32) dX5_init_129 ic_4 ?_
  obtain ⟨a31, g31, e31, H⟩ := obR H
  refine x_newa (at_ := .int) (ty := .int) rfl (by decide) q304 e31 dX5_init_130 ?_
  obtain ⟨h32, e32, H⟩ := ob H
  refine x_putf fp_X5_77 rfl rfl e32 dX5_init_132 ?_
  refine x_aload_n 0 rfl dX5_init_135 ?_
  refine x_bipush (45 : Int32) dX5_init_136 bi_45 ?_
  obtain ⟨a33, g33, e33, H⟩ := obR H
  refine x_newa (at_ := .int) (ty := .int) rfl (by decide) q304 e33 dX5_init_138 ?_
  obtain ⟨h34, e34, H⟩ := ob H
  refine x_putf fp_X5_80 rfl rfl e34 dX5_init_140 ?_
  refine x_aload_n 0 rfl dX5_init_143 ?_
  refine x_bipush (45 : Int32) dX5_init_144 bi_45 ?_
  obtain ⟨a35, g35, e35, H⟩ := obR H
  refine x_newa (at_ := .boolean) (ty := .boolean) rfl (by decide) q2091 e35 dX5_init_146 ?_
  obtain ⟨h36, e36, H⟩ := ob H
  refine x_putf fp_X5_83 rfl rfl e36 dX5_init_148 ?_
  refine x_aload_n 0 rfl dX5_init_151 ?_
  refine x_sipush (914 : Int32) dX5_init_152 si_914 ?_
  obtain ⟨a37, g37, e37, H⟩ := obR H
  refine x_newa (at_ := .int) (ty := .int) rfl (by decide) q304 e37 dX5_init_155 ?_
  obtain ⟨h38, e38, H⟩ := ob H
  refine x_putf fp_X5_87 rfl rfl e38 dX5_init_157 ?_
  refine x_aload_n 0 rfl dX5_init_160 ?_
  refine x_bipush (24 : Int32) dX5_init_161 bi_24 ?_
  obtain ⟨a39, g39, e39, H⟩ := obR H
  refine x_newa (at_ := .long) (ty := .long) rfl (by decide) q2090 e39 dX5_init_163 ?_
  obtain ⟨h40, e40, H⟩ := ob H
  refine x_putf fp_X5_90 rfl rfl e40 dX5_init_165 ?_
  refine x_aload_n 0 rfl dX5_init_168 ?_
  refine x_iconst (2 : Int32) dX5_init_169 ic_2 ?_
  obtain ⟨a41, g41, e41, H⟩ := obR H
  refine x_newa (at_ := .boolean) (ty := .boolean) rfl (by decide) q2091 e41 dX5_init_170 ?_
  obtain ⟨h42, e42, H⟩ := ob H
  refine x_putf fp_X5_93 rfl rfl e42 dX5_init_172 ?_
  refine x_aload_n 0 rfl dX5_init_175 ?_
  obtain ⟨v43, e43, H⟩ := ob H
  refine x_getf fg_X5_47 (gFr_spec e43) dX5_init_176 ?_
  refine x_iconst (0 : Int32) dX5_init_179 ic_0 ?_
  refine x_ldc2 q1905 dX5_init_180 ?_
  obtain ⟨h44, e44, H⟩ := ob H
  refine x_last e44 dX5_init_183 ?_
  refine x_aload_n 0 rfl dX5_init_184 ?_
  obtain ⟨v45, e45, H⟩ := ob H
  refine x_getf fg_X5_47 (gFr_spec e45) dX5_init_185 ?_
  refine x_iconst (1 : Int32) dX5_init_188 ic_1 ?_
  refine x_ldc2 q1906 dX5_init_189 ?_
  obtain ⟨h46, e46, H⟩ := ob H
  refine x_last e46 dX5_init_192 ?_
  refine x_aload_n 0 rfl dX5_init_193 ?_
  obtain ⟨v47, e47, H⟩ := ob H
  refine x_getf fg_X5_47 (gFr_spec e47) dX5_init_194 ?_
  refine x_iconst (2 : Int32) dX5_init_197 ic_2 ?_
  refine x_ldc2 q1907 dX5_init_198 ?_
  obtain ⟨h48, e48, H⟩ := ob H
  refine x_last e48 dX5_init_201 ?_
  refine x_aload_n 0 rfl dX5_init_202 ?_
  obtain ⟨v49, e49, H⟩ := ob H
  refine x_getf fg_X5_47 (gFr_spec e49) dX5_init_203 ?_
  refine x_iconst (3 : Int32) dX5_init_206 ic_3 ?_
  refine x_ldc2 q1908 dX5_init_207 ?_
  obtain ⟨h50, e50, H⟩ := ob H
  refine x_last e50 dX5_init_210 ?_
  refine x_aload_n 0 rfl dX5_init_211 ?_
  obtain ⟨v51, e51, H⟩ := ob H
  refine x_getf fg_X5_47 (gFr_spec e51) dX5_init_212 ?_
  refine x_iconst (4 : Int32) dX5_init_215 ic_4 ?_
  refine x_ldc2 q1909 dX5_init_216 ?_
  obtain ⟨h52, e52, H⟩ := ob H
  refine x_last e52 dX5_init_219 ?_
  refine x_aload_n 0 rfl dX5_init_220 ?_
  obtain ⟨v53, e53, H⟩ := ob H
  refine x_getf fg_X5_47 (gFr_spec e53) dX5_init_221 ?_
  refine x_iconst (5 : Int32) dX5_init_224 ic_5 ?_
  refine x_ldc2 q1910 dX5_init_225 ?_
  obtain ⟨h54, e54, H⟩ := ob H
  refine x_last e54 dX5_init_228 ?_
  refine x_aload_n 0 rfl dX5_init_229 ?_
  obtain ⟨v55, e55, H⟩ := ob H
  refine x_getf fg_X5_47 (gFr_spec e55) dX5_init_230 ?_
  refine x_bipush (6 : Int32) dX5_init_233 bi_6 ?_
  refine x_ldc2 q1911 dX5_init_235 ?_
  obtain ⟨h56, e56, H⟩ := ob H
  refine x_last e56 dX5_init_238 ?_
  refine x_aload_n 0 rfl dX5_init_239 ?_
  obtain ⟨v57, e57, H⟩ := ob H
  refine x_getf fg_X5_47 (gFr_spec e57) dX5_init_240 ?_
  refine x_bipush (7 : Int32) dX5_init_243 bi_7 ?_
  refine x_ldc2 q1912 dX5_init_245 ?_
  obtain ⟨h58, e58, H⟩ := ob H
  refine x_last e58 dX5_init_248 ?_
  refine x_aload_n 0 rfl dX5_init_249 ?_
  obtain ⟨v59, e59, H⟩ := ob H
  refine x_getf fg_X5_47 (gFr_spec e59) dX5_init_250 ?_
  refine x_bipush (8 : Int32) dX5_init_253 bi_8 ?_
  refine x_ldc2 q1913 dX5_init_255 ?_
  obtain ⟨h60, e60, H⟩ := ob H
  refine x_last e60 dX5_init_258 ?_
  refine x_aload_n 0 rfl dX5_init_259 ?_
  obtain ⟨v61, e61, H⟩ := ob H
  refine x_getf fg_X5_47 (gFr_spec e61) dX5_init_260 ?_
  refine x_bipush (9 : Int32) dX5_init_263 bi_9 ?_
  refine x_ldc2 q1914 dX5_init_265 ?_
  obtain ⟨h62, e62, H⟩ := ob H
  refine x_last e62 dX5_init_268 ?_
  refine x_aload_n 0 rfl dX5_init_269 ?_
  obtain ⟨v63, e63, H⟩ := ob H
  refine x_getf fg_X5_47 (gFr_spec e63) dX5_init_270 ?_
  refine x_bipush (10 : Int32) dX5_init_273 bi_10 ?_
  refine x_ldc2 q1915 dX5_init_275 ?_
  obtain ⟨h64, e64, H⟩ := ob H
  refine x_last e64 dX5_init_278 ?_
  refine x_aload_n 0 rfl dX5_init_279 ?_
  obtain ⟨v65, e65, H⟩ := ob H
  refine x_getf fg_X5_47 (gFr_spec e65) dX5_init_280 ?_
  refine x_bipush (11 : Int32) dX5_init_283 bi_11 ?_
  refine x_ldc2 q1916 dX5_init_285 ?_
  obtain ⟨h66, e66, H⟩ := ob H
  refine x_last e66 dX5_init_288 ?_
  refine x_aload_n 0 rfl dX5_init_289 ?_
  obtain ⟨v67, e67, H⟩ := ob H
  refine x_getf fg_X5_47 (gFr_spec e67) dX5_init_290 ?_
  refine x_bipush (12 : Int32) dX5_init_293 bi_12 ?_
  refine x_ldc2 q1917 dX5_init_295 ?_
  obtain ⟨h68, e68, H⟩ := ob H
  refine x_last e68 dX5_init_298 ?_
  refine x_aload_n 0 rfl dX5_init_299 ?_
  obtain ⟨v69, e69, H⟩ := ob H
  refine x_getf fg_X5_47 (gFr_spec e69) dX5_init_300 ?_
  refine x_bipush (13 : Int32) dX5_init_303 bi_13 ?_
  refine x_ldc2 q1918 dX5_init_305 ?_
  obtain ⟨h70, e70, H⟩ := ob H
  refine x_last e70 dX5_init_308 ?_
  refine x_aload_n 0 rfl dX5_init_309 ?_
  obtain ⟨v71, e71, H⟩ := ob H
  refine x_getf fg_X5_47 (gFr_spec e71) dX5_init_310 ?_
  refine x_bipush (14 : Int32) dX5_init_313 bi_14 ?_
  refine x_ldc2 q1919 dX5_init_315 ?_
  obtain ⟨h72, e72, H⟩ := ob H
  refine x_last e72 dX5_init_318 ?_
  refine x_aload_n 0 rfl dX5_init_319 ?_
  obtain ⟨v73, e73, H⟩ := ob H
  refine x_getf fg_X5_47 (gFr_spec e73) dX5_init_320 ?_
  refine x_bipush (15 : Int32) dX5_init_323 bi_15 ?_
  refine x_ldc2 q1920 dX5_init_325 ?_
  obtain ⟨h74, e74, H⟩ := ob H
  refine x_last e74 dX5_init_328 ?_
  refine x_aload_n 0 rfl dX5_init_329 ?_
  obtain ⟨v75, e75, H⟩ := ob H
  refine x_getf fg_X5_47 (gFr_spec e75) dX5_init_330 ?_
  refine x_bipush (16 : Int32) dX5_init_333 bi_16 ?_
  refine x_ldc2 q1921 dX5_init_335 ?_
  obtain ⟨h76, e76, H⟩ := ob H
  refine x_last e76 dX5_init_338 ?_
  refine x_aload_n 0 rfl dX5_init_339 ?_
  obtain ⟨v77, e77, H⟩ := ob H
  refine x_getf fg_X5_47 (gFr_spec e77) dX5_init_340 ?_
  refine x_bipush (17 : Int32) dX5_init_343 bi_17 ?_
  refine x_ldc2 q1922 dX5_init_345 ?_
  obtain ⟨h78, e78, H⟩ := ob H
  refine x_last e78 dX5_init_348 ?_
  refine x_aload_n 0 rfl dX5_init_349 ?_
  obtain ⟨v79, e79, H⟩ := ob H
  refine x_getf fg_X5_47 (gFr_spec e79) dX5_init_350 ?_
  refine x_bipush (18 : Int32) dX5_init_353 bi_18 ?_
  refine x_ldc2 q1923 dX5_init_355 ?_
  obtain ⟨h80, e80, H⟩ := ob H
  refine x_last e80 dX5_init_358 ?_
  refine x_aload_n 0 rfl dX5_init_359 ?_
  obtain ⟨v81, e81, H⟩ := ob H
  refine x_getf fg_X5_47 (gFr_spec e81) dX5_init_360 ?_
  refine x_bipush (19 : Int32) dX5_init_363 bi_19 ?_
  refine x_ldc2 q1924 dX5_init_365 ?_
  obtain ⟨h82, e82, H⟩ := ob H
  refine x_last e82 dX5_init_368 ?_
  refine x_aload_n 0 rfl dX5_init_369 ?_
  obtain ⟨v83, e83, H⟩ := ob H
  refine x_getf fg_X5_47 (gFr_spec e83) dX5_init_370 ?_
  refine x_bipush (20 : Int32) dX5_init_373 bi_20 ?_
  refine x_ldc2 q1925 dX5_init_375 ?_
  obtain ⟨h84, e84, H⟩ := ob H
  refine x_last e84 dX5_init_378 ?_
  refine x_aload_n 0 rfl dX5_init_379 ?_
  obtain ⟨v85, e85, H⟩ := ob H
  refine x_getf fg_X5_47 (gFr_spec e85) dX5_init_380 ?_
  refine x_bipush (21 : Int32) dX5_init_383 bi_21 ?_
  refine x_ldc2 q1926 dX5_init_385 ?_
  obtain ⟨h86, e86, H⟩ := ob H
  refine x_last e86 dX5_init_388 ?_
  refine x_aload_n 0 rfl dX5_init_389 ?_
  obtain ⟨v87, e87, H⟩ := ob H
  refine x_getf fg_X5_47 (gFr_spec e87) dX5_init_390 ?_
  refine x_bipush (22 : Int32) dX5_init_393 bi_22 ?_
  refine x_ldc2 q1927 dX5_init_395 ?_
  obtain ⟨h88, e88, H⟩ := ob H
  refine x_last e88 dX5_init_398 ?_
  refine x_aload_n 0 rfl dX5_init_399 ?_
  obtain ⟨v89, e89, H⟩ := ob H
  refine x_getf fg_X5_47 (gFr_spec e89) dX5_init_400 ?_
  refine x_bipush (23 : Int32) dX5_init_403 bi_23 ?_
  refine x_ldc2 q1928 dX5_init_405 ?_
  obtain ⟨h90, e90, H⟩ := ob H
  refine x_last e90 dX5_init_408 ?_
  refine x_aload_n 0 rfl dX5_init_409 ?_
  obtain ⟨c91, H⟩ := oit H
  obtain ⟨a91, g91, e91, H⟩ := obR H
  refine x_callV (M' := mi_X5_clears) (n := 0) (As := []) (t_X5_clears C _ e91) c91 rfl rfl md_X5_clears ⟨Nat.le_of_ble_eq_true rfl, Nat.le_of_ble_eq_true rfl⟩ q1929 q1931 qs50 q131 q1932 rfl (Nat.le_of_ble_eq_true rfl) dX5_init_410 ?_
  refine x_iconst (0 : Int32) dX5_init_413 ic_0 ?_
  refine x_istore_n [1, 0] dX5_init_414 (by decide) rfl ?_
  exact t_X5_init_L415 hE (t_X5_init_b440 hE) xFu _ _ _ H
abbrev mi_X5_isSold : xM := (cX5_isSold, yX5_isSold, 5, some .boolean, 1)
theorem md_X5_isSold : xMD mi_X5_isSold 1 := ⟨by decide, by decide, by decide +kernel⟩
def f_X5_isSold_b69 (x2 : Int32) (x3 : Int32) (h : mH) : Option (Int32 × mH) := if x2 = 0 then some ((0 : Int32), h) else if x3 = 0 then some ((1 : Int32), h) else some ((0 : Int32), h)
theorem t_X5_isSold_b69 {G : xG} {C : xC} {o : Int32 × mH} (hE : xEnd G C (some (.int o.1)) o.2) (x2 : Int32) (x3 : Int32) (h : mH) (H : f_X5_isSold_b69 x2 x3 h = some o) : X G C mi_X5_isSold 69 [(2, .int x2), (3, .int x3)] [] h := by
  unfold f_X5_isSold_b69 at H
  refine x_iload_n 0 rfl dX5_isSold_69 ?_
  refine x_if_eq 81 dX5_isSold_70 (by decide) (fun c1 => ?_) (fun c1 => ?_)
  · rw [if_pos c1] at H
    refine x_iconst (0 : Int32) dX5_isSold_81 ic_0 ?_
    obtain rfl := Option.some.inj H
    exact x_iret hE rfl rfl dX5_isSold_82
  · rw [if_neg c1] at H
    refine x_iload_n 1 rfl dX5_isSold_73 ?_
    refine x_if_ne 81 dX5_isSold_74 (by decide) (fun c2 => ?_) (fun c2 => ?_)
    · rw [if_neg c2] at H
      refine x_iconst (0 : Int32) dX5_isSold_81 ic_0 ?_
      obtain rfl := Option.some.inj H
      exact x_iret hE rfl rfl dX5_isSold_82
    · rw [if_pos c2] at H
      refine x_iconst (1 : Int32) dX5_isSold_77 ic_1 ?_
      refine x_goto (tgt := 82) dX5_isSold_78 (by decide) ?_
      obtain rfl := Option.some.inj H
      exact x_iret hE rfl rfl dX5_isSold_82
def f_X5_isSold_b44 (kb : Nat → Int32 → Int32 → Int32 → Int32 → mH → Option (Int32 × mH)) (k69 : Int32 → Int32 → mH → Option (Int32 × mH)) (r0 : Nat) (x1 : Int32) (x3 : Int32) (x4 : Int32) (s0 : Int32) (h : mH) : Option (Int32 × mH) := (gFr [4] 6 h r0).bind fun v7 => (aI .int h v7 (((143 : Int32) + ((5 : Int32) * x1)) + x4)).bind fun v8 => kb r0 x1 s0 (x3 + v8) (x4 + (1 : Int32)) h
theorem t_X5_isSold_b44 {G : xG} {C : xC} {o : Int32 × mH} (hE : xEnd G C (some (.int o.1)) o.2) {kb : Nat → Int32 → Int32 → Int32 → Int32 → mH → Option (Int32 × mH)} (hkb : ∀ (r0 : Nat) (x1 : Int32) (x2 : Int32) (x3 : Int32) (x4 : Int32) (h : mH), kb r0 x1 x2 x3 x4 h = some o → X G C mi_X5_isSold 7 [(0, .ref r0), (1, .int x1), (2, .int x2), (3, .int x3), (4, .int x4)] [] h) {k69 : Int32 → Int32 → mH → Option (Int32 × mH)} (hk69 : ∀ (x2 : Int32) (x3 : Int32) (h : mH), k69 x2 x3 h = some o → X G C mi_X5_isSold 69 [(2, .int x2), (3, .int x3)] [] h) (r0 : Nat) (x1 : Int32) (x3 : Int32) (x4 : Int32) (s0 : Int32) (h : mH) (H : f_X5_isSold_b44 kb k69 r0 x1 x3 x4 s0 h = some o) : X G C mi_X5_isSold 44 [(0, .ref r0), (1, .int x1), (3, .int x3), (4, .int x4)] [.int s0] h := by
  unfold f_X5_isSold_b44 at H
  refine x_istore_n [1, 2, 0, 3, 4] dX5_isSold_44 (by decide) rfl ?_
  refine x_iload_n 3 rfl dX5_isSold_45 ?_
  refine x_aload_n 0 rfl dX5_isSold_46 ?_
  obtain ⟨v7, e7, H⟩ := ob H
  refine x_getf fg_X5_33 (gFr_spec e7) dX5_isSold_47 ?_
  refine x_sipush (143 : Int32) dX5_isSold_50 si_143 ?_
  refine x_iconst (5 : Int32) dX5_isSold_53 ic_5 ?_
  refine x_iload_n 1 rfl dX5_isSold_54 ?_
  refine x_imul dX5_isSold_55 ?_
  refine x_iadd dX5_isSold_56 ?_
  refine x_iload 4 rfl dX5_isSold_57 ?_
  refine x_iadd dX5_isSold_59 ?_
  obtain ⟨v8, e8, H⟩ := ob H
  refine x_iald e8 dX5_isSold_60 ?_
  refine x_iadd dX5_isSold_61 ?_
  refine x_istore_n [1, 2, 3, 0, 4] dX5_isSold_62 (by decide) rfl ?_
  refine x_iinc 4 (x4 + (1 : Int32)) [1, 2, 3, 4, 0] dX5_isSold_63 rfl (ii_1 _) (by decide) rfl ?_
  refine x_goto (tgt := 7) dX5_isSold_66 (by decide) ?_
  exact hkb _ _ _ _ _ _ H
def f_X5_isSold_b39 (kb : Nat → Int32 → Int32 → Int32 → Int32 → mH → Option (Int32 × mH)) (k69 : Int32 → Int32 → mH → Option (Int32 × mH)) (r0 : Nat) (x1 : Int32) (x3 : Int32) (x4 : Int32) (h : mH) : Option (Int32 × mH) := f_X5_isSold_b44 kb k69 r0 x1 x3 x4 (1 : Int32) h
theorem t_X5_isSold_b39 {G : xG} {C : xC} {o : Int32 × mH} (hE : xEnd G C (some (.int o.1)) o.2) {kb : Nat → Int32 → Int32 → Int32 → Int32 → mH → Option (Int32 × mH)} (hkb : ∀ (r0 : Nat) (x1 : Int32) (x2 : Int32) (x3 : Int32) (x4 : Int32) (h : mH), kb r0 x1 x2 x3 x4 h = some o → X G C mi_X5_isSold 7 [(0, .ref r0), (1, .int x1), (2, .int x2), (3, .int x3), (4, .int x4)] [] h) {k69 : Int32 → Int32 → mH → Option (Int32 × mH)} (hk69 : ∀ (x2 : Int32) (x3 : Int32) (h : mH), k69 x2 x3 h = some o → X G C mi_X5_isSold 69 [(2, .int x2), (3, .int x3)] [] h) (r0 : Nat) (x1 : Int32) (x3 : Int32) (x4 : Int32) (h : mH) (H : f_X5_isSold_b39 kb k69 r0 x1 x3 x4 h = some o) : X G C mi_X5_isSold 39 [(0, .ref r0), (1, .int x1), (3, .int x3), (4, .int x4)] [] h := by
  unfold f_X5_isSold_b39 at H
  refine x_iconst (1 : Int32) dX5_isSold_39 ic_1 ?_
  refine x_goto (tgt := 44) dX5_isSold_40 (by decide) ?_
  exact t_X5_isSold_b44 hE hkb hk69 _ _ _ _ _ _ H
def f_X5_isSold_L7 (k69 : Int32 → Int32 → mH → Option (Int32 × mH)) : Nat → Nat → Int32 → Int32 → Int32 → Int32 → mH → Option (Int32 × mH)
  | 0, _, _, _, _, _, _ => none
  | n + 1, r0, x1, x2, x3, x4, h => (gFr [4] 6 h r0).bind fun v3 => (aI .int h v3 (1 : Int32)).bind fun v4 => if v4 ≤ x4 then k69 x2 x3 h else if x2 = 0 then (gFr [4] 6 h r0).bind fun v9 => (aI .int h v9 (((47 : Int32) + ((5 : Int32) * x1)) + x4)).bind fun v10 => if v10 ≤ 0 then f_X5_isSold_b44 (f_X5_isSold_L7 k69 n) k69 r0 x1 x3 x4 (0 : Int32) h else f_X5_isSold_b39 (f_X5_isSold_L7 k69 n) k69 r0 x1 x3 x4 h else f_X5_isSold_b39 (f_X5_isSold_L7 k69 n) k69 r0 x1 x3 x4 h
theorem t_X5_isSold_L7 {G : xG} {C : xC} {o : Int32 × mH} (hE : xEnd G C (some (.int o.1)) o.2) {k69 : Int32 → Int32 → mH → Option (Int32 × mH)} (hk69 : ∀ (x2 : Int32) (x3 : Int32) (h : mH), k69 x2 x3 h = some o → X G C mi_X5_isSold 69 [(2, .int x2), (3, .int x3)] [] h) : ∀ (n : Nat) (r0 : Nat) (x1 : Int32) (x2 : Int32) (x3 : Int32) (x4 : Int32) (h : mH), f_X5_isSold_L7 k69 n r0 x1 x2 x3 x4 h = some o → X G C mi_X5_isSold 7 [(0, .ref r0), (1, .int x1), (2, .int x2), (3, .int x3), (4, .int x4)] [] h := by
  intro n
  induction n with
  | zero => intro r0 x1 x2 x3 x4 h H; exact nomatch (show (none : Option (Int32 × mH)) = some o from H)
  | succ n ih =>
    intro r0 x1 x2 x3 x4 h H
    rw [f_X5_isSold_L7] at H
    refine x_iload 4 rfl dX5_isSold_7 ?_
    refine x_aload_n 0 rfl dX5_isSold_9 ?_
    obtain ⟨v3, e3, H⟩ := ob H
    refine x_getf fg_X5_33 (gFr_spec e3) dX5_isSold_10 ?_
    refine x_iconst (1 : Int32) dX5_isSold_13 ic_1 ?_
    obtain ⟨v4, e4, H⟩ := ob H
    refine x_iald e4 dX5_isSold_14 ?_
    refine x_icmp_ge 69 dX5_isSold_15 (by decide) (fun c5 => ?_) (fun c5 => ?_)
    · rw [if_pos c5] at H
      refine X.sub [2, 3] rfl ?_
      exact hk69 _ _ _ H
    · rw [if_neg c5] at H
      refine x_iload_n 2 rfl dX5_isSold_18 ?_
      refine x_if_ne 39 dX5_isSold_19 (by decide) (fun c6 => ?_) (fun c6 => ?_)
      · rw [if_neg c6] at H
        refine X.sub [0, 1, 3, 4] rfl ?_
        exact t_X5_isSold_b39 hE ih hk69 _ _ _ _ _ H
      · rw [if_pos c6] at H
        refine x_aload_n 0 rfl dX5_isSold_22 ?_
        obtain ⟨v9, e9, H⟩ := ob H
        refine x_getf fg_X5_33 (gFr_spec e9) dX5_isSold_23 ?_
        refine x_bipush (47 : Int32) dX5_isSold_26 bi_47 ?_
        refine x_iconst (5 : Int32) dX5_isSold_28 ic_5 ?_
        refine x_iload_n 1 rfl dX5_isSold_29 ?_
        refine x_imul dX5_isSold_30 ?_
        refine x_iadd dX5_isSold_31 ?_
        refine x_iload 4 rfl dX5_isSold_32 ?_
        refine x_iadd dX5_isSold_34 ?_
        obtain ⟨v10, e10, H⟩ := ob H
        refine x_iald e10 dX5_isSold_35 ?_
        refine x_if_le 43 dX5_isSold_36 (by decide) (fun c11 => ?_) (fun c11 => ?_)
        · rw [if_pos c11] at H
          refine x_iconst (0 : Int32) dX5_isSold_43 ic_0 ?_
          refine X.sub [0, 1, 3, 4] rfl ?_
          exact t_X5_isSold_b44 hE ih hk69 _ _ _ _ _ _ H
        · rw [if_neg c11] at H
          refine X.sub [0, 1, 3, 4] rfl ?_
          exact t_X5_isSold_b39 hE ih hk69 _ _ _ _ _ H
def f_X5_isSold (r0 : Nat) (x1 : Int32) (h : mH) : Option (Int32 × mH) := f_X5_isSold_L7 (f_X5_isSold_b69) xFu r0 x1 (0 : Int32) (0 : Int32) (0 : Int32) h
theorem t_X5_isSold {G : xG} (C0 : xC) {l : Launch} {r0 : Nat} {x1 : Int32} (h : mH) {o : Int32 × mH} (H : f_X5_isSold r0 x1 h = some o) : XR G l mi_X5_isSold [.ref r0, .int x1] h (some (.int o.1)) o.2 := by
  refine XR.of C0 (by decide) (Nat.le_of_ble_eq_true rfl) (fun C _ _ _ hE => ?_)
  show X G C mi_X5_isSold 0 [(0, .ref r0), (1, .int x1)] [] h
  unfold f_X5_isSold at H
  refine x_iconst (0 : Int32) dX5_isSold_0 ic_0 ?_
  refine x_istore_n [1, 2, 0] dX5_isSold_1 (by decide) rfl ?_
  refine x_iconst (0 : Int32) dX5_isSold_2 ic_0 ?_
  refine x_istore_n [1, 2, 3, 0] dX5_isSold_3 (by decide) rfl ?_
  refine x_iconst (0 : Int32) dX5_isSold_4 ic_0 ?_
  refine x_istore [1, 2, 3, 4, 0] dX5_isSold_5 (by decide) rfl ?_
  exact t_X5_isSold_L7 hE (t_X5_isSold_b69 hE) xFu _ _ _ _ _ _ H
abbrev mi_X5_isLeaf : xM := (cX5_isLeaf, yX5_isLeaf, 6, some .boolean, 3)
theorem md_X5_isLeaf : xMD mi_X5_isLeaf 4 := ⟨by decide, by decide, by decide +kernel⟩
def f_X5_isLeaf_b163 (x3 : Int32) (x4 : Int32) (s0 : Int32) (h : mH) : Option (Int32 × mH) := if x3 = (60 : Int32) then if x4 ≤ s0 then some ((0 : Int32), h) else some ((1 : Int32), h) else if x3 = (61 : Int32) then if s0 = x4 then some ((1 : Int32), h) else some ((0 : Int32), h) else if s0 ≤ x4 then some ((0 : Int32), h) else some ((1 : Int32), h)
theorem t_X5_isLeaf_b163 {G : xG} {C : xC} {o : Int32 × mH} (hE : xEnd G C (some (.int o.1)) o.2) (x3 : Int32) (x4 : Int32) (s0 : Int32) (h : mH) (H : f_X5_isLeaf_b163 x3 x4 s0 h = some o) : X G C mi_X5_isLeaf 163 [(3, .int x3), (4, .int x4)] [.int s0] h := by
  unfold f_X5_isLeaf_b163 at H
  refine x_istore [1, 2, 0] dX5_isLeaf_163 (by decide) rfl ?_
  refine x_iload_n 0 rfl dX5_isLeaf_165 ?_
  refine x_bipush (60 : Int32) dX5_isLeaf_166 bi_60 ?_
  refine x_icmp_ne 186 dX5_isLeaf_168 (by decide) (fun c20 => ?_) (fun c20 => ?_)
  · rw [if_neg c20] at H
    refine x_iload_n 0 rfl dX5_isLeaf_186 ?_
    refine x_bipush (61 : Int32) dX5_isLeaf_187 bi_61 ?_
    refine x_icmp_ne 207 dX5_isLeaf_189 (by decide) (fun c21 => ?_) (fun c21 => ?_)
    · rw [if_neg c21] at H
      refine x_iload 2 rfl dX5_isLeaf_207 ?_
      refine x_iload 1 rfl dX5_isLeaf_209 ?_
      refine x_icmp_le 218 dX5_isLeaf_211 (by decide) (fun c22 => ?_) (fun c22 => ?_)
      · rw [if_pos c22] at H
        refine x_iconst (0 : Int32) dX5_isLeaf_218 ic_0 ?_
        obtain rfl := Option.some.inj H
        exact x_iret hE rfl rfl dX5_isLeaf_219
      · rw [if_neg c22] at H
        refine x_iconst (1 : Int32) dX5_isLeaf_214 ic_1 ?_
        refine x_goto (tgt := 219) dX5_isLeaf_215 (by decide) ?_
        obtain rfl := Option.some.inj H
        exact x_iret hE rfl rfl dX5_isLeaf_219
    · rw [if_pos c21] at H
      refine x_iload 2 rfl dX5_isLeaf_192 ?_
      refine x_iload 1 rfl dX5_isLeaf_194 ?_
      refine x_icmp_ne 203 dX5_isLeaf_196 (by decide) (fun c23 => ?_) (fun c23 => ?_)
      · rw [if_neg c23] at H
        refine x_iconst (0 : Int32) dX5_isLeaf_203 ic_0 ?_
        refine x_goto (tgt := 219) dX5_isLeaf_204 (by decide) ?_
        obtain rfl := Option.some.inj H
        exact x_iret hE rfl rfl dX5_isLeaf_219
      · rw [if_pos c23] at H
        refine x_iconst (1 : Int32) dX5_isLeaf_199 ic_1 ?_
        refine x_goto (tgt := 219) dX5_isLeaf_200 (by decide) ?_
        obtain rfl := Option.some.inj H
        exact x_iret hE rfl rfl dX5_isLeaf_219
  · rw [if_pos c20] at H
    refine x_iload 2 rfl dX5_isLeaf_171 ?_
    refine x_iload 1 rfl dX5_isLeaf_173 ?_
    refine x_icmp_ge 182 dX5_isLeaf_175 (by decide) (fun c24 => ?_) (fun c24 => ?_)
    · rw [if_pos c24] at H
      refine x_iconst (0 : Int32) dX5_isLeaf_182 ic_0 ?_
      refine x_goto (tgt := 219) dX5_isLeaf_183 (by decide) ?_
      obtain rfl := Option.some.inj H
      exact x_iret hE rfl rfl dX5_isLeaf_219
    · rw [if_neg c24] at H
      refine x_iconst (1 : Int32) dX5_isLeaf_178 ic_1 ?_
      refine x_goto (tgt := 219) dX5_isLeaf_179 (by decide) ?_
      obtain rfl := Option.some.inj H
      exact x_iret hE rfl rfl dX5_isLeaf_219
def f_X5_isLeaf (r0 : Nat) (x1 : Int32) (x2 : Int32) (x3 : Int32) (x4 : Int32) (h : mH) : Option (Int32 × mH) := if x2 = (0 : Int32) then if gC h r0 = 4 then bR (f_X5_isHome r0 x1 h) fun a2 g2 => rZ a2 g2 else none else if x2 = (1 : Int32) then if gC h r0 = 4 then bR (f_X5_isVeiled r0 x1 h) fun a4 g4 => rZ a4 g4 else none else if x2 = (2 : Int32) then if gC h r0 = 4 then bR (f_X5_wantsOf r0 x1 h) fun a6 g6 => if a6 = 0 then some ((1 : Int32), g6) else some ((0 : Int32), g6) else none else if x2 = (3 : Int32) then if gC h r0 = 4 then bR (f_X5_isSold r0 x1 h) fun a9 g9 => rZ a9 g9 else none else if x2 = (4 : Int32) then if gC h r0 = 4 then bR (f_X5_knownBy r0 x1 h) fun a11 g11 => bR (f_X5_bitOf a11 x4 g11) fun a12 g12 => rZ a12 g12 else none else if x2 = (5 : Int32) then (gFr [4] 6 h r0).bind fun v14 => (aI .int h v14 (((178 : Int32) + ((5 : Int32) * x1)) + x4)).bind fun v15 => if v15 ≤ 0 then some ((0 : Int32), h) else some ((1 : Int32), h) else if x2 = (6 : Int32) then (gFr [4] 6 h r0).bind fun v29 => (aI .int h v29 ((136 : Int32) + x1)).bind fun v30 => f_X5_isLeaf_b163 x3 x4 v30 h else if x2 = (7 : Int32) then if gC h r0 = 4 then bR (f_X5_knownBy r0 x1 h) fun a27 g27 => bR (f_X5_bits a27 g27) fun a28 g28 => f_X5_isLeaf_b163 x3 x4 a28 g28 else none else if x2 = (8 : Int32) then (gFr [4] 6 h r0).bind fun v25 => (aI .int h v25 ((213 : Int32) + x1)).bind fun v26 => f_X5_isLeaf_b163 x3 x4 v26 h else f_X5_isLeaf_b163 x3 x4 x1 h
theorem t_X5_isLeaf {G : xG} (C0 : xC) {l : Launch} {r0 : Nat} {x1 : Int32} {x2 : Int32} {x3 : Int32} {x4 : Int32} (h : mH) {o : Int32 × mH} (H : f_X5_isLeaf r0 x1 x2 x3 x4 h = some o) : XR G l mi_X5_isLeaf [.ref r0, .int x1, .int x2, .int x3, .int x4] h (some (.int o.1)) o.2 := by
  refine XR.of C0 (by decide) (Nat.le_of_ble_eq_true rfl) (fun C _ _ _ hE => ?_)
  show X G C mi_X5_isLeaf 0 [(0, .ref r0), (1, .int x1), (2, .int x2), (3, .int x3), (4, .int x4)] [] h
  unfold f_X5_isLeaf at H
  refine x_iload_n 2 rfl dX5_isLeaf_0 ?_
  by_cases c1 : x2 = (0 : Int32)
  · rw [if_pos c1] at H
    refine x_tsw (off := 39) 40 dX5_isLeaf_1 c1 (by decide) (by decide) (by decide) (by decide) ?_
    refine x_aload_n 0 rfl dX5_isLeaf_40 ?_
    refine x_iload_n 1 rfl dX5_isLeaf_41 ?_
    obtain ⟨c2, H⟩ := oit H
    obtain ⟨a2, g2, e2, H⟩ := obR H
    refine x_callV (M' := mi_X5_isHome) (n := 1) (As := [.int x1]) (t_X5_isHome C _ e2) c2 rfl rfl md_X5_isHome ⟨Nat.le_of_ble_eq_true rfl, Nat.le_of_ble_eq_true rfl⟩ q2251 q2253 qs80 q131 q2254 rfl (Nat.le_of_ble_eq_true rfl) dX5_isLeaf_42 ?_
    obtain ⟨c, rfl⟩ := rZ_spec H
    exact x_iret hE rfl c dX5_isLeaf_45
  rw [if_neg c1] at H
  by_cases c3 : x2 = (1 : Int32)
  · rw [if_pos c3] at H
    refine x_tsw (off := 45) 46 dX5_isLeaf_1 c3 (by decide) (by decide) (by decide) (by decide) ?_
    refine x_aload_n 0 rfl dX5_isLeaf_46 ?_
    refine x_iload_n 1 rfl dX5_isLeaf_47 ?_
    obtain ⟨c4, H⟩ := oit H
    obtain ⟨a4, g4, e4, H⟩ := obR H
    refine x_callV (M' := mi_X5_isVeiled) (n := 1) (As := [.int x1]) (t_X5_isVeiled C _ e4) c4 rfl rfl md_X5_isVeiled ⟨Nat.le_of_ble_eq_true rfl, Nat.le_of_ble_eq_true rfl⟩ q2255 q2257 qs81 q131 q2258 rfl (Nat.le_of_ble_eq_true rfl) dX5_isLeaf_48 ?_
    obtain ⟨c, rfl⟩ := rZ_spec H
    exact x_iret hE rfl c dX5_isLeaf_51
  rw [if_neg c3] at H
  by_cases c5 : x2 = (2 : Int32)
  · rw [if_pos c5] at H
    refine x_tsw (off := 51) 52 dX5_isLeaf_1 c5 (by decide) (by decide) (by decide) (by decide) ?_
    refine x_aload_n 0 rfl dX5_isLeaf_52 ?_
    refine x_iload_n 1 rfl dX5_isLeaf_53 ?_
    obtain ⟨c6, H⟩ := oit H
    obtain ⟨a6, g6, e6, H⟩ := obR H
    refine x_callV (M' := mi_X5_wantsOf) (n := 1) (As := [.int x1]) (t_X5_wantsOf C _ e6) c6 rfl rfl md_X5_wantsOf ⟨Nat.le_of_ble_eq_true rfl, Nat.le_of_ble_eq_true rfl⟩ q2216 q2218 qs76 q131 q2219 rfl (Nat.le_of_ble_eq_true rfl) dX5_isLeaf_54 ?_
    refine x_if_ne 64 dX5_isLeaf_57 (by decide) (fun c7 => ?_) (fun c7 => ?_)
    · rw [if_neg c7] at H
      refine x_iconst (0 : Int32) dX5_isLeaf_64 ic_0 ?_
      obtain rfl := Option.some.inj H
      exact x_iret hE rfl rfl dX5_isLeaf_65
    · rw [if_pos c7] at H
      refine x_iconst (1 : Int32) dX5_isLeaf_60 ic_1 ?_
      refine x_goto (tgt := 65) dX5_isLeaf_61 (by decide) ?_
      obtain rfl := Option.some.inj H
      exact x_iret hE rfl rfl dX5_isLeaf_65
  rw [if_neg c5] at H
  by_cases c8 : x2 = (3 : Int32)
  · rw [if_pos c8] at H
    refine x_tsw (off := 65) 66 dX5_isLeaf_1 c8 (by decide) (by decide) (by decide) (by decide) ?_
    refine x_aload_n 0 rfl dX5_isLeaf_66 ?_
    refine x_iload_n 1 rfl dX5_isLeaf_67 ?_
    obtain ⟨c9, H⟩ := oit H
    obtain ⟨a9, g9, e9, H⟩ := obR H
    refine x_callV (M' := mi_X5_isSold) (n := 1) (As := [.int x1]) (t_X5_isSold C _ e9) c9 rfl rfl md_X5_isSold ⟨Nat.le_of_ble_eq_true rfl, Nat.le_of_ble_eq_true rfl⟩ q2509 q2511 qs118 q131 q2512 rfl (Nat.le_of_ble_eq_true rfl) dX5_isLeaf_68 ?_
    obtain ⟨c, rfl⟩ := rZ_spec H
    exact x_iret hE rfl c dX5_isLeaf_71
  rw [if_neg c8] at H
  by_cases c10 : x2 = (4 : Int32)
  · rw [if_pos c10] at H
    refine x_tsw (off := 71) 72 dX5_isLeaf_1 c10 (by decide) (by decide) (by decide) (by decide) ?_
    refine x_aload_n 0 rfl dX5_isLeaf_72 ?_
    refine x_iload_n 1 rfl dX5_isLeaf_73 ?_
    obtain ⟨c11, H⟩ := oit H
    obtain ⟨a11, g11, e11, H⟩ := obR H
    refine x_callV (M' := mi_X5_knownBy) (n := 1) (As := [.int x1]) (t_X5_knownBy C _ e11) c11 rfl rfl md_X5_knownBy ⟨Nat.le_of_ble_eq_true rfl, Nat.le_of_ble_eq_true rfl⟩ q2208 q2210 qs74 q131 q2211 rfl (Nat.le_of_ble_eq_true rfl) dX5_isLeaf_74 ?_
    refine x_iload 4 rfl dX5_isLeaf_77 ?_
    obtain ⟨a12, g12, e12, H⟩ := obR H
    refine x_callS (M' := mi_X5_bitOf) (n := 2) (As := [.int a11, .int x4]) (t_X5_bitOf C _ e12) md_X5_bitOf ⟨Nat.le_of_ble_eq_true rfl, Nat.le_of_ble_eq_true rfl⟩ q2173 q2174 q131 q2175 rfl (Nat.le_of_ble_eq_true rfl) dX5_isLeaf_79 ?_
    obtain ⟨c, rfl⟩ := rZ_spec H
    exact x_iret hE rfl c dX5_isLeaf_82
  rw [if_neg c10] at H
  by_cases c13 : x2 = (5 : Int32)
  · rw [if_pos c13] at H
    refine x_tsw (off := 82) 83 dX5_isLeaf_1 c13 (by decide) (by decide) (by decide) (by decide) ?_
    refine x_aload_n 0 rfl dX5_isLeaf_83 ?_
    obtain ⟨v14, e14, H⟩ := ob H
    refine x_getf fg_X5_33 (gFr_spec e14) dX5_isLeaf_84 ?_
    refine x_sipush (178 : Int32) dX5_isLeaf_87 si_178 ?_
    refine x_iconst (5 : Int32) dX5_isLeaf_90 ic_5 ?_
    refine x_iload_n 1 rfl dX5_isLeaf_91 ?_
    refine x_imul dX5_isLeaf_92 ?_
    refine x_iadd dX5_isLeaf_93 ?_
    refine x_iload 4 rfl dX5_isLeaf_94 ?_
    refine x_iadd dX5_isLeaf_96 ?_
    obtain ⟨v15, e15, H⟩ := ob H
    refine x_iald e15 dX5_isLeaf_97 ?_
    refine x_if_le 105 dX5_isLeaf_98 (by decide) (fun c16 => ?_) (fun c16 => ?_)
    · rw [if_pos c16] at H
      refine x_iconst (0 : Int32) dX5_isLeaf_105 ic_0 ?_
      obtain rfl := Option.some.inj H
      exact x_iret hE rfl rfl dX5_isLeaf_106
    · rw [if_neg c16] at H
      refine x_iconst (1 : Int32) dX5_isLeaf_101 ic_1 ?_
      refine x_goto (tgt := 106) dX5_isLeaf_102 (by decide) ?_
      obtain rfl := Option.some.inj H
      exact x_iret hE rfl rfl dX5_isLeaf_106
  rw [if_neg c13] at H
  refine x_tswd 107 dX5_isLeaf_1 (xts0_6 c1 c3 c5 c8 c10 c13) (by decide) ?_
  refine x_iload_n 2 rfl dX5_isLeaf_107 ?_
  refine x_bipush (6 : Int32) dX5_isLeaf_108 bi_6 ?_
  refine x_icmp_ne 126 dX5_isLeaf_110 (by decide) (fun c17 => ?_) (fun c17 => ?_)
  · rw [if_neg c17] at H
    refine x_iload_n 2 rfl dX5_isLeaf_126 ?_
    refine x_bipush (7 : Int32) dX5_isLeaf_127 bi_7 ?_
    refine x_icmp_ne 143 dX5_isLeaf_129 (by decide) (fun c18 => ?_) (fun c18 => ?_)
    · rw [if_neg c18] at H
      refine x_iload_n 2 rfl dX5_isLeaf_143 ?_
      refine x_bipush (8 : Int32) dX5_isLeaf_144 bi_8 ?_
      refine x_icmp_ne 162 dX5_isLeaf_146 (by decide) (fun c19 => ?_) (fun c19 => ?_)
      · rw [if_neg c19] at H
        refine x_iload_n 1 rfl dX5_isLeaf_162 ?_
        refine X.sub [3, 4] rfl ?_
        exact t_X5_isLeaf_b163 hE _ _ _ _ H
      · rw [if_pos c19] at H
        refine x_aload_n 0 rfl dX5_isLeaf_149 ?_
        obtain ⟨v25, e25, H⟩ := ob H
        refine x_getf fg_X5_33 (gFr_spec e25) dX5_isLeaf_150 ?_
        refine x_sipush (213 : Int32) dX5_isLeaf_153 si_213 ?_
        refine x_iload_n 1 rfl dX5_isLeaf_156 ?_
        refine x_iadd dX5_isLeaf_157 ?_
        obtain ⟨v26, e26, H⟩ := ob H
        refine x_iald e26 dX5_isLeaf_158 ?_
        refine x_goto (tgt := 163) dX5_isLeaf_159 (by decide) ?_
        refine X.sub [3, 4] rfl ?_
        exact t_X5_isLeaf_b163 hE _ _ _ _ H
    · rw [if_pos c18] at H
      refine x_aload_n 0 rfl dX5_isLeaf_132 ?_
      refine x_iload_n 1 rfl dX5_isLeaf_133 ?_
      obtain ⟨c27, H⟩ := oit H
      obtain ⟨a27, g27, e27, H⟩ := obR H
      refine x_callV (M' := mi_X5_knownBy) (n := 1) (As := [.int x1]) (t_X5_knownBy C _ e27) c27 rfl rfl md_X5_knownBy ⟨Nat.le_of_ble_eq_true rfl, Nat.le_of_ble_eq_true rfl⟩ q2208 q2210 qs74 q131 q2211 rfl (Nat.le_of_ble_eq_true rfl) dX5_isLeaf_134 ?_
      obtain ⟨a28, g28, e28, H⟩ := obR H
      refine x_callS (M' := mi_X5_bits) (n := 1) (As := [.int a27]) (t_X5_bits C _ e28) md_X5_bits ⟨Nat.le_of_ble_eq_true rfl, Nat.le_of_ble_eq_true rfl⟩ q2236 q2237 q131 q2238 rfl (Nat.le_of_ble_eq_true rfl) dX5_isLeaf_137 ?_
      refine x_goto (tgt := 163) dX5_isLeaf_140 (by decide) ?_
      refine X.sub [3, 4] rfl ?_
      exact t_X5_isLeaf_b163 hE _ _ _ _ H
  · rw [if_pos c17] at H
    refine x_aload_n 0 rfl dX5_isLeaf_113 ?_
    obtain ⟨v29, e29, H⟩ := ob H
    refine x_getf fg_X5_33 (gFr_spec e29) dX5_isLeaf_114 ?_
    refine x_sipush (136 : Int32) dX5_isLeaf_117 si_136 ?_
    refine x_iload_n 1 rfl dX5_isLeaf_120 ?_
    refine x_iadd dX5_isLeaf_121 ?_
    obtain ⟨v30, e30, H⟩ := ob H
    refine x_iald e30 dX5_isLeaf_122 ?_
    refine x_goto (tgt := 163) dX5_isLeaf_123 (by decide) ?_
    refine X.sub [3, 4] rfl ?_
    exact t_X5_isLeaf_b163 hE _ _ _ _ H
abbrev mi_X5_octet : xM := (cX5_octet, yX5_octet, 2, some .int, 1)
theorem md_X5_octet : xMD mi_X5_octet 1 := ⟨by decide, by decide, by decide +kernel⟩
def f_X5_octet (r0 : Nat) (x1 : Int32) (h : mH) : Option (Int32 × mH) := (gFr [4] 1 h r0).bind fun v1 => (aI .byte h v1 x1).bind fun v2 => some ((v2 &&& (255 : Int32)), h)
theorem t_X5_octet {G : xG} (C0 : xC) {l : Launch} {r0 : Nat} {x1 : Int32} (h : mH) {o : Int32 × mH} (H : f_X5_octet r0 x1 h = some o) : XR G l mi_X5_octet [.ref r0, .int x1] h (some (.int o.1)) o.2 := by
  refine XR.of C0 (by decide) (Nat.le_of_ble_eq_true rfl) (fun C _ _ _ hE => ?_)
  show X G C mi_X5_octet 0 [(0, .ref r0), (1, .int x1)] [] h
  unfold f_X5_octet at H
  refine x_aload_n 0 rfl dX5_octet_0 ?_
  obtain ⟨v1, e1, H⟩ := ob H
  refine x_getf fg_X5_14 (gFr_spec e1) dX5_octet_1 ?_
  refine x_iload_n 1 rfl dX5_octet_4 ?_
  obtain ⟨v2, e2, H⟩ := ob H
  refine x_bald e2 dX5_octet_5 ?_
  refine x_sipush (255 : Int32) dX5_octet_6 si_255 ?_
  refine x_iand dX5_octet_9 ?_
  obtain rfl := Option.some.inj H
  exact x_iret hE rfl rfl dX5_octet_10
abbrev mi_X5_isMask : xM := (cX5_isMask, yX5_isMask, 4, some .boolean, 3)
theorem md_X5_isMask : xMD mi_X5_isMask 1 := ⟨by decide, by decide, by decide +kernel⟩
def f_X5_isMask_b62 (kb : Nat → Int32 → Int32 → Int32 → mH → Option (Int32 × mH)) (r0 : Nat) (x1 : Int32) (x3 : Int32) (s0 : Int32) (h : mH) : Option (Int32 × mH) := kb r0 x1 s0 (x3 + (2 : Int32)) h
theorem t_X5_isMask_b62 {G : xG} {C : xC} {o : Int32 × mH} (hE : xEnd G C (some (.int o.1)) o.2) {kb : Nat → Int32 → Int32 → Int32 → mH → Option (Int32 × mH)} (hkb : ∀ (r0 : Nat) (x1 : Int32) (x2 : Int32) (x3 : Int32) (h : mH), kb r0 x1 x2 x3 h = some o → X G C mi_X5_isMask 4 [(0, .ref r0), (1, .int x1), (2, .int x2), (3, .int x3)] [] h) (r0 : Nat) (x1 : Int32) (x3 : Int32) (s0 : Int32) (h : mH) (H : f_X5_isMask_b62 kb r0 x1 x3 s0 h = some o) : X G C mi_X5_isMask 62 [(0, .ref r0), (1, .int x1), (3, .int x3)] [.int s0] h := by
  unfold f_X5_isMask_b62 at H
  refine x_istore_n [1, 2, 0, 3] dX5_isMask_62 (by decide) rfl ?_
  refine x_iinc 3 (x3 + (2 : Int32)) [1, 2, 3, 0] dX5_isMask_63 rfl (ii_2 _) (by decide) rfl ?_
  refine x_goto (tgt := 4) dX5_isMask_66 (by decide) ?_
  exact hkb _ _ _ _ _ H
def f_X5_isMask_b61 (kb : Nat → Int32 → Int32 → Int32 → mH → Option (Int32 × mH)) (r0 : Nat) (x1 : Int32) (x3 : Int32) (h : mH) : Option (Int32 × mH) := f_X5_isMask_b62 kb r0 x1 x3 (0 : Int32) h
theorem t_X5_isMask_b61 {G : xG} {C : xC} {o : Int32 × mH} (hE : xEnd G C (some (.int o.1)) o.2) {kb : Nat → Int32 → Int32 → Int32 → mH → Option (Int32 × mH)} (hkb : ∀ (r0 : Nat) (x1 : Int32) (x2 : Int32) (x3 : Int32) (h : mH), kb r0 x1 x2 x3 h = some o → X G C mi_X5_isMask 4 [(0, .ref r0), (1, .int x1), (2, .int x2), (3, .int x3)] [] h) (r0 : Nat) (x1 : Int32) (x3 : Int32) (h : mH) (H : f_X5_isMask_b61 kb r0 x1 x3 h = some o) : X G C mi_X5_isMask 61 [(0, .ref r0), (1, .int x1), (3, .int x3)] [] h := by
  unfold f_X5_isMask_b61 at H
  refine x_iconst (0 : Int32) dX5_isMask_61 ic_0 ?_
  exact t_X5_isMask_b62 hE hkb _ _ _ _ _ H
def f_X5_isMask_b54 (kb : Nat → Int32 → Int32 → Int32 → mH → Option (Int32 × mH)) (r0 : Nat) (x1 : Int32) (x3 : Int32) (s0 : Int32) (s1 : Int32) (h : mH) : Option (Int32 × mH) := if s0 = s1 then f_X5_isMask_b62 kb r0 x1 x3 (1 : Int32) h else f_X5_isMask_b61 kb r0 x1 x3 h
theorem t_X5_isMask_b54 {G : xG} {C : xC} {o : Int32 × mH} (hE : xEnd G C (some (.int o.1)) o.2) {kb : Nat → Int32 → Int32 → Int32 → mH → Option (Int32 × mH)} (hkb : ∀ (r0 : Nat) (x1 : Int32) (x2 : Int32) (x3 : Int32) (h : mH), kb r0 x1 x2 x3 h = some o → X G C mi_X5_isMask 4 [(0, .ref r0), (1, .int x1), (2, .int x2), (3, .int x3)] [] h) (r0 : Nat) (x1 : Int32) (x3 : Int32) (s0 : Int32) (s1 : Int32) (h : mH) (H : f_X5_isMask_b54 kb r0 x1 x3 s0 s1 h = some o) : X G C mi_X5_isMask 54 [(0, .ref r0), (1, .int x1), (3, .int x3)] [.int s1, .int s0] h := by
  unfold f_X5_isMask_b54 at H
  refine x_icmp_ne 61 dX5_isMask_54 (by decide) (fun c11 => ?_) (fun c11 => ?_)
  · rw [if_neg c11] at H
    exact t_X5_isMask_b61 hE hkb _ _ _ _ H
  · rw [if_pos c11] at H
    refine x_iconst (1 : Int32) dX5_isMask_57 ic_1 ?_
    refine x_goto (tgt := 62) dX5_isMask_58 (by decide) ?_
    exact t_X5_isMask_b62 hE hkb _ _ _ _ _ H
def f_X5_isMask_L4 : Nat → Nat → Int32 → Int32 → Int32 → mH → Option (Int32 × mH)
  | 0, _, _, _, _, _ => none
  | n + 1, r0, x1, x2, x3, h => (gFi [4] 3 h r0).bind fun v1 => if v1 ≤ x3 then rZ x2 h else if x2 = 0 then f_X5_isMask_b61 (f_X5_isMask_L4 n) r0 x1 x3 h else if gC h r0 = 4 then bR (f_X5_octet r0 x3 h) fun a4 g4 => if a4 = x1 then f_X5_isMask_b61 (f_X5_isMask_L4 n) r0 x1 x3 g4 else if gC g4 r0 = 4 then bR (f_X5_mayBy r0 x1 g4) fun a6 g6 => if gC g6 r0 = 4 then bR (f_X5_octet r0 x3 g6) fun a7 g7 => bR (f_X5_bitOf a6 a7 g7) fun a8 g8 => if gC g8 r0 = 4 then bR (f_X5_octet r0 (x3 + (1 : Int32)) g8) fun a9 g9 => if a9 = (1 : Int32) then f_X5_isMask_b54 (f_X5_isMask_L4 n) r0 x1 x3 a8 (1 : Int32) g9 else f_X5_isMask_b54 (f_X5_isMask_L4 n) r0 x1 x3 a8 (0 : Int32) g9 else none else none else none else none
theorem t_X5_isMask_L4 {G : xG} {C : xC} {o : Int32 × mH} (hE : xEnd G C (some (.int o.1)) o.2) : ∀ (n : Nat) (r0 : Nat) (x1 : Int32) (x2 : Int32) (x3 : Int32) (h : mH), f_X5_isMask_L4 n r0 x1 x2 x3 h = some o → X G C mi_X5_isMask 4 [(0, .ref r0), (1, .int x1), (2, .int x2), (3, .int x3)] [] h := by
  intro n
  induction n with
  | zero => intro r0 x1 x2 x3 h H; exact nomatch (show (none : Option (Int32 × mH)) = some o from H)
  | succ n ih =>
    intro r0 x1 x2 x3 h H
    rw [f_X5_isMask_L4] at H
    refine x_iload_n 3 rfl dX5_isMask_4 ?_
    refine x_aload_n 0 rfl dX5_isMask_5 ?_
    obtain ⟨v1, e1, H⟩ := ob H
    refine x_getf fg_X5_18 (gFi_spec e1) dX5_isMask_6 ?_
    refine x_icmp_ge 69 dX5_isMask_9 (by decide) (fun c2 => ?_) (fun c2 => ?_)
    · rw [if_pos c2] at H
      refine x_iload_n 2 rfl dX5_isMask_69 ?_
      obtain ⟨c, rfl⟩ := rZ_spec H
      exact x_iret hE rfl c dX5_isMask_70
    · rw [if_neg c2] at H
      refine x_iload_n 2 rfl dX5_isMask_12 ?_
      refine x_if_eq 61 dX5_isMask_13 (by decide) (fun c3 => ?_) (fun c3 => ?_)
      · rw [if_pos c3] at H
        refine X.sub [0, 1, 3] rfl ?_
        exact t_X5_isMask_b61 hE ih _ _ _ _ H
      · rw [if_neg c3] at H
        refine x_aload_n 0 rfl dX5_isMask_16 ?_
        refine x_iload_n 3 rfl dX5_isMask_17 ?_
        obtain ⟨c4, H⟩ := oit H
        obtain ⟨a4, g4, e4, H⟩ := obR H
        refine x_callV (M' := mi_X5_octet) (n := 1) (As := [.int x3]) (t_X5_octet C _ e4) c4 rfl rfl md_X5_octet ⟨Nat.le_of_ble_eq_true rfl, Nat.le_of_ble_eq_true rfl⟩ q2342 q2344 qs94 q131 q2345 rfl (Nat.le_of_ble_eq_true rfl) dX5_isMask_18 ?_
        refine x_iload_n 1 rfl dX5_isMask_21 ?_
        refine x_icmp_eq 61 dX5_isMask_22 (by decide) (fun c5 => ?_) (fun c5 => ?_)
        · rw [if_pos c5] at H
          refine X.sub [0, 1, 3] rfl ?_
          exact t_X5_isMask_b61 hE ih _ _ _ _ H
        · rw [if_neg c5] at H
          refine x_aload_n 0 rfl dX5_isMask_25 ?_
          refine x_iload_n 1 rfl dX5_isMask_26 ?_
          obtain ⟨c6, H⟩ := oit H
          obtain ⟨a6, g6, e6, H⟩ := obR H
          refine x_callV (M' := mi_X5_mayBy) (n := 1) (As := [.int x1]) (t_X5_mayBy C _ e6) c6 rfl rfl md_X5_mayBy ⟨Nat.le_of_ble_eq_true rfl, Nat.le_of_ble_eq_true rfl⟩ q2212 q2214 qs75 q131 q2215 rfl (Nat.le_of_ble_eq_true rfl) dX5_isMask_27 ?_
          refine x_aload_n 0 rfl dX5_isMask_30 ?_
          refine x_iload_n 3 rfl dX5_isMask_31 ?_
          obtain ⟨c7, H⟩ := oit H
          obtain ⟨a7, g7, e7, H⟩ := obR H
          refine x_callV (M' := mi_X5_octet) (n := 1) (As := [.int x3]) (t_X5_octet C _ e7) c7 rfl rfl md_X5_octet ⟨Nat.le_of_ble_eq_true rfl, Nat.le_of_ble_eq_true rfl⟩ q2342 q2344 qs94 q131 q2345 rfl (Nat.le_of_ble_eq_true rfl) dX5_isMask_32 ?_
          obtain ⟨a8, g8, e8, H⟩ := obR H
          refine x_callS (M' := mi_X5_bitOf) (n := 2) (As := [.int a6, .int a7]) (t_X5_bitOf C _ e8) md_X5_bitOf ⟨Nat.le_of_ble_eq_true rfl, Nat.le_of_ble_eq_true rfl⟩ q2173 q2174 q131 q2175 rfl (Nat.le_of_ble_eq_true rfl) dX5_isMask_35 ?_
          refine x_aload_n 0 rfl dX5_isMask_38 ?_
          refine x_iload_n 3 rfl dX5_isMask_39 ?_
          refine x_iconst (1 : Int32) dX5_isMask_40 ic_1 ?_
          refine x_iadd dX5_isMask_41 ?_
          obtain ⟨c9, H⟩ := oit H
          obtain ⟨a9, g9, e9, H⟩ := obR H
          refine x_callV (M' := mi_X5_octet) (n := 1) (As := [.int (x3 + (1 : Int32))]) (t_X5_octet C _ e9) c9 rfl rfl md_X5_octet ⟨Nat.le_of_ble_eq_true rfl, Nat.le_of_ble_eq_true rfl⟩ q2342 q2344 qs94 q131 q2345 rfl (Nat.le_of_ble_eq_true rfl) dX5_isMask_42 ?_
          refine x_iconst (1 : Int32) dX5_isMask_45 ic_1 ?_
          refine x_icmp_ne 53 dX5_isMask_46 (by decide) (fun c10 => ?_) (fun c10 => ?_)
          · rw [if_neg c10] at H
            refine x_iconst (0 : Int32) dX5_isMask_53 ic_0 ?_
            refine X.sub [0, 1, 3] rfl ?_
            exact t_X5_isMask_b54 hE ih _ _ _ _ _ _ H
          · rw [if_pos c10] at H
            refine x_iconst (1 : Int32) dX5_isMask_49 ic_1 ?_
            refine x_goto (tgt := 54) dX5_isMask_50 (by decide) ?_
            refine X.sub [0, 1, 3] rfl ?_
            exact t_X5_isMask_b54 hE ih _ _ _ _ _ _ H
def f_X5_isMask (r0 : Nat) (x1 : Int32) (h : mH) : Option (Int32 × mH) := f_X5_isMask_L4  xFu r0 x1 (1 : Int32) (0 : Int32) h
theorem t_X5_isMask {G : xG} (C0 : xC) {l : Launch} {r0 : Nat} {x1 : Int32} (h : mH) {o : Int32 × mH} (H : f_X5_isMask r0 x1 h = some o) : XR G l mi_X5_isMask [.ref r0, .int x1] h (some (.int o.1)) o.2 := by
  refine XR.of C0 (by decide) (Nat.le_of_ble_eq_true rfl) (fun C _ _ _ hE => ?_)
  show X G C mi_X5_isMask 0 [(0, .ref r0), (1, .int x1)] [] h
  unfold f_X5_isMask at H
  refine x_iconst (1 : Int32) dX5_isMask_0 ic_1 ?_
  refine x_istore_n [1, 2, 0] dX5_isMask_1 (by decide) rfl ?_
  refine x_iconst (0 : Int32) dX5_isMask_2 ic_0 ?_
  refine x_istore_n [1, 2, 3, 0] dX5_isMask_3 (by decide) rfl ?_
  exact t_X5_isMask_L4 hE  xFu _ _ _ _ _ H
abbrev mi_X5_isSaid : xM := (cX5_isSaid, yX5_isSaid, 5, some .boolean, 4)
theorem md_X5_isSaid : xMD mi_X5_isSaid 1 := ⟨by decide, by decide, by decide +kernel⟩
def f_X5_isSaid_b212 (r0 : Nat) (h : mH) : Option (Int32 × mH) := (gFr [4] 48 h r0).bind fun v1 => (aI .boolean h v1 (0 : Int32)).bind fun v2 => rZ v2 h
theorem t_X5_isSaid_b212 {G : xG} {C : xC} {o : Int32 × mH} (hE : xEnd G C (some (.int o.1)) o.2) (r0 : Nat) (h : mH) (H : f_X5_isSaid_b212 r0 h = some o) : X G C mi_X5_isSaid 212 [(0, .ref r0)] [] h := by
  unfold f_X5_isSaid_b212 at H
  refine x_aload_n 0 rfl dX5_isSaid_212 ?_
  obtain ⟨v1, e1, H⟩ := ob H
  refine x_getf fg_X5_83 (gFr_spec e1) dX5_isSaid_213 ?_
  refine x_iconst (0 : Int32) dX5_isSaid_216 ic_0 ?_
  obtain ⟨v2, e2, H⟩ := ob H
  refine x_zald e2 dX5_isSaid_217 ?_
  obtain ⟨c, rfl⟩ := rZ_spec H
  exact x_iret hE rfl c dX5_isSaid_218
def f_X5_isSaid_b206 (kb : Nat → Int32 → Int32 → Int32 → mH → Option (Int32 × mH)) (k212 : Nat → mH → Option (Int32 × mH)) (r0 : Nat) (x1 : Int32) (x2 : Int32) (x3 : Int32) (h : mH) : Option (Int32 × mH) := kb r0 x1 x2 (x3 + (1 : Int32)) h
theorem t_X5_isSaid_b206 {G : xG} {C : xC} {o : Int32 × mH} (hE : xEnd G C (some (.int o.1)) o.2) {kb : Nat → Int32 → Int32 → Int32 → mH → Option (Int32 × mH)} (hkb : ∀ (r0 : Nat) (x1 : Int32) (x2 : Int32) (x3 : Int32) (h : mH), kb r0 x1 x2 x3 h = some o → X G C mi_X5_isSaid 4 [(0, .ref r0), (1, .int x1), (2, .int x2), (3, .int x3)] [] h) {k212 : Nat → mH → Option (Int32 × mH)} (hk212 : ∀ (r0 : Nat) (h : mH), k212 r0 h = some o → X G C mi_X5_isSaid 212 [(0, .ref r0)] [] h) (r0 : Nat) (x1 : Int32) (x2 : Int32) (x3 : Int32) (h : mH) (H : f_X5_isSaid_b206 kb k212 r0 x1 x2 x3 h = some o) : X G C mi_X5_isSaid 206 [(0, .ref r0), (1, .int x1), (2, .int x2), (3, .int x3)] [] h := by
  unfold f_X5_isSaid_b206 at H
  refine x_iinc 3 (x3 + (1 : Int32)) [1, 2, 3, 0] dX5_isSaid_206 rfl (ii_1 _) (by decide) rfl ?_
  refine x_goto (tgt := 4) dX5_isSaid_209 (by decide) ?_
  exact hkb _ _ _ _ _ H
def f_X5_isSaid_b163 (kb : Nat → Int32 → Int32 → Int32 → mH → Option (Int32 × mH)) (k212 : Nat → mH → Option (Int32 × mH)) (r0 : Nat) (x1 : Int32) (x2 : Int32) (x3 : Int32) (s0 : Nat) (s1 : Int32) (s2 : Int32) (h : mH) : Option (Int32 × mH) := (sI .boolean h s0 s1 s2).bind fun h19 => f_X5_isSaid_b206 kb k212 r0 x1 x2 x3 h19
theorem t_X5_isSaid_b163 {G : xG} {C : xC} {o : Int32 × mH} (hE : xEnd G C (some (.int o.1)) o.2) {kb : Nat → Int32 → Int32 → Int32 → mH → Option (Int32 × mH)} (hkb : ∀ (r0 : Nat) (x1 : Int32) (x2 : Int32) (x3 : Int32) (h : mH), kb r0 x1 x2 x3 h = some o → X G C mi_X5_isSaid 4 [(0, .ref r0), (1, .int x1), (2, .int x2), (3, .int x3)] [] h) {k212 : Nat → mH → Option (Int32 × mH)} (hk212 : ∀ (r0 : Nat) (h : mH), k212 r0 h = some o → X G C mi_X5_isSaid 212 [(0, .ref r0)] [] h) (r0 : Nat) (x1 : Int32) (x2 : Int32) (x3 : Int32) (s0 : Nat) (s1 : Int32) (s2 : Int32) (h : mH) (H : f_X5_isSaid_b163 kb k212 r0 x1 x2 x3 s0 s1 s2 h = some o) : X G C mi_X5_isSaid 163 [(0, .ref r0), (1, .int x1), (2, .int x2), (3, .int x3)] [.int s2, .int s1, .ref s0] h := by
  unfold f_X5_isSaid_b163 at H
  obtain ⟨h19, e19, H⟩ := ob H
  refine x_zast e19 dX5_isSaid_163 ?_
  refine x_goto (tgt := 206) dX5_isSaid_164 (by decide) ?_
  exact t_X5_isSaid_b206 hE hkb hk212 _ _ _ _ _ H
def f_X5_isSaid_b158 (kb : Nat → Int32 → Int32 → Int32 → mH → Option (Int32 × mH)) (k212 : Nat → mH → Option (Int32 × mH)) (r0 : Nat) (x1 : Int32) (x2 : Int32) (x3 : Int32) (s0 : Nat) (s1 : Int32) (h : mH) : Option (Int32 × mH) := f_X5_isSaid_b163 kb k212 r0 x1 x2 x3 s0 s1 (1 : Int32) h
theorem t_X5_isSaid_b158 {G : xG} {C : xC} {o : Int32 × mH} (hE : xEnd G C (some (.int o.1)) o.2) {kb : Nat → Int32 → Int32 → Int32 → mH → Option (Int32 × mH)} (hkb : ∀ (r0 : Nat) (x1 : Int32) (x2 : Int32) (x3 : Int32) (h : mH), kb r0 x1 x2 x3 h = some o → X G C mi_X5_isSaid 4 [(0, .ref r0), (1, .int x1), (2, .int x2), (3, .int x3)] [] h) {k212 : Nat → mH → Option (Int32 × mH)} (hk212 : ∀ (r0 : Nat) (h : mH), k212 r0 h = some o → X G C mi_X5_isSaid 212 [(0, .ref r0)] [] h) (r0 : Nat) (x1 : Int32) (x2 : Int32) (x3 : Int32) (s0 : Nat) (s1 : Int32) (h : mH) (H : f_X5_isSaid_b158 kb k212 r0 x1 x2 x3 s0 s1 h = some o) : X G C mi_X5_isSaid 158 [(0, .ref r0), (1, .int x1), (2, .int x2), (3, .int x3)] [.int s1, .ref s0] h := by
  unfold f_X5_isSaid_b158 at H
  refine x_iconst (1 : Int32) dX5_isSaid_158 ic_1 ?_
  refine x_goto (tgt := 163) dX5_isSaid_159 (by decide) ?_
  exact t_X5_isSaid_b163 hE hkb hk212 _ _ _ _ _ _ _ _ H
def f_X5_isSaid_b134 (kb : Nat → Int32 → Int32 → Int32 → mH → Option (Int32 × mH)) (k212 : Nat → mH → Option (Int32 × mH)) (r0 : Nat) (x1 : Int32) (x2 : Int32) (x3 : Int32) (s0 : Nat) (s1 : Int32) (h : mH) : Option (Int32 × mH) := f_X5_isSaid_b163 kb k212 r0 x1 x2 x3 s0 s1 (0 : Int32) h
theorem t_X5_isSaid_b134 {G : xG} {C : xC} {o : Int32 × mH} (hE : xEnd G C (some (.int o.1)) o.2) {kb : Nat → Int32 → Int32 → Int32 → mH → Option (Int32 × mH)} (hkb : ∀ (r0 : Nat) (x1 : Int32) (x2 : Int32) (x3 : Int32) (h : mH), kb r0 x1 x2 x3 h = some o → X G C mi_X5_isSaid 4 [(0, .ref r0), (1, .int x1), (2, .int x2), (3, .int x3)] [] h) {k212 : Nat → mH → Option (Int32 × mH)} (hk212 : ∀ (r0 : Nat) (h : mH), k212 r0 h = some o → X G C mi_X5_isSaid 212 [(0, .ref r0)] [] h) (r0 : Nat) (x1 : Int32) (x2 : Int32) (x3 : Int32) (s0 : Nat) (s1 : Int32) (h : mH) (H : f_X5_isSaid_b134 kb k212 r0 x1 x2 x3 s0 s1 h = some o) : X G C mi_X5_isSaid 134 [(0, .ref r0), (1, .int x1), (2, .int x2), (3, .int x3)] [.int s1, .ref s0] h := by
  unfold f_X5_isSaid_b134 at H
  refine x_iconst (0 : Int32) dX5_isSaid_134 ic_0 ?_
  refine x_goto (tgt := 163) dX5_isSaid_135 (by decide) ?_
  exact t_X5_isSaid_b163 hE hkb hk212 _ _ _ _ _ _ _ _ H
def f_X5_isSaid_b88 (kb : Nat → Int32 → Int32 → Int32 → mH → Option (Int32 × mH)) (k212 : Nat → mH → Option (Int32 × mH)) (r0 : Nat) (x1 : Int32) (x2 : Int32) (x3 : Int32) (x4 : Int32) (h : mH) : Option (Int32 × mH) := (gFr [4] 48 h r0).bind fun v12 => (gFr [4] 6 h r0).bind fun v13 => (aI .int h v13 x4).bind fun v14 => if v14 = (21 : Int32) then (gFr [4] 48 h r0).bind fun v23 => (aI .boolean h v23 ((x2 + (-1 : Int32)) - (1 : Int32))).bind fun v24 => if v24 = 0 then f_X5_isSaid_b134 kb k212 r0 x1 (x2 + (-1 : Int32)) x3 v12 ((x2 + (-1 : Int32)) - (1 : Int32)) h else (gFr [4] 48 h r0).bind fun v26 => (aI .boolean h v26 (x2 + (-1 : Int32))).bind fun v27 => if v27 = 0 then f_X5_isSaid_b134 kb k212 r0 x1 (x2 + (-1 : Int32)) x3 v12 ((x2 + (-1 : Int32)) - (1 : Int32)) h else f_X5_isSaid_b163 kb k212 r0 x1 (x2 + (-1 : Int32)) x3 v12 ((x2 + (-1 : Int32)) - (1 : Int32)) (1 : Int32) h else (gFr [4] 48 h r0).bind fun v16 => (aI .boolean h v16 ((x2 + (-1 : Int32)) - (1 : Int32))).bind fun v17 => if v17 = 0 then (gFr [4] 48 h r0).bind fun v20 => (aI .boolean h v20 (x2 + (-1 : Int32))).bind fun v21 => if v21 = 0 then f_X5_isSaid_b163 kb k212 r0 x1 (x2 + (-1 : Int32)) x3 v12 ((x2 + (-1 : Int32)) - (1 : Int32)) (0 : Int32) h else f_X5_isSaid_b158 kb k212 r0 x1 (x2 + (-1 : Int32)) x3 v12 ((x2 + (-1 : Int32)) - (1 : Int32)) h else f_X5_isSaid_b158 kb k212 r0 x1 (x2 + (-1 : Int32)) x3 v12 ((x2 + (-1 : Int32)) - (1 : Int32)) h
theorem t_X5_isSaid_b88 {G : xG} {C : xC} {o : Int32 × mH} (hE : xEnd G C (some (.int o.1)) o.2) {kb : Nat → Int32 → Int32 → Int32 → mH → Option (Int32 × mH)} (hkb : ∀ (r0 : Nat) (x1 : Int32) (x2 : Int32) (x3 : Int32) (h : mH), kb r0 x1 x2 x3 h = some o → X G C mi_X5_isSaid 4 [(0, .ref r0), (1, .int x1), (2, .int x2), (3, .int x3)] [] h) {k212 : Nat → mH → Option (Int32 × mH)} (hk212 : ∀ (r0 : Nat) (h : mH), k212 r0 h = some o → X G C mi_X5_isSaid 212 [(0, .ref r0)] [] h) (r0 : Nat) (x1 : Int32) (x2 : Int32) (x3 : Int32) (x4 : Int32) (h : mH) (H : f_X5_isSaid_b88 kb k212 r0 x1 x2 x3 x4 h = some o) : X G C mi_X5_isSaid 88 [(0, .ref r0), (1, .int x1), (2, .int x2), (3, .int x3), (4, .int x4)] [] h := by
  unfold f_X5_isSaid_b88 at H
  refine x_iinc 2 (x2 + (-1 : Int32)) [1, 2, 0, 3, 4] dX5_isSaid_88 rfl (ii_m1 _) (by decide) rfl ?_
  refine x_aload_n 0 rfl dX5_isSaid_91 ?_
  obtain ⟨v12, e12, H⟩ := ob H
  refine x_getf fg_X5_83 (gFr_spec e12) dX5_isSaid_92 ?_
  refine x_iload_n 2 rfl dX5_isSaid_95 ?_
  refine x_iconst (1 : Int32) dX5_isSaid_96 ic_1 ?_
  refine x_isub dX5_isSaid_97 ?_
  refine x_aload_n 0 rfl dX5_isSaid_98 ?_
  obtain ⟨v13, e13, H⟩ := ob H
  refine x_getf fg_X5_33 (gFr_spec e13) dX5_isSaid_99 ?_
  refine x_iload 4 rfl dX5_isSaid_102 ?_
  obtain ⟨v14, e14, H⟩ := ob H
  refine x_iald e14 dX5_isSaid_104 ?_
  refine x_bipush (21 : Int32) dX5_isSaid_105 bi_21 ?_
  refine x_icmp_ne 138 dX5_isSaid_107 (by decide) (fun c15 => ?_) (fun c15 => ?_)
  · rw [if_neg c15] at H
    refine x_aload_n 0 rfl dX5_isSaid_138 ?_
    obtain ⟨v16, e16, H⟩ := ob H
    refine x_getf fg_X5_83 (gFr_spec e16) dX5_isSaid_139 ?_
    refine x_iload_n 2 rfl dX5_isSaid_142 ?_
    refine x_iconst (1 : Int32) dX5_isSaid_143 ic_1 ?_
    refine x_isub dX5_isSaid_144 ?_
    obtain ⟨v17, e17, H⟩ := ob H
    refine x_zald e17 dX5_isSaid_145 ?_
    refine x_if_ne 158 dX5_isSaid_146 (by decide) (fun c18 => ?_) (fun c18 => ?_)
    · rw [if_neg c18] at H
      refine X.sub [0, 1, 2, 3] rfl ?_
      exact t_X5_isSaid_b158 hE hkb hk212 _ _ _ _ _ _ _ H
    · rw [if_pos c18] at H
      refine x_aload_n 0 rfl dX5_isSaid_149 ?_
      obtain ⟨v20, e20, H⟩ := ob H
      refine x_getf fg_X5_83 (gFr_spec e20) dX5_isSaid_150 ?_
      refine x_iload_n 2 rfl dX5_isSaid_153 ?_
      obtain ⟨v21, e21, H⟩ := ob H
      refine x_zald e21 dX5_isSaid_154 ?_
      refine x_if_eq 162 dX5_isSaid_155 (by decide) (fun c22 => ?_) (fun c22 => ?_)
      · rw [if_pos c22] at H
        refine x_iconst (0 : Int32) dX5_isSaid_162 ic_0 ?_
        refine X.sub [0, 1, 2, 3] rfl ?_
        exact t_X5_isSaid_b163 hE hkb hk212 _ _ _ _ _ _ _ _ H
      · rw [if_neg c22] at H
        refine X.sub [0, 1, 2, 3] rfl ?_
        exact t_X5_isSaid_b158 hE hkb hk212 _ _ _ _ _ _ _ H
  · rw [if_pos c15] at H
    refine x_aload_n 0 rfl dX5_isSaid_110 ?_
    obtain ⟨v23, e23, H⟩ := ob H
    refine x_getf fg_X5_83 (gFr_spec e23) dX5_isSaid_111 ?_
    refine x_iload_n 2 rfl dX5_isSaid_114 ?_
    refine x_iconst (1 : Int32) dX5_isSaid_115 ic_1 ?_
    refine x_isub dX5_isSaid_116 ?_
    obtain ⟨v24, e24, H⟩ := ob H
    refine x_zald e24 dX5_isSaid_117 ?_
    refine x_if_eq 134 dX5_isSaid_118 (by decide) (fun c25 => ?_) (fun c25 => ?_)
    · rw [if_pos c25] at H
      refine X.sub [0, 1, 2, 3] rfl ?_
      exact t_X5_isSaid_b134 hE hkb hk212 _ _ _ _ _ _ _ H
    · rw [if_neg c25] at H
      refine x_aload_n 0 rfl dX5_isSaid_121 ?_
      obtain ⟨v26, e26, H⟩ := ob H
      refine x_getf fg_X5_83 (gFr_spec e26) dX5_isSaid_122 ?_
      refine x_iload_n 2 rfl dX5_isSaid_125 ?_
      obtain ⟨v27, e27, H⟩ := ob H
      refine x_zald e27 dX5_isSaid_126 ?_
      refine x_if_eq 134 dX5_isSaid_127 (by decide) (fun c28 => ?_) (fun c28 => ?_)
      · rw [if_pos c28] at H
        refine X.sub [0, 1, 2, 3] rfl ?_
        exact t_X5_isSaid_b134 hE hkb hk212 _ _ _ _ _ _ _ H
      · rw [if_neg c28] at H
        refine x_iconst (1 : Int32) dX5_isSaid_130 ic_1 ?_
        refine x_goto (tgt := 163) dX5_isSaid_131 (by decide) ?_
        refine X.sub [0, 1, 2, 3] rfl ?_
        exact t_X5_isSaid_b163 hE hkb hk212 _ _ _ _ _ _ _ _ H
def f_X5_isSaid_b60 (kb : Nat → Int32 → Int32 → Int32 → mH → Option (Int32 × mH)) (k212 : Nat → mH → Option (Int32 × mH)) (r0 : Nat) (x1 : Int32) (x2 : Int32) (x3 : Int32) (s0 : Nat) (s1 : Int32) (s2 : Int32) (h : mH) : Option (Int32 × mH) := (sI .boolean h s0 s1 s2).bind fun h45 => f_X5_isSaid_b206 kb k212 r0 x1 x2 x3 h45
theorem t_X5_isSaid_b60 {G : xG} {C : xC} {o : Int32 × mH} (hE : xEnd G C (some (.int o.1)) o.2) {kb : Nat → Int32 → Int32 → Int32 → mH → Option (Int32 × mH)} (hkb : ∀ (r0 : Nat) (x1 : Int32) (x2 : Int32) (x3 : Int32) (h : mH), kb r0 x1 x2 x3 h = some o → X G C mi_X5_isSaid 4 [(0, .ref r0), (1, .int x1), (2, .int x2), (3, .int x3)] [] h) {k212 : Nat → mH → Option (Int32 × mH)} (hk212 : ∀ (r0 : Nat) (h : mH), k212 r0 h = some o → X G C mi_X5_isSaid 212 [(0, .ref r0)] [] h) (r0 : Nat) (x1 : Int32) (x2 : Int32) (x3 : Int32) (s0 : Nat) (s1 : Int32) (s2 : Int32) (h : mH) (H : f_X5_isSaid_b60 kb k212 r0 x1 x2 x3 s0 s1 s2 h = some o) : X G C mi_X5_isSaid 60 [(0, .ref r0), (1, .int x1), (2, .int x2), (3, .int x3)] [.int s2, .int s1, .ref s0] h := by
  unfold f_X5_isSaid_b60 at H
  obtain ⟨h45, e45, H⟩ := ob H
  refine x_zast e45 dX5_isSaid_60 ?_
  refine x_goto (tgt := 206) dX5_isSaid_61 (by decide) ?_
  exact t_X5_isSaid_b206 hE hkb hk212 _ _ _ _ _ H
def f_X5_isSaid_L4 (k212 : Nat → mH → Option (Int32 × mH)) : Nat → Nat → Int32 → Int32 → Int32 → mH → Option (Int32 × mH)
  | 0, _, _, _, _, _ => none
  | n + 1, r0, x1, x2, x3, h => (gFr [4] 6 h r0).bind fun v3 => (aI .int h v3 (276 : Int32)).bind fun v4 => if v4 ≤ x3 then k212 r0 h else (gFr [4] 6 h r0).bind fun v6 => (aI .int h v6 ((277 : Int32) + ((3 : Int32) * x3))).bind fun v7 => if v7 = (20 : Int32) then (gFr [4] 48 h r0).bind fun v41 => (gFr [4] 48 h r0).bind fun v42 => (aI .boolean h v42 (x2 - (1 : Int32))).bind fun v43 => if v43 = 0 then f_X5_isSaid_b60 (f_X5_isSaid_L4 k212 n) k212 r0 x1 x2 x3 v41 (x2 - (1 : Int32)) (1 : Int32) h else f_X5_isSaid_b60 (f_X5_isSaid_L4 k212 n) k212 r0 x1 x2 x3 v41 (x2 - (1 : Int32)) (0 : Int32) h else (gFr [4] 6 h r0).bind fun v9 => (aI .int h v9 ((277 : Int32) + ((3 : Int32) * x3))).bind fun v10 => if v10 = (21 : Int32) then f_X5_isSaid_b88 (f_X5_isSaid_L4 k212 n) k212 r0 x1 x2 x3 ((277 : Int32) + ((3 : Int32) * x3)) h else (gFr [4] 6 h r0).bind fun v29 => (aI .int h v29 ((277 : Int32) + ((3 : Int32) * x3))).bind fun v30 => if v30 = (22 : Int32) then f_X5_isSaid_b88 (f_X5_isSaid_L4 k212 n) k212 r0 x1 x2 x3 ((277 : Int32) + ((3 : Int32) * x3)) h else (gFr [4] 48 h r0).bind fun v32 => (gFr [4] 6 h r0).bind fun v33 => (aI .int h v33 ((277 : Int32) + ((3 : Int32) * x3))).bind fun v34 => (gFr [4] 6 h r0).bind fun v35 => (aI .int h v35 (((277 : Int32) + ((3 : Int32) * x3)) + (1 : Int32))).bind fun v36 => (gFr [4] 6 h r0).bind fun v37 => (aI .int h v37 (((277 : Int32) + ((3 : Int32) * x3)) + (2 : Int32))).bind fun v38 => if gC h r0 = 4 then bR (f_X5_isLeaf r0 x1 v34 v36 v38 h) fun a39 g39 => (sI .boolean g39 v32 x2 a39).bind fun h40 => f_X5_isSaid_b206 (f_X5_isSaid_L4 k212 n) k212 r0 x1 (x2 + (1 : Int32)) x3 h40 else none
theorem t_X5_isSaid_L4 {G : xG} {C : xC} {o : Int32 × mH} (hE : xEnd G C (some (.int o.1)) o.2) {k212 : Nat → mH → Option (Int32 × mH)} (hk212 : ∀ (r0 : Nat) (h : mH), k212 r0 h = some o → X G C mi_X5_isSaid 212 [(0, .ref r0)] [] h) : ∀ (n : Nat) (r0 : Nat) (x1 : Int32) (x2 : Int32) (x3 : Int32) (h : mH), f_X5_isSaid_L4 k212 n r0 x1 x2 x3 h = some o → X G C mi_X5_isSaid 4 [(0, .ref r0), (1, .int x1), (2, .int x2), (3, .int x3)] [] h := by
  intro n
  induction n with
  | zero => intro r0 x1 x2 x3 h H; exact nomatch (show (none : Option (Int32 × mH)) = some o from H)
  | succ n ih =>
    intro r0 x1 x2 x3 h H
    rw [f_X5_isSaid_L4] at H
    refine x_iload_n 3 rfl dX5_isSaid_4 ?_
    refine x_aload_n 0 rfl dX5_isSaid_5 ?_
    obtain ⟨v3, e3, H⟩ := ob H
    refine x_getf fg_X5_33 (gFr_spec e3) dX5_isSaid_6 ?_
    refine x_sipush (276 : Int32) dX5_isSaid_9 si_276 ?_
    obtain ⟨v4, e4, H⟩ := ob H
    refine x_iald e4 dX5_isSaid_12 ?_
    refine x_icmp_ge 212 dX5_isSaid_13 (by decide) (fun c5 => ?_) (fun c5 => ?_)
    · rw [if_pos c5] at H
      refine X.sub [0] rfl ?_
      exact hk212 _ _ H
    · rw [if_neg c5] at H
      refine x_sipush (277 : Int32) dX5_isSaid_16 si_277 ?_
      refine x_iconst (3 : Int32) dX5_isSaid_19 ic_3 ?_
      refine x_iload_n 3 rfl dX5_isSaid_20 ?_
      refine x_imul dX5_isSaid_21 ?_
      refine x_iadd dX5_isSaid_22 ?_
      refine x_istore [1, 2, 3, 4, 0] dX5_isSaid_23 (by decide) rfl ?_
      refine x_aload_n 0 rfl dX5_isSaid_25 ?_
      obtain ⟨v6, e6, H⟩ := ob H
      refine x_getf fg_X5_33 (gFr_spec e6) dX5_isSaid_26 ?_
      refine x_iload 4 rfl dX5_isSaid_29 ?_
      obtain ⟨v7, e7, H⟩ := ob H
      refine x_iald e7 dX5_isSaid_31 ?_
      refine x_bipush (20 : Int32) dX5_isSaid_32 bi_20 ?_
      refine x_icmp_ne 64 dX5_isSaid_34 (by decide) (fun c8 => ?_) (fun c8 => ?_)
      · rw [if_neg c8] at H
        refine x_aload_n 0 rfl dX5_isSaid_64 ?_
        obtain ⟨v9, e9, H⟩ := ob H
        refine x_getf fg_X5_33 (gFr_spec e9) dX5_isSaid_65 ?_
        refine x_iload 4 rfl dX5_isSaid_68 ?_
        obtain ⟨v10, e10, H⟩ := ob H
        refine x_iald e10 dX5_isSaid_70 ?_
        refine x_bipush (21 : Int32) dX5_isSaid_71 bi_21 ?_
        refine x_icmp_eq 88 dX5_isSaid_73 (by decide) (fun c11 => ?_) (fun c11 => ?_)
        · rw [if_pos c11] at H
          exact t_X5_isSaid_b88 hE ih hk212 _ _ _ _ _ _ H
        · rw [if_neg c11] at H
          refine x_aload_n 0 rfl dX5_isSaid_76 ?_
          obtain ⟨v29, e29, H⟩ := ob H
          refine x_getf fg_X5_33 (gFr_spec e29) dX5_isSaid_77 ?_
          refine x_iload 4 rfl dX5_isSaid_80 ?_
          obtain ⟨v30, e30, H⟩ := ob H
          refine x_iald e30 dX5_isSaid_82 ?_
          refine x_bipush (22 : Int32) dX5_isSaid_83 bi_22 ?_
          refine x_icmp_ne 167 dX5_isSaid_85 (by decide) (fun c31 => ?_) (fun c31 => ?_)
          · rw [if_neg c31] at H
            refine x_aload_n 0 rfl dX5_isSaid_167 ?_
            obtain ⟨v32, e32, H⟩ := ob H
            refine x_getf fg_X5_83 (gFr_spec e32) dX5_isSaid_168 ?_
            refine x_iload_n 2 rfl dX5_isSaid_171 ?_
            refine x_aload_n 0 rfl dX5_isSaid_172 ?_
            refine x_iload_n 1 rfl dX5_isSaid_173 ?_
            refine x_aload_n 0 rfl dX5_isSaid_174 ?_
            obtain ⟨v33, e33, H⟩ := ob H
            refine x_getf fg_X5_33 (gFr_spec e33) dX5_isSaid_175 ?_
            refine x_iload 4 rfl dX5_isSaid_178 ?_
            obtain ⟨v34, e34, H⟩ := ob H
            refine x_iald e34 dX5_isSaid_180 ?_
            refine x_aload_n 0 rfl dX5_isSaid_181 ?_
            obtain ⟨v35, e35, H⟩ := ob H
            refine x_getf fg_X5_33 (gFr_spec e35) dX5_isSaid_182 ?_
            refine x_iload 4 rfl dX5_isSaid_185 ?_
            refine x_iconst (1 : Int32) dX5_isSaid_187 ic_1 ?_
            refine x_iadd dX5_isSaid_188 ?_
            obtain ⟨v36, e36, H⟩ := ob H
            refine x_iald e36 dX5_isSaid_189 ?_
            refine x_aload_n 0 rfl dX5_isSaid_190 ?_
            obtain ⟨v37, e37, H⟩ := ob H
            refine x_getf fg_X5_33 (gFr_spec e37) dX5_isSaid_191 ?_
            refine x_iload 4 rfl dX5_isSaid_194 ?_
            refine x_iconst (2 : Int32) dX5_isSaid_196 ic_2 ?_
            refine x_iadd dX5_isSaid_197 ?_
            obtain ⟨v38, e38, H⟩ := ob H
            refine x_iald e38 dX5_isSaid_198 ?_
            obtain ⟨c39, H⟩ := oit H
            obtain ⟨a39, g39, e39, H⟩ := obR H
            refine x_callV (M' := mi_X5_isLeaf) (n := 4) (As := [.int x1, .int v34, .int v36, .int v38]) (t_X5_isLeaf C _ e39) c39 rfl rfl md_X5_isLeaf ⟨Nat.le_of_ble_eq_true rfl, Nat.le_of_ble_eq_true rfl⟩ q2505 q2507 qs117 q131 q2508 rfl (Nat.le_of_ble_eq_true rfl) dX5_isSaid_199 ?_
            obtain ⟨h40, e40, H⟩ := ob H
            refine x_zast e40 dX5_isSaid_202 ?_
            refine x_iinc 2 (x2 + (1 : Int32)) [1, 2, 0, 3, 4] dX5_isSaid_203 rfl (ii_1 _) (by decide) rfl ?_
            refine X.sub [0, 1, 2, 3] rfl ?_
            exact t_X5_isSaid_b206 hE ih hk212 _ _ _ _ _ H
          · rw [if_pos c31] at H
            exact t_X5_isSaid_b88 hE ih hk212 _ _ _ _ _ _ H
      · rw [if_pos c8] at H
        refine x_aload_n 0 rfl dX5_isSaid_37 ?_
        obtain ⟨v41, e41, H⟩ := ob H
        refine x_getf fg_X5_83 (gFr_spec e41) dX5_isSaid_38 ?_
        refine x_iload_n 2 rfl dX5_isSaid_41 ?_
        refine x_iconst (1 : Int32) dX5_isSaid_42 ic_1 ?_
        refine x_isub dX5_isSaid_43 ?_
        refine x_aload_n 0 rfl dX5_isSaid_44 ?_
        obtain ⟨v42, e42, H⟩ := ob H
        refine x_getf fg_X5_83 (gFr_spec e42) dX5_isSaid_45 ?_
        refine x_iload_n 2 rfl dX5_isSaid_48 ?_
        refine x_iconst (1 : Int32) dX5_isSaid_49 ic_1 ?_
        refine x_isub dX5_isSaid_50 ?_
        obtain ⟨v43, e43, H⟩ := ob H
        refine x_zald e43 dX5_isSaid_51 ?_
        refine x_if_ne 59 dX5_isSaid_52 (by decide) (fun c44 => ?_) (fun c44 => ?_)
        · rw [if_neg c44] at H
          refine x_iconst (0 : Int32) dX5_isSaid_59 ic_0 ?_
          refine X.sub [0, 1, 2, 3] rfl ?_
          exact t_X5_isSaid_b60 hE ih hk212 _ _ _ _ _ _ _ _ H
        · rw [if_pos c44] at H
          refine x_iconst (1 : Int32) dX5_isSaid_55 ic_1 ?_
          refine x_goto (tgt := 60) dX5_isSaid_56 (by decide) ?_
          refine X.sub [0, 1, 2, 3] rfl ?_
          exact t_X5_isSaid_b60 hE ih hk212 _ _ _ _ _ _ _ _ H
def f_X5_isSaid (r0 : Nat) (x1 : Int32) (h : mH) : Option (Int32 × mH) := f_X5_isSaid_L4 (f_X5_isSaid_b212) xFu r0 x1 (0 : Int32) (0 : Int32) h
theorem t_X5_isSaid {G : xG} (C0 : xC) {l : Launch} {r0 : Nat} {x1 : Int32} (h : mH) {o : Int32 × mH} (H : f_X5_isSaid r0 x1 h = some o) : XR G l mi_X5_isSaid [.ref r0, .int x1] h (some (.int o.1)) o.2 := by
  refine XR.of C0 (by decide) (Nat.le_of_ble_eq_true rfl) (fun C _ _ _ hE => ?_)
  show X G C mi_X5_isSaid 0 [(0, .ref r0), (1, .int x1)] [] h
  unfold f_X5_isSaid at H
  refine x_iconst (0 : Int32) dX5_isSaid_0 ic_0 ?_
  refine x_istore_n [1, 2, 0] dX5_isSaid_1 (by decide) rfl ?_
  refine x_iconst (0 : Int32) dX5_isSaid_2 ic_0 ?_
  refine x_istore_n [1, 2, 3, 0] dX5_isSaid_3 (by decide) rfl ?_
  exact t_X5_isSaid_L4 hE (t_X5_isSaid_b212 hE) xFu _ _ _ _ _ H
abbrev mi_X5_isServed : xM := (cX5_isServed, yX5_isServed, 5, some .boolean, 3)
theorem md_X5_isServed : xMD mi_X5_isServed 2 := ⟨by decide, by decide, by decide +kernel⟩
def f_X5_isServed_b53 (kb : Nat → Int32 → Int32 → Int32 → Int32 → mH → Option (Int32 × mH)) (r0 : Nat) (x1 : Int32) (x2 : Int32) (x4 : Int32) (s0 : Int32) (h : mH) : Option (Int32 × mH) := kb r0 x1 x2 s0 (x4 + (1 : Int32)) h
theorem t_X5_isServed_b53 {G : xG} {C : xC} {o : Int32 × mH} (hE : xEnd G C (some (.int o.1)) o.2) {kb : Nat → Int32 → Int32 → Int32 → Int32 → mH → Option (Int32 × mH)} (hkb : ∀ (r0 : Nat) (x1 : Int32) (x2 : Int32) (x3 : Int32) (x4 : Int32) (h : mH), kb r0 x1 x2 x3 x4 h = some o → X G C mi_X5_isServed 5 [(0, .ref r0), (1, .int x1), (2, .int x2), (3, .int x3), (4, .int x4)] [] h) (r0 : Nat) (x1 : Int32) (x2 : Int32) (x4 : Int32) (s0 : Int32) (h : mH) (H : f_X5_isServed_b53 kb r0 x1 x2 x4 s0 h = some o) : X G C mi_X5_isServed 53 [(0, .ref r0), (1, .int x1), (2, .int x2), (4, .int x4)] [.int s0] h := by
  unfold f_X5_isServed_b53 at H
  refine x_istore_n [1, 2, 3, 0, 4] dX5_isServed_53 (by decide) rfl ?_
  refine x_iinc 4 (x4 + (1 : Int32)) [1, 2, 3, 4, 0] dX5_isServed_54 rfl (ii_1 _) (by decide) rfl ?_
  refine x_goto (tgt := 5) dX5_isServed_57 (by decide) ?_
  exact hkb _ _ _ _ _ _ H
def f_X5_isServed_b52 (kb : Nat → Int32 → Int32 → Int32 → Int32 → mH → Option (Int32 × mH)) (r0 : Nat) (x1 : Int32) (x2 : Int32) (x4 : Int32) (h : mH) : Option (Int32 × mH) := f_X5_isServed_b53 kb r0 x1 x2 x4 (0 : Int32) h
theorem t_X5_isServed_b52 {G : xG} {C : xC} {o : Int32 × mH} (hE : xEnd G C (some (.int o.1)) o.2) {kb : Nat → Int32 → Int32 → Int32 → Int32 → mH → Option (Int32 × mH)} (hkb : ∀ (r0 : Nat) (x1 : Int32) (x2 : Int32) (x3 : Int32) (x4 : Int32) (h : mH), kb r0 x1 x2 x3 x4 h = some o → X G C mi_X5_isServed 5 [(0, .ref r0), (1, .int x1), (2, .int x2), (3, .int x3), (4, .int x4)] [] h) (r0 : Nat) (x1 : Int32) (x2 : Int32) (x4 : Int32) (h : mH) (H : f_X5_isServed_b52 kb r0 x1 x2 x4 h = some o) : X G C mi_X5_isServed 52 [(0, .ref r0), (1, .int x1), (2, .int x2), (4, .int x4)] [] h := by
  unfold f_X5_isServed_b52 at H
  refine x_iconst (0 : Int32) dX5_isServed_52 ic_0 ?_
  exact t_X5_isServed_b53 hE hkb _ _ _ _ _ _ H
def f_X5_isServed_b48 (kb : Nat → Int32 → Int32 → Int32 → Int32 → mH → Option (Int32 × mH)) (r0 : Nat) (x1 : Int32) (x2 : Int32) (x4 : Int32) (h : mH) : Option (Int32 × mH) := f_X5_isServed_b53 kb r0 x1 x2 x4 (1 : Int32) h
theorem t_X5_isServed_b48 {G : xG} {C : xC} {o : Int32 × mH} (hE : xEnd G C (some (.int o.1)) o.2) {kb : Nat → Int32 → Int32 → Int32 → Int32 → mH → Option (Int32 × mH)} (hkb : ∀ (r0 : Nat) (x1 : Int32) (x2 : Int32) (x3 : Int32) (x4 : Int32) (h : mH), kb r0 x1 x2 x3 x4 h = some o → X G C mi_X5_isServed 5 [(0, .ref r0), (1, .int x1), (2, .int x2), (3, .int x3), (4, .int x4)] [] h) (r0 : Nat) (x1 : Int32) (x2 : Int32) (x4 : Int32) (h : mH) (H : f_X5_isServed_b48 kb r0 x1 x2 x4 h = some o) : X G C mi_X5_isServed 48 [(0, .ref r0), (1, .int x1), (2, .int x2), (4, .int x4)] [] h := by
  unfold f_X5_isServed_b48 at H
  refine x_iconst (1 : Int32) dX5_isServed_48 ic_1 ?_
  refine x_goto (tgt := 53) dX5_isServed_49 (by decide) ?_
  exact t_X5_isServed_b53 hE hkb _ _ _ _ _ _ H
def f_X5_isServed_L5 : Nat → Nat → Int32 → Int32 → Int32 → Int32 → mH → Option (Int32 × mH)
  | 0, _, _, _, _, _, _ => none
  | n + 1, r0, x1, x2, x3, x4, h => (gFr [4] 6 h r0).bind fun v1 => (aI .int h v1 (0 : Int32)).bind fun v2 => if v2 ≤ x4 then rZ x3 h else if x3 = 0 then f_X5_isServed_b52 (f_X5_isServed_L5 n) r0 x1 x2 x4 h else (gFr [4] 6 h r0).bind fun v5 => (aI .int h v5 (((82 : Int32) + ((5 : Int32) * x4)) + x1)).bind fun v6 => if v6 = 0 then f_X5_isServed_b48 (f_X5_isServed_L5 n) r0 x1 x2 x4 h else if gC h r0 = 4 then bR (f_X5_mayBy r0 x4 h) fun a8 g8 => if (a8 &&& x2) = 0 then f_X5_isServed_b52 (f_X5_isServed_L5 n) r0 x1 x2 x4 g8 else f_X5_isServed_b48 (f_X5_isServed_L5 n) r0 x1 x2 x4 g8 else none
theorem t_X5_isServed_L5 {G : xG} {C : xC} {o : Int32 × mH} (hE : xEnd G C (some (.int o.1)) o.2) : ∀ (n : Nat) (r0 : Nat) (x1 : Int32) (x2 : Int32) (x3 : Int32) (x4 : Int32) (h : mH), f_X5_isServed_L5 n r0 x1 x2 x3 x4 h = some o → X G C mi_X5_isServed 5 [(0, .ref r0), (1, .int x1), (2, .int x2), (3, .int x3), (4, .int x4)] [] h := by
  intro n
  induction n with
  | zero => intro r0 x1 x2 x3 x4 h H; exact nomatch (show (none : Option (Int32 × mH)) = some o from H)
  | succ n ih =>
    intro r0 x1 x2 x3 x4 h H
    rw [f_X5_isServed_L5] at H
    refine x_iload 4 rfl dX5_isServed_5 ?_
    refine x_aload_n 0 rfl dX5_isServed_7 ?_
    obtain ⟨v1, e1, H⟩ := ob H
    refine x_getf fg_X5_33 (gFr_spec e1) dX5_isServed_8 ?_
    refine x_iconst (0 : Int32) dX5_isServed_11 ic_0 ?_
    obtain ⟨v2, e2, H⟩ := ob H
    refine x_iald e2 dX5_isServed_12 ?_
    refine x_icmp_ge 60 dX5_isServed_13 (by decide) (fun c3 => ?_) (fun c3 => ?_)
    · rw [if_pos c3] at H
      refine x_iload_n 3 rfl dX5_isServed_60 ?_
      obtain ⟨c, rfl⟩ := rZ_spec H
      exact x_iret hE rfl c dX5_isServed_61
    · rw [if_neg c3] at H
      refine x_iload_n 3 rfl dX5_isServed_16 ?_
      refine x_if_eq 52 dX5_isServed_17 (by decide) (fun c4 => ?_) (fun c4 => ?_)
      · rw [if_pos c4] at H
        refine X.sub [0, 1, 2, 4] rfl ?_
        exact t_X5_isServed_b52 hE ih _ _ _ _ _ H
      · rw [if_neg c4] at H
        refine x_aload_n 0 rfl dX5_isServed_20 ?_
        obtain ⟨v5, e5, H⟩ := ob H
        refine x_getf fg_X5_33 (gFr_spec e5) dX5_isServed_21 ?_
        refine x_bipush (82 : Int32) dX5_isServed_24 bi_82 ?_
        refine x_iconst (5 : Int32) dX5_isServed_26 ic_5 ?_
        refine x_iload 4 rfl dX5_isServed_27 ?_
        refine x_imul dX5_isServed_29 ?_
        refine x_iadd dX5_isServed_30 ?_
        refine x_iload_n 1 rfl dX5_isServed_31 ?_
        refine x_iadd dX5_isServed_32 ?_
        obtain ⟨v6, e6, H⟩ := ob H
        refine x_iald e6 dX5_isServed_33 ?_
        refine x_if_eq 48 dX5_isServed_34 (by decide) (fun c7 => ?_) (fun c7 => ?_)
        · rw [if_pos c7] at H
          refine X.sub [0, 1, 2, 4] rfl ?_
          exact t_X5_isServed_b48 hE ih _ _ _ _ _ H
        · rw [if_neg c7] at H
          refine x_aload_n 0 rfl dX5_isServed_37 ?_
          refine x_iload 4 rfl dX5_isServed_38 ?_
          obtain ⟨c8, H⟩ := oit H
          obtain ⟨a8, g8, e8, H⟩ := obR H
          refine x_callV (M' := mi_X5_mayBy) (n := 1) (As := [.int x4]) (t_X5_mayBy C _ e8) c8 rfl rfl md_X5_mayBy ⟨Nat.le_of_ble_eq_true rfl, Nat.le_of_ble_eq_true rfl⟩ q2212 q2214 qs75 q131 q2215 rfl (Nat.le_of_ble_eq_true rfl) dX5_isServed_40 ?_
          refine x_iload_n 2 rfl dX5_isServed_43 ?_
          refine x_iand dX5_isServed_44 ?_
          refine x_if_eq 52 dX5_isServed_45 (by decide) (fun c9 => ?_) (fun c9 => ?_)
          · rw [if_pos c9] at H
            refine X.sub [0, 1, 2, 4] rfl ?_
            exact t_X5_isServed_b52 hE ih _ _ _ _ _ H
          · rw [if_neg c9] at H
            refine X.sub [0, 1, 2, 4] rfl ?_
            exact t_X5_isServed_b48 hE ih _ _ _ _ _ H
def f_X5_isServed (r0 : Nat) (x1 : Int32) (x2 : Int32) (h : mH) : Option (Int32 × mH) := f_X5_isServed_L5  xFu r0 x1 x2 (1 : Int32) (0 : Int32) h
theorem t_X5_isServed {G : xG} (C0 : xC) {l : Launch} {r0 : Nat} {x1 : Int32} {x2 : Int32} (h : mH) {o : Int32 × mH} (H : f_X5_isServed r0 x1 x2 h = some o) : XR G l mi_X5_isServed [.ref r0, .int x1, .int x2] h (some (.int o.1)) o.2 := by
  refine XR.of C0 (by decide) (Nat.le_of_ble_eq_true rfl) (fun C _ _ _ hE => ?_)
  show X G C mi_X5_isServed 0 [(0, .ref r0), (1, .int x1), (2, .int x2)] [] h
  unfold f_X5_isServed at H
  refine x_iconst (1 : Int32) dX5_isServed_0 ic_1 ?_
  refine x_istore_n [1, 2, 3, 0] dX5_isServed_1 (by decide) rfl ?_
  refine x_iconst (0 : Int32) dX5_isServed_2 ic_0 ?_
  refine x_istore [1, 2, 3, 4, 0] dX5_isServed_3 (by decide) rfl ?_
  exact t_X5_isServed_L5 hE  xFu _ _ _ _ _ _ H
abbrev mi_X5_leafOf : xM := (cX5_leafOf, yX5_leafOf, 1, some .int, 2)
theorem md_X5_leafOf : xMD mi_X5_leafOf 0 := ⟨by decide, by decide, by decide +kernel⟩
def f_X5_leafOf (r0 : Nat) (h : mH) : Option (Int32 × mH) := if gC h r0 = 4 then bR (f_X5_isWord r0 (1752132965 : Int64) h) fun a1 g1 => if a1 = 0 then if gC g1 r0 = 4 then bR (f_X5_isWord r0 (130177932485988 : Int64) g1) fun a3 g3 => if a3 = 0 then if gC g3 r0 = 4 then bR (f_X5_isWord r0 (6710628 : Int64) g3) fun a5 g5 => if a5 = 0 then if gC g5 r0 = 4 then bR (f_X5_isWord r0 (1936682084 : Int64) g5) fun a7 g7 => if a7 = 0 then if gC g7 r0 = 4 then bR (f_X5_isWord r0 (461414299507 : Int64) g7) fun a9 g9 => if a9 = 0 then if gC g9 r0 = 4 then bR (f_X5_isWord r0 (512735736947 : Int64) g9) fun a11 g11 => if a11 = 0 then if gC g11 r0 = 4 then bR (f_X5_isWord r0 (427070942835 : Int64) g11) fun a13 g13 => if a13 = 0 then if gC g13 r0 = 4 then bR (f_X5_isWord r0 (28836244623352947 : Int64) g13) fun a15 g15 => if a15 = 0 then if gC g15 r0 = 4 then bR (f_X5_isWord r0 (114853572732274 : Int64) g15) fun a17 g17 => if a17 = 0 then if gC g17 r0 = 4 then bR (f_X5_isWord r0 (121450625394034 : Int64) g17) fun a19 g19 => if a19 = 0 then some ((-1 : Int32), g19) else some ((9 : Int32), g19) else none else some ((8 : Int32), g17) else none else some ((7 : Int32), g15) else none else some ((6 : Int32), g13) else none else some ((5 : Int32), g11) else none else some ((4 : Int32), g9) else none else some ((3 : Int32), g7) else none else some ((2 : Int32), g5) else none else some ((1 : Int32), g3) else none else some ((0 : Int32), g1) else none
theorem t_X5_leafOf {G : xG} (C0 : xC) {l : Launch} {r0 : Nat} (h : mH) {o : Int32 × mH} (H : f_X5_leafOf r0 h = some o) : XR G l mi_X5_leafOf [.ref r0] h (some (.int o.1)) o.2 := by
  refine XR.of C0 (by decide) (Nat.le_of_ble_eq_true rfl) (fun C _ _ _ hE => ?_)
  show X G C mi_X5_leafOf 0 [(0, .ref r0)] [] h
  unfold f_X5_leafOf at H
  refine x_aload_n 0 rfl dX5_leafOf_0 ?_
  refine x_ldc2 q1921 dX5_leafOf_1 ?_
  obtain ⟨c1, H⟩ := oit H
  obtain ⟨a1, g1, e1, H⟩ := obR H
  refine x_callV (M' := mi_X5_isWord) (n := 1) (As := [.long (1752132965 : Int64)]) (t_X5_isWord C _ e1) c1 rfl rfl md_X5_isWord ⟨Nat.le_of_ble_eq_true rfl, Nat.le_of_ble_eq_true rfl⟩ q2118 q2120 qs55 q131 q2121 rfl (Nat.le_of_ble_eq_true rfl) dX5_leafOf_4 ?_
  refine x_if_eq 14 dX5_leafOf_7 (by decide) (fun c2 => ?_) (fun c2 => ?_)
  · rw [if_pos c2] at H
    refine x_aload_n 0 rfl dX5_leafOf_14 ?_
    refine x_ldc2 q1922 dX5_leafOf_15 ?_
    obtain ⟨c3, H⟩ := oit H
    obtain ⟨a3, g3, e3, H⟩ := obR H
    refine x_callV (M' := mi_X5_isWord) (n := 1) (As := [.long (130177932485988 : Int64)]) (t_X5_isWord C _ e3) c3 rfl rfl md_X5_isWord ⟨Nat.le_of_ble_eq_true rfl, Nat.le_of_ble_eq_true rfl⟩ q2118 q2120 qs55 q131 q2121 rfl (Nat.le_of_ble_eq_true rfl) dX5_leafOf_18 ?_
    refine x_if_eq 28 dX5_leafOf_21 (by decide) (fun c4 => ?_) (fun c4 => ?_)
    · rw [if_pos c4] at H
      refine x_aload_n 0 rfl dX5_leafOf_28 ?_
      refine x_ldc2 q1923 dX5_leafOf_29 ?_
      obtain ⟨c5, H⟩ := oit H
      obtain ⟨a5, g5, e5, H⟩ := obR H
      refine x_callV (M' := mi_X5_isWord) (n := 1) (As := [.long (6710628 : Int64)]) (t_X5_isWord C _ e5) c5 rfl rfl md_X5_isWord ⟨Nat.le_of_ble_eq_true rfl, Nat.le_of_ble_eq_true rfl⟩ q2118 q2120 qs55 q131 q2121 rfl (Nat.le_of_ble_eq_true rfl) dX5_leafOf_32 ?_
      refine x_if_eq 42 dX5_leafOf_35 (by decide) (fun c6 => ?_) (fun c6 => ?_)
      · rw [if_pos c6] at H
        refine x_aload_n 0 rfl dX5_leafOf_42 ?_
        refine x_ldc2 q1924 dX5_leafOf_43 ?_
        obtain ⟨c7, H⟩ := oit H
        obtain ⟨a7, g7, e7, H⟩ := obR H
        refine x_callV (M' := mi_X5_isWord) (n := 1) (As := [.long (1936682084 : Int64)]) (t_X5_isWord C _ e7) c7 rfl rfl md_X5_isWord ⟨Nat.le_of_ble_eq_true rfl, Nat.le_of_ble_eq_true rfl⟩ q2118 q2120 qs55 q131 q2121 rfl (Nat.le_of_ble_eq_true rfl) dX5_leafOf_46 ?_
        refine x_if_eq 56 dX5_leafOf_49 (by decide) (fun c8 => ?_) (fun c8 => ?_)
        · rw [if_pos c8] at H
          refine x_aload_n 0 rfl dX5_leafOf_56 ?_
          refine x_ldc2 q1909 dX5_leafOf_57 ?_
          obtain ⟨c9, H⟩ := oit H
          obtain ⟨a9, g9, e9, H⟩ := obR H
          refine x_callV (M' := mi_X5_isWord) (n := 1) (As := [.long (461414299507 : Int64)]) (t_X5_isWord C _ e9) c9 rfl rfl md_X5_isWord ⟨Nat.le_of_ble_eq_true rfl, Nat.le_of_ble_eq_true rfl⟩ q2118 q2120 qs55 q131 q2121 rfl (Nat.le_of_ble_eq_true rfl) dX5_leafOf_60 ?_
          refine x_if_eq 70 dX5_leafOf_63 (by decide) (fun c10 => ?_) (fun c10 => ?_)
          · rw [if_pos c10] at H
            refine x_aload_n 0 rfl dX5_leafOf_70 ?_
            refine x_ldc2 q1908 dX5_leafOf_71 ?_
            obtain ⟨c11, H⟩ := oit H
            obtain ⟨a11, g11, e11, H⟩ := obR H
            refine x_callV (M' := mi_X5_isWord) (n := 1) (As := [.long (512735736947 : Int64)]) (t_X5_isWord C _ e11) c11 rfl rfl md_X5_isWord ⟨Nat.le_of_ble_eq_true rfl, Nat.le_of_ble_eq_true rfl⟩ q2118 q2120 qs55 q131 q2121 rfl (Nat.le_of_ble_eq_true rfl) dX5_leafOf_74 ?_
            refine x_if_eq 84 dX5_leafOf_77 (by decide) (fun c12 => ?_) (fun c12 => ?_)
            · rw [if_pos c12] at H
              refine x_aload_n 0 rfl dX5_leafOf_84 ?_
              refine x_ldc2 q1925 dX5_leafOf_85 ?_
              obtain ⟨c13, H⟩ := oit H
              obtain ⟨a13, g13, e13, H⟩ := obR H
              refine x_callV (M' := mi_X5_isWord) (n := 1) (As := [.long (427070942835 : Int64)]) (t_X5_isWord C _ e13) c13 rfl rfl md_X5_isWord ⟨Nat.le_of_ble_eq_true rfl, Nat.le_of_ble_eq_true rfl⟩ q2118 q2120 qs55 q131 q2121 rfl (Nat.le_of_ble_eq_true rfl) dX5_leafOf_88 ?_
              refine x_if_eq 99 dX5_leafOf_91 (by decide) (fun c14 => ?_) (fun c14 => ?_)
              · rw [if_pos c14] at H
                refine x_aload_n 0 rfl dX5_leafOf_99 ?_
                refine x_ldc2 q1926 dX5_leafOf_100 ?_
                obtain ⟨c15, H⟩ := oit H
                obtain ⟨a15, g15, e15, H⟩ := obR H
                refine x_callV (M' := mi_X5_isWord) (n := 1) (As := [.long (28836244623352947 : Int64)]) (t_X5_isWord C _ e15) c15 rfl rfl md_X5_isWord ⟨Nat.le_of_ble_eq_true rfl, Nat.le_of_ble_eq_true rfl⟩ q2118 q2120 qs55 q131 q2121 rfl (Nat.le_of_ble_eq_true rfl) dX5_leafOf_103 ?_
                refine x_if_eq 114 dX5_leafOf_106 (by decide) (fun c16 => ?_) (fun c16 => ?_)
                · rw [if_pos c16] at H
                  refine x_aload_n 0 rfl dX5_leafOf_114 ?_
                  refine x_ldc2 q1927 dX5_leafOf_115 ?_
                  obtain ⟨c17, H⟩ := oit H
                  obtain ⟨a17, g17, e17, H⟩ := obR H
                  refine x_callV (M' := mi_X5_isWord) (n := 1) (As := [.long (114853572732274 : Int64)]) (t_X5_isWord C _ e17) c17 rfl rfl md_X5_isWord ⟨Nat.le_of_ble_eq_true rfl, Nat.le_of_ble_eq_true rfl⟩ q2118 q2120 qs55 q131 q2121 rfl (Nat.le_of_ble_eq_true rfl) dX5_leafOf_118 ?_
                  refine x_if_eq 129 dX5_leafOf_121 (by decide) (fun c18 => ?_) (fun c18 => ?_)
                  · rw [if_pos c18] at H
                    refine x_aload_n 0 rfl dX5_leafOf_129 ?_
                    refine x_ldc2 q1928 dX5_leafOf_130 ?_
                    obtain ⟨c19, H⟩ := oit H
                    obtain ⟨a19, g19, e19, H⟩ := obR H
                    refine x_callV (M' := mi_X5_isWord) (n := 1) (As := [.long (121450625394034 : Int64)]) (t_X5_isWord C _ e19) c19 rfl rfl md_X5_isWord ⟨Nat.le_of_ble_eq_true rfl, Nat.le_of_ble_eq_true rfl⟩ q2118 q2120 qs55 q131 q2121 rfl (Nat.le_of_ble_eq_true rfl) dX5_leafOf_133 ?_
                    refine x_if_eq 144 dX5_leafOf_136 (by decide) (fun c20 => ?_) (fun c20 => ?_)
                    · rw [if_pos c20] at H
                      refine x_iconst (-1 : Int32) dX5_leafOf_144 ic_m1 ?_
                      obtain rfl := Option.some.inj H
                      exact x_iret hE rfl rfl dX5_leafOf_145
                    · rw [if_neg c20] at H
                      refine x_bipush (9 : Int32) dX5_leafOf_139 bi_9 ?_
                      refine x_goto (tgt := 145) dX5_leafOf_141 (by decide) ?_
                      obtain rfl := Option.some.inj H
                      exact x_iret hE rfl rfl dX5_leafOf_145
                  · rw [if_neg c18] at H
                    refine x_bipush (8 : Int32) dX5_leafOf_124 bi_8 ?_
                    refine x_goto (tgt := 145) dX5_leafOf_126 (by decide) ?_
                    obtain rfl := Option.some.inj H
                    exact x_iret hE rfl rfl dX5_leafOf_145
                · rw [if_neg c16] at H
                  refine x_bipush (7 : Int32) dX5_leafOf_109 bi_7 ?_
                  refine x_goto (tgt := 145) dX5_leafOf_111 (by decide) ?_
                  obtain rfl := Option.some.inj H
                  exact x_iret hE rfl rfl dX5_leafOf_145
              · rw [if_neg c14] at H
                refine x_bipush (6 : Int32) dX5_leafOf_94 bi_6 ?_
                refine x_goto (tgt := 145) dX5_leafOf_96 (by decide) ?_
                obtain rfl := Option.some.inj H
                exact x_iret hE rfl rfl dX5_leafOf_145
            · rw [if_neg c12] at H
              refine x_iconst (5 : Int32) dX5_leafOf_80 ic_5 ?_
              refine x_goto (tgt := 145) dX5_leafOf_81 (by decide) ?_
              obtain rfl := Option.some.inj H
              exact x_iret hE rfl rfl dX5_leafOf_145
          · rw [if_neg c10] at H
            refine x_iconst (4 : Int32) dX5_leafOf_66 ic_4 ?_
            refine x_goto (tgt := 145) dX5_leafOf_67 (by decide) ?_
            obtain rfl := Option.some.inj H
            exact x_iret hE rfl rfl dX5_leafOf_145
        · rw [if_neg c8] at H
          refine x_iconst (3 : Int32) dX5_leafOf_52 ic_3 ?_
          refine x_goto (tgt := 145) dX5_leafOf_53 (by decide) ?_
          obtain rfl := Option.some.inj H
          exact x_iret hE rfl rfl dX5_leafOf_145
      · rw [if_neg c6] at H
        refine x_iconst (2 : Int32) dX5_leafOf_38 ic_2 ?_
        refine x_goto (tgt := 145) dX5_leafOf_39 (by decide) ?_
        obtain rfl := Option.some.inj H
        exact x_iret hE rfl rfl dX5_leafOf_145
    · rw [if_neg c4] at H
      refine x_iconst (1 : Int32) dX5_leafOf_24 ic_1 ?_
      refine x_goto (tgt := 145) dX5_leafOf_25 (by decide) ?_
      obtain rfl := Option.some.inj H
      exact x_iret hE rfl rfl dX5_leafOf_145
  · rw [if_neg c2] at H
    refine x_iconst (0 : Int32) dX5_leafOf_10 ic_0 ?_
    refine x_goto (tgt := 145) dX5_leafOf_11 (by decide) ?_
    obtain rfl := Option.some.inj H
    exact x_iret hE rfl rfl dX5_leafOf_145
abbrev mi_X5_most : xM := (cX5_most, yX5_most, 5, some .int, 4)
theorem md_X5_most : xMD mi_X5_most 1 := ⟨by decide, by decide, by decide +kernel⟩
def f_X5_most_b277 (kb : Nat → Int32 → mH → Option (Int32 × mH)) (r0 : Nat) (x2 : Int32) (x3 : Int32) (h : mH) : Option (Int32 × mH) := kb r0 (x2 + x3) h
theorem t_X5_most_b277 {G : xG} {C : xC} {o : Int32 × mH} (hE : xEnd G C (some (.int o.1)) o.2) {kb : Nat → Int32 → mH → Option (Int32 × mH)} (hkb : ∀ (r0 : Nat) (x2 : Int32) (h : mH), kb r0 x2 h = some o → X G C mi_X5_most 153 [(0, .ref r0), (2, .int x2)] [] h) (r0 : Nat) (x2 : Int32) (x3 : Int32) (h : mH) (H : f_X5_most_b277 kb r0 x2 x3 h = some o) : X G C mi_X5_most 277 [(0, .ref r0), (2, .int x2), (3, .int x3)] [] h := by
  unfold f_X5_most_b277 at H
  refine x_iload_n 1 rfl dX5_most_277 ?_
  refine x_iload_n 2 rfl dX5_most_278 ?_
  refine x_iadd dX5_most_279 ?_
  refine x_istore_n [1, 0, 2] dX5_most_280 (by decide) rfl ?_
  refine x_goto (tgt := 153) dX5_most_281 (by decide) ?_
  refine X.sub [0, 1] rfl ?_
  exact hkb _ _ _ H
def f_X5_most_L214 (k277 : Nat → Int32 → Int32 → mH → Option (Int32 × mH)) : Nat → Nat → Int32 → Int32 → Int32 → mH → Option (Int32 × mH)
  | 0, _, _, _, _, _ => none
  | n + 1, r0, x2, x3, x4, h => if x4 = (14 : Int32) then k277 r0 x2 x3 h else (gFr [4] 24 h r0).bind fun v7 => (gFr [4] 25 h r0).bind fun v8 => (aI .int h v8 x4).bind fun v9 => (aI .int h v7 (((16 : Int32) * v9) + x4)).bind fun v10 => (sI .int h v7 (((16 : Int32) * v9) + x4) (v10 - x3)).bind fun h11 => (gFr [4] 24 h11 r0).bind fun v12 => (gFr [4] 25 h11 r0).bind fun v13 => (aI .int h11 v13 x4).bind fun v14 => (aI .int h11 v12 (((16 : Int32) * x4) + v14)).bind fun v15 => (sI .int h11 v12 (((16 : Int32) * x4) + v14) (v15 + x3)).bind fun h16 => (gFr [4] 25 h16 r0).bind fun v17 => (aI .int h16 v17 x4).bind fun v18 => (f_X5_most_L214 k277 n) r0 x2 x3 v18 h16
theorem t_X5_most_L214 {G : xG} {C : xC} {o : Int32 × mH} (hE : xEnd G C (some (.int o.1)) o.2) {k277 : Nat → Int32 → Int32 → mH → Option (Int32 × mH)} (hk277 : ∀ (r0 : Nat) (x2 : Int32) (x3 : Int32) (h : mH), k277 r0 x2 x3 h = some o → X G C mi_X5_most 277 [(0, .ref r0), (2, .int x2), (3, .int x3)] [] h) : ∀ (n : Nat) (r0 : Nat) (x2 : Int32) (x3 : Int32) (x4 : Int32) (h : mH), f_X5_most_L214 k277 n r0 x2 x3 x4 h = some o → X G C mi_X5_most 214 [(0, .ref r0), (2, .int x2), (3, .int x3), (4, .int x4)] [] h := by
  intro n
  induction n with
  | zero => intro r0 x2 x3 x4 h H; exact nomatch (show (none : Option (Int32 × mH)) = some o from H)
  | succ n ih =>
    intro r0 x2 x3 x4 h H
    rw [f_X5_most_L214] at H
    refine x_iload 3 rfl dX5_most_214 ?_
    refine x_bipush (14 : Int32) dX5_most_216 bi_14 ?_
    refine x_icmp_eq 277 dX5_most_218 (by decide) (fun c6 => ?_) (fun c6 => ?_)
    · rw [if_pos c6] at H
      refine X.sub [0, 1, 2] rfl ?_
      exact hk277 _ _ _ _ H
    · rw [if_neg c6] at H
      refine x_aload_n 0 rfl dX5_most_221 ?_
      obtain ⟨v7, e7, H⟩ := ob H
      refine x_getf fg_X5_56 (gFr_spec e7) dX5_most_222 ?_
      refine x_bipush (16 : Int32) dX5_most_225 bi_16 ?_
      refine x_aload_n 0 rfl dX5_most_227 ?_
      obtain ⟨v8, e8, H⟩ := ob H
      refine x_getf fg_X5_59 (gFr_spec e8) dX5_most_228 ?_
      refine x_iload 3 rfl dX5_most_231 ?_
      obtain ⟨v9, e9, H⟩ := ob H
      refine x_iald e9 dX5_most_233 ?_
      refine x_imul dX5_most_234 ?_
      refine x_iload 3 rfl dX5_most_235 ?_
      refine x_iadd dX5_most_237 ?_
      refine x_dup2 dX5_most_238 rfl rfl ?_
      obtain ⟨v10, e10, H⟩ := ob H
      refine x_iald e10 dX5_most_239 ?_
      refine x_iload_n 2 rfl dX5_most_240 ?_
      refine x_isub dX5_most_241 ?_
      obtain ⟨h11, e11, H⟩ := ob H
      refine x_iast e11 dX5_most_242 ?_
      refine x_aload_n 0 rfl dX5_most_243 ?_
      obtain ⟨v12, e12, H⟩ := ob H
      refine x_getf fg_X5_56 (gFr_spec e12) dX5_most_244 ?_
      refine x_bipush (16 : Int32) dX5_most_247 bi_16 ?_
      refine x_iload 3 rfl dX5_most_249 ?_
      refine x_imul dX5_most_251 ?_
      refine x_aload_n 0 rfl dX5_most_252 ?_
      obtain ⟨v13, e13, H⟩ := ob H
      refine x_getf fg_X5_59 (gFr_spec e13) dX5_most_253 ?_
      refine x_iload 3 rfl dX5_most_256 ?_
      obtain ⟨v14, e14, H⟩ := ob H
      refine x_iald e14 dX5_most_258 ?_
      refine x_iadd dX5_most_259 ?_
      refine x_dup2 dX5_most_260 rfl rfl ?_
      obtain ⟨v15, e15, H⟩ := ob H
      refine x_iald e15 dX5_most_261 ?_
      refine x_iload_n 2 rfl dX5_most_262 ?_
      refine x_iadd dX5_most_263 ?_
      obtain ⟨h16, e16, H⟩ := ob H
      refine x_iast e16 dX5_most_264 ?_
      refine x_aload_n 0 rfl dX5_most_265 ?_
      obtain ⟨v17, e17, H⟩ := ob H
      refine x_getf fg_X5_59 (gFr_spec e17) dX5_most_266 ?_
      refine x_iload 3 rfl dX5_most_269 ?_
      obtain ⟨v18, e18, H⟩ := ob H
      refine x_iald e18 dX5_most_271 ?_
      refine x_istore [1, 2, 3, 0] dX5_most_272 (by decide) rfl ?_
      refine x_goto (tgt := 214) dX5_most_274 (by decide) ?_
      exact ih _ _ _ _ _ H
def f_X5_most_b210 (kb : Nat → Int32 → mH → Option (Int32 × mH)) (r0 : Nat) (x2 : Int32) (x3 : Int32) (h : mH) : Option (Int32 × mH) := f_X5_most_L214 (f_X5_most_b277 kb) xFu r0 x2 x3 (15 : Int32) h
theorem t_X5_most_b210 {G : xG} {C : xC} {o : Int32 × mH} (hE : xEnd G C (some (.int o.1)) o.2) {kb : Nat → Int32 → mH → Option (Int32 × mH)} (hkb : ∀ (r0 : Nat) (x2 : Int32) (h : mH), kb r0 x2 h = some o → X G C mi_X5_most 153 [(0, .ref r0), (2, .int x2)] [] h) (r0 : Nat) (x2 : Int32) (x3 : Int32) (h : mH) (H : f_X5_most_b210 kb r0 x2 x3 h = some o) : X G C mi_X5_most 210 [(0, .ref r0), (2, .int x2), (3, .int x3)] [] h := by
  unfold f_X5_most_b210 at H
  refine x_bipush (15 : Int32) dX5_most_210 bi_15 ?_
  refine x_istore [1, 2, 3, 0] dX5_most_212 (by decide) rfl ?_
  exact t_X5_most_L214 hE (t_X5_most_b277 hE hkb) xFu _ _ _ _ _ H
def f_X5_most_L168 (k210 : Nat → Int32 → Int32 → mH → Option (Int32 × mH)) : Nat → Nat → Int32 → Int32 → Int32 → mH → Option (Int32 × mH)
  | 0, _, _, _, _, _ => none
  | n + 1, r0, x2, x3, x4, h => if x4 = (14 : Int32) then k210 r0 x2 x3 h else (gFr [4] 24 h r0).bind fun v20 => (gFr [4] 25 h r0).bind fun v21 => (aI .int h v21 x4).bind fun v22 => (aI .int h v20 (((16 : Int32) * v22) + x4)).bind fun v23 => bR (f_X5_lesser x3 v23 h) fun a24 g24 => (gFr [4] 25 g24 r0).bind fun v25 => (aI .int g24 v25 x4).bind fun v26 => (f_X5_most_L168 k210 n) r0 x2 a24 v26 g24
theorem t_X5_most_L168 {G : xG} {C : xC} {o : Int32 × mH} (hE : xEnd G C (some (.int o.1)) o.2) {k210 : Nat → Int32 → Int32 → mH → Option (Int32 × mH)} (hk210 : ∀ (r0 : Nat) (x2 : Int32) (x3 : Int32) (h : mH), k210 r0 x2 x3 h = some o → X G C mi_X5_most 210 [(0, .ref r0), (2, .int x2), (3, .int x3)] [] h) : ∀ (n : Nat) (r0 : Nat) (x2 : Int32) (x3 : Int32) (x4 : Int32) (h : mH), f_X5_most_L168 k210 n r0 x2 x3 x4 h = some o → X G C mi_X5_most 168 [(0, .ref r0), (2, .int x2), (3, .int x3), (4, .int x4)] [] h := by
  intro n
  induction n with
  | zero => intro r0 x2 x3 x4 h H; exact nomatch (show (none : Option (Int32 × mH)) = some o from H)
  | succ n ih =>
    intro r0 x2 x3 x4 h H
    rw [f_X5_most_L168] at H
    refine x_iload 3 rfl dX5_most_168 ?_
    refine x_bipush (14 : Int32) dX5_most_170 bi_14 ?_
    refine x_icmp_eq 210 dX5_most_172 (by decide) (fun c19 => ?_) (fun c19 => ?_)
    · rw [if_pos c19] at H
      refine X.sub [0, 1, 2] rfl ?_
      exact hk210 _ _ _ _ H
    · rw [if_neg c19] at H
      refine x_iload_n 2 rfl dX5_most_175 ?_
      refine x_aload_n 0 rfl dX5_most_176 ?_
      obtain ⟨v20, e20, H⟩ := ob H
      refine x_getf fg_X5_56 (gFr_spec e20) dX5_most_177 ?_
      refine x_bipush (16 : Int32) dX5_most_180 bi_16 ?_
      refine x_aload_n 0 rfl dX5_most_182 ?_
      obtain ⟨v21, e21, H⟩ := ob H
      refine x_getf fg_X5_59 (gFr_spec e21) dX5_most_183 ?_
      refine x_iload 3 rfl dX5_most_186 ?_
      obtain ⟨v22, e22, H⟩ := ob H
      refine x_iald e22 dX5_most_188 ?_
      refine x_imul dX5_most_189 ?_
      refine x_iload 3 rfl dX5_most_190 ?_
      refine x_iadd dX5_most_192 ?_
      obtain ⟨v23, e23, H⟩ := ob H
      refine x_iald e23 dX5_most_193 ?_
      obtain ⟨a24, g24, e24, H⟩ := obR H
      refine x_callS (M' := mi_X5_lesser) (n := 2) (As := [.int x3, .int v23]) (t_X5_lesser C _ e24) md_X5_lesser ⟨Nat.le_of_ble_eq_true rfl, Nat.le_of_ble_eq_true rfl⟩ q2315 q2316 q131 q2317 rfl (Nat.le_of_ble_eq_true rfl) dX5_most_194 ?_
      refine x_istore_n [1, 2, 0, 3] dX5_most_197 (by decide) rfl ?_
      refine x_aload_n 0 rfl dX5_most_198 ?_
      obtain ⟨v25, e25, H⟩ := ob H
      refine x_getf fg_X5_59 (gFr_spec e25) dX5_most_199 ?_
      refine x_iload 3 rfl dX5_most_202 ?_
      obtain ⟨v26, e26, H⟩ := ob H
      refine x_iald e26 dX5_most_204 ?_
      refine x_istore [1, 2, 3, 0] dX5_most_205 (by decide) rfl ?_
      refine x_goto (tgt := 168) dX5_most_207 (by decide) ?_
      exact ih _ _ _ _ _ H
def f_X5_most_L153 : Nat → Nat → Int32 → mH → Option (Int32 × mH)
  | 0, _, _, _ => none
  | n + 1, r0, x2, h => if gC h r0 = 4 then bR (f_X5_finds r0  h) fun a4 g4 => if a4 = 0 then some (x2, g4) else f_X5_most_L168 (f_X5_most_b210 (f_X5_most_L153 n)) xFu r0 x2 (1000000 : Int32) (15 : Int32) g4 else none
theorem t_X5_most_L153 {G : xG} {C : xC} {o : Int32 × mH} (hE : xEnd G C (some (.int o.1)) o.2) : ∀ (n : Nat) (r0 : Nat) (x2 : Int32) (h : mH), f_X5_most_L153 n r0 x2 h = some o → X G C mi_X5_most 153 [(0, .ref r0), (2, .int x2)] [] h := by
  intro n
  induction n with
  | zero => intro r0 x2 h H; exact nomatch (show (none : Option (Int32 × mH)) = some o from H)
  | succ n ih =>
    intro r0 x2 h H
    rw [f_X5_most_L153] at H
    refine x_aload_n 0 rfl dX5_most_153 ?_
    obtain ⟨c4, H⟩ := oit H
    obtain ⟨a4, g4, e4, H⟩ := obR H
    refine x_callV (M' := mi_X5_finds) (n := 0) (As := []) (t_X5_finds C _ e4) c4 rfl rfl md_X5_finds ⟨Nat.le_of_ble_eq_true rfl, Nat.le_of_ble_eq_true rfl⟩ q2334 q2336 qs93 q131 q2337 rfl (Nat.le_of_ble_eq_true rfl) dX5_most_154 ?_
    refine x_if_eq 284 dX5_most_157 (by decide) (fun c5 => ?_) (fun c5 => ?_)
    · rw [if_pos c5] at H
      refine x_iload_n 1 rfl dX5_most_284 ?_
      obtain rfl := Option.some.inj H
      exact x_iret hE rfl rfl dX5_most_285
    · rw [if_neg c5] at H
      refine x_ldcw q2330 dX5_most_160 ?_
      refine x_istore_n [1, 2, 0] dX5_most_163 (by decide) rfl ?_
      refine x_bipush (15 : Int32) dX5_most_164 bi_15 ?_
      refine x_istore [1, 2, 3, 0] dX5_most_166 (by decide) rfl ?_
      exact t_X5_most_L168 hE (t_X5_most_b210 hE ih) xFu _ _ _ _ _ H
def f_X5_most_b151 (r0 : Nat) (h : mH) : Option (Int32 × mH) := f_X5_most_L153  xFu r0 (0 : Int32) h
theorem t_X5_most_b151 {G : xG} {C : xC} {o : Int32 × mH} (hE : xEnd G C (some (.int o.1)) o.2) (r0 : Nat) (h : mH) (H : f_X5_most_b151 r0 h = some o) : X G C mi_X5_most 151 [(0, .ref r0)] [] h := by
  unfold f_X5_most_b151 at H
  refine x_iconst (0 : Int32) dX5_most_151 ic_0 ?_
  refine x_istore_n [1, 0] dX5_most_152 (by decide) rfl ?_
  exact t_X5_most_L153 hE  xFu _ _ _ H
def f_X5_most_b145 (kb : Nat → Int32 → Int32 → mH → Option (Int32 × mH)) (k151 : Nat → mH → Option (Int32 × mH)) (r0 : Nat) (x1 : Int32) (x2 : Int32) (h : mH) : Option (Int32 × mH) := kb r0 x1 (x2 + (1 : Int32)) h
theorem t_X5_most_b145 {G : xG} {C : xC} {o : Int32 × mH} (hE : xEnd G C (some (.int o.1)) o.2) {kb : Nat → Int32 → Int32 → mH → Option (Int32 × mH)} (hkb : ∀ (r0 : Nat) (x1 : Int32) (x2 : Int32) (h : mH), kb r0 x1 x2 h = some o → X G C mi_X5_most 39 [(0, .ref r0), (1, .int x1), (2, .int x2)] [] h) {k151 : Nat → mH → Option (Int32 × mH)} (hk151 : ∀ (r0 : Nat) (h : mH), k151 r0 h = some o → X G C mi_X5_most 151 [(0, .ref r0)] [] h) (r0 : Nat) (x1 : Int32) (x2 : Int32) (h : mH) (H : f_X5_most_b145 kb k151 r0 x1 x2 h = some o) : X G C mi_X5_most 145 [(0, .ref r0), (1, .int x1), (2, .int x2)] [] h := by
  unfold f_X5_most_b145 at H
  refine x_iinc 2 (x2 + (1 : Int32)) [1, 2, 0] dX5_most_145 rfl (ii_1 _) (by decide) rfl ?_
  refine x_goto (tgt := 39) dX5_most_148 (by decide) ?_
  exact hkb _ _ _ _ H
def f_X5_most_b139 (kb : Nat → Int32 → Int32 → Int32 → mH → Option (Int32 × mH)) (k145 : Nat → Int32 → Int32 → mH → Option (Int32 × mH)) (r0 : Nat) (x1 : Int32) (x2 : Int32) (x3 : Int32) (h : mH) : Option (Int32 × mH) := kb r0 x1 x2 (x3 + (1 : Int32)) h
theorem t_X5_most_b139 {G : xG} {C : xC} {o : Int32 × mH} (hE : xEnd G C (some (.int o.1)) o.2) {kb : Nat → Int32 → Int32 → Int32 → mH → Option (Int32 × mH)} (hkb : ∀ (r0 : Nat) (x1 : Int32) (x2 : Int32) (x3 : Int32) (h : mH), kb r0 x1 x2 x3 h = some o → X G C mi_X5_most 104 [(0, .ref r0), (1, .int x1), (2, .int x2), (3, .int x3)] [] h) {k145 : Nat → Int32 → Int32 → mH → Option (Int32 × mH)} (hk145 : ∀ (r0 : Nat) (x1 : Int32) (x2 : Int32) (h : mH), k145 r0 x1 x2 h = some o → X G C mi_X5_most 145 [(0, .ref r0), (1, .int x1), (2, .int x2)] [] h) (r0 : Nat) (x1 : Int32) (x2 : Int32) (x3 : Int32) (h : mH) (H : f_X5_most_b139 kb k145 r0 x1 x2 x3 h = some o) : X G C mi_X5_most 139 [(0, .ref r0), (1, .int x1), (2, .int x2), (3, .int x3)] [] h := by
  unfold f_X5_most_b139 at H
  refine x_iinc 3 (x3 + (1 : Int32)) [1, 2, 3, 0] dX5_most_139 rfl (ii_1 _) (by decide) rfl ?_
  refine x_goto (tgt := 104) dX5_most_142 (by decide) ?_
  exact hkb _ _ _ _ _ H
def f_X5_most_L104 (k145 : Nat → Int32 → Int32 → mH → Option (Int32 × mH)) : Nat → Nat → Int32 → Int32 → Int32 → mH → Option (Int32 × mH)
  | 0, _, _, _, _, _ => none
  | n + 1, r0, x1, x2, x3, h => (gFr [4] 6 h r0).bind fun v38 => (aI .int h v38 (0 : Int32)).bind fun v39 => if v39 ≤ x3 then k145 r0 x1 x2 h else if x3 = x2 then f_X5_most_b139 (f_X5_most_L104 k145 n) k145 r0 x1 x2 x3 h else (gFr [4] 24 h r0).bind fun v42 => if gC h r0 = 4 then bR (f_X5_dealsLeft r0 x2 x3 h) fun a43 g43 => (sI .int g43 v42 ((((16 : Int32) * x2) + (7 : Int32)) + x3) a43).bind fun h44 => f_X5_most_b139 (f_X5_most_L104 k145 n) k145 r0 x1 x2 x3 h44 else none
theorem t_X5_most_L104 {G : xG} {C : xC} {o : Int32 × mH} (hE : xEnd G C (some (.int o.1)) o.2) {k145 : Nat → Int32 → Int32 → mH → Option (Int32 × mH)} (hk145 : ∀ (r0 : Nat) (x1 : Int32) (x2 : Int32) (h : mH), k145 r0 x1 x2 h = some o → X G C mi_X5_most 145 [(0, .ref r0), (1, .int x1), (2, .int x2)] [] h) : ∀ (n : Nat) (r0 : Nat) (x1 : Int32) (x2 : Int32) (x3 : Int32) (h : mH), f_X5_most_L104 k145 n r0 x1 x2 x3 h = some o → X G C mi_X5_most 104 [(0, .ref r0), (1, .int x1), (2, .int x2), (3, .int x3)] [] h := by
  intro n
  induction n with
  | zero => intro r0 x1 x2 x3 h H; exact nomatch (show (none : Option (Int32 × mH)) = some o from H)
  | succ n ih =>
    intro r0 x1 x2 x3 h H
    rw [f_X5_most_L104] at H
    refine x_iload_n 3 rfl dX5_most_104 ?_
    refine x_aload_n 0 rfl dX5_most_105 ?_
    obtain ⟨v38, e38, H⟩ := ob H
    refine x_getf fg_X5_33 (gFr_spec e38) dX5_most_106 ?_
    refine x_iconst (0 : Int32) dX5_most_109 ic_0 ?_
    obtain ⟨v39, e39, H⟩ := ob H
    refine x_iald e39 dX5_most_110 ?_
    refine x_icmp_ge 145 dX5_most_111 (by decide) (fun c40 => ?_) (fun c40 => ?_)
    · rw [if_pos c40] at H
      refine X.sub [0, 1, 2] rfl ?_
      exact hk145 _ _ _ _ H
    · rw [if_neg c40] at H
      refine x_iload_n 3 rfl dX5_most_114 ?_
      refine x_iload_n 2 rfl dX5_most_115 ?_
      refine x_icmp_eq 139 dX5_most_116 (by decide) (fun c41 => ?_) (fun c41 => ?_)
      · rw [if_pos c41] at H
        exact t_X5_most_b139 hE ih hk145 _ _ _ _ _ H
      · rw [if_neg c41] at H
        refine x_aload_n 0 rfl dX5_most_119 ?_
        obtain ⟨v42, e42, H⟩ := ob H
        refine x_getf fg_X5_56 (gFr_spec e42) dX5_most_120 ?_
        refine x_bipush (16 : Int32) dX5_most_123 bi_16 ?_
        refine x_iload_n 2 rfl dX5_most_125 ?_
        refine x_imul dX5_most_126 ?_
        refine x_bipush (7 : Int32) dX5_most_127 bi_7 ?_
        refine x_iadd dX5_most_129 ?_
        refine x_iload_n 3 rfl dX5_most_130 ?_
        refine x_iadd dX5_most_131 ?_
        refine x_aload_n 0 rfl dX5_most_132 ?_
        refine x_iload_n 2 rfl dX5_most_133 ?_
        refine x_iload_n 3 rfl dX5_most_134 ?_
        obtain ⟨c43, H⟩ := oit H
        obtain ⟨a43, g43, e43, H⟩ := obR H
        refine x_callV (M' := mi_X5_dealsLeft) (n := 2) (As := [.int x2, .int x3]) (t_X5_dealsLeft C _ e43) c43 rfl rfl md_X5_dealsLeft ⟨Nat.le_of_ble_eq_true rfl, Nat.le_of_ble_eq_true rfl⟩ q2326 q2328 qs92 q131 q2329 rfl (Nat.le_of_ble_eq_true rfl) dX5_most_135 ?_
        obtain ⟨h44, e44, H⟩ := ob H
        refine x_iast e44 dX5_most_138 ?_
        exact t_X5_most_b139 hE ih hk145 _ _ _ _ _ H
def f_X5_most_L39 (k151 : Nat → mH → Option (Int32 × mH)) : Nat → Nat → Int32 → Int32 → mH → Option (Int32 × mH)
  | 0, _, _, _, _ => none
  | n + 1, r0, x1, x2, h => (gFr [4] 6 h r0).bind fun v27 => (aI .int h v27 (0 : Int32)).bind fun v28 => if v28 ≤ x2 then k151 r0 h else (gFr [4] 24 h r0).bind fun v30 => (gFr [4] 6 h r0).bind fun v31 => (aI .int h v31 (((143 : Int32) + ((5 : Int32) * x2)) + x1)).bind fun v32 => (sI .int h v30 ((224 : Int32) + x2) v32).bind fun h33 => (gFr [4] 24 h33 r0).bind fun v34 => (gFr [4] 6 h33 r0).bind fun v35 => (aI .int h33 v35 (((178 : Int32) + ((5 : Int32) * x2)) + x1)).bind fun v36 => (sI .int h33 v34 (((16 : Int32) * ((7 : Int32) + x2)) + (15 : Int32)) v36).bind fun h37 => f_X5_most_L104 (f_X5_most_b145 (f_X5_most_L39 k151 n) k151) xFu r0 x1 x2 (0 : Int32) h37
theorem t_X5_most_L39 {G : xG} {C : xC} {o : Int32 × mH} (hE : xEnd G C (some (.int o.1)) o.2) {k151 : Nat → mH → Option (Int32 × mH)} (hk151 : ∀ (r0 : Nat) (h : mH), k151 r0 h = some o → X G C mi_X5_most 151 [(0, .ref r0)] [] h) : ∀ (n : Nat) (r0 : Nat) (x1 : Int32) (x2 : Int32) (h : mH), f_X5_most_L39 k151 n r0 x1 x2 h = some o → X G C mi_X5_most 39 [(0, .ref r0), (1, .int x1), (2, .int x2)] [] h := by
  intro n
  induction n with
  | zero => intro r0 x1 x2 h H; exact nomatch (show (none : Option (Int32 × mH)) = some o from H)
  | succ n ih =>
    intro r0 x1 x2 h H
    rw [f_X5_most_L39] at H
    refine x_iload_n 2 rfl dX5_most_39 ?_
    refine x_aload_n 0 rfl dX5_most_40 ?_
    obtain ⟨v27, e27, H⟩ := ob H
    refine x_getf fg_X5_33 (gFr_spec e27) dX5_most_41 ?_
    refine x_iconst (0 : Int32) dX5_most_44 ic_0 ?_
    obtain ⟨v28, e28, H⟩ := ob H
    refine x_iald e28 dX5_most_45 ?_
    refine x_icmp_ge 151 dX5_most_46 (by decide) (fun c29 => ?_) (fun c29 => ?_)
    · rw [if_pos c29] at H
      refine X.sub [0] rfl ?_
      exact hk151 _ _ H
    · rw [if_neg c29] at H
      refine x_aload_n 0 rfl dX5_most_49 ?_
      obtain ⟨v30, e30, H⟩ := ob H
      refine x_getf fg_X5_56 (gFr_spec e30) dX5_most_50 ?_
      refine x_sipush (224 : Int32) dX5_most_53 si_224 ?_
      refine x_iload_n 2 rfl dX5_most_56 ?_
      refine x_iadd dX5_most_57 ?_
      refine x_aload_n 0 rfl dX5_most_58 ?_
      obtain ⟨v31, e31, H⟩ := ob H
      refine x_getf fg_X5_33 (gFr_spec e31) dX5_most_59 ?_
      refine x_sipush (143 : Int32) dX5_most_62 si_143 ?_
      refine x_iconst (5 : Int32) dX5_most_65 ic_5 ?_
      refine x_iload_n 2 rfl dX5_most_66 ?_
      refine x_imul dX5_most_67 ?_
      refine x_iadd dX5_most_68 ?_
      refine x_iload_n 1 rfl dX5_most_69 ?_
      refine x_iadd dX5_most_70 ?_
      obtain ⟨v32, e32, H⟩ := ob H
      refine x_iald e32 dX5_most_71 ?_
      obtain ⟨h33, e33, H⟩ := ob H
      refine x_iast e33 dX5_most_72 ?_
      refine x_aload_n 0 rfl dX5_most_73 ?_
      obtain ⟨v34, e34, H⟩ := ob H
      refine x_getf fg_X5_56 (gFr_spec e34) dX5_most_74 ?_
      refine x_bipush (16 : Int32) dX5_most_77 bi_16 ?_
      refine x_bipush (7 : Int32) dX5_most_79 bi_7 ?_
      refine x_iload_n 2 rfl dX5_most_81 ?_
      refine x_iadd dX5_most_82 ?_
      refine x_imul dX5_most_83 ?_
      refine x_bipush (15 : Int32) dX5_most_84 bi_15 ?_
      refine x_iadd dX5_most_86 ?_
      refine x_aload_n 0 rfl dX5_most_87 ?_
      obtain ⟨v35, e35, H⟩ := ob H
      refine x_getf fg_X5_33 (gFr_spec e35) dX5_most_88 ?_
      refine x_sipush (178 : Int32) dX5_most_91 si_178 ?_
      refine x_iconst (5 : Int32) dX5_most_94 ic_5 ?_
      refine x_iload_n 2 rfl dX5_most_95 ?_
      refine x_imul dX5_most_96 ?_
      refine x_iadd dX5_most_97 ?_
      refine x_iload_n 1 rfl dX5_most_98 ?_
      refine x_iadd dX5_most_99 ?_
      obtain ⟨v36, e36, H⟩ := ob H
      refine x_iald e36 dX5_most_100 ?_
      obtain ⟨h37, e37, H⟩ := ob H
      refine x_iast e37 dX5_most_101 ?_
      refine x_iconst (0 : Int32) dX5_most_102 ic_0 ?_
      refine x_istore_n [1, 2, 3, 0] dX5_most_103 (by decide) rfl ?_
      exact t_X5_most_L104 hE (t_X5_most_b145 hE ih hk151) xFu _ _ _ _ _ H
def f_X5_most_b37 (r0 : Nat) (x1 : Int32) (h : mH) : Option (Int32 × mH) := f_X5_most_L39 (f_X5_most_b151) xFu r0 x1 (0 : Int32) h
theorem t_X5_most_b37 {G : xG} {C : xC} {o : Int32 × mH} (hE : xEnd G C (some (.int o.1)) o.2) (r0 : Nat) (x1 : Int32) (h : mH) (H : f_X5_most_b37 r0 x1 h = some o) : X G C mi_X5_most 37 [(0, .ref r0), (1, .int x1)] [] h := by
  unfold f_X5_most_b37 at H
  refine x_iconst (0 : Int32) dX5_most_37 ic_0 ?_
  refine x_istore_n [1, 2, 0] dX5_most_38 (by decide) rfl ?_
  exact t_X5_most_L39 hE (t_X5_most_b151 hE) xFu _ _ _ _ H
def f_X5_most_L17 (k37 : Nat → Int32 → mH → Option (Int32 × mH)) : Nat → Nat → Int32 → Int32 → mH → Option (Int32 × mH)
  | 0, _, _, _, _ => none
  | n + 1, r0, x1, x2, h => if (256 : Int32) ≤ x2 then k37 r0 x1 h else (gFr [4] 24 h r0).bind fun v46 => (sI .int h v46 x2 (0 : Int32)).bind fun h47 => (f_X5_most_L17 k37 n) r0 x1 (x2 + (1 : Int32)) h47
theorem t_X5_most_L17 {G : xG} {C : xC} {o : Int32 × mH} (hE : xEnd G C (some (.int o.1)) o.2) {k37 : Nat → Int32 → mH → Option (Int32 × mH)} (hk37 : ∀ (r0 : Nat) (x1 : Int32) (h : mH), k37 r0 x1 h = some o → X G C mi_X5_most 37 [(0, .ref r0), (1, .int x1)] [] h) : ∀ (n : Nat) (r0 : Nat) (x1 : Int32) (x2 : Int32) (h : mH), f_X5_most_L17 k37 n r0 x1 x2 h = some o → X G C mi_X5_most 17 [(0, .ref r0), (1, .int x1), (2, .int x2)] [] h := by
  intro n
  induction n with
  | zero => intro r0 x1 x2 h H; exact nomatch (show (none : Option (Int32 × mH)) = some o from H)
  | succ n ih =>
    intro r0 x1 x2 h H
    rw [f_X5_most_L17] at H
    refine x_iload_n 2 rfl dX5_most_17 ?_
    refine x_sipush (256 : Int32) dX5_most_18 si_256 ?_
    refine x_icmp_ge 37 dX5_most_21 (by decide) (fun c45 => ?_) (fun c45 => ?_)
    · rw [if_pos c45] at H
      refine X.sub [0, 1] rfl ?_
      exact hk37 _ _ _ H
    · rw [if_neg c45] at H
      refine x_aload_n 0 rfl dX5_most_24 ?_
      obtain ⟨v46, e46, H⟩ := ob H
      refine x_getf fg_X5_56 (gFr_spec e46) dX5_most_25 ?_
      refine x_iload_n 2 rfl dX5_most_28 ?_
      refine x_iconst (0 : Int32) dX5_most_29 ic_0 ?_
      obtain ⟨h47, e47, H⟩ := ob H
      refine x_iast e47 dX5_most_30 ?_
      refine x_iinc 2 (x2 + (1 : Int32)) [1, 2, 0] dX5_most_31 rfl (ii_1 _) (by decide) rfl ?_
      refine x_goto (tgt := 17) dX5_most_34 (by decide) ?_
      exact ih _ _ _ _ H
def f_X5_most (r0 : Nat) (x1 : Int32) (h : mH) : Option (Int32 × mH) := (pF [4] 0 (.int (0 : Int32)) h r0).bind fun h1 => if gC h1 r0 = 4 then bR (f_X5_isGood r0 x1 h1) fun a2 g2 => if a2 = 0 then some ((-1 : Int32), g2) else f_X5_most_L17 (f_X5_most_b37) xFu r0 x1 (0 : Int32) g2 else none
theorem t_X5_most {G : xG} (C0 : xC) {l : Launch} {r0 : Nat} {x1 : Int32} (h : mH) {o : Int32 × mH} (H : f_X5_most r0 x1 h = some o) : XR G l mi_X5_most [.ref r0, .int x1] h (some (.int o.1)) o.2 := by
  refine XR.of C0 (by decide) (Nat.le_of_ble_eq_true rfl) (fun C _ _ _ hE => ?_)
  show X G C mi_X5_most 0 [(0, .ref r0), (1, .int x1)] [] h
  unfold f_X5_most at H
  refine x_aload_n 0 rfl dX5_most_0 ?_
  refine x_iconst (0 : Int32) dX5_most_1 ic_0 ?_
  obtain ⟨h1, e1, H⟩ := ob H
  refine x_putf (fp_X5_1 _) rfl rfl e1 dX5_most_2 ?_
  refine x_aload_n 0 rfl dX5_most_5 ?_
  refine x_iload_n 1 rfl dX5_most_6 ?_
  obtain ⟨c2, H⟩ := oit H
  obtain ⟨a2, g2, e2, H⟩ := obR H
  refine x_callV (M' := mi_X5_isGood) (n := 1) (As := [.int x1]) (t_X5_isGood C _ e2) c2 rfl rfl md_X5_isGood ⟨Nat.le_of_ble_eq_true rfl, Nat.le_of_ble_eq_true rfl⟩ q2224 q2226 qs77 q131 q2227 rfl (Nat.le_of_ble_eq_true rfl) dX5_most_7 ?_
  refine x_if_ne 15 dX5_most_10 (by decide) (fun c3 => ?_) (fun c3 => ?_)
  · rw [if_neg c3] at H
    refine x_iconst (0 : Int32) dX5_most_15 ic_0 ?_
    refine x_istore_n [1, 2, 0] dX5_most_16 (by decide) rfl ?_
    exact t_X5_most_L17 hE (t_X5_most_b37 hE) xFu _ _ _ _ H
  · rw [if_pos c3] at H
    refine x_iconst (-1 : Int32) dX5_most_13 ic_m1 ?_
    obtain rfl := Option.some.inj H
    exact x_iret hE rfl rfl dX5_most_14
abbrev mi_X5_nod : xM := (cX5_nod, yX5_nod, 4, some .int, 4)
theorem md_X5_nod : xMD mi_X5_nod 2 := ⟨by decide, by decide, by decide +kernel⟩
def f_X5_nod (r0 : Nat) (x1 : Int32) (x2 : Int32) (h : mH) : Option (Int32 × mH) := (pF [4] 0 (.int (0 : Int32)) h r0).bind fun h1 => if gC h1 r0 = 4 then bR (f_X5_isPerson r0 x1 h1) fun a2 g2 => if a2 = 0 then some ((-1 : Int32), g2) else if gC g2 r0 = 4 then bR (f_X5_isPerson r0 x2 g2) fun a4 g4 => if a4 = 0 then some ((-1 : Int32), g4) else if gC g4 r0 = 4 then bR (f_X5_whyNod r0 x1 x2 g4) fun a6 g6 => if a6 ≤ 0 then if gC g6 r0 = 4 then bR (f_X5_keep r0  g6) fun a8 g8 => if gC g8 r0 = 4 then bR (f_X5_nods r0 x1 x2 g8) fun a9 g9 => some ((0 : Int32), g9) else none else none else some (a6, g6) else none else none else none
theorem t_X5_nod {G : xG} (C0 : xC) {l : Launch} {r0 : Nat} {x1 : Int32} {x2 : Int32} (h : mH) {o : Int32 × mH} (H : f_X5_nod r0 x1 x2 h = some o) : XR G l mi_X5_nod [.ref r0, .int x1, .int x2] h (some (.int o.1)) o.2 := by
  refine XR.of C0 (by decide) (Nat.le_of_ble_eq_true rfl) (fun C _ _ _ hE => ?_)
  show X G C mi_X5_nod 0 [(0, .ref r0), (1, .int x1), (2, .int x2)] [] h
  unfold f_X5_nod at H
  refine x_aload_n 0 rfl dX5_nod_0 ?_
  refine x_iconst (0 : Int32) dX5_nod_1 ic_0 ?_
  obtain ⟨h1, e1, H⟩ := ob H
  refine x_putf (fp_X5_1 _) rfl rfl e1 dX5_nod_2 ?_
  refine x_aload_n 0 rfl dX5_nod_5 ?_
  refine x_iload_n 1 rfl dX5_nod_6 ?_
  obtain ⟨c2, H⟩ := oit H
  obtain ⟨a2, g2, e2, H⟩ := obR H
  refine x_callV (M' := mi_X5_isPerson) (n := 1) (As := [.int x1]) (t_X5_isPerson C _ e2) c2 rfl rfl md_X5_isPerson ⟨Nat.le_of_ble_eq_true rfl, Nat.le_of_ble_eq_true rfl⟩ q2200 q2202 qs72 q131 q2203 rfl (Nat.le_of_ble_eq_true rfl) dX5_nod_7 ?_
  refine x_if_eq 21 dX5_nod_10 (by decide) (fun c3 => ?_) (fun c3 => ?_)
  · rw [if_pos c3] at H
    refine x_iconst (-1 : Int32) dX5_nod_21 ic_m1 ?_
    obtain rfl := Option.some.inj H
    exact x_iret hE rfl rfl dX5_nod_22
  · rw [if_neg c3] at H
    refine x_aload_n 0 rfl dX5_nod_13 ?_
    refine x_iload_n 2 rfl dX5_nod_14 ?_
    obtain ⟨c4, H⟩ := oit H
    obtain ⟨a4, g4, e4, H⟩ := obR H
    refine x_callV (M' := mi_X5_isPerson) (n := 1) (As := [.int x2]) (t_X5_isPerson C _ e4) c4 rfl rfl md_X5_isPerson ⟨Nat.le_of_ble_eq_true rfl, Nat.le_of_ble_eq_true rfl⟩ q2200 q2202 qs72 q131 q2203 rfl (Nat.le_of_ble_eq_true rfl) dX5_nod_15 ?_
    refine x_if_ne 23 dX5_nod_18 (by decide) (fun c5 => ?_) (fun c5 => ?_)
    · rw [if_neg c5] at H
      refine x_aload_n 0 rfl dX5_nod_23 ?_
      refine x_iload_n 1 rfl dX5_nod_24 ?_
      refine x_iload_n 2 rfl dX5_nod_25 ?_
      obtain ⟨c6, H⟩ := oit H
      obtain ⟨a6, g6, e6, H⟩ := obR H
      refine x_callV (M' := mi_X5_whyNod) (n := 2) (As := [.int x1, .int x2]) (t_X5_whyNod C _ e6) c6 rfl rfl md_X5_whyNod ⟨Nat.le_of_ble_eq_true rfl, Nat.le_of_ble_eq_true rfl⟩ q2275 q2277 qs85 q131 q2278 rfl (Nat.le_of_ble_eq_true rfl) dX5_nod_26 ?_
      refine x_istore_n [1, 2, 3, 0] dX5_nod_29 (by decide) rfl ?_
      refine x_iload_n 3 rfl dX5_nod_30 ?_
      refine x_if_le 36 dX5_nod_31 (by decide) (fun c7 => ?_) (fun c7 => ?_)
      · rw [if_pos c7] at H
        refine x_aload_n 0 rfl dX5_nod_36 ?_
        obtain ⟨c8, H⟩ := oit H
        obtain ⟨a8, g8, e8, H⟩ := obR H
        refine x_callV (M' := mi_X5_keep) (n := 0) (As := []) (t_X5_keep C _ e8) c8 rfl rfl md_X5_keep ⟨Nat.le_of_ble_eq_true rfl, Nat.le_of_ble_eq_true rfl⟩ q2259 q2261 qs82 q131 q2262 rfl (Nat.le_of_ble_eq_true rfl) dX5_nod_37 ?_
        refine x_aload_n 0 rfl dX5_nod_40 ?_
        refine x_iload_n 1 rfl dX5_nod_41 ?_
        refine x_iload_n 2 rfl dX5_nod_42 ?_
        obtain ⟨c9, H⟩ := oit H
        obtain ⟨a9, g9, e9, H⟩ := obR H
        refine x_callV (M' := mi_X5_nods) (n := 2) (As := [.int x1, .int x2]) (t_X5_nods C _ e9) c9 rfl rfl md_X5_nods ⟨Nat.le_of_ble_eq_true rfl, Nat.le_of_ble_eq_true rfl⟩ q2279 q2281 qs86 q131 q2282 rfl (Nat.le_of_ble_eq_true rfl) dX5_nod_43 ?_
        refine x_iconst (0 : Int32) dX5_nod_46 ic_0 ?_
        obtain rfl := Option.some.inj H
        exact x_iret hE rfl rfl dX5_nod_47
      · rw [if_neg c7] at H
        refine x_iload_n 3 rfl dX5_nod_34 ?_
        obtain rfl := Option.some.inj H
        exact x_iret hE rfl rfl dX5_nod_35
    · rw [if_pos c5] at H
      refine x_iconst (-1 : Int32) dX5_nod_21 ic_m1 ?_
      obtain rfl := Option.some.inj H
      exact x_iret hE rfl rfl dX5_nod_22
abbrev mi_X5_now : xM := (cX5_now, yX5_now, 5, some .int, 3)
theorem md_X5_now : xMD mi_X5_now 1 := ⟨by decide, by decide, by decide +kernel⟩
def f_X5_now_b60 (r0 : Nat) (x1 : Int32) (x2 : Int32) (x3 : Int32) (h : mH) : Option (Int32 × mH) := if x1 = (0 : Int32) then (gFr [4] 6 h r0).bind fun v3 => (aI .int h v3 (131 : Int32)).bind fun v4 => some (v4, h) else if x1 = (1 : Int32) then (gFr [4] 6 h r0).bind fun v6 => (aI .int h v6 (133 : Int32)).bind fun v7 => some (v7, h) else if x1 = (2 : Int32) then (gFr [4] 6 h r0).bind fun v9 => (aI .int h v9 (134 : Int32)).bind fun v10 => some (v10, h) else if x1 = (3 : Int32) then if gC h r0 = 4 then bR (f_X5_fed r0  h) fun a12 g12 => some (a12, g12) else none else if x1 = (4 : Int32) then (gFr [4] 6 h r0).bind fun v14 => (aI .int h v14 (135 : Int32)).bind fun v15 => some (v15, h) else if x1 = (5 : Int32) then (gFr [4] 6 h r0).bind fun v17 => (aI .int h v17 (132 : Int32)).bind fun v18 => some (v18, h) else if x1 = (6 : Int32) then some ((x2 / (2 : Int32)), h) else if x1 = (7 : Int32) then some (x3, h) else some ((-1 : Int32), h)
theorem t_X5_now_b60 {G : xG} {C : xC} {o : Int32 × mH} (hE : xEnd G C (some (.int o.1)) o.2) (r0 : Nat) (x1 : Int32) (x2 : Int32) (x3 : Int32) (h : mH) (H : f_X5_now_b60 r0 x1 x2 x3 h = some o) : X G C mi_X5_now 60 [(0, .ref r0), (1, .int x1), (2, .int x2), (3, .int x3)] [] h := by
  unfold f_X5_now_b60 at H
  refine x_iload_n 1 rfl dX5_now_60 ?_
  by_cases c2 : x1 = (0 : Int32)
  · rw [if_pos c2] at H
    refine x_tsw (off := 47) 108 dX5_now_61 c2 (by decide) (by decide) (by decide) (by decide) ?_
    refine x_aload_n 0 rfl dX5_now_108 ?_
    obtain ⟨v3, e3, H⟩ := ob H
    refine x_getf fg_X5_33 (gFr_spec e3) dX5_now_109 ?_
    refine x_sipush (131 : Int32) dX5_now_112 si_131 ?_
    obtain ⟨v4, e4, H⟩ := ob H
    refine x_iald e4 dX5_now_115 ?_
    obtain rfl := Option.some.inj H
    exact x_iret hE rfl rfl dX5_now_116
  rw [if_neg c2] at H
  by_cases c5 : x1 = (1 : Int32)
  · rw [if_pos c5] at H
    refine x_tsw (off := 56) 117 dX5_now_61 c5 (by decide) (by decide) (by decide) (by decide) ?_
    refine x_aload_n 0 rfl dX5_now_117 ?_
    obtain ⟨v6, e6, H⟩ := ob H
    refine x_getf fg_X5_33 (gFr_spec e6) dX5_now_118 ?_
    refine x_sipush (133 : Int32) dX5_now_121 si_133 ?_
    obtain ⟨v7, e7, H⟩ := ob H
    refine x_iald e7 dX5_now_124 ?_
    obtain rfl := Option.some.inj H
    exact x_iret hE rfl rfl dX5_now_125
  rw [if_neg c5] at H
  by_cases c8 : x1 = (2 : Int32)
  · rw [if_pos c8] at H
    refine x_tsw (off := 65) 126 dX5_now_61 c8 (by decide) (by decide) (by decide) (by decide) ?_
    refine x_aload_n 0 rfl dX5_now_126 ?_
    obtain ⟨v9, e9, H⟩ := ob H
    refine x_getf fg_X5_33 (gFr_spec e9) dX5_now_127 ?_
    refine x_sipush (134 : Int32) dX5_now_130 si_134 ?_
    obtain ⟨v10, e10, H⟩ := ob H
    refine x_iald e10 dX5_now_133 ?_
    obtain rfl := Option.some.inj H
    exact x_iret hE rfl rfl dX5_now_134
  rw [if_neg c8] at H
  by_cases c11 : x1 = (3 : Int32)
  · rw [if_pos c11] at H
    refine x_tsw (off := 74) 135 dX5_now_61 c11 (by decide) (by decide) (by decide) (by decide) ?_
    refine x_aload_n 0 rfl dX5_now_135 ?_
    obtain ⟨c12, H⟩ := oit H
    obtain ⟨a12, g12, e12, H⟩ := obR H
    refine x_callV (M' := mi_X5_fed) (n := 0) (As := []) (t_X5_fed C _ e12) c12 rfl rfl md_X5_fed ⟨Nat.le_of_ble_eq_true rfl, Nat.le_of_ble_eq_true rfl⟩ q2239 q2241 qs78 q131 q2242 rfl (Nat.le_of_ble_eq_true rfl) dX5_now_136 ?_
    obtain rfl := Option.some.inj H
    exact x_iret hE rfl rfl dX5_now_139
  rw [if_neg c11] at H
  by_cases c13 : x1 = (4 : Int32)
  · rw [if_pos c13] at H
    refine x_tsw (off := 79) 140 dX5_now_61 c13 (by decide) (by decide) (by decide) (by decide) ?_
    refine x_aload_n 0 rfl dX5_now_140 ?_
    obtain ⟨v14, e14, H⟩ := ob H
    refine x_getf fg_X5_33 (gFr_spec e14) dX5_now_141 ?_
    refine x_sipush (135 : Int32) dX5_now_144 si_135 ?_
    obtain ⟨v15, e15, H⟩ := ob H
    refine x_iald e15 dX5_now_147 ?_
    obtain rfl := Option.some.inj H
    exact x_iret hE rfl rfl dX5_now_148
  rw [if_neg c13] at H
  by_cases c16 : x1 = (5 : Int32)
  · rw [if_pos c16] at H
    refine x_tsw (off := 88) 149 dX5_now_61 c16 (by decide) (by decide) (by decide) (by decide) ?_
    refine x_aload_n 0 rfl dX5_now_149 ?_
    obtain ⟨v17, e17, H⟩ := ob H
    refine x_getf fg_X5_33 (gFr_spec e17) dX5_now_150 ?_
    refine x_sipush (132 : Int32) dX5_now_153 si_132 ?_
    obtain ⟨v18, e18, H⟩ := ob H
    refine x_iald e18 dX5_now_156 ?_
    obtain rfl := Option.some.inj H
    exact x_iret hE rfl rfl dX5_now_157
  rw [if_neg c16] at H
  by_cases c19 : x1 = (6 : Int32)
  · rw [if_pos c19] at H
    refine x_tsw (off := 97) 158 dX5_now_61 c19 (by decide) (by decide) (by decide) (by decide) ?_
    refine x_iload_n 2 rfl dX5_now_158 ?_
    refine x_iconst (2 : Int32) dX5_now_159 ic_2 ?_
    refine x_idiv dX5_now_160 (by decide) ?_
    obtain rfl := Option.some.inj H
    exact x_iret hE rfl rfl dX5_now_161
  rw [if_neg c19] at H
  by_cases c20 : x1 = (7 : Int32)
  · rw [if_pos c20] at H
    refine x_tsw (off := 101) 162 dX5_now_61 c20 (by decide) (by decide) (by decide) (by decide) ?_
    refine x_iload_n 3 rfl dX5_now_162 ?_
    obtain rfl := Option.some.inj H
    exact x_iret hE rfl rfl dX5_now_163
  rw [if_neg c20] at H
  refine x_tswd 164 dX5_now_61 (xts0_8 c2 c5 c8 c11 c13 c16 c19 c20) (by decide) ?_
  refine x_iconst (-1 : Int32) dX5_now_164 ic_m1 ?_
  obtain rfl := Option.some.inj H
  exact x_iret hE rfl rfl dX5_now_165
def f_X5_now_L12 (k60 : Nat → Int32 → Int32 → Int32 → mH → Option (Int32 × mH)) : Nat → Nat → Int32 → Int32 → Int32 → Int32 → mH → Option (Int32 × mH)
  | 0, _, _, _, _, _, _ => none
  | n + 1, r0, x1, x2, x3, x4, h => (gFr [4] 6 h r0).bind fun v21 => (aI .int h v21 (0 : Int32)).bind fun v22 => if v22 ≤ x4 then k60 r0 x1 x2 x3 h else (gFr [4] 6 h r0).bind fun v24 => (aI .int h v24 ((220 : Int32) + x4)).bind fun v25 => bR (f_X5_bits v25 h) fun a26 g26 => (gFr [4] 6 g26 r0).bind fun v27 => (aI .int g26 v27 ((213 : Int32) + x4)).bind fun v28 => (f_X5_now_L12 k60 n) r0 x1 (x2 + a26) (x3 + v28) (x4 + (1 : Int32)) g26
theorem t_X5_now_L12 {G : xG} {C : xC} {o : Int32 × mH} (hE : xEnd G C (some (.int o.1)) o.2) {k60 : Nat → Int32 → Int32 → Int32 → mH → Option (Int32 × mH)} (hk60 : ∀ (r0 : Nat) (x1 : Int32) (x2 : Int32) (x3 : Int32) (h : mH), k60 r0 x1 x2 x3 h = some o → X G C mi_X5_now 60 [(0, .ref r0), (1, .int x1), (2, .int x2), (3, .int x3)] [] h) : ∀ (n : Nat) (r0 : Nat) (x1 : Int32) (x2 : Int32) (x3 : Int32) (x4 : Int32) (h : mH), f_X5_now_L12 k60 n r0 x1 x2 x3 x4 h = some o → X G C mi_X5_now 12 [(0, .ref r0), (1, .int x1), (2, .int x2), (3, .int x3), (4, .int x4)] [] h := by
  intro n
  induction n with
  | zero => intro r0 x1 x2 x3 x4 h H; exact nomatch (show (none : Option (Int32 × mH)) = some o from H)
  | succ n ih =>
    intro r0 x1 x2 x3 x4 h H
    rw [f_X5_now_L12] at H
    refine x_iload 4 rfl dX5_now_12 ?_
    refine x_aload_n 0 rfl dX5_now_14 ?_
    obtain ⟨v21, e21, H⟩ := ob H
    refine x_getf fg_X5_33 (gFr_spec e21) dX5_now_15 ?_
    refine x_iconst (0 : Int32) dX5_now_18 ic_0 ?_
    obtain ⟨v22, e22, H⟩ := ob H
    refine x_iald e22 dX5_now_19 ?_
    refine x_icmp_ge 60 dX5_now_20 (by decide) (fun c23 => ?_) (fun c23 => ?_)
    · rw [if_pos c23] at H
      refine X.sub [0, 1, 2, 3] rfl ?_
      exact hk60 _ _ _ _ _ H
    · rw [if_neg c23] at H
      refine x_iload_n 2 rfl dX5_now_23 ?_
      refine x_aload_n 0 rfl dX5_now_24 ?_
      obtain ⟨v24, e24, H⟩ := ob H
      refine x_getf fg_X5_33 (gFr_spec e24) dX5_now_25 ?_
      refine x_sipush (220 : Int32) dX5_now_28 si_220 ?_
      refine x_iload 4 rfl dX5_now_31 ?_
      refine x_iadd dX5_now_33 ?_
      obtain ⟨v25, e25, H⟩ := ob H
      refine x_iald e25 dX5_now_34 ?_
      obtain ⟨a26, g26, e26, H⟩ := obR H
      refine x_callS (M' := mi_X5_bits) (n := 1) (As := [.int v25]) (t_X5_bits C _ e26) md_X5_bits ⟨Nat.le_of_ble_eq_true rfl, Nat.le_of_ble_eq_true rfl⟩ q2236 q2237 q131 q2238 rfl (Nat.le_of_ble_eq_true rfl) dX5_now_35 ?_
      refine x_iadd dX5_now_38 ?_
      refine x_istore_n [1, 2, 0, 3, 4] dX5_now_39 (by decide) rfl ?_
      refine x_iload_n 3 rfl dX5_now_40 ?_
      refine x_aload_n 0 rfl dX5_now_41 ?_
      obtain ⟨v27, e27, H⟩ := ob H
      refine x_getf fg_X5_33 (gFr_spec e27) dX5_now_42 ?_
      refine x_sipush (213 : Int32) dX5_now_45 si_213 ?_
      refine x_iload 4 rfl dX5_now_48 ?_
      refine x_iadd dX5_now_50 ?_
      obtain ⟨v28, e28, H⟩ := ob H
      refine x_iald e28 dX5_now_51 ?_
      refine x_iadd dX5_now_52 ?_
      refine x_istore_n [1, 2, 3, 0, 4] dX5_now_53 (by decide) rfl ?_
      refine x_iinc 4 (x4 + (1 : Int32)) [1, 2, 3, 4, 0] dX5_now_54 rfl (ii_1 _) (by decide) rfl ?_
      refine x_goto (tgt := 12) dX5_now_57 (by decide) ?_
      exact ih _ _ _ _ _ _ H
def f_X5_now (r0 : Nat) (x1 : Int32) (h : mH) : Option (Int32 × mH) := (pF [4] 0 (.int (0 : Int32)) h r0).bind fun h1 => f_X5_now_L12 (f_X5_now_b60) xFu r0 x1 (0 : Int32) (0 : Int32) (0 : Int32) h1
theorem t_X5_now {G : xG} (C0 : xC) {l : Launch} {r0 : Nat} {x1 : Int32} (h : mH) {o : Int32 × mH} (H : f_X5_now r0 x1 h = some o) : XR G l mi_X5_now [.ref r0, .int x1] h (some (.int o.1)) o.2 := by
  refine XR.of C0 (by decide) (Nat.le_of_ble_eq_true rfl) (fun C _ _ _ hE => ?_)
  show X G C mi_X5_now 0 [(0, .ref r0), (1, .int x1)] [] h
  unfold f_X5_now at H
  refine x_aload_n 0 rfl dX5_now_0 ?_
  refine x_iconst (0 : Int32) dX5_now_1 ic_0 ?_
  obtain ⟨h1, e1, H⟩ := ob H
  refine x_putf (fp_X5_1 _) rfl rfl e1 dX5_now_2 ?_
  refine x_iconst (0 : Int32) dX5_now_5 ic_0 ?_
  refine x_istore_n [1, 2, 0] dX5_now_6 (by decide) rfl ?_
  refine x_iconst (0 : Int32) dX5_now_7 ic_0 ?_
  refine x_istore_n [1, 2, 3, 0] dX5_now_8 (by decide) rfl ?_
  refine x_iconst (0 : Int32) dX5_now_9 ic_0 ?_
  refine x_istore [1, 2, 3, 4, 0] dX5_now_10 (by decide) rfl ?_
  exact t_X5_now_L12 hE (t_X5_now_b60 hE) xFu _ _ _ _ _ _ H
abbrev mi_X5_odds : xM := (cX5_odds, yX5_odds, 7, some .int, 6)
theorem md_X5_odds : xMD mi_X5_odds 3 := ⟨by decide, by decide, by decide +kernel⟩
def f_X5_odds_b86 (kb : Nat → Int32 → Int32 → Int32 → Int32 → Int32 → Int32 → mH → Option (Int32 × mH)) (r0 : Nat) (x1 : Int32) (x2 : Int32) (x3 : Int32) (x4 : Int32) (x6 : Int32) (s0 : Int32) (s1 : Int32) (h : mH) : Option (Int32 × mH) := if gC h r0 = 4 then bR (f_X5_back r0  h) fun a14 g14 => kb r0 x1 x2 x3 x4 (s0 + s1) (x6 + (1 : Int32)) g14 else none
theorem t_X5_odds_b86 {G : xG} {C : xC} {o : Int32 × mH} (hE : xEnd G C (some (.int o.1)) o.2) {kb : Nat → Int32 → Int32 → Int32 → Int32 → Int32 → Int32 → mH → Option (Int32 × mH)} (hkb : ∀ (r0 : Nat) (x1 : Int32) (x2 : Int32) (x3 : Int32) (x4 : Int32) (x5 : Int32) (x6 : Int32) (h : mH), kb r0 x1 x2 x3 x4 x5 x6 h = some o → X G C mi_X5_odds 47 [(0, .ref r0), (1, .int x1), (2, .int x2), (3, .int x3), (4, .int x4), (5, .int x5), (6, .int x6)] [] h) (r0 : Nat) (x1 : Int32) (x2 : Int32) (x3 : Int32) (x4 : Int32) (x6 : Int32) (s0 : Int32) (s1 : Int32) (h : mH) (H : f_X5_odds_b86 kb r0 x1 x2 x3 x4 x6 s0 s1 h = some o) : X G C mi_X5_odds 86 [(0, .ref r0), (1, .int x1), (2, .int x2), (3, .int x3), (4, .int x4), (6, .int x6)] [.int s1, .int s0] h := by
  unfold f_X5_odds_b86 at H
  refine x_iadd dX5_odds_86 ?_
  refine x_istore [1, 2, 3, 4, 5, 0, 6] dX5_odds_87 (by decide) rfl ?_
  refine x_aload_n 0 rfl dX5_odds_89 ?_
  obtain ⟨c14, H⟩ := oit H
  obtain ⟨a14, g14, e14, H⟩ := obR H
  refine x_callV (M' := mi_X5_back) (n := 0) (As := []) (t_X5_back C _ e14) c14 rfl rfl md_X5_back ⟨Nat.le_of_ble_eq_true rfl, Nat.le_of_ble_eq_true rfl⟩ q2449 q2451 qs107 q131 q2452 rfl (Nat.le_of_ble_eq_true rfl) dX5_odds_90 ?_
  refine x_iinc 6 (x6 + (1 : Int32)) [1, 2, 3, 4, 5, 6, 0] dX5_odds_93 rfl (ii_1 _) (by decide) rfl ?_
  refine x_goto (tgt := 47) dX5_odds_96 (by decide) ?_
  exact hkb _ _ _ _ _ _ _ _ H
def f_X5_odds_L47 : Nat → Nat → Int32 → Int32 → Int32 → Int32 → Int32 → Int32 → mH → Option (Int32 × mH)
  | 0, _, _, _, _, _, _, _, _ => none
  | n + 1, r0, x1, x2, x3, x4, x5, x6, h => if x2 ≤ x6 then some (x5, h) else if gC h r0 = 4 then bR (f_X5_draws r0 (10 : Int32) (x3 + x6) h) fun a10 g10 => (gFr [4] 6 g10 r0).bind fun v11 => (aI .int g10 v11 ((136 : Int32) + x1)).bind fun v12 => if v12 ≤ x4 then f_X5_odds_b86 (f_X5_odds_L47 n) r0 x1 x2 x3 x4 x6 x5 (0 : Int32) g10 else f_X5_odds_b86 (f_X5_odds_L47 n) r0 x1 x2 x3 x4 x6 x5 (1 : Int32) g10 else none
theorem t_X5_odds_L47 {G : xG} {C : xC} {o : Int32 × mH} (hE : xEnd G C (some (.int o.1)) o.2) : ∀ (n : Nat) (r0 : Nat) (x1 : Int32) (x2 : Int32) (x3 : Int32) (x4 : Int32) (x5 : Int32) (x6 : Int32) (h : mH), f_X5_odds_L47 n r0 x1 x2 x3 x4 x5 x6 h = some o → X G C mi_X5_odds 47 [(0, .ref r0), (1, .int x1), (2, .int x2), (3, .int x3), (4, .int x4), (5, .int x5), (6, .int x6)] [] h := by
  intro n
  induction n with
  | zero => intro r0 x1 x2 x3 x4 x5 x6 h H; exact nomatch (show (none : Option (Int32 × mH)) = some o from H)
  | succ n ih =>
    intro r0 x1 x2 x3 x4 x5 x6 h H
    rw [f_X5_odds_L47] at H
    refine x_iload 6 rfl dX5_odds_47 ?_
    refine x_iload_n 2 rfl dX5_odds_49 ?_
    refine x_icmp_ge 99 dX5_odds_50 (by decide) (fun c9 => ?_) (fun c9 => ?_)
    · rw [if_pos c9] at H
      refine x_iload 5 rfl dX5_odds_99 ?_
      obtain rfl := Option.some.inj H
      exact x_iret hE rfl rfl dX5_odds_101
    · rw [if_neg c9] at H
      refine x_aload_n 0 rfl dX5_odds_53 ?_
      refine x_bipush (10 : Int32) dX5_odds_54 bi_10 ?_
      refine x_iload_n 3 rfl dX5_odds_56 ?_
      refine x_iload 6 rfl dX5_odds_57 ?_
      refine x_iadd dX5_odds_59 ?_
      obtain ⟨c10, H⟩ := oit H
      obtain ⟨a10, g10, e10, H⟩ := obR H
      refine x_callV (M' := mi_X5_draws) (n := 2) (As := [.int (10 : Int32), .int (x3 + x6)]) (t_X5_draws C _ e10) c10 rfl rfl md_X5_draws ⟨Nat.le_of_ble_eq_true rfl, Nat.le_of_ble_eq_true rfl⟩ q2428 q2430 qs103 q131 q2431 rfl (Nat.le_of_ble_eq_true rfl) dX5_odds_60 ?_
      refine x_pop dX5_odds_63 rfl ?_
      refine x_iload 5 rfl dX5_odds_64 ?_
      refine x_aload_n 0 rfl dX5_odds_66 ?_
      obtain ⟨v11, e11, H⟩ := ob H
      refine x_getf fg_X5_33 (gFr_spec e11) dX5_odds_67 ?_
      refine x_sipush (136 : Int32) dX5_odds_70 si_136 ?_
      refine x_iload_n 1 rfl dX5_odds_73 ?_
      refine x_iadd dX5_odds_74 ?_
      obtain ⟨v12, e12, H⟩ := ob H
      refine x_iald e12 dX5_odds_75 ?_
      refine x_iload 4 rfl dX5_odds_76 ?_
      refine x_icmp_le 85 dX5_odds_78 (by decide) (fun c13 => ?_) (fun c13 => ?_)
      · rw [if_pos c13] at H
        refine x_iconst (0 : Int32) dX5_odds_85 ic_0 ?_
        refine X.sub [0, 1, 2, 3, 4, 6] rfl ?_
        exact t_X5_odds_b86 hE ih _ _ _ _ _ _ _ _ _ H
      · rw [if_neg c13] at H
        refine x_iconst (1 : Int32) dX5_odds_81 ic_1 ?_
        refine x_goto (tgt := 86) dX5_odds_82 (by decide) ?_
        refine X.sub [0, 1, 2, 3, 4, 6] rfl ?_
        exact t_X5_odds_b86 hE ih _ _ _ _ _ _ _ _ _ H
def f_X5_odds (r0 : Nat) (x1 : Int32) (x2 : Int32) (x3 : Int32) (h : mH) : Option (Int32 × mH) := (pF [4] 0 (.int (0 : Int32)) h r0).bind fun h1 => if gC h1 r0 = 4 then bR (f_X5_isPerson r0 x1 h1) fun a2 g2 => if a2 = 0 then some ((-1 : Int32), g2) else bR (f_X5_isIn x2 (1 : Int32) (30 : Int32) g2) fun a4 g4 => if a4 = 0 then some ((-1 : Int32), g4) else if gC g4 r0 = 4 then bR (f_X5_tries r0  g4) fun a6 g6 => (gFr [4] 6 g6 r0).bind fun v7 => (aI .int g6 v7 ((136 : Int32) + x1)).bind fun v8 => f_X5_odds_L47  xFu r0 x1 x2 x3 v8 (0 : Int32) (0 : Int32) g6 else none else none
theorem t_X5_odds {G : xG} (C0 : xC) {l : Launch} {r0 : Nat} {x1 : Int32} {x2 : Int32} {x3 : Int32} (h : mH) {o : Int32 × mH} (H : f_X5_odds r0 x1 x2 x3 h = some o) : XR G l mi_X5_odds [.ref r0, .int x1, .int x2, .int x3] h (some (.int o.1)) o.2 := by
  refine XR.of C0 (by decide) (Nat.le_of_ble_eq_true rfl) (fun C _ _ _ hE => ?_)
  show X G C mi_X5_odds 0 [(0, .ref r0), (1, .int x1), (2, .int x2), (3, .int x3)] [] h
  unfold f_X5_odds at H
  refine x_aload_n 0 rfl dX5_odds_0 ?_
  refine x_iconst (0 : Int32) dX5_odds_1 ic_0 ?_
  obtain ⟨h1, e1, H⟩ := ob H
  refine x_putf (fp_X5_1 _) rfl rfl e1 dX5_odds_2 ?_
  refine x_aload_n 0 rfl dX5_odds_5 ?_
  refine x_iload_n 1 rfl dX5_odds_6 ?_
  obtain ⟨c2, H⟩ := oit H
  obtain ⟨a2, g2, e2, H⟩ := obR H
  refine x_callV (M' := mi_X5_isPerson) (n := 1) (As := [.int x1]) (t_X5_isPerson C _ e2) c2 rfl rfl md_X5_isPerson ⟨Nat.le_of_ble_eq_true rfl, Nat.le_of_ble_eq_true rfl⟩ q2200 q2202 qs72 q131 q2203 rfl (Nat.le_of_ble_eq_true rfl) dX5_odds_7 ?_
  refine x_if_eq 23 dX5_odds_10 (by decide) (fun c3 => ?_) (fun c3 => ?_)
  · rw [if_pos c3] at H
    refine x_iconst (-1 : Int32) dX5_odds_23 ic_m1 ?_
    obtain rfl := Option.some.inj H
    exact x_iret hE rfl rfl dX5_odds_24
  · rw [if_neg c3] at H
    refine x_iload_n 2 rfl dX5_odds_13 ?_
    refine x_iconst (1 : Int32) dX5_odds_14 ic_1 ?_
    refine x_bipush (30 : Int32) dX5_odds_15 bi_30 ?_
    obtain ⟨a4, g4, e4, H⟩ := obR H
    refine x_callS (M' := mi_X5_isIn) (n := 3) (As := [.int x2, .int (1 : Int32), .int (30 : Int32)]) (t_X5_isIn C _ e4) md_X5_isIn ⟨Nat.le_of_ble_eq_true rfl, Nat.le_of_ble_eq_true rfl⟩ q2150 q2151 q131 q2152 rfl (Nat.le_of_ble_eq_true rfl) dX5_odds_17 ?_
    refine x_if_ne 25 dX5_odds_20 (by decide) (fun c5 => ?_) (fun c5 => ?_)
    · rw [if_neg c5] at H
      refine x_aload_n 0 rfl dX5_odds_25 ?_
      obtain ⟨c6, H⟩ := oit H
      obtain ⟨a6, g6, e6, H⟩ := obR H
      refine x_callV (M' := mi_X5_tries) (n := 0) (As := []) (t_X5_tries C _ e6) c6 rfl rfl md_X5_tries ⟨Nat.le_of_ble_eq_true rfl, Nat.le_of_ble_eq_true rfl⟩ q2445 q2447 qs106 q131 q2448 rfl (Nat.le_of_ble_eq_true rfl) dX5_odds_26 ?_
      refine x_aload_n 0 rfl dX5_odds_29 ?_
      obtain ⟨v7, e7, H⟩ := ob H
      refine x_getf fg_X5_33 (gFr_spec e7) dX5_odds_30 ?_
      refine x_sipush (136 : Int32) dX5_odds_33 si_136 ?_
      refine x_iload_n 1 rfl dX5_odds_36 ?_
      refine x_iadd dX5_odds_37 ?_
      obtain ⟨v8, e8, H⟩ := ob H
      refine x_iald e8 dX5_odds_38 ?_
      refine x_istore [1, 2, 3, 4, 0] dX5_odds_39 (by decide) rfl ?_
      refine x_iconst (0 : Int32) dX5_odds_41 ic_0 ?_
      refine x_istore [1, 2, 3, 4, 5, 0] dX5_odds_42 (by decide) rfl ?_
      refine x_iconst (0 : Int32) dX5_odds_44 ic_0 ?_
      refine x_istore [1, 2, 3, 4, 5, 6, 0] dX5_odds_45 (by decide) rfl ?_
      exact t_X5_odds_L47 hE  xFu _ _ _ _ _ _ _ _ H
    · rw [if_pos c5] at H
      refine x_iconst (-1 : Int32) dX5_odds_23 ic_m1 ?_
      obtain rfl := Option.some.inj H
      exact x_iret hE rfl rfl dX5_odds_24
abbrev mi_X5_operand : xM := (cX5_operand, yX5_operand, 5, some .boolean, 3)
theorem md_X5_operand : xMD mi_X5_operand 0 := ⟨by decide, by decide, by decide +kernel⟩
def f_X5_operand_b56 (r0 : Nat) (h : mH) : Option (Int32 × mH) := if gC h r0 = 4 then bR (f_X5_bad r0 (4 : Int32) h) fun a7 g7 => rZ a7 g7 else none
theorem t_X5_operand_b56 {G : xG} {C : xC} {o : Int32 × mH} (hE : xEnd G C (some (.int o.1)) o.2) (r0 : Nat) (h : mH) (H : f_X5_operand_b56 r0 h = some o) : X G C mi_X5_operand 56 [(0, .ref r0)] [] h := by
  unfold f_X5_operand_b56 at H
  refine x_aload_n 0 rfl dX5_operand_56 ?_
  refine x_iconst (4 : Int32) dX5_operand_57 ic_4 ?_
  obtain ⟨c7, H⟩ := oit H
  obtain ⟨a7, g7, e7, H⟩ := obR H
  refine x_callV (M' := mi_X5_bad) (n := 1) (As := [.int (4 : Int32)]) (t_X5_bad C _ e7) c7 rfl rfl md_X5_bad ⟨Nat.le_of_ble_eq_true rfl, Nat.le_of_ble_eq_true rfl⟩ q2126 q2128 qs57 q131 q2129 rfl (Nat.le_of_ble_eq_true rfl) dX5_operand_58 ?_
  obtain ⟨c, rfl⟩ := rZ_spec H
  exact x_iret hE rfl c dX5_operand_61
def f_X5_operand_b103 (r0 : Nat) (s0 : Nat) (s1 : Int32) (s2 : Int32) (h : mH) : Option (Int32 × mH) := (sI .int h s0 s1 s2).bind fun h17 => (gFi [4] 45 h17 r0).bind fun v18 => (pF [4] 45 (.int (v18 + (1 : Int32))) h17 r0).bind fun h19 => (gFi [4] 46 h19 r0).bind fun v20 => (pF [4] 46 (.int (v20 + (1 : Int32))) h19 r0).bind fun h21 => some ((1 : Int32), h21)
theorem t_X5_operand_b103 {G : xG} {C : xC} {o : Int32 × mH} (hE : xEnd G C (some (.int o.1)) o.2) (r0 : Nat) (s0 : Nat) (s1 : Int32) (s2 : Int32) (h : mH) (H : f_X5_operand_b103 r0 s0 s1 s2 h = some o) : X G C mi_X5_operand 103 [(0, .ref r0)] [.int s2, .int s1, .ref s0] h := by
  unfold f_X5_operand_b103 at H
  obtain ⟨h17, e17, H⟩ := ob H
  refine x_iast e17 dX5_operand_103 ?_
  refine x_aload_n 0 rfl dX5_operand_104 ?_
  refine x_dup dX5_operand_105 rfl ?_
  obtain ⟨v18, e18, H⟩ := ob H
  refine x_getf fg_X5_434 (gFi_spec e18) dX5_operand_106 ?_
  refine x_iconst (1 : Int32) dX5_operand_109 ic_1 ?_
  refine x_iadd dX5_operand_110 ?_
  obtain ⟨h19, e19, H⟩ := ob H
  refine x_putf (fp_X5_434 _) rfl rfl e19 dX5_operand_111 ?_
  refine x_aload_n 0 rfl dX5_operand_114 ?_
  refine x_dup dX5_operand_115 rfl ?_
  obtain ⟨v20, e20, H⟩ := ob H
  refine x_getf fg_X5_440 (gFi_spec e20) dX5_operand_116 ?_
  refine x_iconst (1 : Int32) dX5_operand_119 ic_1 ?_
  refine x_iadd dX5_operand_120 ?_
  obtain ⟨h21, e21, H⟩ := ob H
  refine x_putf (fp_X5_440 _) rfl rfl e21 dX5_operand_121 ?_
  refine x_iconst (1 : Int32) dX5_operand_124 ic_1 ?_
  obtain rfl := Option.some.inj H
  exact x_iret hE rfl rfl dX5_operand_125
def f_X5_operand_b84 (r0 : Nat) (x1 : Int32) (h : mH) : Option (Int32 × mH) := (gFr [4] 42 h r0).bind fun v14 => (gFi [4] 45 h r0).bind fun v15 => if x1 = 0 then f_X5_operand_b103 r0 v14 v15 (23 : Int32) h else f_X5_operand_b103 r0 v14 v15 (20 : Int32) h
theorem t_X5_operand_b84 {G : xG} {C : xC} {o : Int32 × mH} (hE : xEnd G C (some (.int o.1)) o.2) (r0 : Nat) (x1 : Int32) (h : mH) (H : f_X5_operand_b84 r0 x1 h = some o) : X G C mi_X5_operand 84 [(0, .ref r0), (1, .int x1)] [] h := by
  unfold f_X5_operand_b84 at H
  refine x_aload_n 0 rfl dX5_operand_84 ?_
  obtain ⟨v14, e14, H⟩ := ob H
  refine x_getf fg_X5_80 (gFr_spec e14) dX5_operand_85 ?_
  refine x_aload_n 0 rfl dX5_operand_88 ?_
  obtain ⟨v15, e15, H⟩ := ob H
  refine x_getf fg_X5_434 (gFi_spec e15) dX5_operand_89 ?_
  refine x_iload_n 1 rfl dX5_operand_92 ?_
  refine x_if_eq 101 dX5_operand_93 (by decide) (fun c16 => ?_) (fun c16 => ?_)
  · rw [if_pos c16] at H
    refine x_bipush (23 : Int32) dX5_operand_101 bi_23 ?_
    refine X.sub [0] rfl ?_
    exact t_X5_operand_b103 hE _ _ _ _ _ H
  · rw [if_neg c16] at H
    refine x_bipush (20 : Int32) dX5_operand_96 bi_20 ?_
    refine x_goto (tgt := 103) dX5_operand_98 (by decide) ?_
    refine X.sub [0] rfl ?_
    exact t_X5_operand_b103 hE _ _ _ _ _ H
def f_X5_operand_b233 (r0 : Nat) (h : mH) : Option (Int32 × mH) := if gC h r0 = 4 then bR (f_X5_bad r0 (1 : Int32) h) fun a28 g28 => rZ a28 g28 else none
theorem t_X5_operand_b233 {G : xG} {C : xC} {o : Int32 × mH} (hE : xEnd G C (some (.int o.1)) o.2) (r0 : Nat) (h : mH) (H : f_X5_operand_b233 r0 h = some o) : X G C mi_X5_operand 233 [(0, .ref r0)] [] h := by
  unfold f_X5_operand_b233 at H
  refine x_aload_n 0 rfl dX5_operand_233 ?_
  refine x_iconst (1 : Int32) dX5_operand_234 ic_1 ?_
  obtain ⟨c28, H⟩ := oit H
  obtain ⟨a28, g28, e28, H⟩ := obR H
  refine x_callV (M' := mi_X5_bad) (n := 1) (As := [.int (1 : Int32)]) (t_X5_bad C _ e28) c28 rfl rfl md_X5_bad ⟨Nat.le_of_ble_eq_true rfl, Nat.le_of_ble_eq_true rfl⟩ q2126 q2128 qs57 q131 q2129 rfl (Nat.le_of_ble_eq_true rfl) dX5_operand_235 ?_
  obtain ⟨c, rfl⟩ := rZ_spec H
  exact x_iret hE rfl c dX5_operand_238
def f_X5_operand_b182 (r0 : Nat) (x3 : Int32) (s0 : Int32) (h : mH) : Option (Int32 × mH) := if s0 = 0 then some ((0 : Int32), h) else (gFi [4] 18 h r0).bind fun v46 => if gC h r0 = 4 then bR (f_X5_code r0 x3 (0 : Int32) v46 h) fun a47 g47 => if gC g47 r0 = 4 then bR (f_X5_next r0  g47) fun a48 g48 => some ((1 : Int32), g48) else none else none
theorem t_X5_operand_b182 {G : xG} {C : xC} {o : Int32 × mH} (hE : xEnd G C (some (.int o.1)) o.2) (r0 : Nat) (x3 : Int32) (s0 : Int32) (h : mH) (H : f_X5_operand_b182 r0 x3 s0 h = some o) : X G C mi_X5_operand 182 [(0, .ref r0), (3, .int x3)] [.int s0] h := by
  unfold f_X5_operand_b182 at H
  refine x_istore [1, 2, 0] dX5_operand_182 (by decide) rfl ?_
  refine x_iload 2 rfl dX5_operand_184 ?_
  refine x_if_ne 191 dX5_operand_186 (by decide) (fun c45 => ?_) (fun c45 => ?_)
  · rw [if_neg c45] at H
    refine x_aload_n 0 rfl dX5_operand_191 ?_
    refine x_iload_n 1 rfl dX5_operand_192 ?_
    refine x_iconst (0 : Int32) dX5_operand_193 ic_0 ?_
    refine x_aload_n 0 rfl dX5_operand_194 ?_
    obtain ⟨v46, e46, H⟩ := ob H
    refine x_getf fg_X5_193 (gFi_spec e46) dX5_operand_195 ?_
    obtain ⟨c47, H⟩ := oit H
    obtain ⟨a47, g47, e47, H⟩ := obR H
    refine x_callV (M' := mi_X5_code) (n := 3) (As := [.int x3, .int (0 : Int32), .int v46]) (t_X5_code C _ e47) c47 rfl rfl md_X5_code ⟨Nat.le_of_ble_eq_true rfl, Nat.le_of_ble_eq_true rfl⟩ q2477 q2479 qs111 q131 q2480 rfl (Nat.le_of_ble_eq_true rfl) dX5_operand_198 ?_
    refine x_aload_n 0 rfl dX5_operand_201 ?_
    obtain ⟨c48, H⟩ := oit H
    obtain ⟨a48, g48, e48, H⟩ := obR H
    refine x_callV (M' := mi_X5_next) (n := 0) (As := []) (t_X5_next C _ e48) c48 rfl rfl md_X5_next ⟨Nat.le_of_ble_eq_true rfl, Nat.le_of_ble_eq_true rfl⟩ q2100 q2102 qs52 q131 q2103 rfl (Nat.le_of_ble_eq_true rfl) dX5_operand_202 ?_
    refine x_iconst (1 : Int32) dX5_operand_205 ic_1 ?_
    obtain rfl := Option.some.inj H
    exact x_iret hE rfl rfl dX5_operand_206
  · rw [if_pos c45] at H
    refine x_iconst (0 : Int32) dX5_operand_189 ic_0 ?_
    obtain rfl := Option.some.inj H
    exact x_iret hE rfl rfl dX5_operand_190
def f_X5_operand_b38 (r0 : Nat) (x1 : Int32) (x2 : Int32) (x3 : Int32) (h : mH) : Option (Int32 × mH) := (gFi [4] 44 h r0).bind fun v5 => if v5 = (20 : Int32) then f_X5_operand_b56 r0 h else (gFi [4] 46 h r0).bind fun v8 => if v8 ≤ (8 : Int32) then (gFi [4] 44 h r0).bind fun v10 => (pF [4] 44 (.int (v10 + (1 : Int32))) h r0).bind fun h11 => if gC h11 r0 = 4 then bR (f_X5_next r0  h11) fun a12 g12 => if x1 = 0 then if x2 = 0 then (pF [4] 47 (.int (1 : Int32)) g12 r0).bind fun h23 => if (4 : Int32) ≤ x3 then if (6 : Int32) ≤ x3 then (gFi [4] 11 h23 r0).bind fun v26 => if v26 = (3 : Int32) then (gFi [4] 14 h23 r0).bind fun v29 => if v29 < (60 : Int32) then f_X5_operand_b233 r0 h23 else (gFi [4] 14 h23 r0).bind fun v31 => if v31 ≤ (62 : Int32) then (gFi [4] 14 h23 r0).bind fun v33 => if gC h23 r0 = 4 then bR (f_X5_next r0  h23) fun a34 g34 => (gFi [4] 11 g34 r0).bind fun v35 => if v35 = (2 : Int32) then (gFi [4] 14 g34 r0).bind fun v37 => if gC g34 r0 = 4 then bR (f_X5_code r0 x3 v33 v37 g34) fun a38 g38 => if gC g38 r0 = 4 then bR (f_X5_next r0  g38) fun a39 g39 => some ((1 : Int32), g39) else none else none else if gC g34 r0 = 4 then bR (f_X5_bad r0 (1 : Int32) g34) fun a40 g40 => rZ a40 g40 else none else none else f_X5_operand_b233 r0 h23 else f_X5_operand_b233 r0 h23 else if x3 = (4 : Int32) then (gFr [4] 6 h23 r0).bind fun v49 => (aI .int h23 v49 (0 : Int32)).bind fun v50 => if gC h23 r0 = 4 then bR (f_X5_looksAt r0 (0 : Int32) v50 h23) fun a51 g51 => f_X5_operand_b182 r0 x3 a51 g51 else none else (gFr [4] 6 h23 r0).bind fun v42 => (aI .int h23 v42 (1 : Int32)).bind fun v43 => if gC h23 r0 = 4 then bR (f_X5_looksAt r0 (7 : Int32) v43 h23) fun a44 g44 => f_X5_operand_b182 r0 x3 a44 g44 else none else if gC h23 r0 = 4 then bR (f_X5_code r0 x3 (0 : Int32) (0 : Int32) h23) fun a52 g52 => some ((1 : Int32), g52) else none else f_X5_operand_b84 r0 x1 g12 else f_X5_operand_b84 r0 x1 g12 else none else f_X5_operand_b56 r0 h
theorem t_X5_operand_b38 {G : xG} {C : xC} {o : Int32 × mH} (hE : xEnd G C (some (.int o.1)) o.2) (r0 : Nat) (x1 : Int32) (x2 : Int32) (x3 : Int32) (h : mH) (H : f_X5_operand_b38 r0 x1 x2 x3 h = some o) : X G C mi_X5_operand 38 [(0, .ref r0), (1, .int x1), (2, .int x2), (3, .int x3)] [] h := by
  unfold f_X5_operand_b38 at H
  refine x_aload_n 0 rfl dX5_operand_38 ?_
  obtain ⟨v5, e5, H⟩ := ob H
  refine x_getf fg_X5_446 (gFi_spec e5) dX5_operand_39 ?_
  refine x_bipush (20 : Int32) dX5_operand_42 bi_20 ?_
  refine x_icmp_eq 56 dX5_operand_44 (by decide) (fun c6 => ?_) (fun c6 => ?_)
  · rw [if_pos c6] at H
    refine X.sub [0] rfl ?_
    exact t_X5_operand_b56 hE _ _ H
  · rw [if_neg c6] at H
    refine x_aload_n 0 rfl dX5_operand_47 ?_
    obtain ⟨v8, e8, H⟩ := ob H
    refine x_getf fg_X5_440 (gFi_spec e8) dX5_operand_48 ?_
    refine x_bipush (8 : Int32) dX5_operand_51 bi_8 ?_
    refine x_icmp_le 62 dX5_operand_53 (by decide) (fun c9 => ?_) (fun c9 => ?_)
    · rw [if_pos c9] at H
      refine x_aload_n 0 rfl dX5_operand_62 ?_
      refine x_dup dX5_operand_63 rfl ?_
      obtain ⟨v10, e10, H⟩ := ob H
      refine x_getf fg_X5_446 (gFi_spec e10) dX5_operand_64 ?_
      refine x_iconst (1 : Int32) dX5_operand_67 ic_1 ?_
      refine x_iadd dX5_operand_68 ?_
      obtain ⟨h11, e11, H⟩ := ob H
      refine x_putf (fp_X5_446 _) rfl rfl e11 dX5_operand_69 ?_
      refine x_aload_n 0 rfl dX5_operand_72 ?_
      obtain ⟨c12, H⟩ := oit H
      obtain ⟨a12, g12, e12, H⟩ := obR H
      refine x_callV (M' := mi_X5_next) (n := 0) (As := []) (t_X5_next C _ e12) c12 rfl rfl md_X5_next ⟨Nat.le_of_ble_eq_true rfl, Nat.le_of_ble_eq_true rfl⟩ q2100 q2102 qs52 q131 q2103 rfl (Nat.le_of_ble_eq_true rfl) dX5_operand_73 ?_
      refine x_iload_n 1 rfl dX5_operand_76 ?_
      refine x_if_ne 84 dX5_operand_77 (by decide) (fun c13 => ?_) (fun c13 => ?_)
      · rw [if_neg c13] at H
        refine X.sub [0, 1] rfl ?_
        exact t_X5_operand_b84 hE _ _ _ H
      · rw [if_pos c13] at H
        refine x_iload_n 2 rfl dX5_operand_80 ?_
        refine x_if_eq 126 dX5_operand_81 (by decide) (fun c22 => ?_) (fun c22 => ?_)
        · rw [if_pos c22] at H
          refine x_aload_n 0 rfl dX5_operand_126 ?_
          refine x_iconst (1 : Int32) dX5_operand_127 ic_1 ?_
          obtain ⟨h23, e23, H⟩ := ob H
          refine x_putf (fp_X5_449 _) rfl rfl e23 dX5_operand_128 ?_
          refine x_iload_n 3 rfl dX5_operand_131 ?_
          refine x_iconst (4 : Int32) dX5_operand_132 ic_4 ?_
          refine x_icmp_ge 145 dX5_operand_133 (by decide) (fun c24 => ?_) (fun c24 => ?_)
          · rw [if_pos c24] at H
            refine x_iload_n 3 rfl dX5_operand_145 ?_
            refine x_bipush (6 : Int32) dX5_operand_146 bi_6 ?_
            refine x_icmp_ge 207 dX5_operand_148 (by decide) (fun c25 => ?_) (fun c25 => ?_)
            · rw [if_pos c25] at H
              refine x_aload_n 0 rfl dX5_operand_207 ?_
              obtain ⟨v26, e26, H⟩ := ob H
              refine x_getf fg_X5_157 (gFi_spec e26) dX5_operand_208 ?_
              refine x_iconst (3 : Int32) dX5_operand_211 ic_3 ?_
              refine x_icmp_ne 233 dX5_operand_212 (by decide) (fun c27 => ?_) (fun c27 => ?_)
              · rw [if_neg c27] at H
                refine X.sub [0] rfl ?_
                exact t_X5_operand_b233 hE _ _ H
              · rw [if_pos c27] at H
                refine x_aload_n 0 rfl dX5_operand_215 ?_
                obtain ⟨v29, e29, H⟩ := ob H
                refine x_getf fg_X5_167 (gFi_spec e29) dX5_operand_216 ?_
                refine x_bipush (60 : Int32) dX5_operand_219 bi_60 ?_
                refine x_icmp_lt 233 dX5_operand_221 (by decide) (fun c30 => ?_) (fun c30 => ?_)
                · rw [if_pos c30] at H
                  refine X.sub [0] rfl ?_
                  exact t_X5_operand_b233 hE _ _ H
                · rw [if_neg c30] at H
                  refine x_aload_n 0 rfl dX5_operand_224 ?_
                  obtain ⟨v31, e31, H⟩ := ob H
                  refine x_getf fg_X5_167 (gFi_spec e31) dX5_operand_225 ?_
                  refine x_bipush (62 : Int32) dX5_operand_228 bi_62 ?_
                  refine x_icmp_le 239 dX5_operand_230 (by decide) (fun c32 => ?_) (fun c32 => ?_)
                  · rw [if_pos c32] at H
                    refine x_aload_n 0 rfl dX5_operand_239 ?_
                    obtain ⟨v33, e33, H⟩ := ob H
                    refine x_getf fg_X5_167 (gFi_spec e33) dX5_operand_240 ?_
                    refine x_istore [1, 2, 3, 4, 0] dX5_operand_243 (by decide) rfl ?_
                    refine x_aload_n 0 rfl dX5_operand_245 ?_
                    obtain ⟨c34, H⟩ := oit H
                    obtain ⟨a34, g34, e34, H⟩ := obR H
                    refine x_callV (M' := mi_X5_next) (n := 0) (As := []) (t_X5_next C _ e34) c34 rfl rfl md_X5_next ⟨Nat.le_of_ble_eq_true rfl, Nat.le_of_ble_eq_true rfl⟩ q2100 q2102 qs52 q131 q2103 rfl (Nat.le_of_ble_eq_true rfl) dX5_operand_246 ?_
                    refine x_aload_n 0 rfl dX5_operand_249 ?_
                    obtain ⟨v35, e35, H⟩ := ob H
                    refine x_getf fg_X5_157 (gFi_spec e35) dX5_operand_250 ?_
                    refine x_iconst (2 : Int32) dX5_operand_253 ic_2 ?_
                    refine x_icmp_eq 263 dX5_operand_254 (by decide) (fun c36 => ?_) (fun c36 => ?_)
                    · rw [if_pos c36] at H
                      refine x_aload_n 0 rfl dX5_operand_263 ?_
                      refine x_iload_n 3 rfl dX5_operand_264 ?_
                      refine x_iload 4 rfl dX5_operand_265 ?_
                      refine x_aload_n 0 rfl dX5_operand_267 ?_
                      obtain ⟨v37, e37, H⟩ := ob H
                      refine x_getf fg_X5_167 (gFi_spec e37) dX5_operand_268 ?_
                      obtain ⟨c38, H⟩ := oit H
                      obtain ⟨a38, g38, e38, H⟩ := obR H
                      refine x_callV (M' := mi_X5_code) (n := 3) (As := [.int x3, .int v33, .int v37]) (t_X5_code C _ e38) c38 rfl rfl md_X5_code ⟨Nat.le_of_ble_eq_true rfl, Nat.le_of_ble_eq_true rfl⟩ q2477 q2479 qs111 q131 q2480 rfl (Nat.le_of_ble_eq_true rfl) dX5_operand_271 ?_
                      refine x_aload_n 0 rfl dX5_operand_274 ?_
                      obtain ⟨c39, H⟩ := oit H
                      obtain ⟨a39, g39, e39, H⟩ := obR H
                      refine x_callV (M' := mi_X5_next) (n := 0) (As := []) (t_X5_next C _ e39) c39 rfl rfl md_X5_next ⟨Nat.le_of_ble_eq_true rfl, Nat.le_of_ble_eq_true rfl⟩ q2100 q2102 qs52 q131 q2103 rfl (Nat.le_of_ble_eq_true rfl) dX5_operand_275 ?_
                      refine x_iconst (1 : Int32) dX5_operand_278 ic_1 ?_
                      obtain rfl := Option.some.inj H
                      exact x_iret hE rfl rfl dX5_operand_279
                    · rw [if_neg c36] at H
                      refine x_aload_n 0 rfl dX5_operand_257 ?_
                      refine x_iconst (1 : Int32) dX5_operand_258 ic_1 ?_
                      obtain ⟨c40, H⟩ := oit H
                      obtain ⟨a40, g40, e40, H⟩ := obR H
                      refine x_callV (M' := mi_X5_bad) (n := 1) (As := [.int (1 : Int32)]) (t_X5_bad C _ e40) c40 rfl rfl md_X5_bad ⟨Nat.le_of_ble_eq_true rfl, Nat.le_of_ble_eq_true rfl⟩ q2126 q2128 qs57 q131 q2129 rfl (Nat.le_of_ble_eq_true rfl) dX5_operand_259 ?_
                      obtain ⟨c, rfl⟩ := rZ_spec H
                      exact x_iret hE rfl c dX5_operand_262
                  · rw [if_neg c32] at H
                    refine X.sub [0] rfl ?_
                    exact t_X5_operand_b233 hE _ _ H
            · rw [if_neg c25] at H
              refine x_iload_n 3 rfl dX5_operand_151 ?_
              refine x_iconst (4 : Int32) dX5_operand_152 ic_4 ?_
              refine x_icmp_ne 170 dX5_operand_153 (by decide) (fun c41 => ?_) (fun c41 => ?_)
              · rw [if_neg c41] at H
                refine x_aload_n 0 rfl dX5_operand_170 ?_
                refine x_bipush (7 : Int32) dX5_operand_171 bi_7 ?_
                refine x_aload_n 0 rfl dX5_operand_173 ?_
                obtain ⟨v42, e42, H⟩ := ob H
                refine x_getf fg_X5_33 (gFr_spec e42) dX5_operand_174 ?_
                refine x_iconst (1 : Int32) dX5_operand_177 ic_1 ?_
                obtain ⟨v43, e43, H⟩ := ob H
                refine x_iald e43 dX5_operand_178 ?_
                obtain ⟨c44, H⟩ := oit H
                obtain ⟨a44, g44, e44, H⟩ := obR H
                refine x_callV (M' := mi_X5_looksAt) (n := 2) (As := [.int (7 : Int32), .int v43]) (t_X5_looksAt C _ e44) c44 rfl rfl md_X5_looksAt ⟨Nat.le_of_ble_eq_true rfl, Nat.le_of_ble_eq_true rfl⟩ q2165 q2167 qs66 q131 q2168 rfl (Nat.le_of_ble_eq_true rfl) dX5_operand_179 ?_
                refine X.sub [0, 3] rfl ?_
                exact t_X5_operand_b182 hE _ _ _ _ H
              · rw [if_pos c41] at H
                refine x_aload_n 0 rfl dX5_operand_156 ?_
                refine x_iconst (0 : Int32) dX5_operand_157 ic_0 ?_
                refine x_aload_n 0 rfl dX5_operand_158 ?_
                obtain ⟨v49, e49, H⟩ := ob H
                refine x_getf fg_X5_33 (gFr_spec e49) dX5_operand_159 ?_
                refine x_iconst (0 : Int32) dX5_operand_162 ic_0 ?_
                obtain ⟨v50, e50, H⟩ := ob H
                refine x_iald e50 dX5_operand_163 ?_
                obtain ⟨c51, H⟩ := oit H
                obtain ⟨a51, g51, e51, H⟩ := obR H
                refine x_callV (M' := mi_X5_looksAt) (n := 2) (As := [.int (0 : Int32), .int v50]) (t_X5_looksAt C _ e51) c51 rfl rfl md_X5_looksAt ⟨Nat.le_of_ble_eq_true rfl, Nat.le_of_ble_eq_true rfl⟩ q2165 q2167 qs66 q131 q2168 rfl (Nat.le_of_ble_eq_true rfl) dX5_operand_164 ?_
                refine x_goto (tgt := 182) dX5_operand_167 (by decide) ?_
                refine X.sub [0, 3] rfl ?_
                exact t_X5_operand_b182 hE _ _ _ _ H
          · rw [if_neg c24] at H
            refine x_aload_n 0 rfl dX5_operand_136 ?_
            refine x_iload_n 3 rfl dX5_operand_137 ?_
            refine x_iconst (0 : Int32) dX5_operand_138 ic_0 ?_
            refine x_iconst (0 : Int32) dX5_operand_139 ic_0 ?_
            obtain ⟨c52, H⟩ := oit H
            obtain ⟨a52, g52, e52, H⟩ := obR H
            refine x_callV (M' := mi_X5_code) (n := 3) (As := [.int x3, .int (0 : Int32), .int (0 : Int32)]) (t_X5_code C _ e52) c52 rfl rfl md_X5_code ⟨Nat.le_of_ble_eq_true rfl, Nat.le_of_ble_eq_true rfl⟩ q2477 q2479 qs111 q131 q2480 rfl (Nat.le_of_ble_eq_true rfl) dX5_operand_140 ?_
            refine x_iconst (1 : Int32) dX5_operand_143 ic_1 ?_
            obtain rfl := Option.some.inj H
            exact x_iret hE rfl rfl dX5_operand_144
        · rw [if_neg c22] at H
          refine X.sub [0, 1] rfl ?_
          exact t_X5_operand_b84 hE _ _ _ H
    · rw [if_neg c9] at H
      refine X.sub [0] rfl ?_
      exact t_X5_operand_b56 hE _ _ H
def f_X5_operand (r0 : Nat) (h : mH) : Option (Int32 × mH) := if gC h r0 = 4 then bR (f_X5_isWord r0 (7237492 : Int64) h) fun a1 g1 => if gC g1 r0 = 4 then bR (f_X5_isSign r0 (40 : Int32) g1) fun a2 g2 => if gC g2 r0 = 4 then bR (f_X5_leafOf r0  g2) fun a3 g3 => if a1 = 0 then if a2 = 0 then if 0 ≤ a3 then f_X5_operand_b38 r0 a1 a2 a3 g3 else if gC g3 r0 = 4 then bR (f_X5_bad r0 (1 : Int32) g3) fun a55 g55 => rZ a55 g55 else none else f_X5_operand_b38 r0 a1 a2 a3 g3 else f_X5_operand_b38 r0 a1 a2 a3 g3 else none else none else none
theorem t_X5_operand {G : xG} (C0 : xC) {l : Launch} {r0 : Nat} (h : mH) {o : Int32 × mH} (H : f_X5_operand r0 h = some o) : XR G l mi_X5_operand [.ref r0] h (some (.int o.1)) o.2 := by
  refine XR.of C0 (by decide) (Nat.le_of_ble_eq_true rfl) (fun C _ _ _ hE => ?_)
  show X G C mi_X5_operand 0 [(0, .ref r0)] [] h
  unfold f_X5_operand at H
  refine x_aload_n 0 rfl dX5_operand_0 ?_
  refine x_ldc2 q1920 dX5_operand_1 ?_
  obtain ⟨c1, H⟩ := oit H
  obtain ⟨a1, g1, e1, H⟩ := obR H
  refine x_callV (M' := mi_X5_isWord) (n := 1) (As := [.long (7237492 : Int64)]) (t_X5_isWord C _ e1) c1 rfl rfl md_X5_isWord ⟨Nat.le_of_ble_eq_true rfl, Nat.le_of_ble_eq_true rfl⟩ q2118 q2120 qs55 q131 q2121 rfl (Nat.le_of_ble_eq_true rfl) dX5_operand_4 ?_
  refine x_istore_n [1, 0] dX5_operand_7 (by decide) rfl ?_
  refine x_aload_n 0 rfl dX5_operand_8 ?_
  refine x_bipush (40 : Int32) dX5_operand_9 bi_40 ?_
  obtain ⟨c2, H⟩ := oit H
  obtain ⟨a2, g2, e2, H⟩ := obR H
  refine x_callV (M' := mi_X5_isSign) (n := 1) (As := [.int (40 : Int32)]) (t_X5_isSign C _ e2) c2 rfl rfl md_X5_isSign ⟨Nat.le_of_ble_eq_true rfl, Nat.le_of_ble_eq_true rfl⟩ q2184 q2186 qs70 q131 q2187 rfl (Nat.le_of_ble_eq_true rfl) dX5_operand_11 ?_
  refine x_istore_n [1, 2, 0] dX5_operand_14 (by decide) rfl ?_
  refine x_aload_n 0 rfl dX5_operand_15 ?_
  obtain ⟨c3, H⟩ := oit H
  obtain ⟨a3, g3, e3, H⟩ := obR H
  refine x_callV (M' := mi_X5_leafOf) (n := 0) (As := []) (t_X5_leafOf C _ e3) c3 rfl rfl md_X5_leafOf ⟨Nat.le_of_ble_eq_true rfl, Nat.le_of_ble_eq_true rfl⟩ q2493 q2495 qs115 q131 q2496 rfl (Nat.le_of_ble_eq_true rfl) dX5_operand_16 ?_
  refine x_istore_n [1, 2, 3, 0] dX5_operand_19 (by decide) rfl ?_
  refine x_iload_n 1 rfl dX5_operand_20 ?_
  refine x_if_ne 38 dX5_operand_21 (by decide) (fun c4 => ?_) (fun c4 => ?_)
  · rw [if_neg c4] at H
    exact t_X5_operand_b38 hE _ _ _ _ _ H
  · rw [if_pos c4] at H
    refine x_iload_n 2 rfl dX5_operand_24 ?_
    refine x_if_ne 38 dX5_operand_25 (by decide) (fun c53 => ?_) (fun c53 => ?_)
    · rw [if_neg c53] at H
      exact t_X5_operand_b38 hE _ _ _ _ _ H
    · rw [if_pos c53] at H
      refine x_iload_n 3 rfl dX5_operand_28 ?_
      refine x_if_ge 38 dX5_operand_29 (by decide) (fun c54 => ?_) (fun c54 => ?_)
      · rw [if_pos c54] at H
        exact t_X5_operand_b38 hE _ _ _ _ _ H
      · rw [if_neg c54] at H
        refine x_aload_n 0 rfl dX5_operand_32 ?_
        refine x_iconst (1 : Int32) dX5_operand_33 ic_1 ?_
        obtain ⟨c55, H⟩ := oit H
        obtain ⟨a55, g55, e55, H⟩ := obR H
        refine x_callV (M' := mi_X5_bad) (n := 1) (As := [.int (1 : Int32)]) (t_X5_bad C _ e55) c55 rfl rfl md_X5_bad ⟨Nat.le_of_ble_eq_true rfl, Nat.le_of_ble_eq_true rfl⟩ q2126 q2128 qs57 q131 q2129 rfl (Nat.le_of_ble_eq_true rfl) dX5_operand_34 ?_
        obtain ⟨c, rfl⟩ := rZ_spec H
        exact x_iret hE rfl c dX5_operand_37
abbrev mi_X5_out : xM := (cX5_out, yX5_out, 6, some .int, 3)
theorem md_X5_out : xMD mi_X5_out 1 := ⟨by decide, by decide, by decide +kernel⟩
def f_X5_out_L33 : Nat → Nat → Int32 → Int32 → Int32 → mH → Option (Int32 × mH)
  | 0, _, _, _, _, _ => none
  | n + 1, r0, x2, x3, x4, h => if x3 = x2 then some (x4, h) else if gC h r0 = 4 then bR (f_X5_tolds r0 x3 (0 : Int32) h) fun a7 g7 => if a7 = x3 then some ((-1 : Int32), g7) else (f_X5_out_L33 n) r0 x2 a7 (x4 + (1 : Int32)) g7 else none
theorem t_X5_out_L33 {G : xG} {C : xC} {o : Int32 × mH} (hE : xEnd G C (some (.int o.1)) o.2) : ∀ (n : Nat) (r0 : Nat) (x2 : Int32) (x3 : Int32) (x4 : Int32) (h : mH), f_X5_out_L33 n r0 x2 x3 x4 h = some o → X G C mi_X5_out 33 [(0, .ref r0), (2, .int x2), (3, .int x3), (4, .int x4)] [] h := by
  intro n
  induction n with
  | zero => intro r0 x2 x3 x4 h H; exact nomatch (show (none : Option (Int32 × mH)) = some o from H)
  | succ n ih =>
    intro r0 x2 x3 x4 h H
    rw [f_X5_out_L33] at H
    refine x_iload_n 2 rfl dX5_out_33 ?_
    refine x_iload_n 1 rfl dX5_out_34 ?_
    refine x_icmp_eq 63 dX5_out_35 (by decide) (fun c6 => ?_) (fun c6 => ?_)
    · rw [if_pos c6] at H
      refine x_iload 3 rfl dX5_out_63 ?_
      obtain rfl := Option.some.inj H
      exact x_iret hE rfl rfl dX5_out_65
    · rw [if_neg c6] at H
      refine x_aload_n 0 rfl dX5_out_38 ?_
      refine x_iload_n 2 rfl dX5_out_39 ?_
      refine x_iconst (0 : Int32) dX5_out_40 ic_0 ?_
      obtain ⟨c7, H⟩ := oit H
      obtain ⟨a7, g7, e7, H⟩ := obR H
      refine x_callV (M' := mi_X5_tolds) (n := 2) (As := [.int x3, .int (0 : Int32)]) (t_X5_tolds C _ e7) c7 rfl rfl md_X5_tolds ⟨Nat.le_of_ble_eq_true rfl, Nat.le_of_ble_eq_true rfl⟩ q2382 q2384 qs98 q131 q2385 rfl (Nat.le_of_ble_eq_true rfl) dX5_out_41 ?_
      refine x_istore [1, 2, 3, 4, 0] dX5_out_44 (by decide) rfl ?_
      refine x_iload 4 rfl dX5_out_46 ?_
      refine x_iload_n 2 rfl dX5_out_48 ?_
      refine x_icmp_ne 54 dX5_out_49 (by decide) (fun c8 => ?_) (fun c8 => ?_)
      · rw [if_neg c8] at H
        refine x_iload 4 rfl dX5_out_54 ?_
        refine x_istore_n [1, 2, 0, 3, 4] dX5_out_56 (by decide) rfl ?_
        refine x_iinc 3 (x4 + (1 : Int32)) [1, 2, 3, 0, 4] dX5_out_57 rfl (ii_1 _) (by decide) rfl ?_
        refine x_goto (tgt := 33) dX5_out_60 (by decide) ?_
        refine X.sub [0, 1, 2, 3] rfl ?_
        exact ih _ _ _ _ _ H
      · rw [if_pos c8] at H
        refine x_iconst (-1 : Int32) dX5_out_52 ic_m1 ?_
        obtain rfl := Option.some.inj H
        exact x_iret hE rfl rfl dX5_out_53
def f_X5_out (r0 : Nat) (x1 : Int32) (h : mH) : Option (Int32 × mH) := (pF [4] 0 (.int (0 : Int32)) h r0).bind fun h1 => if gC h1 r0 = 4 then bR (f_X5_isPerson r0 x1 h1) fun a2 g2 => if a2 = 0 then some ((-1 : Int32), g2) else (gFr [4] 6 g2 r0).bind fun v4 => (aI .int g2 v4 (0 : Int32)).bind fun v5 => f_X5_out_L33  xFu r0 (((1 : Int32) <<< (v5 &&& 31)) - (1 : Int32)) ((1 : Int32) <<< (x1 &&& 31)) (0 : Int32) g2 else none
theorem t_X5_out {G : xG} (C0 : xC) {l : Launch} {r0 : Nat} {x1 : Int32} (h : mH) {o : Int32 × mH} (H : f_X5_out r0 x1 h = some o) : XR G l mi_X5_out [.ref r0, .int x1] h (some (.int o.1)) o.2 := by
  refine XR.of C0 (by decide) (Nat.le_of_ble_eq_true rfl) (fun C _ _ _ hE => ?_)
  show X G C mi_X5_out 0 [(0, .ref r0), (1, .int x1)] [] h
  unfold f_X5_out at H
  refine x_aload_n 0 rfl dX5_out_0 ?_
  refine x_iconst (0 : Int32) dX5_out_1 ic_0 ?_
  obtain ⟨h1, e1, H⟩ := ob H
  refine x_putf (fp_X5_1 _) rfl rfl e1 dX5_out_2 ?_
  refine x_aload_n 0 rfl dX5_out_5 ?_
  refine x_iload_n 1 rfl dX5_out_6 ?_
  obtain ⟨c2, H⟩ := oit H
  obtain ⟨a2, g2, e2, H⟩ := obR H
  refine x_callV (M' := mi_X5_isPerson) (n := 1) (As := [.int x1]) (t_X5_isPerson C _ e2) c2 rfl rfl md_X5_isPerson ⟨Nat.le_of_ble_eq_true rfl, Nat.le_of_ble_eq_true rfl⟩ q2200 q2202 qs72 q131 q2203 rfl (Nat.le_of_ble_eq_true rfl) dX5_out_7 ?_
  refine x_if_ne 15 dX5_out_10 (by decide) (fun c3 => ?_) (fun c3 => ?_)
  · rw [if_neg c3] at H
    refine x_iconst (1 : Int32) dX5_out_15 ic_1 ?_
    refine x_aload_n 0 rfl dX5_out_16 ?_
    obtain ⟨v4, e4, H⟩ := ob H
    refine x_getf fg_X5_33 (gFr_spec e4) dX5_out_17 ?_
    refine x_iconst (0 : Int32) dX5_out_20 ic_0 ?_
    obtain ⟨v5, e5, H⟩ := ob H
    refine x_iald e5 dX5_out_21 ?_
    refine x_ishl dX5_out_22 ?_
    refine x_iconst (1 : Int32) dX5_out_23 ic_1 ?_
    refine x_isub dX5_out_24 ?_
    refine x_istore_n [1, 2, 0] dX5_out_25 (by decide) rfl ?_
    refine x_iconst (1 : Int32) dX5_out_26 ic_1 ?_
    refine x_iload_n 1 rfl dX5_out_27 ?_
    refine x_ishl dX5_out_28 ?_
    refine x_istore_n [1, 2, 3, 0] dX5_out_29 (by decide) rfl ?_
    refine x_iconst (0 : Int32) dX5_out_30 ic_0 ?_
    refine x_istore [1, 2, 3, 4, 0] dX5_out_31 (by decide) rfl ?_
    refine X.sub [0, 2, 3, 4] rfl ?_
    exact t_X5_out_L33 hE  xFu _ _ _ _ _ H
  · rw [if_pos c3] at H
    refine x_iconst (-1 : Int32) dX5_out_13 ic_m1 ?_
    obtain rfl := Option.some.inj H
    exact x_iret hE rfl rfl dX5_out_14
abbrev mi_X5_parting : xM := (cX5_parting, yX5_parting, 1, some .int, 1)
theorem md_X5_parting : xMD mi_X5_parting 0 := ⟨by decide, by decide, by decide +kernel⟩
def f_X5_parting (r0 : Nat) (h : mH) : Option (Int32 × mH) := (pF [4] 0 (.int (0 : Int32)) h r0).bind fun h1 => (gFi [4] 35 h1 r0).bind fun v2 => if v2 = 0 then some ((-1 : Int32), h1) else (gFi [4] 34 h1 r0).bind fun v4 => some (v4, h1)
theorem t_X5_parting {G : xG} (C0 : xC) {l : Launch} {r0 : Nat} (h : mH) {o : Int32 × mH} (H : f_X5_parting r0 h = some o) : XR G l mi_X5_parting [.ref r0] h (some (.int o.1)) o.2 := by
  refine XR.of C0 (by decide) (Nat.le_of_ble_eq_true rfl) (fun C _ _ _ hE => ?_)
  show X G C mi_X5_parting 0 [(0, .ref r0)] [] h
  unfold f_X5_parting at H
  refine x_aload_n 0 rfl dX5_parting_0 ?_
  refine x_iconst (0 : Int32) dX5_parting_1 ic_0 ?_
  obtain ⟨h1, e1, H⟩ := ob H
  refine x_putf (fp_X5_1 _) rfl rfl e1 dX5_parting_2 ?_
  refine x_aload_n 0 rfl dX5_parting_5 ?_
  obtain ⟨v2, e2, H⟩ := ob H
  refine x_getf fg_X5_376 (gFi_spec e2) dX5_parting_6 ?_
  refine x_if_eq 19 dX5_parting_9 (by decide) (fun c3 => ?_) (fun c3 => ?_)
  · rw [if_pos c3] at H
    refine x_iconst (-1 : Int32) dX5_parting_19 ic_m1 ?_
    obtain rfl := Option.some.inj H
    exact x_iret hE rfl rfl dX5_parting_20
  · rw [if_neg c3] at H
    refine x_aload_n 0 rfl dX5_parting_12 ?_
    obtain ⟨v4, e4, H⟩ := ob H
    refine x_getf fg_X5_379 (gFi_spec e4) dX5_parting_13 ?_
    refine x_goto (tgt := 20) dX5_parting_16 (by decide) ?_
    obtain rfl := Option.some.inj H
    exact x_iret hE rfl rfl dX5_parting_20
abbrev mi_X5_throwsIf : xM := (cX5_throwsIf, yX5_throwsIf, 2, some .boolean, 1)
theorem md_X5_throwsIf : xMD mi_X5_throwsIf 1 := ⟨by decide, by decide, by decide +kernel⟩
def f_X5_throwsIf_b10 (x1 : Int32) (s0 : Nat) (s1 : Int32) (h : mH) : Option (Int32 × mH) := (pF [4] 0 (.int s1) h s0).bind fun h2 => rZ x1 h2
theorem t_X5_throwsIf_b10 {G : xG} {C : xC} {o : Int32 × mH} (hE : xEnd G C (some (.int o.1)) o.2) (x1 : Int32) (s0 : Nat) (s1 : Int32) (h : mH) (H : f_X5_throwsIf_b10 x1 s0 s1 h = some o) : X G C mi_X5_throwsIf 10 [(1, .int x1)] [.int s1, .ref s0] h := by
  unfold f_X5_throwsIf_b10 at H
  obtain ⟨h2, e2, H⟩ := ob H
  refine x_putf (fp_X5_1 _) rfl rfl e2 dX5_throwsIf_10 ?_
  refine x_iload_n 0 rfl dX5_throwsIf_13 ?_
  obtain ⟨c, rfl⟩ := rZ_spec H
  exact x_iret hE rfl c dX5_throwsIf_14
def f_X5_throwsIf (r0 : Nat) (x1 : Int32) (h : mH) : Option (Int32 × mH) := if x1 = 0 then f_X5_throwsIf_b10 x1 r0 (0 : Int32) h else f_X5_throwsIf_b10 x1 r0 (1 : Int32) h
theorem t_X5_throwsIf {G : xG} (C0 : xC) {l : Launch} {r0 : Nat} {x1 : Int32} (h : mH) {o : Int32 × mH} (H : f_X5_throwsIf r0 x1 h = some o) : XR G l mi_X5_throwsIf [.ref r0, .int x1] h (some (.int o.1)) o.2 := by
  refine XR.of C0 (by decide) (Nat.le_of_ble_eq_true rfl) (fun C _ _ _ hE => ?_)
  show X G C mi_X5_throwsIf 0 [(0, .ref r0), (1, .int x1)] [] h
  unfold f_X5_throwsIf at H
  refine x_aload_n 0 rfl dX5_throwsIf_0 ?_
  refine x_iload_n 1 rfl dX5_throwsIf_1 ?_
  refine x_if_eq 9 dX5_throwsIf_2 (by decide) (fun c1 => ?_) (fun c1 => ?_)
  · rw [if_pos c1] at H
    refine x_iconst (0 : Int32) dX5_throwsIf_9 ic_0 ?_
    refine X.sub [1] rfl ?_
    exact t_X5_throwsIf_b10 hE _ _ _ _ H
  · rw [if_neg c1] at H
    refine x_iconst (1 : Int32) dX5_throwsIf_5 ic_1 ?_
    refine x_goto (tgt := 10) dX5_throwsIf_6 (by decide) ?_
    refine X.sub [1] rfl ?_
    exact t_X5_throwsIf_b10 hE _ _ _ _ H
abbrev mi_X5_person : xM := (cX5_person, yX5_person, 3, some .int, 3)
theorem md_X5_person : xMD mi_X5_person 2 := ⟨by decide, by decide, by decide +kernel⟩
def f_X5_person_b24 (r0 : Nat) (x1 : Int32) (x2 : Int32) (s0 : Nat) (s1 : Int32) (h : mH) : Option (Int32 × mH) := if gC h s0 = 4 then bR (f_X5_throwsIf s0 s1 h) fun a3 g3 => if a3 = 0 then if x2 = (0 : Int32) then (gFr [4] 6 g3 r0).bind fun v6 => (aI .int g3 v6 ((136 : Int32) + x1)).bind fun v7 => some (v7, g3) else if x2 = (1 : Int32) then if gC g3 r0 = 4 then bR (f_X5_knownBy r0 x1 g3) fun a9 g9 => some (a9, g9) else none else if x2 = (2 : Int32) then (gFr [4] 6 g3 r0).bind fun v11 => (aI .int g3 v11 ((124 : Int32) + x1)).bind fun v12 => some (v12, g3) else if x2 = (3 : Int32) then if gC g3 r0 = 4 then bR (f_X5_mayBy r0 x1 g3) fun a14 g14 => some (a14, g14) else none else if x2 = (4 : Int32) then (gFr [4] 6 g3 r0).bind fun v16 => (aI .int g3 v16 (133 : Int32)).bind fun v17 => some (((v17 >>> (x1 &&& 31)) &&& (1 : Int32)), g3) else if x2 = (5 : Int32) then (gFr [4] 6 g3 r0).bind fun v19 => (aI .int g3 v19 (134 : Int32)).bind fun v20 => some (((v20 >>> (x1 &&& 31)) &&& (1 : Int32)), g3) else if x2 = (6 : Int32) then (gFr [4] 6 g3 r0).bind fun v22 => (aI .int g3 v22 ((213 : Int32) + x1)).bind fun v23 => some (v23, g3) else if gC g3 r0 = 4 then bR (f_X5_wantsOf r0 x1 g3) fun a24 g24 => some (a24, g24) else none else some ((0 : Int32), g3) else none
theorem t_X5_person_b24 {G : xG} {C : xC} {o : Int32 × mH} (hE : xEnd G C (some (.int o.1)) o.2) (r0 : Nat) (x1 : Int32) (x2 : Int32) (s0 : Nat) (s1 : Int32) (h : mH) (H : f_X5_person_b24 r0 x1 x2 s0 s1 h = some o) : X G C mi_X5_person 24 [(0, .ref r0), (1, .int x1), (2, .int x2)] [.int s1, .ref s0] h := by
  unfold f_X5_person_b24 at H
  obtain ⟨c3, H⟩ := oit H
  obtain ⟨a3, g3, e3, H⟩ := obR H
  refine x_callV (M' := mi_X5_throwsIf) (n := 1) (As := [.int s1]) (t_X5_throwsIf C _ e3) c3 rfl rfl md_X5_throwsIf ⟨Nat.le_of_ble_eq_true rfl, Nat.le_of_ble_eq_true rfl⟩ q2204 q2206 qs73 q131 q2207 rfl (Nat.le_of_ble_eq_true rfl) dX5_person_24 ?_
  refine x_if_eq 32 dX5_person_27 (by decide) (fun c4 => ?_) (fun c4 => ?_)
  · rw [if_pos c4] at H
    refine x_iload_n 2 rfl dX5_person_32 ?_
    by_cases c5 : x2 = (0 : Int32)
    · rw [if_pos c5] at H
      refine x_tsw (off := 43) 76 dX5_person_33 c5 (by decide) (by decide) (by decide) (by decide) ?_
      refine x_aload_n 0 rfl dX5_person_76 ?_
      obtain ⟨v6, e6, H⟩ := ob H
      refine x_getf fg_X5_33 (gFr_spec e6) dX5_person_77 ?_
      refine x_sipush (136 : Int32) dX5_person_80 si_136 ?_
      refine x_iload_n 1 rfl dX5_person_83 ?_
      refine x_iadd dX5_person_84 ?_
      obtain ⟨v7, e7, H⟩ := ob H
      refine x_iald e7 dX5_person_85 ?_
      obtain rfl := Option.some.inj H
      exact x_iret hE rfl rfl dX5_person_86
    rw [if_neg c5] at H
    by_cases c8 : x2 = (1 : Int32)
    · rw [if_pos c8] at H
      refine x_tsw (off := 54) 87 dX5_person_33 c8 (by decide) (by decide) (by decide) (by decide) ?_
      refine x_aload_n 0 rfl dX5_person_87 ?_
      refine x_iload_n 1 rfl dX5_person_88 ?_
      obtain ⟨c9, H⟩ := oit H
      obtain ⟨a9, g9, e9, H⟩ := obR H
      refine x_callV (M' := mi_X5_knownBy) (n := 1) (As := [.int x1]) (t_X5_knownBy C _ e9) c9 rfl rfl md_X5_knownBy ⟨Nat.le_of_ble_eq_true rfl, Nat.le_of_ble_eq_true rfl⟩ q2208 q2210 qs74 q131 q2211 rfl (Nat.le_of_ble_eq_true rfl) dX5_person_89 ?_
      obtain rfl := Option.some.inj H
      exact x_iret hE rfl rfl dX5_person_92
    rw [if_neg c8] at H
    by_cases c10 : x2 = (2 : Int32)
    · rw [if_pos c10] at H
      refine x_tsw (off := 60) 93 dX5_person_33 c10 (by decide) (by decide) (by decide) (by decide) ?_
      refine x_aload_n 0 rfl dX5_person_93 ?_
      obtain ⟨v11, e11, H⟩ := ob H
      refine x_getf fg_X5_33 (gFr_spec e11) dX5_person_94 ?_
      refine x_bipush (124 : Int32) dX5_person_97 bi_124 ?_
      refine x_iload_n 1 rfl dX5_person_99 ?_
      refine x_iadd dX5_person_100 ?_
      obtain ⟨v12, e12, H⟩ := ob H
      refine x_iald e12 dX5_person_101 ?_
      obtain rfl := Option.some.inj H
      exact x_iret hE rfl rfl dX5_person_102
    rw [if_neg c10] at H
    by_cases c13 : x2 = (3 : Int32)
    · rw [if_pos c13] at H
      refine x_tsw (off := 70) 103 dX5_person_33 c13 (by decide) (by decide) (by decide) (by decide) ?_
      refine x_aload_n 0 rfl dX5_person_103 ?_
      refine x_iload_n 1 rfl dX5_person_104 ?_
      obtain ⟨c14, H⟩ := oit H
      obtain ⟨a14, g14, e14, H⟩ := obR H
      refine x_callV (M' := mi_X5_mayBy) (n := 1) (As := [.int x1]) (t_X5_mayBy C _ e14) c14 rfl rfl md_X5_mayBy ⟨Nat.le_of_ble_eq_true rfl, Nat.le_of_ble_eq_true rfl⟩ q2212 q2214 qs75 q131 q2215 rfl (Nat.le_of_ble_eq_true rfl) dX5_person_105 ?_
      obtain rfl := Option.some.inj H
      exact x_iret hE rfl rfl dX5_person_108
    rw [if_neg c13] at H
    by_cases c15 : x2 = (4 : Int32)
    · rw [if_pos c15] at H
      refine x_tsw (off := 76) 109 dX5_person_33 c15 (by decide) (by decide) (by decide) (by decide) ?_
      refine x_aload_n 0 rfl dX5_person_109 ?_
      obtain ⟨v16, e16, H⟩ := ob H
      refine x_getf fg_X5_33 (gFr_spec e16) dX5_person_110 ?_
      refine x_sipush (133 : Int32) dX5_person_113 si_133 ?_
      obtain ⟨v17, e17, H⟩ := ob H
      refine x_iald e17 dX5_person_116 ?_
      refine x_iload_n 1 rfl dX5_person_117 ?_
      refine x_ishr dX5_person_118 ?_
      refine x_iconst (1 : Int32) dX5_person_119 ic_1 ?_
      refine x_iand dX5_person_120 ?_
      obtain rfl := Option.some.inj H
      exact x_iret hE rfl rfl dX5_person_121
    rw [if_neg c15] at H
    by_cases c18 : x2 = (5 : Int32)
    · rw [if_pos c18] at H
      refine x_tsw (off := 89) 122 dX5_person_33 c18 (by decide) (by decide) (by decide) (by decide) ?_
      refine x_aload_n 0 rfl dX5_person_122 ?_
      obtain ⟨v19, e19, H⟩ := ob H
      refine x_getf fg_X5_33 (gFr_spec e19) dX5_person_123 ?_
      refine x_sipush (134 : Int32) dX5_person_126 si_134 ?_
      obtain ⟨v20, e20, H⟩ := ob H
      refine x_iald e20 dX5_person_129 ?_
      refine x_iload_n 1 rfl dX5_person_130 ?_
      refine x_ishr dX5_person_131 ?_
      refine x_iconst (1 : Int32) dX5_person_132 ic_1 ?_
      refine x_iand dX5_person_133 ?_
      obtain rfl := Option.some.inj H
      exact x_iret hE rfl rfl dX5_person_134
    rw [if_neg c18] at H
    by_cases c21 : x2 = (6 : Int32)
    · rw [if_pos c21] at H
      refine x_tsw (off := 102) 135 dX5_person_33 c21 (by decide) (by decide) (by decide) (by decide) ?_
      refine x_aload_n 0 rfl dX5_person_135 ?_
      obtain ⟨v22, e22, H⟩ := ob H
      refine x_getf fg_X5_33 (gFr_spec e22) dX5_person_136 ?_
      refine x_sipush (213 : Int32) dX5_person_139 si_213 ?_
      refine x_iload_n 1 rfl dX5_person_142 ?_
      refine x_iadd dX5_person_143 ?_
      obtain ⟨v23, e23, H⟩ := ob H
      refine x_iald e23 dX5_person_144 ?_
      obtain rfl := Option.some.inj H
      exact x_iret hE rfl rfl dX5_person_145
    rw [if_neg c21] at H
    refine x_tswd 146 dX5_person_33 (xts0_7 c5 c8 c10 c13 c15 c18 c21) (by decide) ?_
    refine x_aload_n 0 rfl dX5_person_146 ?_
    refine x_iload_n 1 rfl dX5_person_147 ?_
    obtain ⟨c24, H⟩ := oit H
    obtain ⟨a24, g24, e24, H⟩ := obR H
    refine x_callV (M' := mi_X5_wantsOf) (n := 1) (As := [.int x1]) (t_X5_wantsOf C _ e24) c24 rfl rfl md_X5_wantsOf ⟨Nat.le_of_ble_eq_true rfl, Nat.le_of_ble_eq_true rfl⟩ q2216 q2218 qs76 q131 q2219 rfl (Nat.le_of_ble_eq_true rfl) dX5_person_148 ?_
    obtain rfl := Option.some.inj H
    exact x_iret hE rfl rfl dX5_person_151
  · rw [if_neg c4] at H
    refine x_iconst (0 : Int32) dX5_person_30 ic_0 ?_
    obtain rfl := Option.some.inj H
    exact x_iret hE rfl rfl dX5_person_31
def f_X5_person_b19 (r0 : Nat) (x1 : Int32) (x2 : Int32) (s0 : Nat) (h : mH) : Option (Int32 × mH) := f_X5_person_b24 r0 x1 x2 s0 (1 : Int32) h
theorem t_X5_person_b19 {G : xG} {C : xC} {o : Int32 × mH} (hE : xEnd G C (some (.int o.1)) o.2) (r0 : Nat) (x1 : Int32) (x2 : Int32) (s0 : Nat) (h : mH) (H : f_X5_person_b19 r0 x1 x2 s0 h = some o) : X G C mi_X5_person 19 [(0, .ref r0), (1, .int x1), (2, .int x2)] [.ref s0] h := by
  unfold f_X5_person_b19 at H
  refine x_iconst (1 : Int32) dX5_person_19 ic_1 ?_
  refine x_goto (tgt := 24) dX5_person_20 (by decide) ?_
  exact t_X5_person_b24 hE _ _ _ _ _ _ H
def f_X5_person (r0 : Nat) (x1 : Int32) (x2 : Int32) (h : mH) : Option (Int32 × mH) := if gC h r0 = 4 then bR (f_X5_isPerson r0 x1 h) fun a1 g1 => if a1 = 0 then f_X5_person_b19 r0 x1 x2 r0 g1 else bR (f_X5_isIn x2 (0 : Int32) (7 : Int32) g1) fun a25 g25 => if a25 = 0 then f_X5_person_b19 r0 x1 x2 r0 g25 else f_X5_person_b24 r0 x1 x2 r0 (0 : Int32) g25 else none
theorem t_X5_person {G : xG} (C0 : xC) {l : Launch} {r0 : Nat} {x1 : Int32} {x2 : Int32} (h : mH) {o : Int32 × mH} (H : f_X5_person r0 x1 x2 h = some o) : XR G l mi_X5_person [.ref r0, .int x1, .int x2] h (some (.int o.1)) o.2 := by
  refine XR.of C0 (by decide) (Nat.le_of_ble_eq_true rfl) (fun C _ _ _ hE => ?_)
  show X G C mi_X5_person 0 [(0, .ref r0), (1, .int x1), (2, .int x2)] [] h
  unfold f_X5_person at H
  refine x_aload_n 0 rfl dX5_person_0 ?_
  refine x_aload_n 0 rfl dX5_person_1 ?_
  refine x_iload_n 1 rfl dX5_person_2 ?_
  obtain ⟨c1, H⟩ := oit H
  obtain ⟨a1, g1, e1, H⟩ := obR H
  refine x_callV (M' := mi_X5_isPerson) (n := 1) (As := [.int x1]) (t_X5_isPerson C _ e1) c1 rfl rfl md_X5_isPerson ⟨Nat.le_of_ble_eq_true rfl, Nat.le_of_ble_eq_true rfl⟩ q2200 q2202 qs72 q131 q2203 rfl (Nat.le_of_ble_eq_true rfl) dX5_person_3 ?_
  refine x_if_eq 19 dX5_person_6 (by decide) (fun c2 => ?_) (fun c2 => ?_)
  · rw [if_pos c2] at H
    exact t_X5_person_b19 hE _ _ _ _ _ H
  · rw [if_neg c2] at H
    refine x_iload_n 2 rfl dX5_person_9 ?_
    refine x_iconst (0 : Int32) dX5_person_10 ic_0 ?_
    refine x_bipush (7 : Int32) dX5_person_11 bi_7 ?_
    obtain ⟨a25, g25, e25, H⟩ := obR H
    refine x_callS (M' := mi_X5_isIn) (n := 3) (As := [.int x2, .int (0 : Int32), .int (7 : Int32)]) (t_X5_isIn C _ e25) md_X5_isIn ⟨Nat.le_of_ble_eq_true rfl, Nat.le_of_ble_eq_true rfl⟩ q2150 q2151 q131 q2152 rfl (Nat.le_of_ble_eq_true rfl) dX5_person_13 ?_
    refine x_if_ne 23 dX5_person_16 (by decide) (fun c26 => ?_) (fun c26 => ?_)
    · rw [if_neg c26] at H
      refine x_iconst (0 : Int32) dX5_person_23 ic_0 ?_
      exact t_X5_person_b24 hE _ _ _ _ _ _ H
    · rw [if_pos c26] at H
      exact t_X5_person_b19 hE _ _ _ _ _ H
abbrev mi_X5_recluse : xM := (cX5_recluse, yX5_recluse, 3, some .int, 2)
theorem md_X5_recluse : xMD mi_X5_recluse 0 := ⟨by decide, by decide, by decide +kernel⟩
def f_X5_recluse_b44 (kb : Nat → Int32 → Int32 → mH → Option (Int32 × mH)) (r0 : Nat) (x1 : Int32) (x2 : Int32) (h : mH) : Option (Int32 × mH) := kb r0 x1 (x2 + (1 : Int32)) h
theorem t_X5_recluse_b44 {G : xG} {C : xC} {o : Int32 × mH} (hE : xEnd G C (some (.int o.1)) o.2) {kb : Nat → Int32 → Int32 → mH → Option (Int32 × mH)} (hkb : ∀ (r0 : Nat) (x1 : Int32) (x2 : Int32) (h : mH), kb r0 x1 x2 h = some o → X G C mi_X5_recluse 9 [(0, .ref r0), (1, .int x1), (2, .int x2)] [] h) (r0 : Nat) (x1 : Int32) (x2 : Int32) (h : mH) (H : f_X5_recluse_b44 kb r0 x1 x2 h = some o) : X G C mi_X5_recluse 44 [(0, .ref r0), (1, .int x1), (2, .int x2)] [] h := by
  unfold f_X5_recluse_b44 at H
  refine x_iinc 2 (x2 + (1 : Int32)) [1, 2, 0] dX5_recluse_44 rfl (ii_1 _) (by decide) rfl ?_
  refine x_goto (tgt := 9) dX5_recluse_47 (by decide) ?_
  exact hkb _ _ _ _ H
def f_X5_recluse_b42 (kb : Nat → Int32 → Int32 → mH → Option (Int32 × mH)) (r0 : Nat) (x2 : Int32) (h : mH) : Option (Int32 × mH) := f_X5_recluse_b44 kb r0 x2 x2 h
theorem t_X5_recluse_b42 {G : xG} {C : xC} {o : Int32 × mH} (hE : xEnd G C (some (.int o.1)) o.2) {kb : Nat → Int32 → Int32 → mH → Option (Int32 × mH)} (hkb : ∀ (r0 : Nat) (x1 : Int32) (x2 : Int32) (h : mH), kb r0 x1 x2 h = some o → X G C mi_X5_recluse 9 [(0, .ref r0), (1, .int x1), (2, .int x2)] [] h) (r0 : Nat) (x2 : Int32) (h : mH) (H : f_X5_recluse_b42 kb r0 x2 h = some o) : X G C mi_X5_recluse 42 [(0, .ref r0), (2, .int x2)] [] h := by
  unfold f_X5_recluse_b42 at H
  refine x_iload_n 1 rfl dX5_recluse_42 ?_
  refine x_istore_n [1, 0, 2] dX5_recluse_43 (by decide) rfl ?_
  exact t_X5_recluse_b44 hE hkb _ _ _ _ H
def f_X5_recluse_L9 : Nat → Nat → Int32 → Int32 → mH → Option (Int32 × mH)
  | 0, _, _, _, _ => none
  | n + 1, r0, x1, x2, h => (gFr [4] 6 h r0).bind fun v2 => (aI .int h v2 (0 : Int32)).bind fun v3 => if v3 ≤ x2 then some (x1, h) else if x1 < 0 then f_X5_recluse_b42 (f_X5_recluse_L9 n) r0 x2 h else if gC h r0 = 4 then bR (f_X5_knownBy r0 x2 h) fun a6 g6 => bR (f_X5_bits a6 g6) fun a7 g7 => if gC g7 r0 = 4 then bR (f_X5_knownBy r0 x1 g7) fun a8 g8 => bR (f_X5_bits a8 g8) fun a9 g9 => if a9 ≤ a7 then f_X5_recluse_b44 (f_X5_recluse_L9 n) r0 x1 x2 g9 else f_X5_recluse_b42 (f_X5_recluse_L9 n) r0 x2 g9 else none else none
theorem t_X5_recluse_L9 {G : xG} {C : xC} {o : Int32 × mH} (hE : xEnd G C (some (.int o.1)) o.2) : ∀ (n : Nat) (r0 : Nat) (x1 : Int32) (x2 : Int32) (h : mH), f_X5_recluse_L9 n r0 x1 x2 h = some o → X G C mi_X5_recluse 9 [(0, .ref r0), (1, .int x1), (2, .int x2)] [] h := by
  intro n
  induction n with
  | zero => intro r0 x1 x2 h H; exact nomatch (show (none : Option (Int32 × mH)) = some o from H)
  | succ n ih =>
    intro r0 x1 x2 h H
    rw [f_X5_recluse_L9] at H
    refine x_iload_n 2 rfl dX5_recluse_9 ?_
    refine x_aload_n 0 rfl dX5_recluse_10 ?_
    obtain ⟨v2, e2, H⟩ := ob H
    refine x_getf fg_X5_33 (gFr_spec e2) dX5_recluse_11 ?_
    refine x_iconst (0 : Int32) dX5_recluse_14 ic_0 ?_
    obtain ⟨v3, e3, H⟩ := ob H
    refine x_iald e3 dX5_recluse_15 ?_
    refine x_icmp_ge 50 dX5_recluse_16 (by decide) (fun c4 => ?_) (fun c4 => ?_)
    · rw [if_pos c4] at H
      refine x_iload_n 1 rfl dX5_recluse_50 ?_
      obtain rfl := Option.some.inj H
      exact x_iret hE rfl rfl dX5_recluse_51
    · rw [if_neg c4] at H
      refine x_iload_n 1 rfl dX5_recluse_19 ?_
      refine x_if_lt 42 dX5_recluse_20 (by decide) (fun c5 => ?_) (fun c5 => ?_)
      · rw [if_pos c5] at H
        refine X.sub [0, 2] rfl ?_
        exact t_X5_recluse_b42 hE ih _ _ _ H
      · rw [if_neg c5] at H
        refine x_aload_n 0 rfl dX5_recluse_23 ?_
        refine x_iload_n 2 rfl dX5_recluse_24 ?_
        obtain ⟨c6, H⟩ := oit H
        obtain ⟨a6, g6, e6, H⟩ := obR H
        refine x_callV (M' := mi_X5_knownBy) (n := 1) (As := [.int x2]) (t_X5_knownBy C _ e6) c6 rfl rfl md_X5_knownBy ⟨Nat.le_of_ble_eq_true rfl, Nat.le_of_ble_eq_true rfl⟩ q2208 q2210 qs74 q131 q2211 rfl (Nat.le_of_ble_eq_true rfl) dX5_recluse_25 ?_
        obtain ⟨a7, g7, e7, H⟩ := obR H
        refine x_callS (M' := mi_X5_bits) (n := 1) (As := [.int a6]) (t_X5_bits C _ e7) md_X5_bits ⟨Nat.le_of_ble_eq_true rfl, Nat.le_of_ble_eq_true rfl⟩ q2236 q2237 q131 q2238 rfl (Nat.le_of_ble_eq_true rfl) dX5_recluse_28 ?_
        refine x_aload_n 0 rfl dX5_recluse_31 ?_
        refine x_iload_n 1 rfl dX5_recluse_32 ?_
        obtain ⟨c8, H⟩ := oit H
        obtain ⟨a8, g8, e8, H⟩ := obR H
        refine x_callV (M' := mi_X5_knownBy) (n := 1) (As := [.int x1]) (t_X5_knownBy C _ e8) c8 rfl rfl md_X5_knownBy ⟨Nat.le_of_ble_eq_true rfl, Nat.le_of_ble_eq_true rfl⟩ q2208 q2210 qs74 q131 q2211 rfl (Nat.le_of_ble_eq_true rfl) dX5_recluse_33 ?_
        obtain ⟨a9, g9, e9, H⟩ := obR H
        refine x_callS (M' := mi_X5_bits) (n := 1) (As := [.int a8]) (t_X5_bits C _ e9) md_X5_bits ⟨Nat.le_of_ble_eq_true rfl, Nat.le_of_ble_eq_true rfl⟩ q2236 q2237 q131 q2238 rfl (Nat.le_of_ble_eq_true rfl) dX5_recluse_36 ?_
        refine x_icmp_ge 44 dX5_recluse_39 (by decide) (fun c10 => ?_) (fun c10 => ?_)
        · rw [if_pos c10] at H
          exact t_X5_recluse_b44 hE ih _ _ _ _ H
        · rw [if_neg c10] at H
          refine X.sub [0, 2] rfl ?_
          exact t_X5_recluse_b42 hE ih _ _ _ H
def f_X5_recluse (r0 : Nat) (h : mH) : Option (Int32 × mH) := (pF [4] 0 (.int (0 : Int32)) h r0).bind fun h1 => f_X5_recluse_L9  xFu r0 (-1 : Int32) (0 : Int32) h1
theorem t_X5_recluse {G : xG} (C0 : xC) {l : Launch} {r0 : Nat} (h : mH) {o : Int32 × mH} (H : f_X5_recluse r0 h = some o) : XR G l mi_X5_recluse [.ref r0] h (some (.int o.1)) o.2 := by
  refine XR.of C0 (by decide) (Nat.le_of_ble_eq_true rfl) (fun C _ _ _ hE => ?_)
  show X G C mi_X5_recluse 0 [(0, .ref r0)] [] h
  unfold f_X5_recluse at H
  refine x_aload_n 0 rfl dX5_recluse_0 ?_
  refine x_iconst (0 : Int32) dX5_recluse_1 ic_0 ?_
  obtain ⟨h1, e1, H⟩ := ob H
  refine x_putf (fp_X5_1 _) rfl rfl e1 dX5_recluse_2 ?_
  refine x_iconst (-1 : Int32) dX5_recluse_5 ic_m1 ?_
  refine x_istore_n [1, 0] dX5_recluse_6 (by decide) rfl ?_
  refine x_iconst (0 : Int32) dX5_recluse_7 ic_0 ?_
  refine x_istore_n [1, 2, 0] dX5_recluse_8 (by decide) rfl ?_
  exact t_X5_recluse_L9 hE  xFu _ _ _ _ H
abbrev mi_X5_restore : xM := (cX5_restore, yX5_restore, 3, some .boolean, 2)
theorem md_X5_restore : xMD mi_X5_restore 1 := ⟨by decide, by decide, by decide +kernel⟩
def f_X5_restore_b89 (r0 : Nat) (h : mH) : Option (Int32 × mH) := (pF [4] 23 (.int (0 : Int32)) h r0).bind fun h7 => some ((1 : Int32), h7)
theorem t_X5_restore_b89 {G : xG} {C : xC} {o : Int32 × mH} (hE : xEnd G C (some (.int o.1)) o.2) (r0 : Nat) (h : mH) (H : f_X5_restore_b89 r0 h = some o) : X G C mi_X5_restore 89 [(0, .ref r0)] [] h := by
  unfold f_X5_restore_b89 at H
  refine x_aload_n 0 rfl dX5_restore_89 ?_
  refine x_iconst (0 : Int32) dX5_restore_90 ic_0 ?_
  obtain ⟨h7, e7, H⟩ := ob H
  refine x_putf (fp_X5_262 _) rfl rfl e7 dX5_restore_91 ?_
  refine x_iconst (1 : Int32) dX5_restore_94 ic_1 ?_
  obtain rfl := Option.some.inj H
  exact x_iret hE rfl rfl dX5_restore_95
def f_X5_restore_L60 (k89 : Nat → mH → Option (Int32 × mH)) : Nat → Nat → Int32 → Int32 → mH → Option (Int32 × mH)
  | 0, _, _, _, _ => none
  | n + 1, r0, x1, x2, h => if (12 : Int32) ≤ x2 then k89 r0 h else (gFr [4] 9 h r0).bind fun v9 => (gFr [4] 50 h r0).bind fun v10 => (aL h v10 (((12 : Int32) * x1) + x2)).bind fun v11 => (sL h v9 x2 v11).bind fun h12 => (f_X5_restore_L60 k89 n) r0 x1 (x2 + (1 : Int32)) h12
theorem t_X5_restore_L60 {G : xG} {C : xC} {o : Int32 × mH} (hE : xEnd G C (some (.int o.1)) o.2) {k89 : Nat → mH → Option (Int32 × mH)} (hk89 : ∀ (r0 : Nat) (h : mH), k89 r0 h = some o → X G C mi_X5_restore 89 [(0, .ref r0)] [] h) : ∀ (n : Nat) (r0 : Nat) (x1 : Int32) (x2 : Int32) (h : mH), f_X5_restore_L60 k89 n r0 x1 x2 h = some o → X G C mi_X5_restore 60 [(0, .ref r0), (1, .int x1), (2, .int x2)] [] h := by
  intro n
  induction n with
  | zero => intro r0 x1 x2 h H; exact nomatch (show (none : Option (Int32 × mH)) = some o from H)
  | succ n ih =>
    intro r0 x1 x2 h H
    rw [f_X5_restore_L60] at H
    refine x_iload_n 2 rfl dX5_restore_60 ?_
    refine x_bipush (12 : Int32) dX5_restore_61 bi_12 ?_
    refine x_icmp_ge 89 dX5_restore_63 (by decide) (fun c8 => ?_) (fun c8 => ?_)
    · rw [if_pos c8] at H
      refine X.sub [0] rfl ?_
      exact hk89 _ _ H
    · rw [if_neg c8] at H
      refine x_aload_n 0 rfl dX5_restore_66 ?_
      obtain ⟨v9, e9, H⟩ := ob H
      refine x_getf fg_X5_43 (gFr_spec e9) dX5_restore_67 ?_
      refine x_iload_n 2 rfl dX5_restore_70 ?_
      refine x_aload_n 0 rfl dX5_restore_71 ?_
      obtain ⟨v10, e10, H⟩ := ob H
      refine x_getf fg_X5_90 (gFr_spec e10) dX5_restore_72 ?_
      refine x_bipush (12 : Int32) dX5_restore_75 bi_12 ?_
      refine x_iload_n 1 rfl dX5_restore_77 ?_
      refine x_imul dX5_restore_78 ?_
      refine x_iload_n 2 rfl dX5_restore_79 ?_
      refine x_iadd dX5_restore_80 ?_
      obtain ⟨v11, e11, H⟩ := ob H
      refine x_lald e11 dX5_restore_81 ?_
      obtain ⟨h12, e12, H⟩ := ob H
      refine x_last e12 dX5_restore_82 ?_
      refine x_iinc 2 (x2 + (1 : Int32)) [1, 2, 0] dX5_restore_83 rfl (ii_1 _) (by decide) rfl ?_
      refine x_goto (tgt := 60) dX5_restore_86 (by decide) ?_
      exact ih _ _ _ _ H
def f_X5_restore_b58 (r0 : Nat) (x1 : Int32) (h : mH) : Option (Int32 × mH) := f_X5_restore_L60 (f_X5_restore_b89) xFu r0 x1 (0 : Int32) h
theorem t_X5_restore_b58 {G : xG} {C : xC} {o : Int32 × mH} (hE : xEnd G C (some (.int o.1)) o.2) (r0 : Nat) (x1 : Int32) (h : mH) (H : f_X5_restore_b58 r0 x1 h = some o) : X G C mi_X5_restore 58 [(0, .ref r0), (1, .int x1)] [] h := by
  unfold f_X5_restore_b58 at H
  refine x_iconst (0 : Int32) dX5_restore_58 ic_0 ?_
  refine x_istore_n [1, 2, 0] dX5_restore_59 (by decide) rfl ?_
  exact t_X5_restore_L60 hE (t_X5_restore_b89 hE) xFu _ _ _ _ H
def f_X5_restore_L27 (k58 : Nat → Int32 → mH → Option (Int32 × mH)) : Nat → Nat → Int32 → Int32 → mH → Option (Int32 × mH)
  | 0, _, _, _, _ => none
  | n + 1, r0, x1, x2, h => if (457 : Int32) ≤ x2 then k58 r0 x1 h else (gFr [4] 6 h r0).bind fun v14 => (gFr [4] 49 h r0).bind fun v15 => (aI .int h v15 (((457 : Int32) * x1) + x2)).bind fun v16 => (sI .int h v14 x2 v16).bind fun h17 => (f_X5_restore_L27 k58 n) r0 x1 (x2 + (1 : Int32)) h17
theorem t_X5_restore_L27 {G : xG} {C : xC} {o : Int32 × mH} (hE : xEnd G C (some (.int o.1)) o.2) {k58 : Nat → Int32 → mH → Option (Int32 × mH)} (hk58 : ∀ (r0 : Nat) (x1 : Int32) (h : mH), k58 r0 x1 h = some o → X G C mi_X5_restore 58 [(0, .ref r0), (1, .int x1)] [] h) : ∀ (n : Nat) (r0 : Nat) (x1 : Int32) (x2 : Int32) (h : mH), f_X5_restore_L27 k58 n r0 x1 x2 h = some o → X G C mi_X5_restore 27 [(0, .ref r0), (1, .int x1), (2, .int x2)] [] h := by
  intro n
  induction n with
  | zero => intro r0 x1 x2 h H; exact nomatch (show (none : Option (Int32 × mH)) = some o from H)
  | succ n ih =>
    intro r0 x1 x2 h H
    rw [f_X5_restore_L27] at H
    refine x_iload_n 2 rfl dX5_restore_27 ?_
    refine x_sipush (457 : Int32) dX5_restore_28 si_457 ?_
    refine x_icmp_ge 58 dX5_restore_31 (by decide) (fun c13 => ?_) (fun c13 => ?_)
    · rw [if_pos c13] at H
      refine X.sub [0, 1] rfl ?_
      exact hk58 _ _ _ H
    · rw [if_neg c13] at H
      refine x_aload_n 0 rfl dX5_restore_34 ?_
      obtain ⟨v14, e14, H⟩ := ob H
      refine x_getf fg_X5_33 (gFr_spec e14) dX5_restore_35 ?_
      refine x_iload_n 2 rfl dX5_restore_38 ?_
      refine x_aload_n 0 rfl dX5_restore_39 ?_
      obtain ⟨v15, e15, H⟩ := ob H
      refine x_getf fg_X5_87 (gFr_spec e15) dX5_restore_40 ?_
      refine x_sipush (457 : Int32) dX5_restore_43 si_457 ?_
      refine x_iload_n 1 rfl dX5_restore_46 ?_
      refine x_imul dX5_restore_47 ?_
      refine x_iload_n 2 rfl dX5_restore_48 ?_
      refine x_iadd dX5_restore_49 ?_
      obtain ⟨v16, e16, H⟩ := ob H
      refine x_iald e16 dX5_restore_50 ?_
      obtain ⟨h17, e17, H⟩ := ob H
      refine x_iast e17 dX5_restore_51 ?_
      refine x_iinc 2 (x2 + (1 : Int32)) [1, 2, 0] dX5_restore_52 rfl (ii_1 _) (by decide) rfl ?_
      refine x_goto (tgt := 27) dX5_restore_55 (by decide) ?_
      exact ih _ _ _ _ H
def f_X5_restore (r0 : Nat) (x1 : Int32) (h : mH) : Option (Int32 × mH) := (pF [4] 0 (.int (0 : Int32)) h r0).bind fun h1 => bR (f_X5_isIn x1 (0 : Int32) (1 : Int32) h1) fun a2 g2 => if a2 = 0 then some ((0 : Int32), g2) else (gFr [4] 51 g2 r0).bind fun v4 => (aI .boolean g2 v4 x1).bind fun v5 => if v5 = 0 then some ((0 : Int32), g2) else f_X5_restore_L27 (f_X5_restore_b58) xFu r0 x1 (0 : Int32) g2
theorem t_X5_restore {G : xG} (C0 : xC) {l : Launch} {r0 : Nat} {x1 : Int32} (h : mH) {o : Int32 × mH} (H : f_X5_restore r0 x1 h = some o) : XR G l mi_X5_restore [.ref r0, .int x1] h (some (.int o.1)) o.2 := by
  refine XR.of C0 (by decide) (Nat.le_of_ble_eq_true rfl) (fun C _ _ _ hE => ?_)
  show X G C mi_X5_restore 0 [(0, .ref r0), (1, .int x1)] [] h
  unfold f_X5_restore at H
  refine x_aload_n 0 rfl dX5_restore_0 ?_
  refine x_iconst (0 : Int32) dX5_restore_1 ic_0 ?_
  obtain ⟨h1, e1, H⟩ := ob H
  refine x_putf (fp_X5_1 _) rfl rfl e1 dX5_restore_2 ?_
  refine x_iload_n 1 rfl dX5_restore_5 ?_
  refine x_iconst (0 : Int32) dX5_restore_6 ic_0 ?_
  refine x_iconst (1 : Int32) dX5_restore_7 ic_1 ?_
  obtain ⟨a2, g2, e2, H⟩ := obR H
  refine x_callS (M' := mi_X5_isIn) (n := 3) (As := [.int x1, .int (0 : Int32), .int (1 : Int32)]) (t_X5_isIn C _ e2) md_X5_isIn ⟨Nat.le_of_ble_eq_true rfl, Nat.le_of_ble_eq_true rfl⟩ q2150 q2151 q131 q2152 rfl (Nat.le_of_ble_eq_true rfl) dX5_restore_8 ?_
  refine x_if_eq 23 dX5_restore_11 (by decide) (fun c3 => ?_) (fun c3 => ?_)
  · rw [if_pos c3] at H
    refine x_iconst (0 : Int32) dX5_restore_23 ic_0 ?_
    obtain rfl := Option.some.inj H
    exact x_iret hE rfl rfl dX5_restore_24
  · rw [if_neg c3] at H
    refine x_aload_n 0 rfl dX5_restore_14 ?_
    obtain ⟨v4, e4, H⟩ := ob H
    refine x_getf fg_X5_93 (gFr_spec e4) dX5_restore_15 ?_
    refine x_iload_n 1 rfl dX5_restore_18 ?_
    obtain ⟨v5, e5, H⟩ := ob H
    refine x_zald e5 dX5_restore_19 ?_
    refine x_if_ne 25 dX5_restore_20 (by decide) (fun c6 => ?_) (fun c6 => ?_)
    · rw [if_neg c6] at H
      refine x_iconst (0 : Int32) dX5_restore_25 ic_0 ?_
      refine x_istore_n [1, 2, 0] dX5_restore_26 (by decide) rfl ?_
      exact t_X5_restore_L27 hE (t_X5_restore_b58 hE) xFu _ _ _ _ H
    · rw [if_pos c6] at H
      refine x_iconst (0 : Int32) dX5_restore_23 ic_0 ?_
      obtain rfl := Option.some.inj H
      exact x_iret hE rfl rfl dX5_restore_24
abbrev mi_X5_said : xM := (cX5_said, yX5_said, 4, some .int, 5)
theorem md_X5_said : xMD mi_X5_said 1 := ⟨by decide, by decide, by decide +kernel⟩
def f_X5_said_b64 (x1 : Int32) (x2 : Int32) (h : mH) : Option (Int32 × mH) := if x1 = (-1 : Int32) then some (x2, h) else some ((-1 : Int32), h)
theorem t_X5_said_b64 {G : xG} {C : xC} {o : Int32 × mH} (hE : xEnd G C (some (.int o.1)) o.2) (x1 : Int32) (x2 : Int32) (h : mH) (H : f_X5_said_b64 x1 x2 h = some o) : X G C mi_X5_said 64 [(1, .int x1), (2, .int x2)] [] h := by
  unfold f_X5_said_b64 at H
  refine x_iload_n 0 rfl dX5_said_64 ?_
  refine x_iconst (-1 : Int32) dX5_said_65 ic_m1 ?_
  refine x_icmp_ne 73 dX5_said_66 (by decide) (fun c6 => ?_) (fun c6 => ?_)
  · rw [if_neg c6] at H
    refine x_iconst (-1 : Int32) dX5_said_73 ic_m1 ?_
    obtain rfl := Option.some.inj H
    exact x_iret hE rfl rfl dX5_said_74
  · rw [if_pos c6] at H
    refine x_iload_n 1 rfl dX5_said_69 ?_
    refine x_goto (tgt := 74) dX5_said_70 (by decide) ?_
    obtain rfl := Option.some.inj H
    exact x_iret hE rfl rfl dX5_said_74
def f_X5_said_b58 (kb : Nat → Int32 → Int32 → Int32 → mH → Option (Int32 × mH)) (k64 : Int32 → Int32 → mH → Option (Int32 × mH)) (r0 : Nat) (x1 : Int32) (x2 : Int32) (x3 : Int32) (h : mH) : Option (Int32 × mH) := kb r0 x1 x2 (x3 + (1 : Int32)) h
theorem t_X5_said_b58 {G : xG} {C : xC} {o : Int32 × mH} (hE : xEnd G C (some (.int o.1)) o.2) {kb : Nat → Int32 → Int32 → Int32 → mH → Option (Int32 × mH)} (hkb : ∀ (r0 : Nat) (x1 : Int32) (x2 : Int32) (x3 : Int32) (h : mH), kb r0 x1 x2 x3 h = some o → X G C mi_X5_said 27 [(0, .ref r0), (1, .int x1), (2, .int x2), (3, .int x3)] [] h) {k64 : Int32 → Int32 → mH → Option (Int32 × mH)} (hk64 : ∀ (x1 : Int32) (x2 : Int32) (h : mH), k64 x1 x2 h = some o → X G C mi_X5_said 64 [(1, .int x1), (2, .int x2)] [] h) (r0 : Nat) (x1 : Int32) (x2 : Int32) (x3 : Int32) (h : mH) (H : f_X5_said_b58 kb k64 r0 x1 x2 x3 h = some o) : X G C mi_X5_said 58 [(0, .ref r0), (1, .int x1), (2, .int x2), (3, .int x3)] [] h := by
  unfold f_X5_said_b58 at H
  refine x_iinc 3 (x3 + (1 : Int32)) [1, 2, 3, 0] dX5_said_58 rfl (ii_1 _) (by decide) rfl ?_
  refine x_goto (tgt := 27) dX5_said_61 (by decide) ?_
  exact hkb _ _ _ _ _ H
def f_X5_said_L27 (k64 : Int32 → Int32 → mH → Option (Int32 × mH)) : Nat → Nat → Int32 → Int32 → Int32 → mH → Option (Int32 × mH)
  | 0, _, _, _, _, _ => none
  | n + 1, r0, x1, x2, x3, h => (gFr [4] 6 h r0).bind fun v7 => (aI .int h v7 (0 : Int32)).bind fun v8 => if v8 ≤ x3 then k64 x1 x2 h else if gC h r0 = 4 then bR (f_X5_isSaid r0 x3 h) fun a10 g10 => if a10 = 0 then f_X5_said_b58 (f_X5_said_L27 k64 n) k64 r0 x1 x2 x3 g10 else if x2 = x1 then some (x3, g10) else f_X5_said_b58 (f_X5_said_L27 k64 n) k64 r0 x1 (x2 + (1 : Int32)) x3 g10 else none
theorem t_X5_said_L27 {G : xG} {C : xC} {o : Int32 × mH} (hE : xEnd G C (some (.int o.1)) o.2) {k64 : Int32 → Int32 → mH → Option (Int32 × mH)} (hk64 : ∀ (x1 : Int32) (x2 : Int32) (h : mH), k64 x1 x2 h = some o → X G C mi_X5_said 64 [(1, .int x1), (2, .int x2)] [] h) : ∀ (n : Nat) (r0 : Nat) (x1 : Int32) (x2 : Int32) (x3 : Int32) (h : mH), f_X5_said_L27 k64 n r0 x1 x2 x3 h = some o → X G C mi_X5_said 27 [(0, .ref r0), (1, .int x1), (2, .int x2), (3, .int x3)] [] h := by
  intro n
  induction n with
  | zero => intro r0 x1 x2 x3 h H; exact nomatch (show (none : Option (Int32 × mH)) = some o from H)
  | succ n ih =>
    intro r0 x1 x2 x3 h H
    rw [f_X5_said_L27] at H
    refine x_iload_n 3 rfl dX5_said_27 ?_
    refine x_aload_n 0 rfl dX5_said_28 ?_
    obtain ⟨v7, e7, H⟩ := ob H
    refine x_getf fg_X5_33 (gFr_spec e7) dX5_said_29 ?_
    refine x_iconst (0 : Int32) dX5_said_32 ic_0 ?_
    obtain ⟨v8, e8, H⟩ := ob H
    refine x_iald e8 dX5_said_33 ?_
    refine x_icmp_ge 64 dX5_said_34 (by decide) (fun c9 => ?_) (fun c9 => ?_)
    · rw [if_pos c9] at H
      refine X.sub [1, 2] rfl ?_
      exact hk64 _ _ _ H
    · rw [if_neg c9] at H
      refine x_aload_n 0 rfl dX5_said_37 ?_
      refine x_iload_n 3 rfl dX5_said_38 ?_
      obtain ⟨c10, H⟩ := oit H
      obtain ⟨a10, g10, e10, H⟩ := obR H
      refine x_callV (M' := mi_X5_isSaid) (n := 1) (As := [.int x3]) (t_X5_isSaid C _ e10) c10 rfl rfl md_X5_isSaid ⟨Nat.le_of_ble_eq_true rfl, Nat.le_of_ble_eq_true rfl⟩ q2501 q2503 qs116 q131 q2504 rfl (Nat.le_of_ble_eq_true rfl) dX5_said_39 ?_
      refine x_if_ne 48 dX5_said_42 (by decide) (fun c11 => ?_) (fun c11 => ?_)
      · rw [if_neg c11] at H
        refine x_iload_n 2 rfl dX5_said_48 ?_
        refine x_iload_n 1 rfl dX5_said_49 ?_
        refine x_icmp_ne 55 dX5_said_50 (by decide) (fun c12 => ?_) (fun c12 => ?_)
        · rw [if_neg c12] at H
          refine x_iinc 2 (x2 + (1 : Int32)) [1, 2, 0, 3] dX5_said_55 rfl (ii_1 _) (by decide) rfl ?_
          exact t_X5_said_b58 hE ih hk64 _ _ _ _ _ H
        · rw [if_pos c12] at H
          refine x_iload_n 3 rfl dX5_said_53 ?_
          obtain rfl := Option.some.inj H
          exact x_iret hE rfl rfl dX5_said_54
      · rw [if_pos c11] at H
        refine x_goto (tgt := 58) dX5_said_45 (by decide) ?_
        exact t_X5_said_b58 hE ih hk64 _ _ _ _ _ H
def f_X5_said (r0 : Nat) (x1 : Int32) (h : mH) : Option (Int32 × mH) := (pF [4] 0 (.int (0 : Int32)) h r0).bind fun h1 => (gFr [4] 6 h1 r0).bind fun v2 => (aI .int h1 v2 (276 : Int32)).bind fun v3 => if v3 = 0 then some ((-1 : Int32), h1) else if (-1 : Int32) ≤ x1 then f_X5_said_L27 (f_X5_said_b64) xFu r0 x1 (0 : Int32) (0 : Int32) h1 else some ((-1 : Int32), h1)
theorem t_X5_said {G : xG} (C0 : xC) {l : Launch} {r0 : Nat} {x1 : Int32} (h : mH) {o : Int32 × mH} (H : f_X5_said r0 x1 h = some o) : XR G l mi_X5_said [.ref r0, .int x1] h (some (.int o.1)) o.2 := by
  refine XR.of C0 (by decide) (Nat.le_of_ble_eq_true rfl) (fun C _ _ _ hE => ?_)
  show X G C mi_X5_said 0 [(0, .ref r0), (1, .int x1)] [] h
  unfold f_X5_said at H
  refine x_aload_n 0 rfl dX5_said_0 ?_
  refine x_iconst (0 : Int32) dX5_said_1 ic_0 ?_
  obtain ⟨h1, e1, H⟩ := ob H
  refine x_putf (fp_X5_1 _) rfl rfl e1 dX5_said_2 ?_
  refine x_aload_n 0 rfl dX5_said_5 ?_
  obtain ⟨v2, e2, H⟩ := ob H
  refine x_getf fg_X5_33 (gFr_spec e2) dX5_said_6 ?_
  refine x_sipush (276 : Int32) dX5_said_9 si_276 ?_
  obtain ⟨v3, e3, H⟩ := ob H
  refine x_iald e3 dX5_said_12 ?_
  refine x_if_eq 21 dX5_said_13 (by decide) (fun c4 => ?_) (fun c4 => ?_)
  · rw [if_pos c4] at H
    refine x_iconst (-1 : Int32) dX5_said_21 ic_m1 ?_
    obtain rfl := Option.some.inj H
    exact x_iret hE rfl rfl dX5_said_22
  · rw [if_neg c4] at H
    refine x_iload_n 1 rfl dX5_said_16 ?_
    refine x_iconst (-1 : Int32) dX5_said_17 ic_m1 ?_
    refine x_icmp_ge 23 dX5_said_18 (by decide) (fun c5 => ?_) (fun c5 => ?_)
    · rw [if_pos c5] at H
      refine x_iconst (0 : Int32) dX5_said_23 ic_0 ?_
      refine x_istore_n [1, 2, 0] dX5_said_24 (by decide) rfl ?_
      refine x_iconst (0 : Int32) dX5_said_25 ic_0 ?_
      refine x_istore_n [1, 2, 3, 0] dX5_said_26 (by decide) rfl ?_
      exact t_X5_said_L27 hE (t_X5_said_b64 hE) xFu _ _ _ _ _ H
    · rw [if_neg c5] at H
      refine x_iconst (-1 : Int32) dX5_said_21 ic_m1 ?_
      obtain rfl := Option.some.inj H
      exact x_iret hE rfl rfl dX5_said_22
abbrev mi_X5_sentence : xM := (cX5_sentence, yX5_sentence, 3, some .int, 4)
theorem md_X5_sentence : xMD mi_X5_sentence 0 := ⟨by decide, by decide, by decide +kernel⟩
def f_X5_sentence_b83 (r0 : Nat) (h : mH) : Option (Int32 × mH) := if gC h r0 = 4 then bR (f_X5_bad r0 (1 : Int32) h) fun a10 g10 => (gFi [4] 16 g10 r0).bind fun v11 => some (((-1 : Int32) - v11), g10) else none
theorem t_X5_sentence_b83 {G : xG} {C : xC} {o : Int32 × mH} (hE : xEnd G C (some (.int o.1)) o.2) (r0 : Nat) (h : mH) (H : f_X5_sentence_b83 r0 h = some o) : X G C mi_X5_sentence 83 [(0, .ref r0)] [] h := by
  unfold f_X5_sentence_b83 at H
  refine x_aload_n 0 rfl dX5_sentence_83 ?_
  refine x_iconst (1 : Int32) dX5_sentence_84 ic_1 ?_
  obtain ⟨c10, H⟩ := oit H
  obtain ⟨a10, g10, e10, H⟩ := obR H
  refine x_callV (M' := mi_X5_bad) (n := 1) (As := [.int (1 : Int32)]) (t_X5_bad C _ e10) c10 rfl rfl md_X5_bad ⟨Nat.le_of_ble_eq_true rfl, Nat.le_of_ble_eq_true rfl⟩ q2126 q2128 qs57 q131 q2129 rfl (Nat.le_of_ble_eq_true rfl) dX5_sentence_85 ?_
  refine x_pop dX5_sentence_88 rfl ?_
  refine x_iconst (-1 : Int32) dX5_sentence_89 ic_m1 ?_
  refine x_aload_n 0 rfl dX5_sentence_90 ?_
  obtain ⟨v11, e11, H⟩ := ob H
  refine x_getf fg_X5_177 (gFi_spec e11) dX5_sentence_91 ?_
  refine x_isub dX5_sentence_94 ?_
  obtain rfl := Option.some.inj H
  exact x_iret hE rfl rfl dX5_sentence_95
def f_X5_sentence_b125 (r0 : Nat) (h : mH) : Option (Int32 × mH) := (gFi [4] 16 h r0).bind fun v12 => some (((-1 : Int32) - v12), h)
theorem t_X5_sentence_b125 {G : xG} {C : xC} {o : Int32 × mH} (hE : xEnd G C (some (.int o.1)) o.2) (r0 : Nat) (h : mH) (H : f_X5_sentence_b125 r0 h = some o) : X G C mi_X5_sentence 125 [(0, .ref r0)] [] h := by
  unfold f_X5_sentence_b125 at H
  refine x_iconst (-1 : Int32) dX5_sentence_125 ic_m1 ?_
  refine x_aload_n 0 rfl dX5_sentence_126 ?_
  obtain ⟨v12, e12, H⟩ := ob H
  refine x_getf fg_X5_177 (gFi_spec e12) dX5_sentence_127 ?_
  refine x_isub dX5_sentence_130 ?_
  obtain rfl := Option.some.inj H
  exact x_iret hE rfl rfl dX5_sentence_131
def f_X5_sentence_b115 (r0 : Nat) (h : mH) : Option (Int32 × mH) := f_X5_sentence_b125 r0 h
theorem t_X5_sentence_b115 {G : xG} {C : xC} {o : Int32 × mH} (hE : xEnd G C (some (.int o.1)) o.2) (r0 : Nat) (h : mH) (H : f_X5_sentence_b115 r0 h = some o) : X G C mi_X5_sentence 115 [(0, .ref r0)] [] h := by
  unfold f_X5_sentence_b115 at H
  refine x_goto (tgt := 125) dX5_sentence_115 (by decide) ?_
  exact t_X5_sentence_b125 hE _ _ H
def f_X5_sentence_b178 (r0 : Nat) (h : mH) : Option (Int32 × mH) := (gFi [4] 44 h r0).bind fun v16 => some (v16, h)
theorem t_X5_sentence_b178 {G : xG} {C : xC} {o : Int32 × mH} (hE : xEnd G C (some (.int o.1)) o.2) (r0 : Nat) (h : mH) (H : f_X5_sentence_b178 r0 h = some o) : X G C mi_X5_sentence 178 [(0, .ref r0)] [] h := by
  unfold f_X5_sentence_b178 at H
  refine x_aload_n 0 rfl dX5_sentence_178 ?_
  obtain ⟨v16, e16, H⟩ := ob H
  refine x_getf fg_X5_446 (gFi_spec e16) dX5_sentence_179 ?_
  obtain rfl := Option.some.inj H
  exact x_iret hE rfl rfl dX5_sentence_182
def f_X5_sentence_L146 (k178 : Nat → mH → Option (Int32 × mH)) : Nat → Nat → Int32 → mH → Option (Int32 × mH)
  | 0, _, _, _ => none
  | n + 1, r0, x2, h => (gFi [4] 43 h r0).bind fun v17 => if ((3 : Int32) * v17) ≤ x2 then k178 r0 h else (gFr [4] 6 h r0).bind fun v19 => (gFr [4] 8 h r0).bind fun v20 => (aI .int h v20 x2).bind fun v21 => (sI .int h v19 ((277 : Int32) + x2) v21).bind fun h22 => (f_X5_sentence_L146 k178 n) r0 (x2 + (1 : Int32)) h22
theorem t_X5_sentence_L146 {G : xG} {C : xC} {o : Int32 × mH} (hE : xEnd G C (some (.int o.1)) o.2) {k178 : Nat → mH → Option (Int32 × mH)} (hk178 : ∀ (r0 : Nat) (h : mH), k178 r0 h = some o → X G C mi_X5_sentence 178 [(0, .ref r0)] [] h) : ∀ (n : Nat) (r0 : Nat) (x2 : Int32) (h : mH), f_X5_sentence_L146 k178 n r0 x2 h = some o → X G C mi_X5_sentence 146 [(0, .ref r0), (2, .int x2)] [] h := by
  intro n
  induction n with
  | zero => intro r0 x2 h H; exact nomatch (show (none : Option (Int32 × mH)) = some o from H)
  | succ n ih =>
    intro r0 x2 h H
    rw [f_X5_sentence_L146] at H
    refine x_iload_n 1 rfl dX5_sentence_146 ?_
    refine x_iconst (3 : Int32) dX5_sentence_147 ic_3 ?_
    refine x_aload_n 0 rfl dX5_sentence_148 ?_
    obtain ⟨v17, e17, H⟩ := ob H
    refine x_getf fg_X5_431 (gFi_spec e17) dX5_sentence_149 ?_
    refine x_imul dX5_sentence_152 ?_
    refine x_icmp_ge 178 dX5_sentence_153 (by decide) (fun c18 => ?_) (fun c18 => ?_)
    · rw [if_pos c18] at H
      refine X.sub [0] rfl ?_
      exact hk178 _ _ H
    · rw [if_neg c18] at H
      refine x_aload_n 0 rfl dX5_sentence_156 ?_
      obtain ⟨v19, e19, H⟩ := ob H
      refine x_getf fg_X5_33 (gFr_spec e19) dX5_sentence_157 ?_
      refine x_sipush (277 : Int32) dX5_sentence_160 si_277 ?_
      refine x_iload_n 1 rfl dX5_sentence_163 ?_
      refine x_iadd dX5_sentence_164 ?_
      refine x_aload_n 0 rfl dX5_sentence_165 ?_
      obtain ⟨v20, e20, H⟩ := ob H
      refine x_getf fg_X5_40 (gFr_spec e20) dX5_sentence_166 ?_
      refine x_iload_n 1 rfl dX5_sentence_169 ?_
      obtain ⟨v21, e21, H⟩ := ob H
      refine x_iald e21 dX5_sentence_170 ?_
      obtain ⟨h22, e22, H⟩ := ob H
      refine x_iast e22 dX5_sentence_171 ?_
      refine x_iinc 1 (x2 + (1 : Int32)) [1, 0] dX5_sentence_172 rfl (ii_1 _) (by decide) rfl ?_
      refine x_goto (tgt := 146) dX5_sentence_175 (by decide) ?_
      exact ih _ _ _ H
def f_X5_sentence_b132 (r0 : Nat) (h : mH) : Option (Int32 × mH) := (gFr [4] 6 h r0).bind fun v13 => (gFi [4] 43 h r0).bind fun v14 => (sI .int h v13 (276 : Int32) v14).bind fun h15 => f_X5_sentence_L146 (f_X5_sentence_b178) xFu r0 (0 : Int32) h15
theorem t_X5_sentence_b132 {G : xG} {C : xC} {o : Int32 × mH} (hE : xEnd G C (some (.int o.1)) o.2) (r0 : Nat) (h : mH) (H : f_X5_sentence_b132 r0 h = some o) : X G C mi_X5_sentence 132 [(0, .ref r0)] [] h := by
  unfold f_X5_sentence_b132 at H
  refine x_aload_n 0 rfl dX5_sentence_132 ?_
  obtain ⟨v13, e13, H⟩ := ob H
  refine x_getf fg_X5_33 (gFr_spec e13) dX5_sentence_133 ?_
  refine x_sipush (276 : Int32) dX5_sentence_136 si_276 ?_
  refine x_aload_n 0 rfl dX5_sentence_139 ?_
  obtain ⟨v14, e14, H⟩ := ob H
  refine x_getf fg_X5_431 (gFi_spec e14) dX5_sentence_140 ?_
  obtain ⟨h15, e15, H⟩ := ob H
  refine x_iast e15 dX5_sentence_143 ?_
  refine x_iconst (0 : Int32) dX5_sentence_144 ic_0 ?_
  refine x_istore_n [1, 0] dX5_sentence_145 (by decide) rfl ?_
  exact t_X5_sentence_L146 hE (t_X5_sentence_b178 hE) xFu _ _ _ H
def f_X5_sentence_b101 (kb : Nat → Int32 → mH → Option (Int32 × mH)) (k83 : Nat → mH → Option (Int32 × mH)) (k115 : Nat → mH → Option (Int32 × mH)) (k125 : Nat → mH → Option (Int32 × mH)) (k132 : Nat → mH → Option (Int32 × mH)) (r0 : Nat) (x1 : Int32) (h : mH) : Option (Int32 × mH) := (gFi [4] 47 h r0).bind fun v26 => if v26 = 0 then if gC h r0 = 4 then bR (f_X5_operand r0  h) fun a28 g28 => if a28 = 0 then k125 r0 g28 else kb r0 x1 g28 else none else if gC h r0 = 4 then bR (f_X5_behind r0  h) fun a30 g30 => if a30 = 0 then k115 r0 g30 else kb r0 x1 g30 else none
theorem t_X5_sentence_b101 {G : xG} {C : xC} {o : Int32 × mH} (hE : xEnd G C (some (.int o.1)) o.2) {kb : Nat → Int32 → mH → Option (Int32 × mH)} (hkb : ∀ (r0 : Nat) (x1 : Int32) (h : mH), kb r0 x1 h = some o → X G C mi_X5_sentence 48 [(0, .ref r0), (1, .int x1)] [] h) {k83 : Nat → mH → Option (Int32 × mH)} (hk83 : ∀ (r0 : Nat) (h : mH), k83 r0 h = some o → X G C mi_X5_sentence 83 [(0, .ref r0)] [] h) {k115 : Nat → mH → Option (Int32 × mH)} (hk115 : ∀ (r0 : Nat) (h : mH), k115 r0 h = some o → X G C mi_X5_sentence 115 [(0, .ref r0)] [] h) {k125 : Nat → mH → Option (Int32 × mH)} (hk125 : ∀ (r0 : Nat) (h : mH), k125 r0 h = some o → X G C mi_X5_sentence 125 [(0, .ref r0)] [] h) {k132 : Nat → mH → Option (Int32 × mH)} (hk132 : ∀ (r0 : Nat) (h : mH), k132 r0 h = some o → X G C mi_X5_sentence 132 [(0, .ref r0)] [] h) (r0 : Nat) (x1 : Int32) (h : mH) (H : f_X5_sentence_b101 kb k83 k115 k125 k132 r0 x1 h = some o) : X G C mi_X5_sentence 101 [(0, .ref r0), (1, .int x1)] [] h := by
  unfold f_X5_sentence_b101 at H
  refine x_aload_n 0 rfl dX5_sentence_101 ?_
  obtain ⟨v26, e26, H⟩ := ob H
  refine x_getf fg_X5_449 (gFi_spec e26) dX5_sentence_102 ?_
  refine x_if_eq 118 dX5_sentence_105 (by decide) (fun c27 => ?_) (fun c27 => ?_)
  · rw [if_pos c27] at H
    refine x_aload_n 0 rfl dX5_sentence_118 ?_
    obtain ⟨c28, H⟩ := oit H
    obtain ⟨a28, g28, e28, H⟩ := obR H
    refine x_callV (M' := mi_X5_operand) (n := 0) (As := []) (t_X5_operand C _ e28) c28 rfl rfl md_X5_operand ⟨Nat.le_of_ble_eq_true rfl, Nat.le_of_ble_eq_true rfl⟩ q2489 q2491 qs114 q131 q2492 rfl (Nat.le_of_ble_eq_true rfl) dX5_sentence_119 ?_
    refine x_if_ne 48 dX5_sentence_122 (by decide) (fun c29 => ?_) (fun c29 => ?_)
    · rw [if_neg c29] at H
      exact hkb _ _ _ H
    · rw [if_pos c29] at H
      refine X.sub [0] rfl ?_
      exact hk125 _ _ H
  · rw [if_neg c27] at H
    refine x_aload_n 0 rfl dX5_sentence_108 ?_
    obtain ⟨c30, H⟩ := oit H
    obtain ⟨a30, g30, e30, H⟩ := obR H
    refine x_callV (M' := mi_X5_behind) (n := 0) (As := []) (t_X5_behind C _ e30) c30 rfl rfl md_X5_behind ⟨Nat.le_of_ble_eq_true rfl, Nat.le_of_ble_eq_true rfl⟩ q2485 q2487 qs113 q131 q2488 rfl (Nat.le_of_ble_eq_true rfl) dX5_sentence_109 ?_
    refine x_if_ne 48 dX5_sentence_112 (by decide) (fun c31 => ?_) (fun c31 => ?_)
    · rw [if_neg c31] at H
      exact hkb _ _ _ H
    · rw [if_pos c31] at H
      refine X.sub [0] rfl ?_
      exact hk115 _ _ H
def f_X5_sentence_L48 (k83 : Nat → mH → Option (Int32 × mH)) (k115 : Nat → mH → Option (Int32 × mH)) (k125 : Nat → mH → Option (Int32 × mH)) (k132 : Nat → mH → Option (Int32 × mH)) : Nat → Nat → Int32 → mH → Option (Int32 × mH)
  | 0, _, _, _ => none
  | n + 1, r0, x1, h => if x1 = 0 then k132 r0 h else (gFi [4] 47 h r0).bind fun v24 => if v24 = 0 then f_X5_sentence_b101 (f_X5_sentence_L48 k83 k115 k125 k132 n) k83 k115 k125 k132 r0 x1 h else (gFi [4] 11 h r0).bind fun v32 => if v32 = 0 then if gC h r0 = 4 then bR (f_X5_nots r0  h) fun a34 g34 => if gC g34 r0 = 4 then bR (f_X5_joins r0 (22 : Int32) g34) fun a35 g35 => (gFi [4] 45 g35 r0).bind fun v36 => if v36 ≤ 0 then (f_X5_sentence_L48 k83 k115 k125 k132 n) r0 (0 : Int32) g35 else k83 r0 g35 else none else none else f_X5_sentence_b101 (f_X5_sentence_L48 k83 k115 k125 k132 n) k83 k115 k125 k132 r0 x1 h
theorem t_X5_sentence_L48 {G : xG} {C : xC} {o : Int32 × mH} (hE : xEnd G C (some (.int o.1)) o.2) {k83 : Nat → mH → Option (Int32 × mH)} (hk83 : ∀ (r0 : Nat) (h : mH), k83 r0 h = some o → X G C mi_X5_sentence 83 [(0, .ref r0)] [] h) {k115 : Nat → mH → Option (Int32 × mH)} (hk115 : ∀ (r0 : Nat) (h : mH), k115 r0 h = some o → X G C mi_X5_sentence 115 [(0, .ref r0)] [] h) {k125 : Nat → mH → Option (Int32 × mH)} (hk125 : ∀ (r0 : Nat) (h : mH), k125 r0 h = some o → X G C mi_X5_sentence 125 [(0, .ref r0)] [] h) {k132 : Nat → mH → Option (Int32 × mH)} (hk132 : ∀ (r0 : Nat) (h : mH), k132 r0 h = some o → X G C mi_X5_sentence 132 [(0, .ref r0)] [] h) : ∀ (n : Nat) (r0 : Nat) (x1 : Int32) (h : mH), f_X5_sentence_L48 k83 k115 k125 k132 n r0 x1 h = some o → X G C mi_X5_sentence 48 [(0, .ref r0), (1, .int x1)] [] h := by
  intro n
  induction n with
  | zero => intro r0 x1 h H; exact nomatch (show (none : Option (Int32 × mH)) = some o from H)
  | succ n ih =>
    intro r0 x1 h H
    rw [f_X5_sentence_L48] at H
    refine x_iload_n 1 rfl dX5_sentence_48 ?_
    refine x_if_eq 132 dX5_sentence_49 (by decide) (fun c23 => ?_) (fun c23 => ?_)
    · rw [if_pos c23] at H
      refine X.sub [0] rfl ?_
      exact hk132 _ _ H
    · rw [if_neg c23] at H
      refine x_aload_n 0 rfl dX5_sentence_52 ?_
      obtain ⟨v24, e24, H⟩ := ob H
      refine x_getf fg_X5_449 (gFi_spec e24) dX5_sentence_53 ?_
      refine x_if_eq 101 dX5_sentence_56 (by decide) (fun c25 => ?_) (fun c25 => ?_)
      · rw [if_pos c25] at H
        exact t_X5_sentence_b101 hE ih hk83 hk115 hk125 hk132 _ _ _ H
      · rw [if_neg c25] at H
        refine x_aload_n 0 rfl dX5_sentence_59 ?_
        obtain ⟨v32, e32, H⟩ := ob H
        refine x_getf fg_X5_157 (gFi_spec e32) dX5_sentence_60 ?_
        refine x_if_ne 101 dX5_sentence_63 (by decide) (fun c33 => ?_) (fun c33 => ?_)
        · rw [if_neg c33] at H
          exact t_X5_sentence_b101 hE ih hk83 hk115 hk125 hk132 _ _ _ H
        · rw [if_pos c33] at H
          refine x_aload_n 0 rfl dX5_sentence_66 ?_
          obtain ⟨c34, H⟩ := oit H
          obtain ⟨a34, g34, e34, H⟩ := obR H
          refine x_callV (M' := mi_X5_nots) (n := 0) (As := []) (t_X5_nots C _ e34) c34 rfl rfl md_X5_nots ⟨Nat.le_of_ble_eq_true rfl, Nat.le_of_ble_eq_true rfl⟩ q2473 q2475 qs110 q131 q2476 rfl (Nat.le_of_ble_eq_true rfl) dX5_sentence_67 ?_
          refine x_aload_n 0 rfl dX5_sentence_70 ?_
          refine x_bipush (22 : Int32) dX5_sentence_71 bi_22 ?_
          obtain ⟨c35, H⟩ := oit H
          obtain ⟨a35, g35, e35, H⟩ := obR H
          refine x_callV (M' := mi_X5_joins) (n := 1) (As := [.int (22 : Int32)]) (t_X5_joins C _ e35) c35 rfl rfl md_X5_joins ⟨Nat.le_of_ble_eq_true rfl, Nat.le_of_ble_eq_true rfl⟩ q2481 q2483 qs112 q131 q2484 rfl (Nat.le_of_ble_eq_true rfl) dX5_sentence_73 ?_
          refine x_aload_n 0 rfl dX5_sentence_76 ?_
          obtain ⟨v36, e36, H⟩ := ob H
          refine x_getf fg_X5_434 (gFi_spec e36) dX5_sentence_77 ?_
          refine x_if_le 96 dX5_sentence_80 (by decide) (fun c37 => ?_) (fun c37 => ?_)
          · rw [if_pos c37] at H
            refine x_iconst (0 : Int32) dX5_sentence_96 ic_0 ?_
            refine x_istore_n [1, 0] dX5_sentence_97 (by decide) rfl ?_
            refine x_goto (tgt := 48) dX5_sentence_98 (by decide) ?_
            exact ih _ _ _ H
          · rw [if_neg c37] at H
            refine X.sub [0] rfl ?_
            exact hk83 _ _ H
def f_X5_sentence (r0 : Nat) (h : mH) : Option (Int32 × mH) := (pF [4] 0 (.int (0 : Int32)) h r0).bind fun h1 => if gC h1 r0 = 4 then bR (f_X5_taken r0 (200 : Int32) h1) fun a2 g2 => (pF [4] 15 (.int (0 : Int32)) g2 r0).bind fun h3 => (pF [4] 43 (.int (0 : Int32)) h3 r0).bind fun h4 => (pF [4] 44 (.int (0 : Int32)) h4 r0).bind fun h5 => (pF [4] 45 (.int (0 : Int32)) h5 r0).bind fun h6 => (pF [4] 46 (.int (1 : Int32)) h6 r0).bind fun h7 => (pF [4] 47 (.int (0 : Int32)) h7 r0).bind fun h8 => if gC h8 r0 = 4 then bR (f_X5_next r0  h8) fun a9 g9 => f_X5_sentence_L48 (f_X5_sentence_b83) (f_X5_sentence_b115) (f_X5_sentence_b125) (f_X5_sentence_b132) xFu r0 (1 : Int32) g9 else none else none
theorem t_X5_sentence {G : xG} (C0 : xC) {l : Launch} {r0 : Nat} (h : mH) {o : Int32 × mH} (H : f_X5_sentence r0 h = some o) : XR G l mi_X5_sentence [.ref r0] h (some (.int o.1)) o.2 := by
  refine XR.of C0 (by decide) (Nat.le_of_ble_eq_true rfl) (fun C _ _ _ hE => ?_)
  show X G C mi_X5_sentence 0 [(0, .ref r0)] [] h
  unfold f_X5_sentence at H
  refine x_aload_n 0 rfl dX5_sentence_0 ?_
  refine x_iconst (0 : Int32) dX5_sentence_1 ic_0 ?_
  obtain ⟨h1, e1, H⟩ := ob H
  refine x_putf (fp_X5_1 _) rfl rfl e1 dX5_sentence_2 ?_
  refine x_aload_n 0 rfl dX5_sentence_5 ?_
  refine x_sipush (200 : Int32) dX5_sentence_6 si_200 ?_
  obtain ⟨c2, H⟩ := oit H
  obtain ⟨a2, g2, e2, H⟩ := obR H
  refine x_callV (M' := mi_X5_taken) (n := 1) (As := [.int (200 : Int32)]) (t_X5_taken C _ e2) c2 rfl rfl md_X5_taken ⟨Nat.le_of_ble_eq_true rfl, Nat.le_of_ble_eq_true rfl⟩ q2096 q2098 qs51 q131 q2099 rfl (Nat.le_of_ble_eq_true rfl) dX5_sentence_9 ?_
  refine x_aload_n 0 rfl dX5_sentence_12 ?_
  refine x_iconst (0 : Int32) dX5_sentence_13 ic_0 ?_
  obtain ⟨h3, e3, H⟩ := ob H
  refine x_putf (fp_X5_174 _) rfl rfl e3 dX5_sentence_14 ?_
  refine x_aload_n 0 rfl dX5_sentence_17 ?_
  refine x_iconst (0 : Int32) dX5_sentence_18 ic_0 ?_
  obtain ⟨h4, e4, H⟩ := ob H
  refine x_putf (fp_X5_431 _) rfl rfl e4 dX5_sentence_19 ?_
  refine x_aload_n 0 rfl dX5_sentence_22 ?_
  refine x_iconst (0 : Int32) dX5_sentence_23 ic_0 ?_
  obtain ⟨h5, e5, H⟩ := ob H
  refine x_putf (fp_X5_446 _) rfl rfl e5 dX5_sentence_24 ?_
  refine x_aload_n 0 rfl dX5_sentence_27 ?_
  refine x_iconst (0 : Int32) dX5_sentence_28 ic_0 ?_
  obtain ⟨h6, e6, H⟩ := ob H
  refine x_putf (fp_X5_434 _) rfl rfl e6 dX5_sentence_29 ?_
  refine x_aload_n 0 rfl dX5_sentence_32 ?_
  refine x_iconst (1 : Int32) dX5_sentence_33 ic_1 ?_
  obtain ⟨h7, e7, H⟩ := ob H
  refine x_putf (fp_X5_440 _) rfl rfl e7 dX5_sentence_34 ?_
  refine x_aload_n 0 rfl dX5_sentence_37 ?_
  refine x_iconst (0 : Int32) dX5_sentence_38 ic_0 ?_
  obtain ⟨h8, e8, H⟩ := ob H
  refine x_putf (fp_X5_449 _) rfl rfl e8 dX5_sentence_39 ?_
  refine x_aload_n 0 rfl dX5_sentence_42 ?_
  obtain ⟨c9, H⟩ := oit H
  obtain ⟨a9, g9, e9, H⟩ := obR H
  refine x_callV (M' := mi_X5_next) (n := 0) (As := []) (t_X5_next C _ e9) c9 rfl rfl md_X5_next ⟨Nat.le_of_ble_eq_true rfl, Nat.le_of_ble_eq_true rfl⟩ q2100 q2102 qs52 q131 q2103 rfl (Nat.le_of_ble_eq_true rfl) dX5_sentence_43 ?_
  refine x_iconst (1 : Int32) dX5_sentence_46 ic_1 ?_
  refine x_istore_n [1, 0] dX5_sentence_47 (by decide) rfl ?_
  exact t_X5_sentence_L48 hE (t_X5_sentence_b83 hE) (t_X5_sentence_b115 hE) (t_X5_sentence_b125 hE) (t_X5_sentence_b132 hE) xFu _ _ _ H
abbrev mi_X5_serve : xM := (cX5_serve, yX5_serve, 5, some .int, 4)
theorem md_X5_serve : xMD mi_X5_serve 1 := ⟨by decide, by decide, by decide +kernel⟩
def f_X5_serve_b116 (r0 : Nat) (x3 : Int32) (h : mH) : Option (Int32 × mH) := if 0 ≤ x3 then (pF [4] 30 (.int (1 : Int32)) h r0).bind fun h5 => (pF [4] 29 (.int x3) h5 r0).bind fun h6 => bR (f_X5_bits x3 h6) fun a7 g7 => some (a7, g7) else some ((-1 : Int32), h)
theorem t_X5_serve_b116 {G : xG} {C : xC} {o : Int32 × mH} (hE : xEnd G C (some (.int o.1)) o.2) (r0 : Nat) (x3 : Int32) (h : mH) (H : f_X5_serve_b116 r0 x3 h = some o) : X G C mi_X5_serve 116 [(0, .ref r0), (3, .int x3)] [] h := by
  unfold f_X5_serve_b116 at H
  refine x_iload_n 1 rfl dX5_serve_116 ?_
  refine x_if_ge 122 dX5_serve_117 (by decide) (fun c4 => ?_) (fun c4 => ?_)
  · rw [if_pos c4] at H
    refine x_aload_n 0 rfl dX5_serve_122 ?_
    refine x_iconst (1 : Int32) dX5_serve_123 ic_1 ?_
    obtain ⟨h5, e5, H⟩ := ob H
    refine x_putf (fp_X5_361 _) rfl rfl e5 dX5_serve_124 ?_
    refine x_aload_n 0 rfl dX5_serve_127 ?_
    refine x_iload_n 1 rfl dX5_serve_128 ?_
    obtain ⟨h6, e6, H⟩ := ob H
    refine x_putf (fp_X5_364 _) rfl rfl e6 dX5_serve_129 ?_
    refine x_iload_n 1 rfl dX5_serve_132 ?_
    obtain ⟨a7, g7, e7, H⟩ := obR H
    refine x_callS (M' := mi_X5_bits) (n := 1) (As := [.int x3]) (t_X5_bits C _ e7) md_X5_bits ⟨Nat.le_of_ble_eq_true rfl, Nat.le_of_ble_eq_true rfl⟩ q2236 q2237 q131 q2238 rfl (Nat.le_of_ble_eq_true rfl) dX5_serve_133 ?_
    obtain rfl := Option.some.inj H
    exact x_iret hE rfl rfl dX5_serve_136
  · rw [if_neg c4] at H
    refine x_iconst (-1 : Int32) dX5_serve_120 ic_m1 ?_
    obtain rfl := Option.some.inj H
    exact x_iret hE rfl rfl dX5_serve_121
def f_X5_serve_b110 (kb : Nat → Int32 → Int32 → Int32 → Int32 → mH → Option (Int32 × mH)) (k116 : Nat → Int32 → mH → Option (Int32 × mH)) (r0 : Nat) (x1 : Int32) (x2 : Int32) (x3 : Int32) (x4 : Int32) (h : mH) : Option (Int32 × mH) := kb r0 x1 x2 x3 (x4 + (1 : Int32)) h
theorem t_X5_serve_b110 {G : xG} {C : xC} {o : Int32 × mH} (hE : xEnd G C (some (.int o.1)) o.2) {kb : Nat → Int32 → Int32 → Int32 → Int32 → mH → Option (Int32 × mH)} (hkb : ∀ (r0 : Nat) (x1 : Int32) (x2 : Int32) (x3 : Int32) (x4 : Int32) (h : mH), kb r0 x1 x2 x3 x4 h = some o → X G C mi_X5_serve 66 [(0, .ref r0), (1, .int x1), (2, .int x2), (3, .int x3), (4, .int x4)] [] h) {k116 : Nat → Int32 → mH → Option (Int32 × mH)} (hk116 : ∀ (r0 : Nat) (x3 : Int32) (h : mH), k116 r0 x3 h = some o → X G C mi_X5_serve 116 [(0, .ref r0), (3, .int x3)] [] h) (r0 : Nat) (x1 : Int32) (x2 : Int32) (x3 : Int32) (x4 : Int32) (h : mH) (H : f_X5_serve_b110 kb k116 r0 x1 x2 x3 x4 h = some o) : X G C mi_X5_serve 110 [(0, .ref r0), (1, .int x1), (2, .int x2), (3, .int x3), (4, .int x4)] [] h := by
  unfold f_X5_serve_b110 at H
  refine x_iinc 4 (x4 + (1 : Int32)) [1, 2, 3, 4, 0] dX5_serve_110 rfl (ii_1 _) (by decide) rfl ?_
  refine x_goto (tgt := 66) dX5_serve_113 (by decide) ?_
  exact hkb _ _ _ _ _ _ H
def f_X5_serve_b97 (kb : Nat → Int32 → Int32 → Int32 → Int32 → mH → Option (Int32 × mH)) (k116 : Nat → Int32 → mH → Option (Int32 × mH)) (r0 : Nat) (x1 : Int32) (x2 : Int32) (x3 : Int32) (x4 : Int32) (h : mH) : Option (Int32 × mH) := if gC h r0 = 4 then bR (f_X5_isServed r0 x1 x4 h) fun a11 g11 => if a11 = 0 then f_X5_serve_b110 kb k116 r0 x1 x2 x3 x4 g11 else f_X5_serve_b110 kb k116 r0 x1 x2 x4 x4 g11 else none
theorem t_X5_serve_b97 {G : xG} {C : xC} {o : Int32 × mH} (hE : xEnd G C (some (.int o.1)) o.2) {kb : Nat → Int32 → Int32 → Int32 → Int32 → mH → Option (Int32 × mH)} (hkb : ∀ (r0 : Nat) (x1 : Int32) (x2 : Int32) (x3 : Int32) (x4 : Int32) (h : mH), kb r0 x1 x2 x3 x4 h = some o → X G C mi_X5_serve 66 [(0, .ref r0), (1, .int x1), (2, .int x2), (3, .int x3), (4, .int x4)] [] h) {k116 : Nat → Int32 → mH → Option (Int32 × mH)} (hk116 : ∀ (r0 : Nat) (x3 : Int32) (h : mH), k116 r0 x3 h = some o → X G C mi_X5_serve 116 [(0, .ref r0), (3, .int x3)] [] h) (r0 : Nat) (x1 : Int32) (x2 : Int32) (x3 : Int32) (x4 : Int32) (h : mH) (H : f_X5_serve_b97 kb k116 r0 x1 x2 x3 x4 h = some o) : X G C mi_X5_serve 97 [(0, .ref r0), (1, .int x1), (2, .int x2), (3, .int x3), (4, .int x4)] [] h := by
  unfold f_X5_serve_b97 at H
  refine x_aload_n 0 rfl dX5_serve_97 ?_
  refine x_iload_n 1 rfl dX5_serve_98 ?_
  refine x_iload 4 rfl dX5_serve_99 ?_
  obtain ⟨c11, H⟩ := oit H
  obtain ⟨a11, g11, e11, H⟩ := obR H
  refine x_callV (M' := mi_X5_isServed) (n := 2) (As := [.int x1, .int x4]) (t_X5_isServed C _ e11) c11 rfl rfl md_X5_isServed ⟨Nat.le_of_ble_eq_true rfl, Nat.le_of_ble_eq_true rfl⟩ q2358 q2360 qs96 q131 q2361 rfl (Nat.le_of_ble_eq_true rfl) dX5_serve_101 ?_
  refine x_if_eq 110 dX5_serve_104 (by decide) (fun c12 => ?_) (fun c12 => ?_)
  · rw [if_pos c12] at H
    exact t_X5_serve_b110 hE hkb hk116 _ _ _ _ _ _ H
  · rw [if_neg c12] at H
    refine x_iload 4 rfl dX5_serve_107 ?_
    refine x_istore_n [1, 2, 3, 0, 4] dX5_serve_109 (by decide) rfl ?_
    exact t_X5_serve_b110 hE hkb hk116 _ _ _ _ _ _ H
def f_X5_serve_L66 (k116 : Nat → Int32 → mH → Option (Int32 × mH)) : Nat → Nat → Int32 → Int32 → Int32 → Int32 → mH → Option (Int32 × mH)
  | 0, _, _, _, _, _, _ => none
  | n + 1, r0, x1, x2, x3, x4, h => if x2 < x4 then k116 r0 x3 h else if (x4 &&& (x2 ^^^ (-1 : Int32))) = 0 then if x3 < 0 then f_X5_serve_b97 (f_X5_serve_L66 k116 n) k116 r0 x1 x2 x3 x4 h else bR (f_X5_bits x4 h) fun a13 g13 => bR (f_X5_bits x3 g13) fun a14 g14 => if a14 ≤ a13 then f_X5_serve_b110 (f_X5_serve_L66 k116 n) k116 r0 x1 x2 x3 x4 g14 else f_X5_serve_b97 (f_X5_serve_L66 k116 n) k116 r0 x1 x2 x3 x4 g14 else f_X5_serve_b110 (f_X5_serve_L66 k116 n) k116 r0 x1 x2 x3 x4 h
theorem t_X5_serve_L66 {G : xG} {C : xC} {o : Int32 × mH} (hE : xEnd G C (some (.int o.1)) o.2) {k116 : Nat → Int32 → mH → Option (Int32 × mH)} (hk116 : ∀ (r0 : Nat) (x3 : Int32) (h : mH), k116 r0 x3 h = some o → X G C mi_X5_serve 116 [(0, .ref r0), (3, .int x3)] [] h) : ∀ (n : Nat) (r0 : Nat) (x1 : Int32) (x2 : Int32) (x3 : Int32) (x4 : Int32) (h : mH), f_X5_serve_L66 k116 n r0 x1 x2 x3 x4 h = some o → X G C mi_X5_serve 66 [(0, .ref r0), (1, .int x1), (2, .int x2), (3, .int x3), (4, .int x4)] [] h := by
  intro n
  induction n with
  | zero => intro r0 x1 x2 x3 x4 h H; exact nomatch (show (none : Option (Int32 × mH)) = some o from H)
  | succ n ih =>
    intro r0 x1 x2 x3 x4 h H
    rw [f_X5_serve_L66] at H
    refine x_iload 4 rfl dX5_serve_66 ?_
    refine x_iload_n 2 rfl dX5_serve_68 ?_
    refine x_icmp_gt 116 dX5_serve_69 (by decide) (fun c8 => ?_) (fun c8 => ?_)
    · rw [if_pos c8] at H
      refine X.sub [0, 3] rfl ?_
      exact hk116 _ _ _ H
    · rw [if_neg c8] at H
      refine x_iload 4 rfl dX5_serve_72 ?_
      refine x_iload_n 2 rfl dX5_serve_74 ?_
      refine x_iconst (-1 : Int32) dX5_serve_75 ic_m1 ?_
      refine x_ixor dX5_serve_76 ?_
      refine x_iand dX5_serve_77 ?_
      refine x_if_ne 110 dX5_serve_78 (by decide) (fun c9 => ?_) (fun c9 => ?_)
      · rw [if_neg c9] at H
        exact t_X5_serve_b110 hE ih hk116 _ _ _ _ _ _ H
      · rw [if_pos c9] at H
        refine x_iload_n 3 rfl dX5_serve_81 ?_
        refine x_if_lt 97 dX5_serve_82 (by decide) (fun c10 => ?_) (fun c10 => ?_)
        · rw [if_pos c10] at H
          exact t_X5_serve_b97 hE ih hk116 _ _ _ _ _ _ H
        · rw [if_neg c10] at H
          refine x_iload 4 rfl dX5_serve_85 ?_
          obtain ⟨a13, g13, e13, H⟩ := obR H
          refine x_callS (M' := mi_X5_bits) (n := 1) (As := [.int x4]) (t_X5_bits C _ e13) md_X5_bits ⟨Nat.le_of_ble_eq_true rfl, Nat.le_of_ble_eq_true rfl⟩ q2236 q2237 q131 q2238 rfl (Nat.le_of_ble_eq_true rfl) dX5_serve_87 ?_
          refine x_iload_n 3 rfl dX5_serve_90 ?_
          obtain ⟨a14, g14, e14, H⟩ := obR H
          refine x_callS (M' := mi_X5_bits) (n := 1) (As := [.int x3]) (t_X5_bits C _ e14) md_X5_bits ⟨Nat.le_of_ble_eq_true rfl, Nat.le_of_ble_eq_true rfl⟩ q2236 q2237 q131 q2238 rfl (Nat.le_of_ble_eq_true rfl) dX5_serve_91 ?_
          refine x_icmp_ge 110 dX5_serve_94 (by decide) (fun c15 => ?_) (fun c15 => ?_)
          · rw [if_pos c15] at H
            exact t_X5_serve_b110 hE ih hk116 _ _ _ _ _ _ H
          · rw [if_neg c15] at H
            exact t_X5_serve_b97 hE ih hk116 _ _ _ _ _ _ H
def f_X5_serve_b61 (r0 : Nat) (x1 : Int32) (x2 : Int32) (h : mH) : Option (Int32 × mH) := f_X5_serve_L66 (f_X5_serve_b116) xFu r0 x1 x2 (-1 : Int32) (0 : Int32) h
theorem t_X5_serve_b61 {G : xG} {C : xC} {o : Int32 × mH} (hE : xEnd G C (some (.int o.1)) o.2) (r0 : Nat) (x1 : Int32) (x2 : Int32) (h : mH) (H : f_X5_serve_b61 r0 x1 x2 h = some o) : X G C mi_X5_serve 61 [(0, .ref r0), (1, .int x1), (2, .int x2)] [] h := by
  unfold f_X5_serve_b61 at H
  refine x_iconst (-1 : Int32) dX5_serve_61 ic_m1 ?_
  refine x_istore_n [1, 2, 3, 0] dX5_serve_62 (by decide) rfl ?_
  refine x_iconst (0 : Int32) dX5_serve_63 ic_0 ?_
  refine x_istore [1, 2, 3, 4, 0] dX5_serve_64 (by decide) rfl ?_
  exact t_X5_serve_L66 hE (t_X5_serve_b116 hE) xFu _ _ _ _ _ _ H
def f_X5_serve_b53 (kb : Nat → Int32 → Int32 → Int32 → mH → Option (Int32 × mH)) (k61 : Nat → Int32 → Int32 → mH → Option (Int32 × mH)) (r0 : Nat) (x1 : Int32) (x3 : Int32) (s0 : Int32) (s1 : Int32) (h : mH) : Option (Int32 × mH) := kb r0 x1 (s0 ||| s1) (x3 + (1 : Int32)) h
theorem t_X5_serve_b53 {G : xG} {C : xC} {o : Int32 × mH} (hE : xEnd G C (some (.int o.1)) o.2) {kb : Nat → Int32 → Int32 → Int32 → mH → Option (Int32 × mH)} (hkb : ∀ (r0 : Nat) (x1 : Int32) (x2 : Int32) (x3 : Int32) (h : mH), kb r0 x1 x2 x3 h = some o → X G C mi_X5_serve 19 [(0, .ref r0), (1, .int x1), (2, .int x2), (3, .int x3)] [] h) {k61 : Nat → Int32 → Int32 → mH → Option (Int32 × mH)} (hk61 : ∀ (r0 : Nat) (x1 : Int32) (x2 : Int32) (h : mH), k61 r0 x1 x2 h = some o → X G C mi_X5_serve 61 [(0, .ref r0), (1, .int x1), (2, .int x2)] [] h) (r0 : Nat) (x1 : Int32) (x3 : Int32) (s0 : Int32) (s1 : Int32) (h : mH) (H : f_X5_serve_b53 kb k61 r0 x1 x3 s0 s1 h = some o) : X G C mi_X5_serve 53 [(0, .ref r0), (1, .int x1), (3, .int x3)] [.int s1, .int s0] h := by
  unfold f_X5_serve_b53 at H
  refine x_ior dX5_serve_53 ?_
  refine x_istore_n [1, 2, 0, 3] dX5_serve_54 (by decide) rfl ?_
  refine x_iinc 3 (x3 + (1 : Int32)) [1, 2, 3, 0] dX5_serve_55 rfl (ii_1 _) (by decide) rfl ?_
  refine x_goto (tgt := 19) dX5_serve_58 (by decide) ?_
  exact hkb _ _ _ _ _ H
def f_X5_serve_L19 (k61 : Nat → Int32 → Int32 → mH → Option (Int32 × mH)) : Nat → Nat → Int32 → Int32 → Int32 → mH → Option (Int32 × mH)
  | 0, _, _, _, _, _ => none
  | n + 1, r0, x1, x2, x3, h => (gFr [4] 6 h r0).bind fun v16 => (aI .int h v16 (0 : Int32)).bind fun v17 => if v17 ≤ x3 then k61 r0 x1 x2 h else (gFr [4] 6 h r0).bind fun v19 => (aI .int h v19 (((47 : Int32) + ((5 : Int32) * x3)) + x1)).bind fun v20 => if v20 ≤ 0 then f_X5_serve_b53 (f_X5_serve_L19 k61 n) k61 r0 x1 x3 x2 (0 : Int32) h else f_X5_serve_b53 (f_X5_serve_L19 k61 n) k61 r0 x1 x3 x2 ((1 : Int32) <<< (x3 &&& 31)) h
theorem t_X5_serve_L19 {G : xG} {C : xC} {o : Int32 × mH} (hE : xEnd G C (some (.int o.1)) o.2) {k61 : Nat → Int32 → Int32 → mH → Option (Int32 × mH)} (hk61 : ∀ (r0 : Nat) (x1 : Int32) (x2 : Int32) (h : mH), k61 r0 x1 x2 h = some o → X G C mi_X5_serve 61 [(0, .ref r0), (1, .int x1), (2, .int x2)] [] h) : ∀ (n : Nat) (r0 : Nat) (x1 : Int32) (x2 : Int32) (x3 : Int32) (h : mH), f_X5_serve_L19 k61 n r0 x1 x2 x3 h = some o → X G C mi_X5_serve 19 [(0, .ref r0), (1, .int x1), (2, .int x2), (3, .int x3)] [] h := by
  intro n
  induction n with
  | zero => intro r0 x1 x2 x3 h H; exact nomatch (show (none : Option (Int32 × mH)) = some o from H)
  | succ n ih =>
    intro r0 x1 x2 x3 h H
    rw [f_X5_serve_L19] at H
    refine x_iload_n 3 rfl dX5_serve_19 ?_
    refine x_aload_n 0 rfl dX5_serve_20 ?_
    obtain ⟨v16, e16, H⟩ := ob H
    refine x_getf fg_X5_33 (gFr_spec e16) dX5_serve_21 ?_
    refine x_iconst (0 : Int32) dX5_serve_24 ic_0 ?_
    obtain ⟨v17, e17, H⟩ := ob H
    refine x_iald e17 dX5_serve_25 ?_
    refine x_icmp_ge 61 dX5_serve_26 (by decide) (fun c18 => ?_) (fun c18 => ?_)
    · rw [if_pos c18] at H
      refine X.sub [0, 1, 2] rfl ?_
      exact hk61 _ _ _ _ H
    · rw [if_neg c18] at H
      refine x_iload_n 2 rfl dX5_serve_29 ?_
      refine x_aload_n 0 rfl dX5_serve_30 ?_
      obtain ⟨v19, e19, H⟩ := ob H
      refine x_getf fg_X5_33 (gFr_spec e19) dX5_serve_31 ?_
      refine x_bipush (47 : Int32) dX5_serve_34 bi_47 ?_
      refine x_iconst (5 : Int32) dX5_serve_36 ic_5 ?_
      refine x_iload_n 3 rfl dX5_serve_37 ?_
      refine x_imul dX5_serve_38 ?_
      refine x_iadd dX5_serve_39 ?_
      refine x_iload_n 1 rfl dX5_serve_40 ?_
      refine x_iadd dX5_serve_41 ?_
      obtain ⟨v20, e20, H⟩ := ob H
      refine x_iald e20 dX5_serve_42 ?_
      refine x_if_le 52 dX5_serve_43 (by decide) (fun c21 => ?_) (fun c21 => ?_)
      · rw [if_pos c21] at H
        refine x_iconst (0 : Int32) dX5_serve_52 ic_0 ?_
        refine X.sub [0, 1, 3] rfl ?_
        exact t_X5_serve_b53 hE ih hk61 _ _ _ _ _ _ H
      · rw [if_neg c21] at H
        refine x_iconst (1 : Int32) dX5_serve_46 ic_1 ?_
        refine x_iload_n 3 rfl dX5_serve_47 ?_
        refine x_ishl dX5_serve_48 ?_
        refine x_goto (tgt := 53) dX5_serve_49 (by decide) ?_
        refine X.sub [0, 1, 3] rfl ?_
        exact t_X5_serve_b53 hE ih hk61 _ _ _ _ _ _ H
def f_X5_serve (r0 : Nat) (x1 : Int32) (h : mH) : Option (Int32 × mH) := (pF [4] 0 (.int (0 : Int32)) h r0).bind fun h1 => if gC h1 r0 = 4 then bR (f_X5_isGood r0 x1 h1) fun a2 g2 => if a2 = 0 then some ((-1 : Int32), g2) else f_X5_serve_L19 (f_X5_serve_b61) xFu r0 x1 (0 : Int32) (0 : Int32) g2 else none
theorem t_X5_serve {G : xG} (C0 : xC) {l : Launch} {r0 : Nat} {x1 : Int32} (h : mH) {o : Int32 × mH} (H : f_X5_serve r0 x1 h = some o) : XR G l mi_X5_serve [.ref r0, .int x1] h (some (.int o.1)) o.2 := by
  refine XR.of C0 (by decide) (Nat.le_of_ble_eq_true rfl) (fun C _ _ _ hE => ?_)
  show X G C mi_X5_serve 0 [(0, .ref r0), (1, .int x1)] [] h
  unfold f_X5_serve at H
  refine x_aload_n 0 rfl dX5_serve_0 ?_
  refine x_iconst (0 : Int32) dX5_serve_1 ic_0 ?_
  obtain ⟨h1, e1, H⟩ := ob H
  refine x_putf (fp_X5_1 _) rfl rfl e1 dX5_serve_2 ?_
  refine x_aload_n 0 rfl dX5_serve_5 ?_
  refine x_iload_n 1 rfl dX5_serve_6 ?_
  obtain ⟨c2, H⟩ := oit H
  obtain ⟨a2, g2, e2, H⟩ := obR H
  refine x_callV (M' := mi_X5_isGood) (n := 1) (As := [.int x1]) (t_X5_isGood C _ e2) c2 rfl rfl md_X5_isGood ⟨Nat.le_of_ble_eq_true rfl, Nat.le_of_ble_eq_true rfl⟩ q2224 q2226 qs77 q131 q2227 rfl (Nat.le_of_ble_eq_true rfl) dX5_serve_7 ?_
  refine x_if_ne 15 dX5_serve_10 (by decide) (fun c3 => ?_) (fun c3 => ?_)
  · rw [if_neg c3] at H
    refine x_iconst (0 : Int32) dX5_serve_15 ic_0 ?_
    refine x_istore_n [1, 2, 0] dX5_serve_16 (by decide) rfl ?_
    refine x_iconst (0 : Int32) dX5_serve_17 ic_0 ?_
    refine x_istore_n [1, 2, 3, 0] dX5_serve_18 (by decide) rfl ?_
    exact t_X5_serve_L19 hE (t_X5_serve_b61 hE) xFu _ _ _ _ _ H
  · rw [if_pos c3] at H
    refine x_iconst (-1 : Int32) dX5_serve_13 ic_m1 ?_
    obtain rfl := Option.some.inj H
    exact x_iret hE rfl rfl dX5_serve_14
abbrev mi_X5_serving : xM := (cX5_serving, yX5_serving, 1, some .int, 1)
theorem md_X5_serving : xMD mi_X5_serving 0 := ⟨by decide, by decide, by decide +kernel⟩
def f_X5_serving (r0 : Nat) (h : mH) : Option (Int32 × mH) := (pF [4] 0 (.int (0 : Int32)) h r0).bind fun h1 => (gFi [4] 30 h1 r0).bind fun v2 => if v2 = 0 then some ((-1 : Int32), h1) else (gFi [4] 29 h1 r0).bind fun v4 => some (v4, h1)
theorem t_X5_serving {G : xG} (C0 : xC) {l : Launch} {r0 : Nat} (h : mH) {o : Int32 × mH} (H : f_X5_serving r0 h = some o) : XR G l mi_X5_serving [.ref r0] h (some (.int o.1)) o.2 := by
  refine XR.of C0 (by decide) (Nat.le_of_ble_eq_true rfl) (fun C _ _ _ hE => ?_)
  show X G C mi_X5_serving 0 [(0, .ref r0)] [] h
  unfold f_X5_serving at H
  refine x_aload_n 0 rfl dX5_serving_0 ?_
  refine x_iconst (0 : Int32) dX5_serving_1 ic_0 ?_
  obtain ⟨h1, e1, H⟩ := ob H
  refine x_putf (fp_X5_1 _) rfl rfl e1 dX5_serving_2 ?_
  refine x_aload_n 0 rfl dX5_serving_5 ?_
  obtain ⟨v2, e2, H⟩ := ob H
  refine x_getf fg_X5_361 (gFi_spec e2) dX5_serving_6 ?_
  refine x_if_eq 19 dX5_serving_9 (by decide) (fun c3 => ?_) (fun c3 => ?_)
  · rw [if_pos c3] at H
    refine x_iconst (-1 : Int32) dX5_serving_19 ic_m1 ?_
    obtain rfl := Option.some.inj H
    exact x_iret hE rfl rfl dX5_serving_20
  · rw [if_neg c3] at H
    refine x_aload_n 0 rfl dX5_serving_12 ?_
    obtain ⟨v4, e4, H⟩ := ob H
    refine x_getf fg_X5_364 (gFi_spec e4) dX5_serving_13 ?_
    refine x_goto (tgt := 20) dX5_serving_16 (by decide) ?_
    obtain rfl := Option.some.inj H
    exact x_iret hE rfl rfl dX5_serving_20
abbrev mi_X5_tell : xM := (cX5_tell, yX5_tell, 5, some .int, 3)
theorem md_X5_tell : xMD mi_X5_tell 3 := ⟨by decide, by decide, by decide +kernel⟩
def f_X5_tell (r0 : Nat) (x1 : Int32) (x2 : Int32) (x3 : Int32) (h : mH) : Option (Int32 × mH) := (pF [4] 0 (.int (0 : Int32)) h r0).bind fun h1 => if gC h1 r0 = 4 then bR (f_X5_isPerson r0 x1 h1) fun a2 g2 => if a2 = 0 then some ((-1 : Int32), g2) else if gC g2 r0 = 4 then bR (f_X5_isPerson r0 x2 g2) fun a4 g4 => if a4 = 0 then some ((-1 : Int32), g4) else if gC g4 r0 = 4 then bR (f_X5_isPerson r0 x3 g4) fun a6 g6 => if a6 = 0 then some ((-1 : Int32), g6) else if gC g6 r0 = 4 then bR (f_X5_whyTell r0 x1 x2 x3 g6) fun a8 g8 => if a8 ≤ 0 then if gC g8 r0 = 4 then bR (f_X5_keep r0  g8) fun a10 g10 => if gC g10 r0 = 4 then bR (f_X5_meets r0 x2 x3 g10) fun a11 g11 => some ((0 : Int32), g11) else none else none else some (a8, g8) else none else none else none else none
theorem t_X5_tell {G : xG} (C0 : xC) {l : Launch} {r0 : Nat} {x1 : Int32} {x2 : Int32} {x3 : Int32} (h : mH) {o : Int32 × mH} (H : f_X5_tell r0 x1 x2 x3 h = some o) : XR G l mi_X5_tell [.ref r0, .int x1, .int x2, .int x3] h (some (.int o.1)) o.2 := by
  refine XR.of C0 (by decide) (Nat.le_of_ble_eq_true rfl) (fun C _ _ _ hE => ?_)
  show X G C mi_X5_tell 0 [(0, .ref r0), (1, .int x1), (2, .int x2), (3, .int x3)] [] h
  unfold f_X5_tell at H
  refine x_aload_n 0 rfl dX5_tell_0 ?_
  refine x_iconst (0 : Int32) dX5_tell_1 ic_0 ?_
  obtain ⟨h1, e1, H⟩ := ob H
  refine x_putf (fp_X5_1 _) rfl rfl e1 dX5_tell_2 ?_
  refine x_aload_n 0 rfl dX5_tell_5 ?_
  refine x_iload_n 1 rfl dX5_tell_6 ?_
  obtain ⟨c2, H⟩ := oit H
  obtain ⟨a2, g2, e2, H⟩ := obR H
  refine x_callV (M' := mi_X5_isPerson) (n := 1) (As := [.int x1]) (t_X5_isPerson C _ e2) c2 rfl rfl md_X5_isPerson ⟨Nat.le_of_ble_eq_true rfl, Nat.le_of_ble_eq_true rfl⟩ q2200 q2202 qs72 q131 q2203 rfl (Nat.le_of_ble_eq_true rfl) dX5_tell_7 ?_
  refine x_if_eq 29 dX5_tell_10 (by decide) (fun c3 => ?_) (fun c3 => ?_)
  · rw [if_pos c3] at H
    refine x_iconst (-1 : Int32) dX5_tell_29 ic_m1 ?_
    obtain rfl := Option.some.inj H
    exact x_iret hE rfl rfl dX5_tell_30
  · rw [if_neg c3] at H
    refine x_aload_n 0 rfl dX5_tell_13 ?_
    refine x_iload_n 2 rfl dX5_tell_14 ?_
    obtain ⟨c4, H⟩ := oit H
    obtain ⟨a4, g4, e4, H⟩ := obR H
    refine x_callV (M' := mi_X5_isPerson) (n := 1) (As := [.int x2]) (t_X5_isPerson C _ e4) c4 rfl rfl md_X5_isPerson ⟨Nat.le_of_ble_eq_true rfl, Nat.le_of_ble_eq_true rfl⟩ q2200 q2202 qs72 q131 q2203 rfl (Nat.le_of_ble_eq_true rfl) dX5_tell_15 ?_
    refine x_if_eq 29 dX5_tell_18 (by decide) (fun c5 => ?_) (fun c5 => ?_)
    · rw [if_pos c5] at H
      refine x_iconst (-1 : Int32) dX5_tell_29 ic_m1 ?_
      obtain rfl := Option.some.inj H
      exact x_iret hE rfl rfl dX5_tell_30
    · rw [if_neg c5] at H
      refine x_aload_n 0 rfl dX5_tell_21 ?_
      refine x_iload_n 3 rfl dX5_tell_22 ?_
      obtain ⟨c6, H⟩ := oit H
      obtain ⟨a6, g6, e6, H⟩ := obR H
      refine x_callV (M' := mi_X5_isPerson) (n := 1) (As := [.int x3]) (t_X5_isPerson C _ e6) c6 rfl rfl md_X5_isPerson ⟨Nat.le_of_ble_eq_true rfl, Nat.le_of_ble_eq_true rfl⟩ q2200 q2202 qs72 q131 q2203 rfl (Nat.le_of_ble_eq_true rfl) dX5_tell_23 ?_
      refine x_if_ne 31 dX5_tell_26 (by decide) (fun c7 => ?_) (fun c7 => ?_)
      · rw [if_neg c7] at H
        refine x_aload_n 0 rfl dX5_tell_31 ?_
        refine x_iload_n 1 rfl dX5_tell_32 ?_
        refine x_iload_n 2 rfl dX5_tell_33 ?_
        refine x_iload_n 3 rfl dX5_tell_34 ?_
        obtain ⟨c8, H⟩ := oit H
        obtain ⟨a8, g8, e8, H⟩ := obR H
        refine x_callV (M' := mi_X5_whyTell) (n := 3) (As := [.int x1, .int x2, .int x3]) (t_X5_whyTell C _ e8) c8 rfl rfl md_X5_whyTell ⟨Nat.le_of_ble_eq_true rfl, Nat.le_of_ble_eq_true rfl⟩ q2299 q2301 qs89 q131 q2302 rfl (Nat.le_of_ble_eq_true rfl) dX5_tell_35 ?_
        refine x_istore [1, 2, 3, 4, 0] dX5_tell_38 (by decide) rfl ?_
        refine x_iload 4 rfl dX5_tell_40 ?_
        refine x_if_le 48 dX5_tell_42 (by decide) (fun c9 => ?_) (fun c9 => ?_)
        · rw [if_pos c9] at H
          refine x_aload_n 0 rfl dX5_tell_48 ?_
          obtain ⟨c10, H⟩ := oit H
          obtain ⟨a10, g10, e10, H⟩ := obR H
          refine x_callV (M' := mi_X5_keep) (n := 0) (As := []) (t_X5_keep C _ e10) c10 rfl rfl md_X5_keep ⟨Nat.le_of_ble_eq_true rfl, Nat.le_of_ble_eq_true rfl⟩ q2259 q2261 qs82 q131 q2262 rfl (Nat.le_of_ble_eq_true rfl) dX5_tell_49 ?_
          refine x_aload_n 0 rfl dX5_tell_52 ?_
          refine x_iload_n 2 rfl dX5_tell_53 ?_
          refine x_iload_n 3 rfl dX5_tell_54 ?_
          obtain ⟨c11, H⟩ := oit H
          obtain ⟨a11, g11, e11, H⟩ := obR H
          refine x_callV (M' := mi_X5_meets) (n := 2) (As := [.int x2, .int x3]) (t_X5_meets C _ e11) c11 rfl rfl md_X5_meets ⟨Nat.le_of_ble_eq_true rfl, Nat.le_of_ble_eq_true rfl⟩ q2267 q2269 qs84 q131 q2270 rfl (Nat.le_of_ble_eq_true rfl) dX5_tell_55 ?_
          refine x_iconst (0 : Int32) dX5_tell_58 ic_0 ?_
          obtain rfl := Option.some.inj H
          exact x_iret hE rfl rfl dX5_tell_59
        · rw [if_neg c9] at H
          refine x_iload 4 rfl dX5_tell_45 ?_
          obtain rfl := Option.some.inj H
          exact x_iret hE rfl rfl dX5_tell_47
      · rw [if_pos c7] at H
        refine x_iconst (-1 : Int32) dX5_tell_29 ic_m1 ?_
        obtain rfl := Option.some.inj H
        exact x_iret hE rfl rfl dX5_tell_30
abbrev mi_X5_thrown : xM := (cX5_thrown, yX5_thrown, 1, some .int, 1)
theorem md_X5_thrown : xMD mi_X5_thrown 0 := ⟨by decide, by decide, by decide +kernel⟩
def f_X5_thrown (r0 : Nat) (h : mH) : Option (Int32 × mH) := (gFi [4] 0 h r0).bind fun v1 => some (v1, h)
theorem t_X5_thrown {G : xG} (C0 : xC) {l : Launch} {r0 : Nat} (h : mH) {o : Int32 × mH} (H : f_X5_thrown r0 h = some o) : XR G l mi_X5_thrown [.ref r0] h (some (.int o.1)) o.2 := by
  refine XR.of C0 (by decide) (Nat.le_of_ble_eq_true rfl) (fun C _ _ _ hE => ?_)
  show X G C mi_X5_thrown 0 [(0, .ref r0)] [] h
  unfold f_X5_thrown at H
  refine x_aload_n 0 rfl dX5_thrown_0 ?_
  obtain ⟨v1, e1, H⟩ := ob H
  refine x_getf fg_X5_1 (gFi_spec e1) dX5_thrown_1 ?_
  obtain rfl := Option.some.inj H
  exact x_iret hE rfl rfl dX5_thrown_4
abbrev mi_X5_told : xM := (cX5_told, yX5_told, 2, some .int, 2)
theorem md_X5_told : xMD mi_X5_told 1 := ⟨by decide, by decide, by decide +kernel⟩
def f_X5_told (r0 : Nat) (x1 : Int32) (h : mH) : Option (Int32 × mH) := (pF [4] 0 (.int (0 : Int32)) h r0).bind fun h1 => (gFi [4] 41 h1 r0).bind fun v2 => if v2 = 0 then some ((-1 : Int32), h1) else bR (f_X5_isIn x1 (0 : Int32) (3 : Int32) h1) fun a4 g4 => if a4 = 0 then some ((-1 : Int32), g4) else (gFr [4] 40 g4 r0).bind fun v6 => (aI .int g4 v6 x1).bind fun v7 => some (v7, g4)
theorem t_X5_told {G : xG} (C0 : xC) {l : Launch} {r0 : Nat} {x1 : Int32} (h : mH) {o : Int32 × mH} (H : f_X5_told r0 x1 h = some o) : XR G l mi_X5_told [.ref r0, .int x1] h (some (.int o.1)) o.2 := by
  refine XR.of C0 (by decide) (Nat.le_of_ble_eq_true rfl) (fun C _ _ _ hE => ?_)
  show X G C mi_X5_told 0 [(0, .ref r0), (1, .int x1)] [] h
  unfold f_X5_told at H
  refine x_aload_n 0 rfl dX5_told_0 ?_
  refine x_iconst (0 : Int32) dX5_told_1 ic_0 ?_
  obtain ⟨h1, e1, H⟩ := ob H
  refine x_putf (fp_X5_1 _) rfl rfl e1 dX5_told_2 ?_
  refine x_aload_n 0 rfl dX5_told_5 ?_
  obtain ⟨v2, e2, H⟩ := ob H
  refine x_getf fg_X5_428 (gFi_spec e2) dX5_told_6 ?_
  refine x_if_eq 30 dX5_told_9 (by decide) (fun c3 => ?_) (fun c3 => ?_)
  · rw [if_pos c3] at H
    refine x_iconst (-1 : Int32) dX5_told_30 ic_m1 ?_
    obtain rfl := Option.some.inj H
    exact x_iret hE rfl rfl dX5_told_31
  · rw [if_neg c3] at H
    refine x_iload_n 1 rfl dX5_told_12 ?_
    refine x_iconst (0 : Int32) dX5_told_13 ic_0 ?_
    refine x_iconst (3 : Int32) dX5_told_14 ic_3 ?_
    obtain ⟨a4, g4, e4, H⟩ := obR H
    refine x_callS (M' := mi_X5_isIn) (n := 3) (As := [.int x1, .int (0 : Int32), .int (3 : Int32)]) (t_X5_isIn C _ e4) md_X5_isIn ⟨Nat.le_of_ble_eq_true rfl, Nat.le_of_ble_eq_true rfl⟩ q2150 q2151 q131 q2152 rfl (Nat.le_of_ble_eq_true rfl) dX5_told_15 ?_
    refine x_if_eq 30 dX5_told_18 (by decide) (fun c5 => ?_) (fun c5 => ?_)
    · rw [if_pos c5] at H
      refine x_iconst (-1 : Int32) dX5_told_30 ic_m1 ?_
      obtain rfl := Option.some.inj H
      exact x_iret hE rfl rfl dX5_told_31
    · rw [if_neg c5] at H
      refine x_aload_n 0 rfl dX5_told_21 ?_
      obtain ⟨v6, e6, H⟩ := ob H
      refine x_getf fg_X5_77 (gFr_spec e6) dX5_told_22 ?_
      refine x_iload_n 1 rfl dX5_told_25 ?_
      obtain ⟨v7, e7, H⟩ := ob H
      refine x_iald e7 dX5_told_26 ?_
      refine x_goto (tgt := 31) dX5_told_27 (by decide) ?_
      obtain rfl := Option.some.inj H
      exact x_iret hE rfl rfl dX5_told_31
abbrev mi_X5_undo : xM := (cX5_undo, yX5_undo, 2, some .int, 1)
theorem md_X5_undo : xMD mi_X5_undo 0 := ⟨by decide, by decide, by decide +kernel⟩
def f_X5_undo_b64 (r0 : Nat) (h : mH) : Option (Int32 × mH) := (gFi [4] 23 h r0).bind fun v6 => some (v6, h)
theorem t_X5_undo_b64 {G : xG} {C : xC} {o : Int32 × mH} (hE : xEnd G C (some (.int o.1)) o.2) (r0 : Nat) (h : mH) (H : f_X5_undo_b64 r0 h = some o) : X G C mi_X5_undo 64 [(0, .ref r0)] [] h := by
  unfold f_X5_undo_b64 at H
  refine x_aload_n 0 rfl dX5_undo_64 ?_
  obtain ⟨v6, e6, H⟩ := ob H
  refine x_getf fg_X5_262 (gFi_spec e6) dX5_undo_65 ?_
  obtain rfl := Option.some.inj H
  exact x_iret hE rfl rfl dX5_undo_68
def f_X5_undo_L26 (k64 : Nat → mH → Option (Int32 × mH)) : Nat → Nat → Int32 → mH → Option (Int32 × mH)
  | 0, _, _, _ => none
  | n + 1, r0, x1, h => if (145 : Int32) ≤ x1 then k64 r0 h else (gFr [4] 6 h r0).bind fun v8 => (gFr [4] 21 h r0).bind fun v9 => (gFi [4] 23 h r0).bind fun v10 => (aI .int h v9 (((145 : Int32) * v10) + x1)).bind fun v11 => (sI .int h v8 ((131 : Int32) + x1) v11).bind fun h12 => (f_X5_undo_L26 k64 n) r0 (x1 + (1 : Int32)) h12
theorem t_X5_undo_L26 {G : xG} {C : xC} {o : Int32 × mH} (hE : xEnd G C (some (.int o.1)) o.2) {k64 : Nat → mH → Option (Int32 × mH)} (hk64 : ∀ (r0 : Nat) (h : mH), k64 r0 h = some o → X G C mi_X5_undo 64 [(0, .ref r0)] [] h) : ∀ (n : Nat) (r0 : Nat) (x1 : Int32) (h : mH), f_X5_undo_L26 k64 n r0 x1 h = some o → X G C mi_X5_undo 26 [(0, .ref r0), (1, .int x1)] [] h := by
  intro n
  induction n with
  | zero => intro r0 x1 h H; exact nomatch (show (none : Option (Int32 × mH)) = some o from H)
  | succ n ih =>
    intro r0 x1 h H
    rw [f_X5_undo_L26] at H
    refine x_iload_n 1 rfl dX5_undo_26 ?_
    refine x_sipush (145 : Int32) dX5_undo_27 si_145 ?_
    refine x_icmp_ge 64 dX5_undo_30 (by decide) (fun c7 => ?_) (fun c7 => ?_)
    · rw [if_pos c7] at H
      refine X.sub [0] rfl ?_
      exact hk64 _ _ H
    · rw [if_neg c7] at H
      refine x_aload_n 0 rfl dX5_undo_33 ?_
      obtain ⟨v8, e8, H⟩ := ob H
      refine x_getf fg_X5_33 (gFr_spec e8) dX5_undo_34 ?_
      refine x_sipush (131 : Int32) dX5_undo_37 si_131 ?_
      refine x_iload_n 1 rfl dX5_undo_40 ?_
      refine x_iadd dX5_undo_41 ?_
      refine x_aload_n 0 rfl dX5_undo_42 ?_
      obtain ⟨v9, e9, H⟩ := ob H
      refine x_getf fg_X5_50 (gFr_spec e9) dX5_undo_43 ?_
      refine x_sipush (145 : Int32) dX5_undo_46 si_145 ?_
      refine x_aload_n 0 rfl dX5_undo_49 ?_
      obtain ⟨v10, e10, H⟩ := ob H
      refine x_getf fg_X5_262 (gFi_spec e10) dX5_undo_50 ?_
      refine x_imul dX5_undo_53 ?_
      refine x_iload_n 1 rfl dX5_undo_54 ?_
      refine x_iadd dX5_undo_55 ?_
      obtain ⟨v11, e11, H⟩ := ob H
      refine x_iald e11 dX5_undo_56 ?_
      obtain ⟨h12, e12, H⟩ := ob H
      refine x_iast e12 dX5_undo_57 ?_
      refine x_iinc 1 (x1 + (1 : Int32)) [1, 0] dX5_undo_58 rfl (ii_1 _) (by decide) rfl ?_
      refine x_goto (tgt := 26) dX5_undo_61 (by decide) ?_
      exact ih _ _ _ H
def f_X5_undo (r0 : Nat) (h : mH) : Option (Int32 × mH) := (pF [4] 0 (.int (0 : Int32)) h r0).bind fun h1 => (gFi [4] 23 h1 r0).bind fun v2 => if v2 = 0 then some ((-1 : Int32), h1) else (gFi [4] 23 h1 r0).bind fun v4 => (pF [4] 23 (.int (v4 - (1 : Int32))) h1 r0).bind fun h5 => f_X5_undo_L26 (f_X5_undo_b64) xFu r0 (0 : Int32) h5
theorem t_X5_undo {G : xG} (C0 : xC) {l : Launch} {r0 : Nat} (h : mH) {o : Int32 × mH} (H : f_X5_undo r0 h = some o) : XR G l mi_X5_undo [.ref r0] h (some (.int o.1)) o.2 := by
  refine XR.of C0 (by decide) (Nat.le_of_ble_eq_true rfl) (fun C _ _ _ hE => ?_)
  show X G C mi_X5_undo 0 [(0, .ref r0)] [] h
  unfold f_X5_undo at H
  refine x_aload_n 0 rfl dX5_undo_0 ?_
  refine x_iconst (0 : Int32) dX5_undo_1 ic_0 ?_
  obtain ⟨h1, e1, H⟩ := ob H
  refine x_putf (fp_X5_1 _) rfl rfl e1 dX5_undo_2 ?_
  refine x_aload_n 0 rfl dX5_undo_5 ?_
  obtain ⟨v2, e2, H⟩ := ob H
  refine x_getf fg_X5_262 (gFi_spec e2) dX5_undo_6 ?_
  refine x_if_ne 14 dX5_undo_9 (by decide) (fun c3 => ?_) (fun c3 => ?_)
  · rw [if_neg c3] at H
    refine x_aload_n 0 rfl dX5_undo_14 ?_
    refine x_dup dX5_undo_15 rfl ?_
    obtain ⟨v4, e4, H⟩ := ob H
    refine x_getf fg_X5_262 (gFi_spec e4) dX5_undo_16 ?_
    refine x_iconst (1 : Int32) dX5_undo_19 ic_1 ?_
    refine x_isub dX5_undo_20 ?_
    obtain ⟨h5, e5, H⟩ := ob H
    refine x_putf (fp_X5_262 _) rfl rfl e5 dX5_undo_21 ?_
    refine x_iconst (0 : Int32) dX5_undo_24 ic_0 ?_
    refine x_istore_n [1, 0] dX5_undo_25 (by decide) rfl ?_
    exact t_X5_undo_L26 hE (t_X5_undo_b64 hE) xFu _ _ _ H
  · rw [if_pos c3] at H
    refine x_iconst (-1 : Int32) dX5_undo_12 ic_m1 ?_
    obtain rfl := Option.some.inj H
    exact x_iret hE rfl rfl dX5_undo_13
abbrev mi_X5_veil : xM := (cX5_veil, yX5_veil, 3, some .int, 4)
theorem md_X5_veil : xMD mi_X5_veil 1 := ⟨by decide, by decide, by decide +kernel⟩
def f_X5_veil (r0 : Nat) (x1 : Int32) (h : mH) : Option (Int32 × mH) := (pF [4] 0 (.int (0 : Int32)) h r0).bind fun h1 => if gC h1 r0 = 4 then bR (f_X5_isPerson r0 x1 h1) fun a2 g2 => if a2 = 0 then some ((-1 : Int32), g2) else if gC g2 r0 = 4 then bR (f_X5_whyVeil r0 x1 g2) fun a4 g4 => if a4 ≤ 0 then if gC g4 r0 = 4 then bR (f_X5_keep r0  g4) fun a6 g6 => if gC g6 r0 = 4 then bR (f_X5_veils r0 x1 g6) fun a7 g7 => some ((0 : Int32), g7) else none else none else some (a4, g4) else none else none
theorem t_X5_veil {G : xG} (C0 : xC) {l : Launch} {r0 : Nat} {x1 : Int32} (h : mH) {o : Int32 × mH} (H : f_X5_veil r0 x1 h = some o) : XR G l mi_X5_veil [.ref r0, .int x1] h (some (.int o.1)) o.2 := by
  refine XR.of C0 (by decide) (Nat.le_of_ble_eq_true rfl) (fun C _ _ _ hE => ?_)
  show X G C mi_X5_veil 0 [(0, .ref r0), (1, .int x1)] [] h
  unfold f_X5_veil at H
  refine x_aload_n 0 rfl dX5_veil_0 ?_
  refine x_iconst (0 : Int32) dX5_veil_1 ic_0 ?_
  obtain ⟨h1, e1, H⟩ := ob H
  refine x_putf (fp_X5_1 _) rfl rfl e1 dX5_veil_2 ?_
  refine x_aload_n 0 rfl dX5_veil_5 ?_
  refine x_iload_n 1 rfl dX5_veil_6 ?_
  obtain ⟨c2, H⟩ := oit H
  obtain ⟨a2, g2, e2, H⟩ := obR H
  refine x_callV (M' := mi_X5_isPerson) (n := 1) (As := [.int x1]) (t_X5_isPerson C _ e2) c2 rfl rfl md_X5_isPerson ⟨Nat.le_of_ble_eq_true rfl, Nat.le_of_ble_eq_true rfl⟩ q2200 q2202 qs72 q131 q2203 rfl (Nat.le_of_ble_eq_true rfl) dX5_veil_7 ?_
  refine x_if_ne 15 dX5_veil_10 (by decide) (fun c3 => ?_) (fun c3 => ?_)
  · rw [if_neg c3] at H
    refine x_aload_n 0 rfl dX5_veil_15 ?_
    refine x_iload_n 1 rfl dX5_veil_16 ?_
    obtain ⟨c4, H⟩ := oit H
    obtain ⟨a4, g4, e4, H⟩ := obR H
    refine x_callV (M' := mi_X5_whyVeil) (n := 1) (As := [.int x1]) (t_X5_whyVeil C _ e4) c4 rfl rfl md_X5_whyVeil ⟨Nat.le_of_ble_eq_true rfl, Nat.le_of_ble_eq_true rfl⟩ q2287 q2289 qs87 q131 q2290 rfl (Nat.le_of_ble_eq_true rfl) dX5_veil_17 ?_
    refine x_istore_n [1, 2, 0] dX5_veil_20 (by decide) rfl ?_
    refine x_iload_n 2 rfl dX5_veil_21 ?_
    refine x_if_le 27 dX5_veil_22 (by decide) (fun c5 => ?_) (fun c5 => ?_)
    · rw [if_pos c5] at H
      refine x_aload_n 0 rfl dX5_veil_27 ?_
      obtain ⟨c6, H⟩ := oit H
      obtain ⟨a6, g6, e6, H⟩ := obR H
      refine x_callV (M' := mi_X5_keep) (n := 0) (As := []) (t_X5_keep C _ e6) c6 rfl rfl md_X5_keep ⟨Nat.le_of_ble_eq_true rfl, Nat.le_of_ble_eq_true rfl⟩ q2259 q2261 qs82 q131 q2262 rfl (Nat.le_of_ble_eq_true rfl) dX5_veil_28 ?_
      refine x_aload_n 0 rfl dX5_veil_31 ?_
      refine x_iload_n 1 rfl dX5_veil_32 ?_
      obtain ⟨c7, H⟩ := oit H
      obtain ⟨a7, g7, e7, H⟩ := obR H
      refine x_callV (M' := mi_X5_veils) (n := 1) (As := [.int x1]) (t_X5_veils C _ e7) c7 rfl rfl md_X5_veils ⟨Nat.le_of_ble_eq_true rfl, Nat.le_of_ble_eq_true rfl⟩ q2291 q2293 qs88 q131 q2294 rfl (Nat.le_of_ble_eq_true rfl) dX5_veil_33 ?_
      refine x_iconst (0 : Int32) dX5_veil_36 ic_0 ?_
      obtain rfl := Option.some.inj H
      exact x_iret hE rfl rfl dX5_veil_37
    · rw [if_neg c5] at H
      refine x_iload_n 2 rfl dX5_veil_25 ?_
      obtain rfl := Option.some.inj H
      exact x_iret hE rfl rfl dX5_veil_26
  · rw [if_pos c3] at H
    refine x_iconst (-1 : Int32) dX5_veil_13 ic_m1 ?_
    obtain rfl := Option.some.inj H
    exact x_iret hE rfl rfl dX5_veil_14
abbrev mi_X5_who : xM := (cX5_who, yX5_who, 6, some .int, 4)
theorem md_X5_who : xMD mi_X5_who 0 := ⟨by decide, by decide, by decide +kernel⟩
def f_X5_who_b186 (kb : Nat → Int32 → Int32 → Int32 → mH → Option (Int32 × mH)) (r0 : Nat) (x1 : Int32) (x2 : Int32) (x3 : Int32) (h : mH) : Option (Int32 × mH) := kb r0 x1 x2 (x3 + (1 : Int32)) h
theorem t_X5_who_b186 {G : xG} {C : xC} {o : Int32 × mH} (hE : xEnd G C (some (.int o.1)) o.2) {kb : Nat → Int32 → Int32 → Int32 → mH → Option (Int32 × mH)} (hkb : ∀ (r0 : Nat) (x1 : Int32) (x2 : Int32) (x3 : Int32) (h : mH), kb r0 x1 x2 x3 h = some o → X G C mi_X5_who 133 [(0, .ref r0), (1, .int x1), (2, .int x2), (3, .int x3)] [] h) (r0 : Nat) (x1 : Int32) (x2 : Int32) (x3 : Int32) (h : mH) (H : f_X5_who_b186 kb r0 x1 x2 x3 h = some o) : X G C mi_X5_who 186 [(0, .ref r0), (1, .int x1), (2, .int x2), (3, .int x3)] [] h := by
  unfold f_X5_who_b186 at H
  refine x_iinc 3 (x3 + (1 : Int32)) [1, 2, 3, 0] dX5_who_186 rfl (ii_1 _) (by decide) rfl ?_
  refine x_goto (tgt := 133) dX5_who_189 (by decide) ?_
  exact hkb _ _ _ _ _ H
def f_X5_who_L133 : Nat → Nat → Int32 → Int32 → Int32 → mH → Option (Int32 × mH)
  | 0, _, _, _, _, _ => none
  | n + 1, r0, x1, x2, x3, h => (gFr [4] 6 h r0).bind fun v10 => (aI .int h v10 (0 : Int32)).bind fun v11 => if v11 ≤ x3 then some (x1, h) else if gC h r0 = 4 then bR (f_X5_mayBy r0 x3 h) fun a13 g13 => bR (f_X5_bits (x1 &&& a13) g13) fun a14 g14 => bR (f_X5_bits x1 g14) fun a15 g15 => bR (f_X5_greater a14 (a15 - a14) g15) fun a16 g16 => if a16 < x2 then (pF [4] 27 (.int x3) g16 r0).bind fun h18 => f_X5_who_b186 (f_X5_who_L133 n) r0 x1 a16 x3 h18 else f_X5_who_b186 (f_X5_who_L133 n) r0 x1 x2 x3 g16 else none
theorem t_X5_who_L133 {G : xG} {C : xC} {o : Int32 × mH} (hE : xEnd G C (some (.int o.1)) o.2) : ∀ (n : Nat) (r0 : Nat) (x1 : Int32) (x2 : Int32) (x3 : Int32) (h : mH), f_X5_who_L133 n r0 x1 x2 x3 h = some o → X G C mi_X5_who 133 [(0, .ref r0), (1, .int x1), (2, .int x2), (3, .int x3)] [] h := by
  intro n
  induction n with
  | zero => intro r0 x1 x2 x3 h H; exact nomatch (show (none : Option (Int32 × mH)) = some o from H)
  | succ n ih =>
    intro r0 x1 x2 x3 h H
    rw [f_X5_who_L133] at H
    refine x_iload_n 3 rfl dX5_who_133 ?_
    refine x_aload_n 0 rfl dX5_who_134 ?_
    obtain ⟨v10, e10, H⟩ := ob H
    refine x_getf fg_X5_33 (gFr_spec e10) dX5_who_135 ?_
    refine x_iconst (0 : Int32) dX5_who_138 ic_0 ?_
    obtain ⟨v11, e11, H⟩ := ob H
    refine x_iald e11 dX5_who_139 ?_
    refine x_icmp_ge 192 dX5_who_140 (by decide) (fun c12 => ?_) (fun c12 => ?_)
    · rw [if_pos c12] at H
      refine x_iload_n 1 rfl dX5_who_192 ?_
      obtain rfl := Option.some.inj H
      exact x_iret hE rfl rfl dX5_who_193
    · rw [if_neg c12] at H
      refine x_iload_n 1 rfl dX5_who_143 ?_
      refine x_aload_n 0 rfl dX5_who_144 ?_
      refine x_iload_n 3 rfl dX5_who_145 ?_
      obtain ⟨c13, H⟩ := oit H
      obtain ⟨a13, g13, e13, H⟩ := obR H
      refine x_callV (M' := mi_X5_mayBy) (n := 1) (As := [.int x3]) (t_X5_mayBy C _ e13) c13 rfl rfl md_X5_mayBy ⟨Nat.le_of_ble_eq_true rfl, Nat.le_of_ble_eq_true rfl⟩ q2212 q2214 qs75 q131 q2215 rfl (Nat.le_of_ble_eq_true rfl) dX5_who_146 ?_
      refine x_iand dX5_who_149 ?_
      obtain ⟨a14, g14, e14, H⟩ := obR H
      refine x_callS (M' := mi_X5_bits) (n := 1) (As := [.int (x1 &&& a13)]) (t_X5_bits C _ e14) md_X5_bits ⟨Nat.le_of_ble_eq_true rfl, Nat.le_of_ble_eq_true rfl⟩ q2236 q2237 q131 q2238 rfl (Nat.le_of_ble_eq_true rfl) dX5_who_150 ?_
      refine x_istore [1, 2, 3, 4, 0] dX5_who_153 (by decide) rfl ?_
      refine x_iload 4 rfl dX5_who_155 ?_
      refine x_iload_n 1 rfl dX5_who_157 ?_
      obtain ⟨a15, g15, e15, H⟩ := obR H
      refine x_callS (M' := mi_X5_bits) (n := 1) (As := [.int x1]) (t_X5_bits C _ e15) md_X5_bits ⟨Nat.le_of_ble_eq_true rfl, Nat.le_of_ble_eq_true rfl⟩ q2236 q2237 q131 q2238 rfl (Nat.le_of_ble_eq_true rfl) dX5_who_158 ?_
      refine x_iload 4 rfl dX5_who_161 ?_
      refine x_isub dX5_who_163 ?_
      obtain ⟨a16, g16, e16, H⟩ := obR H
      refine x_callS (M' := mi_X5_greater) (n := 2) (As := [.int a14, .int (a15 - a14)]) (t_X5_greater C _ e16) md_X5_greater ⟨Nat.le_of_ble_eq_true rfl, Nat.le_of_ble_eq_true rfl⟩ q2331 q2332 q131 q2333 rfl (Nat.le_of_ble_eq_true rfl) dX5_who_164 ?_
      refine x_istore [1, 2, 3, 4, 5, 0] dX5_who_167 (by decide) rfl ?_
      refine x_iload 5 rfl dX5_who_169 ?_
      refine x_iload_n 2 rfl dX5_who_171 ?_
      refine x_icmp_lt 178 dX5_who_172 (by decide) (fun c17 => ?_) (fun c17 => ?_)
      · rw [if_pos c17] at H
        refine x_iload 5 rfl dX5_who_178 ?_
        refine x_istore_n [1, 2, 0, 3, 4, 5] dX5_who_180 (by decide) rfl ?_
        refine x_aload_n 0 rfl dX5_who_181 ?_
        refine x_iload_n 3 rfl dX5_who_182 ?_
        obtain ⟨h18, e18, H⟩ := ob H
        refine x_putf (fp_X5_355 _) rfl rfl e18 dX5_who_183 ?_
        refine X.sub [0, 1, 2, 3] rfl ?_
        exact t_X5_who_b186 hE ih _ _ _ _ _ H
      · rw [if_neg c17] at H
        refine x_goto (tgt := 186) dX5_who_175 (by decide) ?_
        refine X.sub [0, 1, 2, 3] rfl ?_
        exact t_X5_who_b186 hE ih _ _ _ _ _ H
def f_X5_who_b116 (r0 : Nat) (x1 : Int32) (h : mH) : Option (Int32 × mH) := if x1 = 0 then some ((0 : Int32), h) else (pF [4] 28 (.int (1 : Int32)) h r0).bind fun h9 => f_X5_who_L133  xFu r0 x1 (1000000 : Int32) (0 : Int32) h9
theorem t_X5_who_b116 {G : xG} {C : xC} {o : Int32 × mH} (hE : xEnd G C (some (.int o.1)) o.2) (r0 : Nat) (x1 : Int32) (h : mH) (H : f_X5_who_b116 r0 x1 h = some o) : X G C mi_X5_who 116 [(0, .ref r0), (1, .int x1)] [] h := by
  unfold f_X5_who_b116 at H
  refine x_iload_n 1 rfl dX5_who_116 ?_
  refine x_if_ne 122 dX5_who_117 (by decide) (fun c8 => ?_) (fun c8 => ?_)
  · rw [if_neg c8] at H
    refine x_aload_n 0 rfl dX5_who_122 ?_
    refine x_iconst (1 : Int32) dX5_who_123 ic_1 ?_
    obtain ⟨h9, e9, H⟩ := ob H
    refine x_putf (fp_X5_351 _) rfl rfl e9 dX5_who_124 ?_
    refine x_ldcw q2330 dX5_who_127 ?_
    refine x_istore_n [1, 2, 0] dX5_who_130 (by decide) rfl ?_
    refine x_iconst (0 : Int32) dX5_who_131 ic_0 ?_
    refine x_istore_n [1, 2, 3, 0] dX5_who_132 (by decide) rfl ?_
    exact t_X5_who_L133 hE  xFu _ _ _ _ _ H
  · rw [if_pos c8] at H
    refine x_iconst (0 : Int32) dX5_who_120 ic_0 ?_
    obtain rfl := Option.some.inj H
    exact x_iret hE rfl rfl dX5_who_121
def f_X5_who_b108 (kb : Nat → Int32 → Int32 → mH → Option (Int32 × mH)) (k116 : Nat → Int32 → mH → Option (Int32 × mH)) (r0 : Nat) (x2 : Int32) (s0 : Int32) (s1 : Int32) (h : mH) : Option (Int32 × mH) := kb r0 (s0 ||| s1) (x2 + (1 : Int32)) h
theorem t_X5_who_b108 {G : xG} {C : xC} {o : Int32 × mH} (hE : xEnd G C (some (.int o.1)) o.2) {kb : Nat → Int32 → Int32 → mH → Option (Int32 × mH)} (hkb : ∀ (r0 : Nat) (x1 : Int32) (x2 : Int32) (h : mH), kb r0 x1 x2 h = some o → X G C mi_X5_who 82 [(0, .ref r0), (1, .int x1), (2, .int x2)] [] h) {k116 : Nat → Int32 → mH → Option (Int32 × mH)} (hk116 : ∀ (r0 : Nat) (x1 : Int32) (h : mH), k116 r0 x1 h = some o → X G C mi_X5_who 116 [(0, .ref r0), (1, .int x1)] [] h) (r0 : Nat) (x2 : Int32) (s0 : Int32) (s1 : Int32) (h : mH) (H : f_X5_who_b108 kb k116 r0 x2 s0 s1 h = some o) : X G C mi_X5_who 108 [(0, .ref r0), (2, .int x2)] [.int s1, .int s0] h := by
  unfold f_X5_who_b108 at H
  refine x_ior dX5_who_108 ?_
  refine x_istore_n [1, 0, 2] dX5_who_109 (by decide) rfl ?_
  refine x_iinc 2 (x2 + (1 : Int32)) [1, 2, 0] dX5_who_110 rfl (ii_1 _) (by decide) rfl ?_
  refine x_goto (tgt := 82) dX5_who_113 (by decide) ?_
  exact hkb _ _ _ _ H
def f_X5_who_L82 (k116 : Nat → Int32 → mH → Option (Int32 × mH)) : Nat → Nat → Int32 → Int32 → mH → Option (Int32 × mH)
  | 0, _, _, _, _ => none
  | n + 1, r0, x1, x2, h => (gFr [4] 6 h r0).bind fun v19 => (aI .int h v19 (0 : Int32)).bind fun v20 => if v20 ≤ x2 then k116 r0 x1 h else if gC h r0 = 4 then bR (f_X5_isMask r0 x2 h) fun a22 g22 => if a22 = 0 then f_X5_who_b108 (f_X5_who_L82 k116 n) k116 r0 x2 x1 (0 : Int32) g22 else f_X5_who_b108 (f_X5_who_L82 k116 n) k116 r0 x2 x1 ((1 : Int32) <<< (x2 &&& 31)) g22 else none
theorem t_X5_who_L82 {G : xG} {C : xC} {o : Int32 × mH} (hE : xEnd G C (some (.int o.1)) o.2) {k116 : Nat → Int32 → mH → Option (Int32 × mH)} (hk116 : ∀ (r0 : Nat) (x1 : Int32) (h : mH), k116 r0 x1 h = some o → X G C mi_X5_who 116 [(0, .ref r0), (1, .int x1)] [] h) : ∀ (n : Nat) (r0 : Nat) (x1 : Int32) (x2 : Int32) (h : mH), f_X5_who_L82 k116 n r0 x1 x2 h = some o → X G C mi_X5_who 82 [(0, .ref r0), (1, .int x1), (2, .int x2)] [] h := by
  intro n
  induction n with
  | zero => intro r0 x1 x2 h H; exact nomatch (show (none : Option (Int32 × mH)) = some o from H)
  | succ n ih =>
    intro r0 x1 x2 h H
    rw [f_X5_who_L82] at H
    refine x_iload_n 2 rfl dX5_who_82 ?_
    refine x_aload_n 0 rfl dX5_who_83 ?_
    obtain ⟨v19, e19, H⟩ := ob H
    refine x_getf fg_X5_33 (gFr_spec e19) dX5_who_84 ?_
    refine x_iconst (0 : Int32) dX5_who_87 ic_0 ?_
    obtain ⟨v20, e20, H⟩ := ob H
    refine x_iald e20 dX5_who_88 ?_
    refine x_icmp_ge 116 dX5_who_89 (by decide) (fun c21 => ?_) (fun c21 => ?_)
    · rw [if_pos c21] at H
      refine X.sub [0, 1] rfl ?_
      exact hk116 _ _ _ H
    · rw [if_neg c21] at H
      refine x_iload_n 1 rfl dX5_who_92 ?_
      refine x_aload_n 0 rfl dX5_who_93 ?_
      refine x_iload_n 2 rfl dX5_who_94 ?_
      obtain ⟨c22, H⟩ := oit H
      obtain ⟨a22, g22, e22, H⟩ := obR H
      refine x_callV (M' := mi_X5_isMask) (n := 1) (As := [.int x2]) (t_X5_isMask C _ e22) c22 rfl rfl md_X5_isMask ⟨Nat.le_of_ble_eq_true rfl, Nat.le_of_ble_eq_true rfl⟩ q2346 q2348 qs95 q131 q2349 rfl (Nat.le_of_ble_eq_true rfl) dX5_who_95 ?_
      refine x_if_eq 107 dX5_who_98 (by decide) (fun c23 => ?_) (fun c23 => ?_)
      · rw [if_pos c23] at H
        refine x_iconst (0 : Int32) dX5_who_107 ic_0 ?_
        refine X.sub [0, 2] rfl ?_
        exact t_X5_who_b108 hE ih hk116 _ _ _ _ _ H
      · rw [if_neg c23] at H
        refine x_iconst (1 : Int32) dX5_who_101 ic_1 ?_
        refine x_iload_n 2 rfl dX5_who_102 ?_
        refine x_ishl dX5_who_103 ?_
        refine x_goto (tgt := 108) dX5_who_104 (by decide) ?_
        refine X.sub [0, 2] rfl ?_
        exact t_X5_who_b108 hE ih hk116 _ _ _ _ _ H
def f_X5_who_b78 (r0 : Nat) (h : mH) : Option (Int32 × mH) := f_X5_who_L82 (f_X5_who_b116) xFu r0 (0 : Int32) (0 : Int32) h
theorem t_X5_who_b78 {G : xG} {C : xC} {o : Int32 × mH} (hE : xEnd G C (some (.int o.1)) o.2) (r0 : Nat) (h : mH) (H : f_X5_who_b78 r0 h = some o) : X G C mi_X5_who 78 [(0, .ref r0)] [] h := by
  unfold f_X5_who_b78 at H
  refine x_iconst (0 : Int32) dX5_who_78 ic_0 ?_
  refine x_istore_n [1, 0] dX5_who_79 (by decide) rfl ?_
  refine x_iconst (0 : Int32) dX5_who_80 ic_0 ?_
  refine x_istore_n [1, 2, 0] dX5_who_81 (by decide) rfl ?_
  exact t_X5_who_L82 hE (t_X5_who_b116 hE) xFu _ _ _ _ H
def f_X5_who_L39 (k78 : Nat → mH → Option (Int32 × mH)) : Nat → Nat → Int32 → mH → Option (Int32 × mH)
  | 0, _, _, _ => none
  | n + 1, r0, x1, h => (gFi [4] 3 h r0).bind fun v24 => if v24 ≤ x1 then k78 r0 h else if gC h r0 = 4 then bR (f_X5_octet r0 x1 h) fun a26 g26 => if gC g26 r0 = 4 then bR (f_X5_isPerson r0 a26 g26) fun a27 g27 => if a27 = 0 then some ((-1 : Int32), g27) else if gC g27 r0 = 4 then bR (f_X5_octet r0 (x1 + (1 : Int32)) g27) fun a29 g29 => if a29 ≤ (1 : Int32) then (f_X5_who_L39 k78 n) r0 (x1 + (2 : Int32)) g29 else some ((-1 : Int32), g29) else none else none else none
theorem t_X5_who_L39 {G : xG} {C : xC} {o : Int32 × mH} (hE : xEnd G C (some (.int o.1)) o.2) {k78 : Nat → mH → Option (Int32 × mH)} (hk78 : ∀ (r0 : Nat) (h : mH), k78 r0 h = some o → X G C mi_X5_who 78 [(0, .ref r0)] [] h) : ∀ (n : Nat) (r0 : Nat) (x1 : Int32) (h : mH), f_X5_who_L39 k78 n r0 x1 h = some o → X G C mi_X5_who 39 [(0, .ref r0), (1, .int x1)] [] h := by
  intro n
  induction n with
  | zero => intro r0 x1 h H; exact nomatch (show (none : Option (Int32 × mH)) = some o from H)
  | succ n ih =>
    intro r0 x1 h H
    rw [f_X5_who_L39] at H
    refine x_iload_n 1 rfl dX5_who_39 ?_
    refine x_aload_n 0 rfl dX5_who_40 ?_
    obtain ⟨v24, e24, H⟩ := ob H
    refine x_getf fg_X5_18 (gFi_spec e24) dX5_who_41 ?_
    refine x_icmp_ge 78 dX5_who_44 (by decide) (fun c25 => ?_) (fun c25 => ?_)
    · rw [if_pos c25] at H
      refine X.sub [0] rfl ?_
      exact hk78 _ _ H
    · rw [if_neg c25] at H
      refine x_aload_n 0 rfl dX5_who_47 ?_
      refine x_aload_n 0 rfl dX5_who_48 ?_
      refine x_iload_n 1 rfl dX5_who_49 ?_
      obtain ⟨c26, H⟩ := oit H
      obtain ⟨a26, g26, e26, H⟩ := obR H
      refine x_callV (M' := mi_X5_octet) (n := 1) (As := [.int x1]) (t_X5_octet C _ e26) c26 rfl rfl md_X5_octet ⟨Nat.le_of_ble_eq_true rfl, Nat.le_of_ble_eq_true rfl⟩ q2342 q2344 qs94 q131 q2345 rfl (Nat.le_of_ble_eq_true rfl) dX5_who_50 ?_
      obtain ⟨c27, H⟩ := oit H
      obtain ⟨a27, g27, e27, H⟩ := obR H
      refine x_callV (M' := mi_X5_isPerson) (n := 1) (As := [.int a26]) (t_X5_isPerson C _ e27) c27 rfl rfl md_X5_isPerson ⟨Nat.le_of_ble_eq_true rfl, Nat.le_of_ble_eq_true rfl⟩ q2200 q2202 qs72 q131 q2203 rfl (Nat.le_of_ble_eq_true rfl) dX5_who_53 ?_
      refine x_if_eq 70 dX5_who_56 (by decide) (fun c28 => ?_) (fun c28 => ?_)
      · rw [if_pos c28] at H
        refine x_iconst (-1 : Int32) dX5_who_70 ic_m1 ?_
        obtain rfl := Option.some.inj H
        exact x_iret hE rfl rfl dX5_who_71
      · rw [if_neg c28] at H
        refine x_aload_n 0 rfl dX5_who_59 ?_
        refine x_iload_n 1 rfl dX5_who_60 ?_
        refine x_iconst (1 : Int32) dX5_who_61 ic_1 ?_
        refine x_iadd dX5_who_62 ?_
        obtain ⟨c29, H⟩ := oit H
        obtain ⟨a29, g29, e29, H⟩ := obR H
        refine x_callV (M' := mi_X5_octet) (n := 1) (As := [.int (x1 + (1 : Int32))]) (t_X5_octet C _ e29) c29 rfl rfl md_X5_octet ⟨Nat.le_of_ble_eq_true rfl, Nat.le_of_ble_eq_true rfl⟩ q2342 q2344 qs94 q131 q2345 rfl (Nat.le_of_ble_eq_true rfl) dX5_who_63 ?_
        refine x_iconst (1 : Int32) dX5_who_66 ic_1 ?_
        refine x_icmp_le 72 dX5_who_67 (by decide) (fun c30 => ?_) (fun c30 => ?_)
        · rw [if_pos c30] at H
          refine x_iinc 1 (x1 + (2 : Int32)) [1, 0] dX5_who_72 rfl (ii_2 _) (by decide) rfl ?_
          refine x_goto (tgt := 39) dX5_who_75 (by decide) ?_
          exact ih _ _ _ H
        · rw [if_neg c30] at H
          refine x_iconst (-1 : Int32) dX5_who_70 ic_m1 ?_
          obtain rfl := Option.some.inj H
          exact x_iret hE rfl rfl dX5_who_71
def f_X5_who (r0 : Nat) (h : mH) : Option (Int32 × mH) := (pF [4] 0 (.int (0 : Int32)) h r0).bind fun h1 => if gC h1 r0 = 4 then bR (f_X5_taken r0 (940 : Int32) h1) fun a2 g2 => (gFi [4] 3 g2 r0).bind fun v3 => bR (f_X5_isIn v3 (2 : Int32) (16 : Int32) g2) fun a4 g4 => if a4 = 0 then some ((-1 : Int32), g4) else (gFi [4] 3 g4 r0).bind fun v6 => if (v6 - v6 / (2 : Int32) * (2 : Int32)) = (1 : Int32) then some ((-1 : Int32), g4) else f_X5_who_L39 (f_X5_who_b78) xFu r0 (0 : Int32) g4 else none
theorem t_X5_who {G : xG} (C0 : xC) {l : Launch} {r0 : Nat} (h : mH) {o : Int32 × mH} (H : f_X5_who r0 h = some o) : XR G l mi_X5_who [.ref r0] h (some (.int o.1)) o.2 := by
  refine XR.of C0 (by decide) (Nat.le_of_ble_eq_true rfl) (fun C _ _ _ hE => ?_)
  show X G C mi_X5_who 0 [(0, .ref r0)] [] h
  unfold f_X5_who at H
  refine x_aload_n 0 rfl dX5_who_0 ?_
  refine x_iconst (0 : Int32) dX5_who_1 ic_0 ?_
  obtain ⟨h1, e1, H⟩ := ob H
  refine x_putf (fp_X5_1 _) rfl rfl e1 dX5_who_2 ?_
  refine x_aload_n 0 rfl dX5_who_5 ?_
  refine x_sipush (940 : Int32) dX5_who_6 si_940 ?_
  obtain ⟨c2, H⟩ := oit H
  obtain ⟨a2, g2, e2, H⟩ := obR H
  refine x_callV (M' := mi_X5_taken) (n := 1) (As := [.int (940 : Int32)]) (t_X5_taken C _ e2) c2 rfl rfl md_X5_taken ⟨Nat.le_of_ble_eq_true rfl, Nat.le_of_ble_eq_true rfl⟩ q2096 q2098 qs51 q131 q2099 rfl (Nat.le_of_ble_eq_true rfl) dX5_who_9 ?_
  refine x_aload_n 0 rfl dX5_who_12 ?_
  obtain ⟨v3, e3, H⟩ := ob H
  refine x_getf fg_X5_18 (gFi_spec e3) dX5_who_13 ?_
  refine x_iconst (2 : Int32) dX5_who_16 ic_2 ?_
  refine x_bipush (16 : Int32) dX5_who_17 bi_16 ?_
  obtain ⟨a4, g4, e4, H⟩ := obR H
  refine x_callS (M' := mi_X5_isIn) (n := 3) (As := [.int v3, .int (2 : Int32), .int (16 : Int32)]) (t_X5_isIn C _ e4) md_X5_isIn ⟨Nat.le_of_ble_eq_true rfl, Nat.le_of_ble_eq_true rfl⟩ q2150 q2151 q131 q2152 rfl (Nat.le_of_ble_eq_true rfl) dX5_who_19 ?_
  refine x_if_eq 35 dX5_who_22 (by decide) (fun c5 => ?_) (fun c5 => ?_)
  · rw [if_pos c5] at H
    refine x_iconst (-1 : Int32) dX5_who_35 ic_m1 ?_
    obtain rfl := Option.some.inj H
    exact x_iret hE rfl rfl dX5_who_36
  · rw [if_neg c5] at H
    refine x_aload_n 0 rfl dX5_who_25 ?_
    obtain ⟨v6, e6, H⟩ := ob H
    refine x_getf fg_X5_18 (gFi_spec e6) dX5_who_26 ?_
    refine x_iconst (2 : Int32) dX5_who_29 ic_2 ?_
    refine x_irem dX5_who_30 (by decide) ?_
    refine x_iconst (1 : Int32) dX5_who_31 ic_1 ?_
    refine x_icmp_ne 37 dX5_who_32 (by decide) (fun c7 => ?_) (fun c7 => ?_)
    · rw [if_neg c7] at H
      refine x_iconst (0 : Int32) dX5_who_37 ic_0 ?_
      refine x_istore_n [1, 0] dX5_who_38 (by decide) rfl ?_
      exact t_X5_who_L39 hE (t_X5_who_b78 hE) xFu _ _ _ H
    · rw [if_pos c7] at H
      refine x_iconst (-1 : Int32) dX5_who_35 ic_m1 ?_
      obtain rfl := Option.some.inj H
      exact x_iret hE rfl rfl dX5_who_36
