set_option maxRecDepth 100000
set_option maxHeartbeats 4000000
abbrev mi_J6_inflateIfNeededFor : xM := (cJ6_inflateIfNeededFor, yJ6_inflateIfNeededFor, 2, none, 2)
theorem md_J6_inflateIfNeededFor : xMD mi_J6_inflateIfNeededFor 1 := ⟨by decide, by decide, by decide +kernel⟩
def f_J6_inflateIfNeededFor (r0 : Nat) (r1 : Nat) (h : mH) : Option (Unit × mH) := if (1 : Int32) = 0 then some ((), h) else (gFi [22] 1 h r0).bind fun v2 => if gC h r1 = 23 then bR (f_J8_coder r1  h) fun a3 g3 => if v2 = a3 then some ((), g3) else none else none
theorem t_J6_inflateIfNeededFor {G : xG} (C0 : xC) {l : Launch} {r0 : Nat} {r1 : Nat} (h : mH) {o : Unit × mH} (H : f_J6_inflateIfNeededFor r0 r1 h = some o) : XR G l mi_J6_inflateIfNeededFor [.ref r0, .ref r1] h none o.2 := by
  refine XR.of C0 (by decide) (Nat.le_of_ble_eq_true rfl) (fun C _ _ _ hE => ?_)
  show X G C mi_J6_inflateIfNeededFor 0 [(0, .ref r0), (1, .ref r1)] [] h
  unfold f_J6_inflateIfNeededFor at H
  refine x_gets (v := .int 1) (List.mem_of_getElem? (i := 1) rfl) q542 dJ6_inflateIfNeededFor_0 ?_
  refine x_if_eq 21 dJ6_inflateIfNeededFor_3 (by decide) (fun c1 => ?_) (fun c1 => ?_)
  · rw [if_pos c1] at H
    obtain rfl := Option.some.inj H
    exact x_vret hE rfl dJ6_inflateIfNeededFor_21
  · rw [if_neg c1] at H
    refine x_aload_n 0 rfl dJ6_inflateIfNeededFor_6 ?_
    obtain ⟨v2, e2, H⟩ := ob H
    refine x_getf fg_J6_22 (gFi_spec e2) dJ6_inflateIfNeededFor_7 ?_
    refine x_aload_n 1 rfl dJ6_inflateIfNeededFor_10 ?_
    obtain ⟨c3, H⟩ := oit H
    obtain ⟨a3, g3, e3, H⟩ := obR H
    refine x_callV (M' := mi_J8_coder) (n := 0) (As := []) (t_J8_coder C _ e3) c3 rfl rfl md_J8_coder ⟨Nat.le_of_ble_eq_true rfl, Nat.le_of_ble_eq_true rfl⟩ q869 q858 q859 q136 q860 rfl (Nat.le_of_ble_eq_true rfl) dJ6_inflateIfNeededFor_11 ?_
    refine x_icmp_eq 21 dJ6_inflateIfNeededFor_14 (by decide) (fun c4 => ?_) (fun c4 => ?_)
    · rw [if_pos c4] at H
      obtain rfl := Option.some.inj H
      exact x_vret hE rfl dJ6_inflateIfNeededFor_21
    · rw [if_neg c4] at H
      refine x_aload_n 0 rfl dJ6_inflateIfNeededFor_17 ?_
      exact nomatch H
abbrev mi_J9_inflate : xM := (cJ9_inflate, yJ9_inflate, 6, none, 4)
theorem md_J9_inflate : xMD mi_J9_inflate 5 := ⟨by decide, by decide, by decide +kernel⟩
def f_J9_inflate_L10 : Nat → Nat → Int32 → Nat → Int32 → Int32 → Int32 → mH → Option (Unit × mH)
  | 0, _, _, _, _, _, _, _ => none
  | n + 1, r0, x1, r2, x3, x4, x5, h => if x4 ≤ x5 then some ((), h) else (aI .byte h r0 x1).bind fun v3 => bR (f_J9_putChar r2 x3 (v3 &&& (255 : Int32)) h) fun a4 g4 => (f_J9_inflate_L10 n) r0 (x1 + (1 : Int32)) r2 (x3 + (1 : Int32)) x4 (x5 + (1 : Int32)) g4
theorem t_J9_inflate_L10 {G : xG} {C : xC} {o : Unit × mH} (hE : xEnd G C none o.2) : ∀ (n : Nat) (r0 : Nat) (x1 : Int32) (r2 : Nat) (x3 : Int32) (x4 : Int32) (x5 : Int32) (h : mH), f_J9_inflate_L10 n r0 x1 r2 x3 x4 x5 h = some o → X G C mi_J9_inflate 10 [(0, .ref r0), (1, .int x1), (2, .ref r2), (3, .int x3), (4, .int x4), (5, .int x5)] [] h := by
  intro n
  induction n with
  | zero => intro r0 x1 r2 x3 x4 x5 h H; exact nomatch (show (none : Option (Unit × mH)) = some o from H)
  | succ n ih =>
    intro r0 x1 r2 x3 x4 x5 h H
    rw [f_J9_inflate_L10] at H
    refine x_iload 5 rfl dJ9_inflate_10 ?_
    refine x_iload 4 rfl dJ9_inflate_12 ?_
    refine x_icmp_ge 41 dJ9_inflate_14 (by decide) (fun c2 => ?_) (fun c2 => ?_)
    · rw [if_pos c2] at H
      obtain rfl := Option.some.inj H
      exact x_vret hE rfl dJ9_inflate_41
    · rw [if_neg c2] at H
      refine x_aload_n 2 rfl dJ9_inflate_17 ?_
      refine x_iload_n 3 rfl dJ9_inflate_18 ?_
      refine x_iinc 3 (x3 + (1 : Int32)) [1, 2, 3, 0, 4, 5] dJ9_inflate_19 rfl (ii_1 _) (by decide) rfl ?_
      refine x_aload_n 0 rfl dJ9_inflate_22 ?_
      refine x_iload_n 1 rfl dJ9_inflate_23 ?_
      refine x_iinc 1 (x1 + (1 : Int32)) [1, 0, 2, 3, 4, 5] dJ9_inflate_24 rfl (ii_1 _) (by decide) rfl ?_
      obtain ⟨v3, e3, H⟩ := ob H
      refine x_bald e3 dJ9_inflate_27 ?_
      refine x_sipush (255 : Int32) dJ9_inflate_28 si_255 ?_
      refine x_iand dJ9_inflate_31 ?_
      obtain ⟨a4, g4, e4, H⟩ := obR H
      refine x_callS (M' := mi_J9_putChar) (n := 3) (As := [.ref r2, .int x3, .int (v3 &&& (255 : Int32))]) (t_J9_putChar C _ e4) md_J9_putChar ⟨Nat.le_of_ble_eq_true rfl, Nat.le_of_ble_eq_true rfl⟩ q636 q637 q137 q638 rfl (Nat.le_of_ble_eq_true rfl) dJ9_inflate_32 ?_
      refine x_iinc 5 (x5 + (1 : Int32)) [1, 2, 3, 4, 5, 0] dJ9_inflate_35 rfl (ii_1 _) (by decide) rfl ?_
      refine x_goto (tgt := 10) dJ9_inflate_38 (by decide) ?_
      exact ih _ _ _ _ _ _ _ H
def f_J9_inflate (r0 : Nat) (x1 : Int32) (r2 : Nat) (x3 : Int32) (x4 : Int32) (h : mH) : Option (Unit × mH) := bR (f_J9_checkBoundsOffCount x3 x4 r2 h) fun a1 g1 => f_J9_inflate_L10  xFu r0 x1 r2 x3 x4 (0 : Int32) g1
theorem t_J9_inflate {G : xG} (C0 : xC) {l : Launch} {r0 : Nat} {x1 : Int32} {r2 : Nat} {x3 : Int32} {x4 : Int32} (h : mH) {o : Unit × mH} (H : f_J9_inflate r0 x1 r2 x3 x4 h = some o) : XR G l mi_J9_inflate [.ref r0, .int x1, .ref r2, .int x3, .int x4] h none o.2 := by
  refine XR.of C0 (by decide) (Nat.le_of_ble_eq_true rfl) (fun C _ _ _ hE => ?_)
  show X G C mi_J9_inflate 0 [(0, .ref r0), (1, .int x1), (2, .ref r2), (3, .int x3), (4, .int x4)] [] h
  unfold f_J9_inflate at H
  refine x_iload_n 3 rfl dJ9_inflate_0 ?_
  refine x_iload 4 rfl dJ9_inflate_1 ?_
  refine x_aload_n 2 rfl dJ9_inflate_3 ?_
  obtain ⟨a1, g1, e1, H⟩ := obR H
  refine x_callS (M' := mi_J9_checkBoundsOffCount) (n := 3) (As := [.int x3, .int x4, .ref r2]) (t_J9_checkBoundsOffCount C _ e1) md_J9_checkBoundsOffCount ⟨Nat.le_of_ble_eq_true rfl, Nat.le_of_ble_eq_true rfl⟩ q622 q623 q137 q624 rfl (Nat.le_of_ble_eq_true rfl) dJ9_inflate_4 ?_
  refine x_iconst (0 : Int32) dJ9_inflate_7 ic_0 ?_
  refine x_istore [1, 2, 3, 4, 5, 0] dJ9_inflate_8 (by decide) rfl ?_
  exact t_J9_inflate_L10 hE  xFu _ _ _ _ _ _ _ H
abbrev mi_J12_inflate : xM := (cJ12_inflate, yJ12_inflate, 5, none, 5)
theorem md_J12_inflate : xMD mi_J12_inflate 5 := ⟨by decide, by decide, by decide +kernel⟩
def f_J12_inflate (r0 : Nat) (x1 : Int32) (r2 : Nat) (x3 : Int32) (x4 : Int32) (h : mH) : Option (Unit × mH) := bR (f_J9_inflate r0 x1 r2 x3 x4 h) fun a1 g1 => some ((), g1)
theorem t_J12_inflate {G : xG} (C0 : xC) {l : Launch} {r0 : Nat} {x1 : Int32} {r2 : Nat} {x3 : Int32} {x4 : Int32} (h : mH) {o : Unit × mH} (H : f_J12_inflate r0 x1 r2 x3 x4 h = some o) : XR G l mi_J12_inflate [.ref r0, .int x1, .ref r2, .int x3, .int x4] h none o.2 := by
  refine XR.of C0 (by decide) (Nat.le_of_ble_eq_true rfl) (fun C _ _ _ hE => ?_)
  show X G C mi_J12_inflate 0 [(0, .ref r0), (1, .int x1), (2, .ref r2), (3, .int x3), (4, .int x4)] [] h
  unfold f_J12_inflate at H
  refine x_aload_n 0 rfl dJ12_inflate_0 ?_
  refine x_iload_n 1 rfl dJ12_inflate_1 ?_
  refine x_aload_n 2 rfl dJ12_inflate_2 ?_
  refine x_iload_n 3 rfl dJ12_inflate_3 ?_
  refine x_iload 4 rfl dJ12_inflate_4 ?_
  obtain ⟨a1, g1, e1, H⟩ := obR H
  refine x_callS (M' := mi_J9_inflate) (n := 5) (As := [.ref r0, .int x1, .ref r2, .int x3, .int x4]) (t_J9_inflate C _ e1) md_J9_inflate ⟨Nat.le_of_ble_eq_true rfl, Nat.le_of_ble_eq_true rfl⟩ q619 q620 q137 q621 rfl (Nat.le_of_ble_eq_true rfl) dJ12_inflate_6 ?_
  obtain rfl := Option.some.inj H
  exact x_vret hE rfl dJ12_inflate_9
abbrev mi_J8_getBytes : xM := (cJ8_getBytes, yJ8_getBytes, 4, none, 6)
theorem md_J8_getBytes : xMD mi_J8_getBytes 3 := ⟨by decide, by decide, by decide +kernel⟩
def f_J8_getBytes (r0 : Nat) (r1 : Nat) (x2 : Int32) (x3 : Int32) (h : mH) : Option (Unit × mH) := if gC h r0 = 23 then bR (f_J8_coder r0  h) fun a1 g1 => if a1 = x3 then (gFr [23] 0 g1 r0).bind fun v7 => (gFr [23] 0 g1 r0).bind fun v8 => (aN g1 v8).bind fun v9 => (cpA g1 v7 (0 : Int32) r1 (x2 <<< (x3 &&& 31)) v9).bind fun h10 => some ((), h10) else (gFr [23] 0 g1 r0).bind fun v3 => (gFr [23] 0 g1 r0).bind fun v4 => (aN g1 v4).bind fun v5 => bR (f_J12_inflate v3 (0 : Int32) r1 x2 v5 g1) fun a6 g6 => some ((), g6) else none
theorem t_J8_getBytes {G : xG} (C0 : xC) {l : Launch} {r0 : Nat} {r1 : Nat} {x2 : Int32} {x3 : Int32} (h : mH) {o : Unit × mH} (H : f_J8_getBytes r0 r1 x2 x3 h = some o) : XR G l mi_J8_getBytes [.ref r0, .ref r1, .int x2, .int x3] h none o.2 := by
  refine XR.of C0 (by decide) (Nat.le_of_ble_eq_true rfl) (fun C _ _ _ hE => ?_)
  show X G C mi_J8_getBytes 0 [(0, .ref r0), (1, .ref r1), (2, .int x2), (3, .int x3)] [] h
  unfold f_J8_getBytes at H
  refine x_aload_n 0 rfl dJ8_getBytes_0 ?_
  obtain ⟨c1, H⟩ := oit H
  obtain ⟨a1, g1, e1, H⟩ := obR H
  refine x_callV (M' := mi_J8_coder) (n := 0) (As := []) (t_J8_coder C _ e1) c1 rfl rfl md_J8_coder ⟨Nat.le_of_ble_eq_true rfl, Nat.le_of_ble_eq_true rfl⟩ q857 q858 q859 q136 q860 rfl (Nat.le_of_ble_eq_true rfl) dJ8_getBytes_1 ?_
  refine x_iload_n 3 rfl dJ8_getBytes_4 ?_
  refine x_icmp_ne 28 dJ8_getBytes_5 (by decide) (fun c2 => ?_) (fun c2 => ?_)
  · rw [if_neg c2] at H
    refine x_aload_n 0 rfl dJ8_getBytes_28 ?_
    obtain ⟨v3, e3, H⟩ := ob H
    refine x_getf fg_J8_9 (gFr_spec e3) dJ8_getBytes_29 ?_
    refine x_iconst (0 : Int32) dJ8_getBytes_32 ic_0 ?_
    refine x_aload_n 1 rfl dJ8_getBytes_33 ?_
    refine x_iload_n 2 rfl dJ8_getBytes_34 ?_
    refine x_aload_n 0 rfl dJ8_getBytes_35 ?_
    obtain ⟨v4, e4, H⟩ := ob H
    refine x_getf fg_J8_9 (gFr_spec e4) dJ8_getBytes_36 ?_
    obtain ⟨v5, e5, H⟩ := ob H
    refine x_alen e5 dJ8_getBytes_39 ?_
    obtain ⟨a6, g6, e6, H⟩ := obR H
    refine x_callS (M' := mi_J12_inflate) (n := 5) (As := [.ref v3, .int (0 : Int32), .ref r1, .int x2, .int v5]) (t_J12_inflate C _ e6) md_J12_inflate ⟨Nat.le_of_ble_eq_true rfl, Nat.le_of_ble_eq_true rfl⟩ q875 q617 q140 q618 rfl (Nat.le_of_ble_eq_true rfl) dJ8_getBytes_40 ?_
    obtain rfl := Option.some.inj H
    exact x_vret hE rfl dJ8_getBytes_43
  · rw [if_pos c2] at H
    refine x_aload_n 0 rfl dJ8_getBytes_8 ?_
    obtain ⟨v7, e7, H⟩ := ob H
    refine x_getf fg_J8_9 (gFr_spec e7) dJ8_getBytes_9 ?_
    refine x_iconst (0 : Int32) dJ8_getBytes_12 ic_0 ?_
    refine x_aload_n 1 rfl dJ8_getBytes_13 ?_
    refine x_iload_n 2 rfl dJ8_getBytes_14 ?_
    refine x_iload_n 3 rfl dJ8_getBytes_15 ?_
    refine x_ishl dJ8_getBytes_16 ?_
    refine x_aload_n 0 rfl dJ8_getBytes_17 ?_
    obtain ⟨v8, e8, H⟩ := ob H
    refine x_getf fg_J8_9 (gFr_spec e8) dJ8_getBytes_18 ?_
    obtain ⟨v9, e9, H⟩ := ob H
    refine x_alen e9 dJ8_getBytes_21 ?_
    obtain ⟨h10, e10, H⟩ := ob H
    refine x_copy q874 q349 q348 q129 e10 (by decide) (Nat.le_of_ble_eq_true rfl) dJ8_getBytes_22 ?_
    refine x_goto (tgt := 43) dJ8_getBytes_25 (by decide) ?_
    obtain rfl := Option.some.inj H
    exact x_vret hE rfl dJ8_getBytes_43
abbrev mi_J6_putStringAt : xM := (cJ6_putStringAt, yJ6_putStringAt, 3, none, 7)
theorem md_J6_putStringAt : xMD mi_J6_putStringAt 2 := ⟨by decide, by decide, by decide +kernel⟩
def f_J6_putStringAt (r0 : Nat) (x1 : Int32) (r2 : Nat) (h : mH) : Option (Unit × mH) := if gC h r0 ∈ [22] then bR (f_J6_inflateIfNeededFor r0 r2 h) fun a1 g1 => (gFr [22] 0 g1 r0).bind fun v2 => (gFi [22] 1 g1 r0).bind fun v3 => if gC g1 r2 = 23 then bR (f_J8_getBytes r2 v2 x1 v3 g1) fun a4 g4 => some ((), g4) else none else none
theorem t_J6_putStringAt {G : xG} (C0 : xC) {l : Launch} {r0 : Nat} {x1 : Int32} {r2 : Nat} (h : mH) {o : Unit × mH} (H : f_J6_putStringAt r0 x1 r2 h = some o) : XR G l mi_J6_putStringAt [.ref r0, .int x1, .ref r2] h none o.2 := by
  refine XR.of C0 (by decide) (Nat.le_of_ble_eq_true rfl) (fun C _ _ _ hE => ?_)
  show X G C mi_J6_putStringAt 0 [(0, .ref r0), (1, .int x1), (2, .ref r2)] [] h
  unfold f_J6_putStringAt at H
  refine x_aload_n 0 rfl dJ6_putStringAt_0 ?_
  refine x_aload_n 2 rfl dJ6_putStringAt_1 ?_
  obtain ⟨c1, H⟩ := oit H
  obtain ⟨a1, g1, e1, H⟩ := obR H
  refine x_callC (M' := mi_J6_inflateIfNeededFor) (n := 1) (As := [.ref r2]) (t_J6_inflateIfNeededFor C _ e1) c1 uc_J6_397 (by decide +kernel) ⟨Nat.le_of_ble_eq_true rfl, Nat.le_of_ble_eq_true rfl⟩ q868 rfl (Nat.le_of_ble_eq_true rfl) dJ6_putStringAt_2 ?_
  refine x_aload_n 2 rfl dJ6_putStringAt_5 ?_
  refine x_aload_n 0 rfl dJ6_putStringAt_6 ?_
  obtain ⟨v2, e2, H⟩ := ob H
  refine x_getf fg_J6_15 (gFr_spec e2) dJ6_putStringAt_7 ?_
  refine x_iload_n 1 rfl dJ6_putStringAt_10 ?_
  refine x_aload_n 0 rfl dJ6_putStringAt_11 ?_
  obtain ⟨v3, e3, H⟩ := ob H
  refine x_getf fg_J6_22 (gFi_spec e3) dJ6_putStringAt_12 ?_
  obtain ⟨c4, H⟩ := oit H
  obtain ⟨a4, g4, e4, H⟩ := obR H
  refine x_callV (M' := mi_J8_getBytes) (n := 3) (As := [.ref v2, .int x1, .int v3]) (t_J8_getBytes C _ e4) c4 rfl rfl md_J8_getBytes ⟨Nat.le_of_ble_eq_true rfl, Nat.le_of_ble_eq_true rfl⟩ q870 q871 q872 q136 q873 rfl (Nat.le_of_ble_eq_true rfl) dJ6_putStringAt_15 ?_
  obtain rfl := Option.some.inj H
  exact x_vret hE rfl dJ6_putStringAt_18
abbrev mi_J6_append_2 : xM := (cJ6_append_2, yJ6_append_2, 3, some (.object "java/lang/AbstractStringBuilder"), 8)
theorem md_J6_append_2 : xMD mi_J6_append_2 1 := ⟨by decide, by decide, by decide +kernel⟩
def f_J6_append_2 (r0 : Nat) (r1 : Nat) (h : mH) : Option (Nat × mH) := if r1 = 0 ∨ 6 ≤ r1 then if r1 = 0 then none else if gC h r1 = 23 then bR (f_J8_length r1  h) fun a2 g2 => (gFi [22] 3 g2 r0).bind fun v3 => if gC g2 r0 ∈ [22] then bR (f_J6_ensureCapacityInternal r0 (v3 + a2) g2) fun a4 g4 => (gFi [22] 3 g4 r0).bind fun v5 => if gC g4 r0 ∈ [22] then bR (f_J6_putStringAt r0 v5 r1 g4) fun a6 g6 => (gFi [22] 3 g6 r0).bind fun v7 => (pF [22] 3 (.int (v7 + a2)) g6 r0).bind fun h8 => some (r0, h8) else none else none else none else none
theorem t_J6_append_2 {G : xG} (C0 : xC) {l : Launch} {r0 : Nat} {r1 : Nat} (h : mH) {o : Nat × mH} (H : f_J6_append_2 r0 r1 h = some o) : XR G l mi_J6_append_2 [.ref r0, .ref r1] h (some (.ref o.1)) o.2 := by
  refine XR.of C0 (by decide) (Nat.le_of_ble_eq_true rfl) (fun C _ _ _ hE => ?_)
  show X G C mi_J6_append_2 0 [(0, .ref r0), (1, .ref r1)] [] h
  unfold f_J6_append_2 at H
  refine x_aload_n 1 rfl dJ6_append_2_0 ?_
  obtain ⟨g1, H⟩ := oit H
  refine x_ifnonnull 9 g1 dJ6_append_2_1 (by decide) (fun c1 => ?_) (fun c1 => ?_)
  · rw [if_neg c1] at H
    refine x_aload_n 1 rfl dJ6_append_2_9 ?_
    obtain ⟨c2, H⟩ := oit H
    obtain ⟨a2, g2, e2, H⟩ := obR H
    refine x_callV (M' := mi_J8_length) (n := 0) (As := []) (t_J8_length C _ e2) c2 rfl rfl md_J8_length ⟨Nat.le_of_ble_eq_true rfl, Nat.le_of_ble_eq_true rfl⟩ q853 q854 q855 q136 q856 rfl (Nat.le_of_ble_eq_true rfl) dJ6_append_2_10 ?_
    refine x_istore_n [1, 2, 0] dJ6_append_2_13 (by decide) rfl ?_
    refine x_aload_n 0 rfl dJ6_append_2_14 ?_
    refine x_aload_n 0 rfl dJ6_append_2_15 ?_
    obtain ⟨v3, e3, H⟩ := ob H
    refine x_getf fg_J6_79 (gFi_spec e3) dJ6_append_2_16 ?_
    refine x_iload_n 2 rfl dJ6_append_2_19 ?_
    refine x_iadd dJ6_append_2_20 ?_
    obtain ⟨c4, H⟩ := oit H
    obtain ⟨a4, g4, e4, H⟩ := obR H
    refine x_callC (M' := mi_J6_ensureCapacityInternal) (n := 1) (As := [.int (v3 + a2)]) (t_J6_ensureCapacityInternal C _ e4) c4 uc_J6_100 (by decide +kernel) ⟨Nat.le_of_ble_eq_true rfl, Nat.le_of_ble_eq_true rfl⟩ q574 rfl (Nat.le_of_ble_eq_true rfl) dJ6_append_2_21 ?_
    refine x_aload_n 0 rfl dJ6_append_2_24 ?_
    refine x_aload_n 0 rfl dJ6_append_2_25 ?_
    obtain ⟨v5, e5, H⟩ := ob H
    refine x_getf fg_J6_79 (gFi_spec e5) dJ6_append_2_26 ?_
    refine x_aload_n 1 rfl dJ6_append_2_29 ?_
    obtain ⟨c6, H⟩ := oit H
    obtain ⟨a6, g6, e6, H⟩ := obR H
    refine x_callC (M' := mi_J6_putStringAt) (n := 2) (As := [.int v5, .ref r1]) (t_J6_putStringAt C _ e6) c6 uc_J6_208 (by decide +kernel) ⟨Nat.le_of_ble_eq_true rfl, Nat.le_of_ble_eq_true rfl⟩ q864 rfl (Nat.le_of_ble_eq_true rfl) dJ6_append_2_30 ?_
    refine x_aload_n 0 rfl dJ6_append_2_33 ?_
    refine x_dup dJ6_append_2_34 rfl ?_
    obtain ⟨v7, e7, H⟩ := ob H
    refine x_getf fg_J6_79 (gFi_spec e7) dJ6_append_2_35 ?_
    refine x_iload_n 2 rfl dJ6_append_2_38 ?_
    refine x_iadd dJ6_append_2_39 ?_
    obtain ⟨h8, e8, H⟩ := ob H
    refine x_putf (fp_J6_79 _) rfl rfl e8 dJ6_append_2_40 ?_
    refine x_aload_n 0 rfl dJ6_append_2_43 ?_
    obtain rfl := Option.some.inj H
    exact x_aret hE rfl (by first | exact Or.inl ⟨_, rfl⟩ | exact Or.inr ⟨_, rfl⟩) dJ6_append_2_44
  · rw [if_pos c1] at H
    refine x_aload_n 0 rfl dJ6_append_2_4 ?_
    exact nomatch H
abbrev mi_J7_append_2 : xM := (cJ7_append_2, yJ7_append_2, 2, some (.object "java/lang/StringBuilder"), 9)
theorem md_J7_append_2 : xMD mi_J7_append_2 1 := ⟨by decide, by decide, by decide +kernel⟩
def f_J7_append_2 (r0 : Nat) (r1 : Nat) (h : mH) : Option (Nat × mH) := if gC h r0 = 22 then bR (f_J6_append_2 r0 r1 h) fun a1 g1 => some (r0, g1) else none
theorem t_J7_append_2 {G : xG} (C0 : xC) {l : Launch} {r0 : Nat} {r1 : Nat} (h : mH) {o : Nat × mH} (H : f_J7_append_2 r0 r1 h = some o) : XR G l mi_J7_append_2 [.ref r0, .ref r1] h (some (.ref o.1)) o.2 := by
  refine XR.of C0 (by decide) (Nat.le_of_ble_eq_true rfl) (fun C _ _ _ hE => ?_)
  show X G C mi_J7_append_2 0 [(0, .ref r0), (1, .ref r1)] [] h
  unfold f_J7_append_2 at H
  refine x_aload_n 0 rfl dJ7_append_2_0 ?_
  refine x_aload_n 1 rfl dJ7_append_2_1 ?_
  obtain ⟨c1, H⟩ := oit H
  obtain ⟨a1, g1, e1, H⟩ := obR H
  refine x_callSU (M' := mi_J6_append_2) (n := 1) (As := [.ref r1]) (t_J6_append_2 C _ e1) c1 rfl ⟨Nat.le_of_ble_eq_true rfl, Nat.le_of_ble_eq_true rfl⟩ (by decide) (by decide +kernel) q834 q2531 q563 q835 q134 q836 rfl (Nat.le_of_ble_eq_true rfl) dJ7_append_2_2 ?_
  refine x_pop dJ7_append_2_5 rfl ?_
  refine x_aload_n 0 rfl dJ7_append_2_6 ?_
  obtain rfl := Option.some.inj H
  exact x_aret hE rfl (by first | exact Or.inl ⟨_, rfl⟩ | exact Or.inr ⟨_, rfl⟩) dJ7_append_2_7
abbrev mi_J8_isLatin1 : xM := (cJ8_isLatin1, yJ8_isLatin1, 1, some .boolean, 1)
theorem md_J8_isLatin1 : xMD mi_J8_isLatin1 0 := ⟨by decide, by decide, by decide +kernel⟩
def f_J8_isLatin1 (r0 : Nat) (h : mH) : Option (Int32 × mH) := if (1 : Int32) = 0 then some ((0 : Int32), h) else (gFi [23] 1 h r0).bind fun v2 => if v2 = 0 then some ((1 : Int32), h) else some ((0 : Int32), h)
theorem t_J8_isLatin1 {G : xG} (C0 : xC) {l : Launch} {r0 : Nat} (h : mH) {o : Int32 × mH} (H : f_J8_isLatin1 r0 h = some o) : XR G l mi_J8_isLatin1 [.ref r0] h (some (.int o.1)) o.2 := by
  refine XR.of C0 (by decide) (Nat.le_of_ble_eq_true rfl) (fun C _ _ _ hE => ?_)
  show X G C mi_J8_isLatin1 0 [(0, .ref r0)] [] h
  unfold f_J8_isLatin1 at H
  refine x_gets (v := .int 1) (List.mem_of_getElem? (i := 1) rfl) q691 dJ8_isLatin1_0 ?_
  refine x_if_eq 17 dJ8_isLatin1_3 (by decide) (fun c1 => ?_) (fun c1 => ?_)
  · rw [if_pos c1] at H
    refine x_iconst (0 : Int32) dJ8_isLatin1_17 ic_0 ?_
    obtain rfl := Option.some.inj H
    exact x_iret hE rfl rfl dJ8_isLatin1_18
  · rw [if_neg c1] at H
    refine x_aload_n 0 rfl dJ8_isLatin1_6 ?_
    obtain ⟨v2, e2, H⟩ := ob H
    refine x_getf fg_J8_15 (gFi_spec e2) dJ8_isLatin1_7 ?_
    refine x_if_ne 17 dJ8_isLatin1_10 (by decide) (fun c3 => ?_) (fun c3 => ?_)
    · rw [if_neg c3] at H
      refine x_iconst (0 : Int32) dJ8_isLatin1_17 ic_0 ?_
      obtain rfl := Option.some.inj H
      exact x_iret hE rfl rfl dJ8_isLatin1_18
    · rw [if_pos c3] at H
      refine x_iconst (1 : Int32) dJ8_isLatin1_13 ic_1 ?_
      refine x_goto (tgt := 18) dJ8_isLatin1_14 (by decide) ?_
      obtain rfl := Option.some.inj H
      exact x_iret hE rfl rfl dJ8_isLatin1_18
abbrev mi_J12_indexOf_2 : xM := (cJ12_indexOf_2, yJ12_indexOf_2, 11, some .int, 1)
theorem md_J12_indexOf_2 : xMD mi_J12_indexOf_2 5 := ⟨by decide, by decide, by decide +kernel⟩
def f_J12_indexOf_2_b113 (kb : Nat → Nat → Int32 → Int32 → Int32 → Int32 → mH → Option (Int32 × mH)) (r0 : Nat) (r2 : Nat) (x3 : Int32) (x5 : Int32) (x6 : Int32) (x7 : Int32) (h : mH) : Option (Int32 × mH) := kb r0 r2 x3 x5 x6 (x7 + (1 : Int32)) h
theorem t_J12_indexOf_2_b113 {G : xG} {C : xC} {o : Int32 × mH} (hE : xEnd G C (some (.int o.1)) o.2) {kb : Nat → Nat → Int32 → Int32 → Int32 → Int32 → mH → Option (Int32 × mH)} (hkb : ∀ (r0 : Nat) (r2 : Nat) (x3 : Int32) (x5 : Int32) (x6 : Int32) (x7 : Int32) (h : mH), kb r0 r2 x3 x5 x6 x7 h = some o → X G C mi_J12_indexOf_2 14 [(0, .ref r0), (2, .ref r2), (3, .int x3), (5, .int x5), (6, .int x6), (7, .int x7)] [] h) (r0 : Nat) (r2 : Nat) (x3 : Int32) (x5 : Int32) (x6 : Int32) (x7 : Int32) (h : mH) (H : f_J12_indexOf_2_b113 kb r0 r2 x3 x5 x6 x7 h = some o) : X G C mi_J12_indexOf_2 113 [(0, .ref r0), (2, .ref r2), (3, .int x3), (5, .int x5), (6, .int x6), (7, .int x7)] [] h := by
  unfold f_J12_indexOf_2_b113 at H
  refine x_iinc 5 (x7 + (1 : Int32)) [1, 2, 3, 4, 5, 0] dJ12_indexOf_2_113 rfl (ii_1 _) (by decide) rfl ?_
  refine x_goto (tgt := 14) dJ12_indexOf_2_116 (by decide) ?_
  exact hkb _ _ _ _ _ _ _ H
def f_J12_indexOf_2_b103 (kb : Nat → Nat → Int32 → Int32 → Int32 → Int32 → mH → Option (Int32 × mH)) (r0 : Nat) (r2 : Nat) (x3 : Int32) (x5 : Int32) (x6 : Int32) (x7 : Int32) (x8 : Int32) (x9 : Int32) (h : mH) : Option (Int32 × mH) := if x8 = x9 then some (x7, h) else f_J12_indexOf_2_b113 kb r0 r2 x3 x5 x6 x7 h
theorem t_J12_indexOf_2_b103 {G : xG} {C : xC} {o : Int32 × mH} (hE : xEnd G C (some (.int o.1)) o.2) {kb : Nat → Nat → Int32 → Int32 → Int32 → Int32 → mH → Option (Int32 × mH)} (hkb : ∀ (r0 : Nat) (r2 : Nat) (x3 : Int32) (x5 : Int32) (x6 : Int32) (x7 : Int32) (h : mH), kb r0 r2 x3 x5 x6 x7 h = some o → X G C mi_J12_indexOf_2 14 [(0, .ref r0), (2, .ref r2), (3, .int x3), (5, .int x5), (6, .int x6), (7, .int x7)] [] h) (r0 : Nat) (r2 : Nat) (x3 : Int32) (x5 : Int32) (x6 : Int32) (x7 : Int32) (x8 : Int32) (x9 : Int32) (h : mH) (H : f_J12_indexOf_2_b103 kb r0 r2 x3 x5 x6 x7 x8 x9 h = some o) : X G C mi_J12_indexOf_2 103 [(0, .ref r0), (2, .ref r2), (3, .int x3), (5, .int x5), (6, .int x6), (7, .int x7), (8, .int x8), (9, .int x9)] [] h := by
  unfold f_J12_indexOf_2_b103 at H
  refine x_iload 6 rfl dJ12_indexOf_2_103 ?_
  refine x_iload 7 rfl dJ12_indexOf_2_105 ?_
  refine x_icmp_ne 113 dJ12_indexOf_2_107 (by decide) (fun c6 => ?_) (fun c6 => ?_)
  · rw [if_neg c6] at H
    refine X.sub [0, 1, 2, 3, 4, 5] rfl ?_
    exact t_J12_indexOf_2_b113 hE hkb _ _ _ _ _ _ _ H
  · rw [if_pos c6] at H
    refine x_iload 5 rfl dJ12_indexOf_2_110 ?_
    obtain rfl := Option.some.inj H
    exact x_iret hE rfl rfl dJ12_indexOf_2_112
def f_J12_indexOf_2_L76 (k103 : Nat → Nat → Int32 → Int32 → Int32 → Int32 → Int32 → Int32 → mH → Option (Int32 × mH)) : Nat → Nat → Nat → Int32 → Int32 → Int32 → Int32 → Int32 → Int32 → Int32 → mH → Option (Int32 × mH)
  | 0, _, _, _, _, _, _, _, _, _, _ => none
  | n + 1, r0, r2, x3, x5, x6, x7, x8, x9, x10, h => if x9 ≤ x8 then k103 r0 r2 x3 x5 x6 x7 x8 x9 h else (aI .byte h r0 x8).bind fun v8 => (aI .byte h r2 x10).bind fun v9 => if v8 = v9 then (f_J12_indexOf_2_L76 k103 n) r0 r2 x3 x5 x6 x7 (x8 + (1 : Int32)) x9 (x10 + (1 : Int32)) h else k103 r0 r2 x3 x5 x6 x7 x8 x9 h
theorem t_J12_indexOf_2_L76 {G : xG} {C : xC} {o : Int32 × mH} (hE : xEnd G C (some (.int o.1)) o.2) {k103 : Nat → Nat → Int32 → Int32 → Int32 → Int32 → Int32 → Int32 → mH → Option (Int32 × mH)} (hk103 : ∀ (r0 : Nat) (r2 : Nat) (x3 : Int32) (x5 : Int32) (x6 : Int32) (x7 : Int32) (x8 : Int32) (x9 : Int32) (h : mH), k103 r0 r2 x3 x5 x6 x7 x8 x9 h = some o → X G C mi_J12_indexOf_2 103 [(0, .ref r0), (2, .ref r2), (3, .int x3), (5, .int x5), (6, .int x6), (7, .int x7), (8, .int x8), (9, .int x9)] [] h) : ∀ (n : Nat) (r0 : Nat) (r2 : Nat) (x3 : Int32) (x5 : Int32) (x6 : Int32) (x7 : Int32) (x8 : Int32) (x9 : Int32) (x10 : Int32) (h : mH), f_J12_indexOf_2_L76 k103 n r0 r2 x3 x5 x6 x7 x8 x9 x10 h = some o → X G C mi_J12_indexOf_2 76 [(0, .ref r0), (2, .ref r2), (3, .int x3), (5, .int x5), (6, .int x6), (7, .int x7), (8, .int x8), (9, .int x9), (10, .int x10)] [] h := by
  intro n
  induction n with
  | zero => intro r0 r2 x3 x5 x6 x7 x8 x9 x10 h H; exact nomatch (show (none : Option (Int32 × mH)) = some o from H)
  | succ n ih =>
    intro r0 r2 x3 x5 x6 x7 x8 x9 x10 h H
    rw [f_J12_indexOf_2_L76] at H
    refine x_iload 6 rfl dJ12_indexOf_2_76 ?_
    refine x_iload 7 rfl dJ12_indexOf_2_78 ?_
    refine x_icmp_ge 103 dJ12_indexOf_2_80 (by decide) (fun c7 => ?_) (fun c7 => ?_)
    · rw [if_pos c7] at H
      refine X.sub [0, 1, 2, 3, 4, 5, 6, 7] rfl ?_
      exact hk103 _ _ _ _ _ _ _ _ _ H
    · rw [if_neg c7] at H
      refine x_aload_n 0 rfl dJ12_indexOf_2_83 ?_
      refine x_iload 6 rfl dJ12_indexOf_2_84 ?_
      obtain ⟨v8, e8, H⟩ := ob H
      refine x_bald e8 dJ12_indexOf_2_86 ?_
      refine x_aload_n 1 rfl dJ12_indexOf_2_87 ?_
      refine x_iload 8 rfl dJ12_indexOf_2_88 ?_
      obtain ⟨v9, e9, H⟩ := ob H
      refine x_bald e9 dJ12_indexOf_2_90 ?_
      refine x_icmp_ne 103 dJ12_indexOf_2_91 (by decide) (fun c10 => ?_) (fun c10 => ?_)
      · rw [if_neg c10] at H
        refine X.sub [0, 1, 2, 3, 4, 5, 6, 7] rfl ?_
        exact hk103 _ _ _ _ _ _ _ _ _ H
      · rw [if_pos c10] at H
        refine x_iinc 6 (x8 + (1 : Int32)) [1, 2, 3, 4, 5, 6, 0, 7, 8] dJ12_indexOf_2_94 rfl (ii_1 _) (by decide) rfl ?_
        refine x_iinc 8 (x10 + (1 : Int32)) [1, 2, 3, 4, 5, 6, 7, 8, 0] dJ12_indexOf_2_97 rfl (ii_1 _) (by decide) rfl ?_
        refine x_goto (tgt := 76) dJ12_indexOf_2_100 (by decide) ?_
        exact ih _ _ _ _ _ _ _ _ _ _ H
def f_J12_indexOf_2_b52 (kb : Nat → Nat → Int32 → Int32 → Int32 → Int32 → mH → Option (Int32 × mH)) (r0 : Nat) (r2 : Nat) (x3 : Int32) (x5 : Int32) (x6 : Int32) (x7 : Int32) (h : mH) : Option (Int32 × mH) := if x6 < x7 then f_J12_indexOf_2_b113 kb r0 r2 x3 x5 x6 x7 h else f_J12_indexOf_2_L76 (f_J12_indexOf_2_b103 kb) xFu r0 r2 x3 x5 x6 x7 (x7 + (1 : Int32)) (((x7 + (1 : Int32)) + x3) - (1 : Int32)) (1 : Int32) h
theorem t_J12_indexOf_2_b52 {G : xG} {C : xC} {o : Int32 × mH} (hE : xEnd G C (some (.int o.1)) o.2) {kb : Nat → Nat → Int32 → Int32 → Int32 → Int32 → mH → Option (Int32 × mH)} (hkb : ∀ (r0 : Nat) (r2 : Nat) (x3 : Int32) (x5 : Int32) (x6 : Int32) (x7 : Int32) (h : mH), kb r0 r2 x3 x5 x6 x7 h = some o → X G C mi_J12_indexOf_2 14 [(0, .ref r0), (2, .ref r2), (3, .int x3), (5, .int x5), (6, .int x6), (7, .int x7)] [] h) (r0 : Nat) (r2 : Nat) (x3 : Int32) (x5 : Int32) (x6 : Int32) (x7 : Int32) (h : mH) (H : f_J12_indexOf_2_b52 kb r0 r2 x3 x5 x6 x7 h = some o) : X G C mi_J12_indexOf_2 52 [(0, .ref r0), (2, .ref r2), (3, .int x3), (5, .int x5), (6, .int x6), (7, .int x7)] [] h := by
  unfold f_J12_indexOf_2_b52 at H
  refine x_iload 5 rfl dJ12_indexOf_2_52 ?_
  refine x_iload 4 rfl dJ12_indexOf_2_54 ?_
  refine x_icmp_gt 113 dJ12_indexOf_2_56 (by decide) (fun c5 => ?_) (fun c5 => ?_)
  · rw [if_pos c5] at H
    exact t_J12_indexOf_2_b113 hE hkb _ _ _ _ _ _ _ H
  · rw [if_neg c5] at H
    refine x_iload 5 rfl dJ12_indexOf_2_59 ?_
    refine x_iconst (1 : Int32) dJ12_indexOf_2_61 ic_1 ?_
    refine x_iadd dJ12_indexOf_2_62 ?_
    refine x_istore [1, 2, 3, 4, 5, 6, 0] dJ12_indexOf_2_63 (by decide) rfl ?_
    refine x_iload 6 rfl dJ12_indexOf_2_65 ?_
    refine x_iload_n 2 rfl dJ12_indexOf_2_67 ?_
    refine x_iadd dJ12_indexOf_2_68 ?_
    refine x_iconst (1 : Int32) dJ12_indexOf_2_69 ic_1 ?_
    refine x_isub dJ12_indexOf_2_70 ?_
    refine x_istore [1, 2, 3, 4, 5, 6, 7, 0] dJ12_indexOf_2_71 (by decide) rfl ?_
    refine x_iconst (1 : Int32) dJ12_indexOf_2_73 ic_1 ?_
    refine x_istore [1, 2, 3, 4, 5, 6, 7, 8, 0] dJ12_indexOf_2_74 (by decide) rfl ?_
    exact t_J12_indexOf_2_L76 hE (t_J12_indexOf_2_b103 hE hkb) xFu _ _ _ _ _ _ _ _ _ _ H
def f_J12_indexOf_2_L30 (k52 : Nat → Nat → Int32 → Int32 → Int32 → Int32 → mH → Option (Int32 × mH)) : Nat → Nat → Nat → Int32 → Int32 → Int32 → Int32 → mH → Option (Int32 × mH)
  | 0, _, _, _, _, _, _, _ => none
  | n + 1, r0, r2, x3, x5, x6, x7, h => if x6 < (x7 + (1 : Int32)) then k52 r0 r2 x3 x5 x6 (x7 + (1 : Int32)) h else (aI .byte h r0 (x7 + (1 : Int32))).bind fun v12 => if v12 = x5 then k52 r0 r2 x3 x5 x6 (x7 + (1 : Int32)) h else (f_J12_indexOf_2_L30 k52 n) r0 r2 x3 x5 x6 (x7 + (1 : Int32)) h
theorem t_J12_indexOf_2_L30 {G : xG} {C : xC} {o : Int32 × mH} (hE : xEnd G C (some (.int o.1)) o.2) {k52 : Nat → Nat → Int32 → Int32 → Int32 → Int32 → mH → Option (Int32 × mH)} (hk52 : ∀ (r0 : Nat) (r2 : Nat) (x3 : Int32) (x5 : Int32) (x6 : Int32) (x7 : Int32) (h : mH), k52 r0 r2 x3 x5 x6 x7 h = some o → X G C mi_J12_indexOf_2 52 [(0, .ref r0), (2, .ref r2), (3, .int x3), (5, .int x5), (6, .int x6), (7, .int x7)] [] h) : ∀ (n : Nat) (r0 : Nat) (r2 : Nat) (x3 : Int32) (x5 : Int32) (x6 : Int32) (x7 : Int32) (h : mH), f_J12_indexOf_2_L30 k52 n r0 r2 x3 x5 x6 x7 h = some o → X G C mi_J12_indexOf_2 30 [(0, .ref r0), (2, .ref r2), (3, .int x3), (5, .int x5), (6, .int x6), (7, .int x7)] [] h := by
  intro n
  induction n with
  | zero => intro r0 r2 x3 x5 x6 x7 h H; exact nomatch (show (none : Option (Int32 × mH)) = some o from H)
  | succ n ih =>
    intro r0 r2 x3 x5 x6 x7 h H
    rw [f_J12_indexOf_2_L30] at H
    refine x_iinc 5 (x7 + (1 : Int32)) [1, 2, 3, 4, 5, 0] dJ12_indexOf_2_30 rfl (ii_1 _) (by decide) rfl ?_
    refine x_iload 5 rfl dJ12_indexOf_2_33 ?_
    refine x_iload 4 rfl dJ12_indexOf_2_35 ?_
    refine x_icmp_gt 52 dJ12_indexOf_2_37 (by decide) (fun c11 => ?_) (fun c11 => ?_)
    · rw [if_pos c11] at H
      exact hk52 _ _ _ _ _ _ _ H
    · rw [if_neg c11] at H
      refine x_aload_n 0 rfl dJ12_indexOf_2_40 ?_
      refine x_iload 5 rfl dJ12_indexOf_2_41 ?_
      obtain ⟨v12, e12, H⟩ := ob H
      refine x_bald e12 dJ12_indexOf_2_43 ?_
      refine x_iload 3 rfl dJ12_indexOf_2_44 ?_
      refine x_icmp_eq 52 dJ12_indexOf_2_46 (by decide) (fun c13 => ?_) (fun c13 => ?_)
      · rw [if_pos c13] at H
        exact hk52 _ _ _ _ _ _ _ H
      · rw [if_neg c13] at H
        refine x_goto (tgt := 30) dJ12_indexOf_2_49 (by decide) ?_
        exact ih _ _ _ _ _ _ _ H
def f_J12_indexOf_2_L14 : Nat → Nat → Nat → Int32 → Int32 → Int32 → Int32 → mH → Option (Int32 × mH)
  | 0, _, _, _, _, _, _, _ => none
  | n + 1, r0, r2, x3, x5, x6, x7, h => if x6 < x7 then some ((-1 : Int32), h) else (aI .byte h r0 x7).bind fun v3 => if v3 = x5 then f_J12_indexOf_2_b52 (f_J12_indexOf_2_L14 n) r0 r2 x3 x5 x6 x7 h else f_J12_indexOf_2_L30 (f_J12_indexOf_2_b52 (f_J12_indexOf_2_L14 n)) xFu r0 r2 x3 x5 x6 x7 h
theorem t_J12_indexOf_2_L14 {G : xG} {C : xC} {o : Int32 × mH} (hE : xEnd G C (some (.int o.1)) o.2) : ∀ (n : Nat) (r0 : Nat) (r2 : Nat) (x3 : Int32) (x5 : Int32) (x6 : Int32) (x7 : Int32) (h : mH), f_J12_indexOf_2_L14 n r0 r2 x3 x5 x6 x7 h = some o → X G C mi_J12_indexOf_2 14 [(0, .ref r0), (2, .ref r2), (3, .int x3), (5, .int x5), (6, .int x6), (7, .int x7)] [] h := by
  intro n
  induction n with
  | zero => intro r0 r2 x3 x5 x6 x7 h H; exact nomatch (show (none : Option (Int32 × mH)) = some o from H)
  | succ n ih =>
    intro r0 r2 x3 x5 x6 x7 h H
    rw [f_J12_indexOf_2_L14] at H
    refine x_iload 5 rfl dJ12_indexOf_2_14 ?_
    refine x_iload 4 rfl dJ12_indexOf_2_16 ?_
    refine x_icmp_gt 119 dJ12_indexOf_2_18 (by decide) (fun c2 => ?_) (fun c2 => ?_)
    · rw [if_pos c2] at H
      refine x_iconst (-1 : Int32) dJ12_indexOf_2_119 ic_m1 ?_
      obtain rfl := Option.some.inj H
      exact x_iret hE rfl rfl dJ12_indexOf_2_120
    · rw [if_neg c2] at H
      refine x_aload_n 0 rfl dJ12_indexOf_2_21 ?_
      refine x_iload 5 rfl dJ12_indexOf_2_22 ?_
      obtain ⟨v3, e3, H⟩ := ob H
      refine x_bald e3 dJ12_indexOf_2_24 ?_
      refine x_iload 3 rfl dJ12_indexOf_2_25 ?_
      refine x_icmp_eq 52 dJ12_indexOf_2_27 (by decide) (fun c4 => ?_) (fun c4 => ?_)
      · rw [if_pos c4] at H
        exact t_J12_indexOf_2_b52 hE ih _ _ _ _ _ _ _ H
      · rw [if_neg c4] at H
        exact t_J12_indexOf_2_L30 hE (t_J12_indexOf_2_b52 hE ih) xFu _ _ _ _ _ _ _ H
def f_J12_indexOf_2 (r0 : Nat) (x1 : Int32) (r2 : Nat) (x3 : Int32) (x4 : Int32) (h : mH) : Option (Int32 × mH) := (aI .byte h r2 (0 : Int32)).bind fun v1 => f_J12_indexOf_2_L14  xFu r0 r2 x3 v1 (x1 - x3) x4 h
theorem t_J12_indexOf_2 {G : xG} (C0 : xC) {l : Launch} {r0 : Nat} {x1 : Int32} {r2 : Nat} {x3 : Int32} {x4 : Int32} (h : mH) {o : Int32 × mH} (H : f_J12_indexOf_2 r0 x1 r2 x3 x4 h = some o) : XR G l mi_J12_indexOf_2 [.ref r0, .int x1, .ref r2, .int x3, .int x4] h (some (.int o.1)) o.2 := by
  refine XR.of C0 (by decide) (Nat.le_of_ble_eq_true rfl) (fun C _ _ _ hE => ?_)
  show X G C mi_J12_indexOf_2 0 [(0, .ref r0), (1, .int x1), (2, .ref r2), (3, .int x3), (4, .int x4)] [] h
  unfold f_J12_indexOf_2 at H
  refine x_aload_n 2 rfl dJ12_indexOf_2_0 ?_
  refine x_iconst (0 : Int32) dJ12_indexOf_2_1 ic_0 ?_
  obtain ⟨v1, e1, H⟩ := ob H
  refine x_bald e1 dJ12_indexOf_2_2 ?_
  refine x_istore [1, 2, 3, 4, 5, 0] dJ12_indexOf_2_3 (by decide) rfl ?_
  refine x_iload_n 1 rfl dJ12_indexOf_2_5 ?_
  refine x_iload_n 3 rfl dJ12_indexOf_2_6 ?_
  refine x_isub dJ12_indexOf_2_7 ?_
  refine x_istore [1, 2, 3, 4, 5, 6, 0] dJ12_indexOf_2_8 (by decide) rfl ?_
  refine x_iload 4 rfl dJ12_indexOf_2_10 ?_
  refine x_istore [1, 2, 3, 4, 5, 6, 7, 0] dJ12_indexOf_2_12 (by decide) rfl ?_
  refine X.sub [0, 2, 3, 5, 6, 7] rfl ?_
  exact t_J12_indexOf_2_L14 hE  xFu _ _ _ _ _ _ _ H
abbrev mi_J12_indexOf : xM := (cJ12_indexOf, yJ12_indexOf, 2, some .int, 2)
theorem md_J12_indexOf : xMD mi_J12_indexOf 2 := ⟨by decide, by decide, by decide +kernel⟩
def f_J12_indexOf (r0 : Nat) (r1 : Nat) (h : mH) : Option (Int32 × mH) := (aN h r1).bind fun v1 => if v1 = 0 then some ((0 : Int32), h) else (aN h r0).bind fun v3 => if v3 = 0 then some ((-1 : Int32), h) else (aN h r0).bind fun v5 => (aN h r1).bind fun v6 => bR (f_J12_indexOf_2 r0 v5 r1 v6 (0 : Int32) h) fun a7 g7 => some (a7, g7)
theorem t_J12_indexOf {G : xG} (C0 : xC) {l : Launch} {r0 : Nat} {r1 : Nat} (h : mH) {o : Int32 × mH} (H : f_J12_indexOf r0 r1 h = some o) : XR G l mi_J12_indexOf [.ref r0, .ref r1] h (some (.int o.1)) o.2 := by
  refine XR.of C0 (by decide) (Nat.le_of_ble_eq_true rfl) (fun C _ _ _ hE => ?_)
  show X G C mi_J12_indexOf 0 [(0, .ref r0), (1, .ref r1)] [] h
  unfold f_J12_indexOf at H
  refine x_aload_n 1 rfl dJ12_indexOf_0 ?_
  obtain ⟨v1, e1, H⟩ := ob H
  refine x_alen e1 dJ12_indexOf_1 ?_
  refine x_if_ne 7 dJ12_indexOf_2 (by decide) (fun c2 => ?_) (fun c2 => ?_)
  · rw [if_neg c2] at H
    refine x_aload_n 0 rfl dJ12_indexOf_7 ?_
    obtain ⟨v3, e3, H⟩ := ob H
    refine x_alen e3 dJ12_indexOf_8 ?_
    refine x_if_ne 14 dJ12_indexOf_9 (by decide) (fun c4 => ?_) (fun c4 => ?_)
    · rw [if_neg c4] at H
      refine x_aload_n 0 rfl dJ12_indexOf_14 ?_
      refine x_aload_n 0 rfl dJ12_indexOf_15 ?_
      obtain ⟨v5, e5, H⟩ := ob H
      refine x_alen e5 dJ12_indexOf_16 ?_
      refine x_aload_n 1 rfl dJ12_indexOf_17 ?_
      refine x_aload_n 1 rfl dJ12_indexOf_18 ?_
      obtain ⟨v6, e6, H⟩ := ob H
      refine x_alen e6 dJ12_indexOf_19 ?_
      refine x_iconst (0 : Int32) dJ12_indexOf_20 ic_0 ?_
      obtain ⟨a7, g7, e7, H⟩ := obR H
      refine x_callS (M' := mi_J12_indexOf_2) (n := 5) (As := [.ref r0, .int v5, .ref r1, .int v6, .int (0 : Int32)]) (t_J12_indexOf_2 C _ e7) md_J12_indexOf_2 ⟨Nat.le_of_ble_eq_true rfl, Nat.le_of_ble_eq_true rfl⟩ q887 q888 q140 q889 rfl (Nat.le_of_ble_eq_true rfl) dJ12_indexOf_21 ?_
      obtain rfl := Option.some.inj H
      exact x_iret hE rfl rfl dJ12_indexOf_24
    · rw [if_pos c4] at H
      refine x_iconst (-1 : Int32) dJ12_indexOf_12 ic_m1 ?_
      obtain rfl := Option.some.inj H
      exact x_iret hE rfl rfl dJ12_indexOf_13
  · rw [if_pos c2] at H
    refine x_iconst (0 : Int32) dJ12_indexOf_5 ic_0 ?_
    obtain rfl := Option.some.inj H
    exact x_iret hE rfl rfl dJ12_indexOf_6
abbrev mi_J9_indexOfUnsafe : xM := (cJ9_indexOfUnsafe, yJ9_indexOfUnsafe, 11, some .int, 1)
theorem md_J9_indexOfUnsafe : xMD mi_J9_indexOfUnsafe 5 := ⟨by decide, by decide, by decide +kernel⟩
def f_J9_indexOfUnsafe (r0 : Nat) (x1 : Int32) (r2 : Nat) (x3 : Int32) (x4 : Int32) (h : mH) : Option (Int32 × mH) := none
theorem t_J9_indexOfUnsafe {G : xG} (C0 : xC) {l : Launch} {r0 : Nat} {x1 : Int32} {r2 : Nat} {x3 : Int32} {x4 : Int32} (h : mH) {o : Int32 × mH} (H : f_J9_indexOfUnsafe r0 x1 r2 x3 x4 h = some o) : XR G l mi_J9_indexOfUnsafe [.ref r0, .int x1, .ref r2, .int x3, .int x4] h (some (.int o.1)) o.2 := by
  refine XR.of C0 (by decide) (Nat.le_of_ble_eq_true rfl) (fun C _ _ _ hE => ?_)
  show X G C mi_J9_indexOfUnsafe 0 [(0, .ref r0), (1, .int x1), (2, .ref r2), (3, .int x3), (4, .int x4)] [] h
  unfold f_J9_indexOfUnsafe at H
  exact nomatch H
abbrev mi_J9_indexOf : xM := (cJ9_indexOf, yJ9_indexOf, 2, some .int, 2)
theorem md_J9_indexOf : xMD mi_J9_indexOf 2 := ⟨by decide, by decide, by decide +kernel⟩
def f_J9_indexOf (r0 : Nat) (r1 : Nat) (h : mH) : Option (Int32 × mH) := (aN h r1).bind fun v1 => if v1 = 0 then some ((0 : Int32), h) else (aN h r0).bind fun v3 => (aN h r1).bind fun v4 => if v4 ≤ v3 then bR (f_J9_length r0 h) fun a6 g6 => bR (f_J9_length r1 g6) fun a7 g7 => bR (f_J9_indexOfUnsafe r0 a6 r1 a7 (0 : Int32) g7) fun a8 g8 => some (a8, g8) else some ((-1 : Int32), h)
theorem t_J9_indexOf {G : xG} (C0 : xC) {l : Launch} {r0 : Nat} {r1 : Nat} (h : mH) {o : Int32 × mH} (H : f_J9_indexOf r0 r1 h = some o) : XR G l mi_J9_indexOf [.ref r0, .ref r1] h (some (.int o.1)) o.2 := by
  refine XR.of C0 (by decide) (Nat.le_of_ble_eq_true rfl) (fun C _ _ _ hE => ?_)
  show X G C mi_J9_indexOf 0 [(0, .ref r0), (1, .ref r1)] [] h
  unfold f_J9_indexOf at H
  refine x_aload_n 1 rfl dJ9_indexOf_0 ?_
  obtain ⟨v1, e1, H⟩ := ob H
  refine x_alen e1 dJ9_indexOf_1 ?_
  refine x_if_ne 7 dJ9_indexOf_2 (by decide) (fun c2 => ?_) (fun c2 => ?_)
  · rw [if_neg c2] at H
    refine x_aload_n 0 rfl dJ9_indexOf_7 ?_
    obtain ⟨v3, e3, H⟩ := ob H
    refine x_alen e3 dJ9_indexOf_8 ?_
    refine x_aload_n 1 rfl dJ9_indexOf_9 ?_
    obtain ⟨v4, e4, H⟩ := ob H
    refine x_alen e4 dJ9_indexOf_10 ?_
    refine x_icmp_ge 16 dJ9_indexOf_11 (by decide) (fun c5 => ?_) (fun c5 => ?_)
    · rw [if_pos c5] at H
      refine x_aload_n 0 rfl dJ9_indexOf_16 ?_
      refine x_aload_n 0 rfl dJ9_indexOf_17 ?_
      obtain ⟨a6, g6, e6, H⟩ := obR H
      refine x_callS (M' := mi_J9_length) (n := 1) (As := [.ref r0]) (t_J9_length C _ e6) md_J9_length ⟨Nat.le_of_ble_eq_true rfl, Nat.le_of_ble_eq_true rfl⟩ q625 q626 q137 q627 rfl (Nat.le_of_ble_eq_true rfl) dJ9_indexOf_18 ?_
      refine x_aload_n 1 rfl dJ9_indexOf_21 ?_
      refine x_aload_n 1 rfl dJ9_indexOf_22 ?_
      obtain ⟨a7, g7, e7, H⟩ := obR H
      refine x_callS (M' := mi_J9_length) (n := 1) (As := [.ref r1]) (t_J9_length C _ e7) md_J9_length ⟨Nat.le_of_ble_eq_true rfl, Nat.le_of_ble_eq_true rfl⟩ q625 q626 q137 q627 rfl (Nat.le_of_ble_eq_true rfl) dJ9_indexOf_23 ?_
      refine x_iconst (0 : Int32) dJ9_indexOf_26 ic_0 ?_
      obtain ⟨a8, g8, e8, H⟩ := obR H
      refine x_callS (M' := mi_J9_indexOfUnsafe) (n := 5) (As := [.ref r0, .int a6, .ref r1, .int a7, .int (0 : Int32)]) (t_J9_indexOfUnsafe C _ e8) md_J9_indexOfUnsafe ⟨Nat.le_of_ble_eq_true rfl, Nat.le_of_ble_eq_true rfl⟩ q893 q894 q137 q895 rfl (Nat.le_of_ble_eq_true rfl) dJ9_indexOf_27 ?_
      obtain rfl := Option.some.inj H
      exact x_iret hE rfl rfl dJ9_indexOf_30
    · rw [if_neg c5] at H
      refine x_iconst (-1 : Int32) dJ9_indexOf_14 ic_m1 ?_
      obtain rfl := Option.some.inj H
      exact x_iret hE rfl rfl dJ9_indexOf_15
  · rw [if_pos c2] at H
    refine x_iconst (0 : Int32) dJ9_indexOf_5 ic_0 ?_
    obtain rfl := Option.some.inj H
    exact x_iret hE rfl rfl dJ9_indexOf_6
abbrev mi_J9_indexOfLatin1Unsafe : xM := (cJ9_indexOfLatin1Unsafe, yJ9_indexOfLatin1Unsafe, 11, some .int, 1)
theorem md_J9_indexOfLatin1Unsafe : xMD mi_J9_indexOfLatin1Unsafe 5 := ⟨by decide, by decide, by decide +kernel⟩
def f_J9_indexOfLatin1Unsafe (r0 : Nat) (x1 : Int32) (r2 : Nat) (x3 : Int32) (x4 : Int32) (h : mH) : Option (Int32 × mH) := none
theorem t_J9_indexOfLatin1Unsafe {G : xG} (C0 : xC) {l : Launch} {r0 : Nat} {x1 : Int32} {r2 : Nat} {x3 : Int32} {x4 : Int32} (h : mH) {o : Int32 × mH} (H : f_J9_indexOfLatin1Unsafe r0 x1 r2 x3 x4 h = some o) : XR G l mi_J9_indexOfLatin1Unsafe [.ref r0, .int x1, .ref r2, .int x3, .int x4] h (some (.int o.1)) o.2 := by
  refine XR.of C0 (by decide) (Nat.le_of_ble_eq_true rfl) (fun C _ _ _ hE => ?_)
  show X G C mi_J9_indexOfLatin1Unsafe 0 [(0, .ref r0), (1, .int x1), (2, .ref r2), (3, .int x3), (4, .int x4)] [] h
  unfold f_J9_indexOfLatin1Unsafe at H
  exact nomatch H
abbrev mi_J9_indexOfLatin1 : xM := (cJ9_indexOfLatin1, yJ9_indexOfLatin1, 2, some .int, 2)
theorem md_J9_indexOfLatin1 : xMD mi_J9_indexOfLatin1 2 := ⟨by decide, by decide, by decide +kernel⟩
def f_J9_indexOfLatin1 (r0 : Nat) (r1 : Nat) (h : mH) : Option (Int32 × mH) := (aN h r1).bind fun v1 => if v1 = 0 then some ((0 : Int32), h) else bR (f_J9_length r0 h) fun a3 g3 => (aN g3 r1).bind fun v4 => if v4 ≤ a3 then bR (f_J9_length r0 g3) fun a6 g6 => (aN g6 r1).bind fun v7 => bR (f_J9_indexOfLatin1Unsafe r0 a6 r1 v7 (0 : Int32) g6) fun a8 g8 => some (a8, g8) else some ((-1 : Int32), g3)
theorem t_J9_indexOfLatin1 {G : xG} (C0 : xC) {l : Launch} {r0 : Nat} {r1 : Nat} (h : mH) {o : Int32 × mH} (H : f_J9_indexOfLatin1 r0 r1 h = some o) : XR G l mi_J9_indexOfLatin1 [.ref r0, .ref r1] h (some (.int o.1)) o.2 := by
  refine XR.of C0 (by decide) (Nat.le_of_ble_eq_true rfl) (fun C _ _ _ hE => ?_)
  show X G C mi_J9_indexOfLatin1 0 [(0, .ref r0), (1, .ref r1)] [] h
  unfold f_J9_indexOfLatin1 at H
  refine x_aload_n 1 rfl dJ9_indexOfLatin1_0 ?_
  obtain ⟨v1, e1, H⟩ := ob H
  refine x_alen e1 dJ9_indexOfLatin1_1 ?_
  refine x_if_ne 7 dJ9_indexOfLatin1_2 (by decide) (fun c2 => ?_) (fun c2 => ?_)
  · rw [if_neg c2] at H
    refine x_aload_n 0 rfl dJ9_indexOfLatin1_7 ?_
    obtain ⟨a3, g3, e3, H⟩ := obR H
    refine x_callS (M' := mi_J9_length) (n := 1) (As := [.ref r0]) (t_J9_length C _ e3) md_J9_length ⟨Nat.le_of_ble_eq_true rfl, Nat.le_of_ble_eq_true rfl⟩ q625 q626 q137 q627 rfl (Nat.le_of_ble_eq_true rfl) dJ9_indexOfLatin1_8 ?_
    refine x_aload_n 1 rfl dJ9_indexOfLatin1_11 ?_
    obtain ⟨v4, e4, H⟩ := ob H
    refine x_alen e4 dJ9_indexOfLatin1_12 ?_
    refine x_icmp_ge 18 dJ9_indexOfLatin1_13 (by decide) (fun c5 => ?_) (fun c5 => ?_)
    · rw [if_pos c5] at H
      refine x_aload_n 0 rfl dJ9_indexOfLatin1_18 ?_
      refine x_aload_n 0 rfl dJ9_indexOfLatin1_19 ?_
      obtain ⟨a6, g6, e6, H⟩ := obR H
      refine x_callS (M' := mi_J9_length) (n := 1) (As := [.ref r0]) (t_J9_length C _ e6) md_J9_length ⟨Nat.le_of_ble_eq_true rfl, Nat.le_of_ble_eq_true rfl⟩ q625 q626 q137 q627 rfl (Nat.le_of_ble_eq_true rfl) dJ9_indexOfLatin1_20 ?_
      refine x_aload_n 1 rfl dJ9_indexOfLatin1_23 ?_
      refine x_aload_n 1 rfl dJ9_indexOfLatin1_24 ?_
      obtain ⟨v7, e7, H⟩ := ob H
      refine x_alen e7 dJ9_indexOfLatin1_25 ?_
      refine x_iconst (0 : Int32) dJ9_indexOfLatin1_26 ic_0 ?_
      obtain ⟨a8, g8, e8, H⟩ := obR H
      refine x_callS (M' := mi_J9_indexOfLatin1Unsafe) (n := 5) (As := [.ref r0, .int a6, .ref r1, .int v7, .int (0 : Int32)]) (t_J9_indexOfLatin1Unsafe C _ e8) md_J9_indexOfLatin1Unsafe ⟨Nat.le_of_ble_eq_true rfl, Nat.le_of_ble_eq_true rfl⟩ q899 q900 q137 q901 rfl (Nat.le_of_ble_eq_true rfl) dJ9_indexOfLatin1_27 ?_
      obtain rfl := Option.some.inj H
      exact x_iret hE rfl rfl dJ9_indexOfLatin1_30
    · rw [if_neg c5] at H
      refine x_iconst (-1 : Int32) dJ9_indexOfLatin1_16 ic_m1 ?_
      obtain rfl := Option.some.inj H
      exact x_iret hE rfl rfl dJ9_indexOfLatin1_17
  · rw [if_pos c2] at H
    refine x_iconst (0 : Int32) dJ9_indexOfLatin1_5 ic_0 ?_
    obtain rfl := Option.some.inj H
    exact x_iret hE rfl rfl dJ9_indexOfLatin1_6
abbrev mi_J8_indexOf : xM := (cJ8_indexOf, yJ8_indexOf, 3, some .int, 3)
theorem md_J8_indexOf : xMD mi_J8_indexOf 1 := ⟨by decide, by decide, by decide +kernel⟩
def f_J8_indexOf (r0 : Nat) (r1 : Nat) (h : mH) : Option (Int32 × mH) := if gC h r0 = 23 then bR (f_J8_coder r0  h) fun a1 g1 => if gC g1 r1 = 23 then bR (f_J8_coder r1  g1) fun a2 g2 => if a1 = a2 then if gC g2 r0 = 23 then bR (f_J8_isLatin1 r0  g2) fun a8 g8 => if a8 = 0 then (gFr [23] 0 g8 r0).bind fun v10 => (gFr [23] 0 g8 r1).bind fun v11 => bR (f_J9_indexOf v10 v11 g8) fun a12 g12 => some (a12, g12) else (gFr [23] 0 g8 r0).bind fun v13 => (gFr [23] 0 g8 r1).bind fun v14 => bR (f_J12_indexOf v13 v14 g8) fun a15 g15 => some (a15, g15) else none else if a1 = 0 then some ((-1 : Int32), g2) else (gFr [23] 0 g2 r0).bind fun v5 => (gFr [23] 0 g2 r1).bind fun v6 => bR (f_J9_indexOfLatin1 v5 v6 g2) fun a7 g7 => some (a7, g7) else none else none
theorem t_J8_indexOf {G : xG} (C0 : xC) {l : Launch} {r0 : Nat} {r1 : Nat} (h : mH) {o : Int32 × mH} (H : f_J8_indexOf r0 r1 h = some o) : XR G l mi_J8_indexOf [.ref r0, .ref r1] h (some (.int o.1)) o.2 := by
  refine XR.of C0 (by decide) (Nat.le_of_ble_eq_true rfl) (fun C _ _ _ hE => ?_)
  show X G C mi_J8_indexOf 0 [(0, .ref r0), (1, .ref r1)] [] h
  unfold f_J8_indexOf at H
  refine x_aload_n 0 rfl dJ8_indexOf_0 ?_
  obtain ⟨c1, H⟩ := oit H
  obtain ⟨a1, g1, e1, H⟩ := obR H
  refine x_callV (M' := mi_J8_coder) (n := 0) (As := []) (t_J8_coder C _ e1) c1 rfl rfl md_J8_coder ⟨Nat.le_of_ble_eq_true rfl, Nat.le_of_ble_eq_true rfl⟩ q857 q858 q859 q136 q860 rfl (Nat.le_of_ble_eq_true rfl) dJ8_indexOf_1 ?_
  refine x_istore_n [1, 2, 0] dJ8_indexOf_4 (by decide) rfl ?_
  refine x_iload_n 2 rfl dJ8_indexOf_5 ?_
  refine x_aload_n 1 rfl dJ8_indexOf_6 ?_
  obtain ⟨c2, H⟩ := oit H
  obtain ⟨a2, g2, e2, H⟩ := obR H
  refine x_callV (M' := mi_J8_coder) (n := 0) (As := []) (t_J8_coder C _ e2) c2 rfl rfl md_J8_coder ⟨Nat.le_of_ble_eq_true rfl, Nat.le_of_ble_eq_true rfl⟩ q857 q858 q859 q136 q860 rfl (Nat.le_of_ble_eq_true rfl) dJ8_indexOf_7 ?_
  refine x_icmp_ne 46 dJ8_indexOf_10 (by decide) (fun c3 => ?_) (fun c3 => ?_)
  · rw [if_neg c3] at H
    refine x_iload_n 2 rfl dJ8_indexOf_46 ?_
    refine x_if_ne 52 dJ8_indexOf_47 (by decide) (fun c4 => ?_) (fun c4 => ?_)
    · rw [if_neg c4] at H
      refine x_aload_n 0 rfl dJ8_indexOf_52 ?_
      obtain ⟨v5, e5, H⟩ := ob H
      refine x_getf fg_J8_9 (gFr_spec e5) dJ8_indexOf_53 ?_
      refine x_aload_n 1 rfl dJ8_indexOf_56 ?_
      obtain ⟨v6, e6, H⟩ := ob H
      refine x_getf fg_J8_9 (gFr_spec e6) dJ8_indexOf_57 ?_
      obtain ⟨a7, g7, e7, H⟩ := obR H
      refine x_callS (M' := mi_J9_indexOfLatin1) (n := 2) (As := [.ref v5, .ref v6]) (t_J9_indexOfLatin1 C _ e7) md_J9_indexOfLatin1 ⟨Nat.le_of_ble_eq_true rfl, Nat.le_of_ble_eq_true rfl⟩ q896 q897 q137 q898 rfl (Nat.le_of_ble_eq_true rfl) dJ8_indexOf_60 ?_
      obtain rfl := Option.some.inj H
      exact x_iret hE rfl rfl dJ8_indexOf_63
    · rw [if_pos c4] at H
      refine x_iconst (-1 : Int32) dJ8_indexOf_50 ic_m1 ?_
      obtain rfl := Option.some.inj H
      exact x_iret hE rfl rfl dJ8_indexOf_51
  · rw [if_pos c3] at H
    refine x_aload_n 0 rfl dJ8_indexOf_13 ?_
    obtain ⟨c8, H⟩ := oit H
    obtain ⟨a8, g8, e8, H⟩ := obR H
    refine x_callV (M' := mi_J8_isLatin1) (n := 0) (As := []) (t_J8_isLatin1 C _ e8) c8 rfl rfl md_J8_isLatin1 ⟨Nat.le_of_ble_eq_true rfl, Nat.le_of_ble_eq_true rfl⟩ q880 q881 q882 q136 q883 rfl (Nat.le_of_ble_eq_true rfl) dJ8_indexOf_14 ?_
    refine x_if_eq 34 dJ8_indexOf_17 (by decide) (fun c9 => ?_) (fun c9 => ?_)
    · rw [if_pos c9] at H
      refine x_aload_n 0 rfl dJ8_indexOf_34 ?_
      obtain ⟨v10, e10, H⟩ := ob H
      refine x_getf fg_J8_9 (gFr_spec e10) dJ8_indexOf_35 ?_
      refine x_aload_n 1 rfl dJ8_indexOf_38 ?_
      obtain ⟨v11, e11, H⟩ := ob H
      refine x_getf fg_J8_9 (gFr_spec e11) dJ8_indexOf_39 ?_
      obtain ⟨a12, g12, e12, H⟩ := obR H
      refine x_callS (M' := mi_J9_indexOf) (n := 2) (As := [.ref v10, .ref v11]) (t_J9_indexOf C _ e12) md_J9_indexOf ⟨Nat.le_of_ble_eq_true rfl, Nat.le_of_ble_eq_true rfl⟩ q890 q891 q137 q892 rfl (Nat.le_of_ble_eq_true rfl) dJ8_indexOf_42 ?_
      obtain rfl := Option.some.inj H
      exact x_iret hE rfl rfl dJ8_indexOf_45
    · rw [if_neg c9] at H
      refine x_aload_n 0 rfl dJ8_indexOf_20 ?_
      obtain ⟨v13, e13, H⟩ := ob H
      refine x_getf fg_J8_9 (gFr_spec e13) dJ8_indexOf_21 ?_
      refine x_aload_n 1 rfl dJ8_indexOf_24 ?_
      obtain ⟨v14, e14, H⟩ := ob H
      refine x_getf fg_J8_9 (gFr_spec e14) dJ8_indexOf_25 ?_
      obtain ⟨a15, g15, e15, H⟩ := obR H
      refine x_callS (M' := mi_J12_indexOf) (n := 2) (As := [.ref v13, .ref v14]) (t_J12_indexOf C _ e15) md_J12_indexOf ⟨Nat.le_of_ble_eq_true rfl, Nat.le_of_ble_eq_true rfl⟩ q884 q885 q140 q886 rfl (Nat.le_of_ble_eq_true rfl) dJ8_indexOf_28 ?_
      refine x_goto (tgt := 45) dJ8_indexOf_31 (by decide) ?_
      obtain rfl := Option.some.inj H
      exact x_iret hE rfl rfl dJ8_indexOf_45
abbrev mi_X6_isName : xM := (cX6_isName, yX6_isName, 1, some .boolean, 10)
theorem md_X6_isName : xMD mi_X6_isName 0 := ⟨by decide, by decide, by decide +kernel⟩
def f_X6_isName (r0 : Nat) (h : mH) : Option (Int32 × mH) := (gFi [5, 6, 7] 4 h r0).bind fun v1 => if v1 = (2 : Int32) then if 6 ≤ h.2.1 then bR (f_J7_init h.2.1  (xnw h (.inr (22, [.ref 0, .int 0, .int 0, .int 0])) 4)) fun a3 g3 => if gC g3 h.2.1 = 22 then bR (f_J7_append_2 h.2.1 12 g3) fun a4 g4 => (gFr [5, 6, 7] 8 g4 r0).bind fun v5 => if gC g4 a4 = 22 then bR (f_J7_append_2 a4 v5 g4) fun a6 g6 => if gC g6 a6 = 22 then bR (f_J7_append_2 a6 12 g6) fun a7 g7 => if gC g7 a7 = 22 then bR (f_J7_toString a7  g7) fun a8 g8 => if gC g8 11 = 23 then bR (f_J8_indexOf 11 a8 g8) fun a9 g9 => if 0 ≤ a9 then some ((0 : Int32), g9) else some ((1 : Int32), g9) else none else none else none else none else none else none else some ((0 : Int32), h)
theorem t_X6_isName {G : xG} (C0 : xC) {l : Launch} {r0 : Nat} (h : mH) {o : Int32 × mH} (H : f_X6_isName r0 h = some o) : XR G l mi_X6_isName [.ref r0] h (some (.int o.1)) o.2 := by
  refine XR.of C0 (by decide) (Nat.le_of_ble_eq_true rfl) (fun C _ _ _ hE => ?_)
  show X G C mi_X6_isName 0 [(0, .ref r0)] [] h
  unfold f_X6_isName at H
  refine x_aload_n 0 rfl dX6_isName_0 ?_
  obtain ⟨v1, e1, H⟩ := ob H
  refine x_getf fg_X6_38 (gFi_spec e1) dX6_isName_1 ?_
  refine x_iconst (2 : Int32) dX6_isName_4 ic_2 ?_
  refine x_icmp_ne 47 dX6_isName_5 (by decide) (fun c2 => ?_) (fun c2 => ?_)
  · rw [if_neg c2] at H
    refine x_iconst (0 : Int32) dX6_isName_47 ic_0 ?_
    obtain rfl := Option.some.inj H
    exact x_iret hE rfl rfl dX6_isName_48
  · rw [if_pos c2] at H
    refine x_ldcS (tx := " person good sells wants knows foes deals veils bell buys nods tells day or and not home veiled fed sold coins friends hunger number ") (a := 11) (List.mem_of_getElem? (i := 3) rfl) (by decide) (by decide) dX6_isName_8 ?_
    refine x_new (fs := [.ref 0, .int 0, .int 0, .int 0]) ci_22 q533 q534 q135 (nf_J7 G) rfl dX6_isName_10 ?_
    refine x_dup dX6_isName_13 rfl ?_
    obtain ⟨c3, H⟩ := oit H
    obtain ⟨a3, g3, e3, H⟩ := obR H
    refine x_callI (M' := mi_J7_init) (n := 0) (As := []) (t_J7_init C _ e3) c3 md_J7_init ⟨Nat.le_of_ble_eq_true rfl, Nat.le_of_ble_eq_true rfl⟩ rfl rfl q535 q536 q135 q537 rfl (Nat.le_of_ble_eq_true rfl) dX6_isName_14 ?_
    refine x_ldcS (tx := " ") (a := 12) (List.mem_of_getElem? (i := 4) rfl) (by decide) (by decide) dX6_isName_17 ?_
    obtain ⟨c4, H⟩ := oit H
    obtain ⟨a4, g4, e4, H⟩ := obR H
    refine x_callV (M' := mi_J7_append_2) (n := 1) (As := [.ref 12]) (t_J7_append_2 C _ e4) c4 rfl rfl md_J7_append_2 ⟨Nat.le_of_ble_eq_true rfl, Nat.le_of_ble_eq_true rfl⟩ q830 q831 q832 q135 q833 rfl (Nat.le_of_ble_eq_true rfl) dX6_isName_19 ?_
    refine x_aload_n 0 rfl dX6_isName_22 ?_
    obtain ⟨v5, e5, H⟩ := ob H
    refine x_getf fg_X6_11 (gFr_spec e5) dX6_isName_23 ?_
    obtain ⟨c6, H⟩ := oit H
    obtain ⟨a6, g6, e6, H⟩ := obR H
    refine x_callV (M' := mi_J7_append_2) (n := 1) (As := [.ref v5]) (t_J7_append_2 C _ e6) c6 rfl rfl md_J7_append_2 ⟨Nat.le_of_ble_eq_true rfl, Nat.le_of_ble_eq_true rfl⟩ q830 q831 q832 q135 q833 rfl (Nat.le_of_ble_eq_true rfl) dX6_isName_26 ?_
    refine x_ldcS (tx := " ") (a := 12) (List.mem_of_getElem? (i := 4) rfl) (by decide) (by decide) dX6_isName_29 ?_
    obtain ⟨c7, H⟩ := oit H
    obtain ⟨a7, g7, e7, H⟩ := obR H
    refine x_callV (M' := mi_J7_append_2) (n := 1) (As := [.ref 12]) (t_J7_append_2 C _ e7) c7 rfl rfl md_J7_append_2 ⟨Nat.le_of_ble_eq_true rfl, Nat.le_of_ble_eq_true rfl⟩ q830 q831 q832 q135 q833 rfl (Nat.le_of_ble_eq_true rfl) dX6_isName_31 ?_
    obtain ⟨c8, H⟩ := oit H
    obtain ⟨a8, g8, e8, H⟩ := obR H
    refine x_callV (M' := mi_J7_toString) (n := 0) (As := []) (t_J7_toString C _ e8) c8 rfl rfl md_J7_toString ⟨Nat.le_of_ble_eq_true rfl, Nat.le_of_ble_eq_true rfl⟩ q655 q656 q657 q135 q658 rfl (Nat.le_of_ble_eq_true rfl) dX6_isName_34 ?_
    obtain ⟨c9, H⟩ := oit H
    obtain ⟨a9, g9, e9, H⟩ := obR H
    refine x_callV (M' := mi_J8_indexOf) (n := 1) (As := [.ref a8]) (t_J8_indexOf C _ e9) c9 rfl rfl md_J8_indexOf ⟨Nat.le_of_ble_eq_true rfl, Nat.le_of_ble_eq_true rfl⟩ q876 q877 q878 q136 q879 rfl (Nat.le_of_ble_eq_true rfl) dX6_isName_37 ?_
    refine x_if_ge 47 dX6_isName_40 (by decide) (fun c10 => ?_) (fun c10 => ?_)
    · rw [if_pos c10] at H
      refine x_iconst (0 : Int32) dX6_isName_47 ic_0 ?_
      obtain rfl := Option.some.inj H
      exact x_iret hE rfl rfl dX6_isName_48
    · rw [if_neg c10] at H
      refine x_iconst (1 : Int32) dX6_isName_43 ic_1 ?_
      refine x_goto (tgt := 48) dX6_isName_44 (by decide) ?_
      obtain rfl := Option.some.inj H
      exact x_iret hE rfl rfl dX6_isName_48
abbrev mi_J13_init_2 : xM := (cJ13_init_2, yJ13_init_2, 5, none, 1)
theorem md_J13_init_2 : xMD mi_J13_init_2 4 := ⟨by decide, by decide, by decide +kernel⟩
def f_J13_init_2 (r0 : Nat) (r1 : Nat) (r2 : Nat) (x3 : Int32) (x4 : Int32) (h : mH) : Option (Unit × mH) := if 6 ≤ r0 then (pF [8] 0 (.ref r0) h r0).bind fun h2 => (pF [8] 1 (.ref 1) h2 r0).bind fun h3 => (pF [8] 2 (.ref 2) h3 r0).bind fun h4 => if x4 = 0 then (pF [8] 1 (.ref 0) h4 r0).bind fun h6 => (pF [8] 3 (.ref r1) h6 r0).bind fun h7 => (pF [8] 0 (.ref r2) h7 r0).bind fun h8 => if x3 = 0 then (pF [8] 2 (.ref 0) h8 r0).bind fun h10 => some ((), h10) else some ((), h8) else none else none
theorem t_J13_init_2 {G : xG} (C0 : xC) {l : Launch} {r0 : Nat} {r1 : Nat} {r2 : Nat} {x3 : Int32} {x4 : Int32} (h : mH) {o : Unit × mH} (H : f_J13_init_2 r0 r1 r2 x3 x4 h = some o) : XR G l mi_J13_init_2 [.ref r0, .ref r1, .ref r2, .int x3, .int x4] h none o.2 := by
  refine XR.of C0 (by decide) (Nat.le_of_ble_eq_true rfl) (fun C _ _ _ hE => ?_)
  show X G C mi_J13_init_2 0 [(0, .ref r0), (1, .ref r1), (2, .ref r2), (3, .int x3), (4, .int x4)] [] h
  unfold f_J13_init_2 at H
  refine x_aload_n 0 rfl dJ13_init_2_0 ?_
  obtain ⟨c1, H⟩ := oit H
  refine x_oinit c1 (by decide) q773 q170 q171 (Nat.le_of_ble_eq_true rfl) dJ13_init_2_1 ?_
  refine x_aload_n 0 rfl dJ13_init_2_4 ?_
  refine x_aload_n 0 rfl dJ13_init_2_5 ?_
  obtain ⟨h2, e2, H⟩ := ob H
  refine x_putf (fp_J13_7 _) rfl rfl e2 dJ13_init_2_6 ?_
  refine x_aload_n 0 rfl dJ13_init_2_9 ?_
  refine x_gets (v := .ref 1) (List.mem_of_getElem? (i := 2) rfl) q774 dJ13_init_2_10 ?_
  obtain ⟨h3, e3, H⟩ := ob H
  refine x_putf (fp_J13_17 _) rfl rfl e3 dJ13_init_2_13 ?_
  refine x_aload_n 0 rfl dJ13_init_2_16 ?_
  refine x_gets (v := .ref 2) (List.mem_of_getElem? (i := 3) rfl) q776 dJ13_init_2_17 ?_
  obtain ⟨h4, e4, H⟩ := ob H
  refine x_putf (fp_J13_24 _) rfl rfl e4 dJ13_init_2_20 ?_
  refine x_iload 4 rfl dJ13_init_2_23 ?_
  refine x_if_eq 36 dJ13_init_2_25 (by decide) (fun c5 => ?_) (fun c5 => ?_)
  · rw [if_pos c5] at H
    refine x_aload_n 0 rfl dJ13_init_2_36 ?_
    refine x_null dJ13_init_2_37 ?_
    obtain ⟨h6, e6, H⟩ := ob H
    refine x_putf (fp_J13_17 _) rfl rfl e6 dJ13_init_2_38 ?_
    refine x_aload_n 0 rfl dJ13_init_2_41 ?_
    refine x_aload_n 1 rfl dJ13_init_2_42 ?_
    obtain ⟨h7, e7, H⟩ := ob H
    refine x_putf (fp_J13_31 _) rfl rfl e7 dJ13_init_2_43 ?_
    refine x_aload_n 0 rfl dJ13_init_2_46 ?_
    refine x_aload_n 2 rfl dJ13_init_2_47 ?_
    obtain ⟨h8, e8, H⟩ := ob H
    refine x_putf (fp_J13_7 _) rfl rfl e8 dJ13_init_2_48 ?_
    refine x_iload_n 3 rfl dJ13_init_2_51 ?_
    refine x_if_ne 60 dJ13_init_2_52 (by decide) (fun c9 => ?_) (fun c9 => ?_)
    · rw [if_neg c9] at H
      obtain rfl := Option.some.inj H
      exact x_vret hE rfl dJ13_init_2_60
    · rw [if_pos c9] at H
      refine x_aload_n 0 rfl dJ13_init_2_55 ?_
      refine x_null dJ13_init_2_56 ?_
      obtain ⟨h10, e10, H⟩ := ob H
      refine x_putf (fp_J13_24 _) rfl rfl e10 dJ13_init_2_57 ?_
      obtain rfl := Option.some.inj H
      exact x_vret hE rfl dJ13_init_2_60
  · rw [if_neg c5] at H
    refine x_aload_n 0 rfl dJ13_init_2_28 ?_
    exact nomatch H
abbrev mi_J14_init : xM := (cJ14_init, yJ14_init, 5, none, 2)
theorem md_J14_init : xMD mi_J14_init 4 := ⟨by decide, by decide, by decide +kernel⟩
def f_J14_init (r0 : Nat) (r1 : Nat) (r2 : Nat) (x3 : Int32) (x4 : Int32) (h : mH) : Option (Unit × mH) := if 6 ≤ r0 then bR (f_J13_init_2 r0 r1 r2 x3 x4 h) fun a1 g1 => some ((), g1) else none
theorem t_J14_init {G : xG} (C0 : xC) {l : Launch} {r0 : Nat} {r1 : Nat} {r2 : Nat} {x3 : Int32} {x4 : Int32} (h : mH) {o : Unit × mH} (H : f_J14_init r0 r1 r2 x3 x4 h = some o) : XR G l mi_J14_init [.ref r0, .ref r1, .ref r2, .int x3, .int x4] h none o.2 := by
  refine XR.of C0 (by decide) (Nat.le_of_ble_eq_true rfl) (fun C _ _ _ hE => ?_)
  show X G C mi_J14_init 0 [(0, .ref r0), (1, .ref r1), (2, .ref r2), (3, .int x3), (4, .int x4)] [] h
  unfold f_J14_init at H
  refine x_aload_n 0 rfl dJ14_init_0 ?_
  refine x_aload_n 1 rfl dJ14_init_1 ?_
  refine x_aload_n 2 rfl dJ14_init_2 ?_
  refine x_iload_n 3 rfl dJ14_init_3 ?_
  refine x_iload 4 rfl dJ14_init_4 ?_
  obtain ⟨c1, H⟩ := oit H
  obtain ⟨a1, g1, e1, H⟩ := obR H
  refine x_callI (M' := mi_J13_init_2) (n := 4) (As := [.ref r1, .ref r2, .int x3, .int x4]) (t_J13_init_2 C _ e1) c1 md_J13_init_2 ⟨Nat.le_of_ble_eq_true rfl, Nat.le_of_ble_eq_true rfl⟩ rfl rfl q794 q795 q141 q796 rfl (Nat.le_of_ble_eq_true rfl) dJ14_init_6 ?_
  obtain rfl := Option.some.inj H
  exact x_vret hE rfl dJ14_init_9
abbrev mi_X8_init : xM := (cX8_init, yX8_init, 3, none, 3)
theorem md_X8_init : xMD mi_X8_init 2 := ⟨by decide, by decide, by decide +kernel⟩
def f_X8_init (r0 : Nat) (x1 : Int32) (x2 : Int32) (h : mH) : Option (Unit × mH) := if 6 ≤ r0 then bR (f_J14_init r0 0 0 (0 : Int32) (0 : Int32) h) fun a1 g1 => (pF [8] 6 (.int x1) g1 r0).bind fun h2 => (pF [8] 7 (.int x2) h2 r0).bind fun h3 => some ((), h3) else none
theorem t_X8_init {G : xG} (C0 : xC) {l : Launch} {r0 : Nat} {x1 : Int32} {x2 : Int32} (h : mH) {o : Unit × mH} (H : f_X8_init r0 x1 x2 h = some o) : XR G l mi_X8_init [.ref r0, .int x1, .int x2] h none o.2 := by
  refine XR.of C0 (by decide) (Nat.le_of_ble_eq_true rfl) (fun C _ _ _ hE => ?_)
  show X G C mi_X8_init 0 [(0, .ref r0), (1, .int x1), (2, .int x2)] [] h
  unfold f_X8_init at H
  refine x_aload_n 0 rfl dX8_init_0 ?_
  refine x_null dX8_init_1 ?_
  refine x_null dX8_init_2 ?_
  refine x_iconst (0 : Int32) dX8_init_3 ic_0 ?_
  refine x_iconst (0 : Int32) dX8_init_4 ic_0 ?_
  obtain ⟨c1, H⟩ := oit H
  obtain ⟨a1, g1, e1, H⟩ := obR H
  refine x_callI (M' := mi_J14_init) (n := 4) (As := [.ref 0, .ref 0, .int (0 : Int32), .int (0 : Int32)]) (t_J14_init C _ e1) c1 md_J14_init ⟨Nat.le_of_ble_eq_true rfl, Nat.le_of_ble_eq_true rfl⟩ rfl rfl q791 q792 q142 q793 rfl (Nat.le_of_ble_eq_true rfl) dX8_init_5 ?_
  refine x_aload_n 0 rfl dX8_init_8 ?_
  refine x_iload_n 1 rfl dX8_init_9 ?_
  obtain ⟨h2, e2, H⟩ := ob H
  refine x_putf fp_X8_7 rfl rfl e2 dX8_init_10 ?_
  refine x_aload_n 0 rfl dX8_init_13 ?_
  refine x_iload_n 2 rfl dX8_init_14 ?_
  obtain ⟨h3, e3, H⟩ := ob H
  refine x_putf fp_X8_13 rfl rfl e3 dX8_init_15 ?_
  obtain rfl := Option.some.inj H
  exact x_vret hE rfl dX8_init_18
abbrev mi_X6_need : xM := (cX6_need, yX6_need, 3, none, 4)
theorem md_X6_need : xMD mi_X6_need 2 := ⟨by decide, by decide, by decide +kernel⟩
def f_X6_need_b29 (r0 : Nat) (s0 : Nat) (s1 : Nat) (s2 : Int32) (h : mH) : Option ((Unit ⊕ Nat) × mH) := (gFi [5, 6, 7] 5 h r0).bind fun v4 => if 6 ≤ s1 then bR (f_X8_init s1 s2 v4 h) fun a5 g5 => if gC g5 s0 = 8 ∧ 100 ≤ s0 then some (.inr s0, g5) else none else none
theorem t_X6_need_b29 {G : xG} {C : xC} {o : (Unit ⊕ Nat) × mH} (hE : xEndT G C [] (xoU "StrangerMarket$Fault" o.1) o.2) (r0 : Nat) (s0 : Nat) (s1 : Nat) (s2 : Int32) (h : mH) (H : f_X6_need_b29 r0 s0 s1 s2 h = some o) : X G C mi_X6_need 29 [(0, .ref r0)] [.int s2, .ref s1, .ref s0] h := by
  unfold f_X6_need_b29 at H
  refine x_aload_n 0 rfl dX6_need_29 ?_
  obtain ⟨v4, e4, H⟩ := ob H
  refine x_getf fg_X6_35 (gFi_spec e4) dX6_need_30 ?_
  obtain ⟨c5, H⟩ := oit H
  obtain ⟨a5, g5, e5, H⟩ := obR H
  refine x_callI (M' := mi_X8_init) (n := 2) (As := [.int s2, .int v4]) (t_X8_init C _ e5) c5 md_X8_init ⟨Nat.le_of_ble_eq_true rfl, Nat.le_of_ble_eq_true rfl⟩ rfl rfl q788 q789 q143 q790 rfl (Nat.le_of_ble_eq_true rfl) dX6_need_33 ?_
  obtain ⟨c6, H⟩ := oit H
  obtain rfl := Option.some.inj H
  exact x_athrow (q := (RX8, TX8, 8)) hE c6.2 c6.1 rfl dX6_need_36
def f_X6_need_b24 (r0 : Nat) (s0 : Nat) (s1 : Nat) (h : mH) : Option ((Unit ⊕ Nat) × mH) := f_X6_need_b29 r0 s0 s1 (1 : Int32) h
theorem t_X6_need_b24 {G : xG} {C : xC} {o : (Unit ⊕ Nat) × mH} (hE : xEndT G C [] (xoU "StrangerMarket$Fault" o.1) o.2) (r0 : Nat) (s0 : Nat) (s1 : Nat) (h : mH) (H : f_X6_need_b24 r0 s0 s1 h = some o) : X G C mi_X6_need 24 [(0, .ref r0)] [.ref s1, .ref s0] h := by
  unfold f_X6_need_b24 at H
  refine x_iconst (1 : Int32) dX6_need_24 ic_1 ?_
  refine x_goto (tgt := 29) dX6_need_25 (by decide) ?_
  exact t_X6_need_b29 hE _ _ _ _ _ H
def f_X6_need (r0 : Nat) (x1 : Int32) (x2 : Int32) (h : mH) : Option ((Unit ⊕ Nat) × mH) := if x1 = 0 then (gFi [5, 6, 7] 4 (xnw h (.inr (8, [.ref 0, .ref 0, .ref 0, .ref 0, .ref 0, .int 0, .int 0, .int 0])) 8) r0).bind fun v2 => if v2 = (1 : Int32) then f_X6_need_b24 r0 h.2.1 h.2.1 (xnw h (.inr (8, [.ref 0, .ref 0, .ref 0, .ref 0, .ref 0, .int 0, .int 0, .int 0])) 8) else (gFi [5, 6, 7] 4 (xnw h (.inr (8, [.ref 0, .ref 0, .ref 0, .ref 0, .ref 0, .int 0, .int 0, .int 0])) 8) r0).bind fun v7 => if v7 = (5 : Int32) then f_X6_need_b24 r0 h.2.1 h.2.1 (xnw h (.inr (8, [.ref 0, .ref 0, .ref 0, .ref 0, .ref 0, .int 0, .int 0, .int 0])) 8) else f_X6_need_b29 r0 h.2.1 h.2.1 x2 (xnw h (.inr (8, [.ref 0, .ref 0, .ref 0, .ref 0, .ref 0, .int 0, .int 0, .int 0])) 8) else some (.inl (), h)
theorem t_X6_need {G : xG} (C0 : xC) {l : Launch} {r0 : Nat} {x1 : Int32} {x2 : Int32} (h : mH) {o : (Unit ⊕ Nat) × mH} (H : f_X6_need r0 x1 x2 h = some o) : XT G l mi_X6_need [.ref r0, .int x1, .int x2] h (xoU "StrangerMarket$Fault" o.1) o.2 := by
  refine XT.of C0 (by decide) (Nat.le_of_ble_eq_true rfl) (fun C _ _ _ hE => ?_)
  show X G C mi_X6_need 0 [(0, .ref r0), (1, .int x1), (2, .int x2)] [] h
  unfold f_X6_need at H
  refine x_iload_n 1 rfl dX6_need_0 ?_
  refine x_if_ne 37 dX6_need_1 (by decide) (fun c1 => ?_) (fun c1 => ?_)
  · rw [if_neg c1] at H
    obtain rfl := Option.some.inj H
    exact x_vretT hE rfl dX6_need_37
  · rw [if_pos c1] at H
    refine x_new (fs := [.ref 0, .ref 0, .ref 0, .ref 0, .ref 0, .int 0, .int 0, .int 0]) ci_8 q750 q751 q143 (nf_X8 G) rfl dX6_need_4 ?_
    refine x_dup dX6_need_7 rfl ?_
    refine x_aload_n 0 rfl dX6_need_8 ?_
    obtain ⟨v2, e2, H⟩ := ob H
    refine x_getf fg_X6_38 (gFi_spec e2) dX6_need_9 ?_
    refine x_iconst (1 : Int32) dX6_need_12 ic_1 ?_
    refine x_icmp_eq 24 dX6_need_13 (by decide) (fun c3 => ?_) (fun c3 => ?_)
    · rw [if_pos c3] at H
      refine X.sub [0] rfl ?_
      exact t_X6_need_b24 hE _ _ _ _ H
    · rw [if_neg c3] at H
      refine x_aload_n 0 rfl dX6_need_16 ?_
      obtain ⟨v7, e7, H⟩ := ob H
      refine x_getf fg_X6_38 (gFi_spec e7) dX6_need_17 ?_
      refine x_iconst (5 : Int32) dX6_need_20 ic_5 ?_
      refine x_icmp_ne 28 dX6_need_21 (by decide) (fun c8 => ?_) (fun c8 => ?_)
      · rw [if_neg c8] at H
        refine x_iload_n 2 rfl dX6_need_28 ?_
        refine X.sub [0] rfl ?_
        exact t_X6_need_b29 hE _ _ _ _ _ H
      · rw [if_pos c8] at H
        refine X.sub [0] rfl ?_
        exact t_X6_need_b24 hE _ _ _ _ H
abbrev mi_X6_hold : xM := (cX6_hold, yX6_hold, 3, some .int, 11)
theorem md_X6_hold : xMD mi_X6_hold 1 := ⟨by decide, by decide, by decide +kernel⟩
def f_X6_hold_b26 (x2 : Int32) (s0 : Nat) (s1 : Int32) (h : mH) : Option ((Int32 ⊕ Nat) × mH) := if gC h s0 ∈ [5, 6, 7] then bT (f_X6_need s0 s1 (3 : Int32) h) fun v5 h5 => some (.inl x2, h5) else none
theorem t_X6_hold_b26 {G : xG} {C : xC} {o : (Int32 ⊕ Nat) × mH} (hE : xEndT G C [] (xoI "StrangerMarket$Fault" o.1) o.2) (x2 : Int32) (s0 : Nat) (s1 : Int32) (h : mH) (H : f_X6_hold_b26 x2 s0 s1 h = some o) : X G C mi_X6_hold 26 [(2, .int x2)] [.int s1, .ref s0] h := by
  unfold f_X6_hold_b26 at H
  refine x_iconst (3 : Int32) dX6_hold_26 ic_3 ?_
  obtain ⟨c5, H⟩ := oit H
  rcases obT H with ⟨a5, h5, e5, rfl⟩ | ⟨v5, h5, e5, H⟩
  · exact x_goX (t_X6_need C _ e5) (x_rC (M' := mi_X6_need) (n := 2) (As := [.int s1, .int (3 : Int32)]) (t_X6_need C _ e5) c5 uc_X6_87 (by decide +kernel) ⟨Nat.le_of_ble_eq_true rfl, Nat.le_of_ble_eq_true rfl⟩ q749 rfl (Nat.le_of_ble_eq_true rfl) dX6_hold_27) hE
  refine x_goR (r := none) (t_X6_need C _ e5) (x_rC (M' := mi_X6_need) (n := 2) (As := [.int s1, .int (3 : Int32)]) (t_X6_need C _ e5) c5 uc_X6_87 (by decide +kernel) ⟨Nat.le_of_ble_eq_true rfl, Nat.le_of_ble_eq_true rfl⟩ q749 rfl (Nat.le_of_ble_eq_true rfl) dX6_hold_27) ?_
  refine x_iload_n 0 rfl dX6_hold_30 ?_
  obtain rfl := Option.some.inj H
  exact x_iretT hE rfl rfl dX6_hold_31
def f_X6_hold (r0 : Nat) (r1 : Nat) (h : mH) : Option ((Int32 ⊕ Nat) × mH) := if gC h r0 ∈ [5, 6, 7] then bR (f_X6_isName r0  h) fun a1 g1 => if gC g1 r0 ∈ [5, 6, 7] then bT (f_X6_need r0 a1 (1 : Int32) g1) fun v2 h2 => if gC h2 r0 ∈ [5, 6, 7] then bR (f_X6_find r0 r1 h2) fun a3 g3 => if a3 = (-1 : Int32) then f_X6_hold_b26 a3 r0 (0 : Int32) g3 else f_X6_hold_b26 a3 r0 (1 : Int32) g3 else none else none else none
theorem t_X6_hold {G : xG} (C0 : xC) {l : Launch} {r0 : Nat} {r1 : Nat} (h : mH) {o : (Int32 ⊕ Nat) × mH} (H : f_X6_hold r0 r1 h = some o) : XT G l mi_X6_hold [.ref r0, .ref r1] h (xoI "StrangerMarket$Fault" o.1) o.2 := by
  refine XT.of C0 (by decide) (Nat.le_of_ble_eq_true rfl) (fun C _ _ _ hE => ?_)
  show X G C mi_X6_hold 0 [(0, .ref r0), (1, .ref r1)] [] h
  unfold f_X6_hold at H
  refine x_aload_n 0 rfl dX6_hold_0 ?_
  refine x_aload_n 0 rfl dX6_hold_1 ?_
  obtain ⟨c1, H⟩ := oit H
  obtain ⟨a1, g1, e1, H⟩ := obR H
  refine x_callC (M' := mi_X6_isName) (n := 0) (As := []) (t_X6_isName C _ e1) c1 uc_X6_112 (by decide +kernel) ⟨Nat.le_of_ble_eq_true rfl, Nat.le_of_ble_eq_true rfl⟩ q827 rfl (Nat.le_of_ble_eq_true rfl) dX6_hold_2 ?_
  refine x_iconst (1 : Int32) dX6_hold_5 ic_1 ?_
  obtain ⟨c2, H⟩ := oit H
  rcases obT H with ⟨a2, h2, e2, rfl⟩ | ⟨v2, h2, e2, H⟩
  · exact x_goX (t_X6_need C _ e2) (x_rC (M' := mi_X6_need) (n := 2) (As := [.int a1, .int (1 : Int32)]) (t_X6_need C _ e2) c2 uc_X6_87 (by decide +kernel) ⟨Nat.le_of_ble_eq_true rfl, Nat.le_of_ble_eq_true rfl⟩ q749 rfl (Nat.le_of_ble_eq_true rfl) dX6_hold_6) hE
  refine x_goR (r := none) (t_X6_need C _ e2) (x_rC (M' := mi_X6_need) (n := 2) (As := [.int a1, .int (1 : Int32)]) (t_X6_need C _ e2) c2 uc_X6_87 (by decide +kernel) ⟨Nat.le_of_ble_eq_true rfl, Nat.le_of_ble_eq_true rfl⟩ q749 rfl (Nat.le_of_ble_eq_true rfl) dX6_hold_6) ?_
  refine x_aload_n 0 rfl dX6_hold_9 ?_
  refine x_aload_n 1 rfl dX6_hold_10 ?_
  obtain ⟨c3, H⟩ := oit H
  obtain ⟨a3, g3, e3, H⟩ := obR H
  refine x_callC (M' := mi_X6_find) (n := 1) (As := [.ref r1]) (t_X6_find C _ e3) c3 uc_X6_116 (by decide +kernel) ⟨Nat.le_of_ble_eq_true rfl, Nat.le_of_ble_eq_true rfl⟩ q907 rfl (Nat.le_of_ble_eq_true rfl) dX6_hold_11 ?_
  refine x_istore_n [1, 2, 0] dX6_hold_14 (by decide) rfl ?_
  refine x_aload_n 0 rfl dX6_hold_15 ?_
  refine x_iload_n 2 rfl dX6_hold_16 ?_
  refine x_iconst (-1 : Int32) dX6_hold_17 ic_m1 ?_
  refine x_icmp_eq 25 dX6_hold_18 (by decide) (fun c4 => ?_) (fun c4 => ?_)
  · rw [if_pos c4] at H
    refine x_iconst (0 : Int32) dX6_hold_25 ic_0 ?_
    refine X.sub [2] rfl ?_
    exact t_X6_hold_b26 hE _ _ _ _ H
  · rw [if_neg c4] at H
    refine x_iconst (1 : Int32) dX6_hold_21 ic_1 ?_
    refine x_goto (tgt := 26) dX6_hold_22 (by decide) ?_
    refine X.sub [2] rfl ?_
    exact t_X6_hold_b26 hE _ _ _ _ H
abbrev mi_X6_one : xM := (cX6_one, yX6_one, 3, some .int, 12)
theorem md_X6_one : xMD mi_X6_one 1 := ⟨by decide, by decide, by decide +kernel⟩
def f_X6_one (r0 : Nat) (r1 : Nat) (h : mH) : Option ((Int32 ⊕ Nat) × mH) := if gC h r0 ∈ [5, 6, 7] then bT (f_X6_hold r0 r1 h) fun v1 h1 => if gC h1 r0 ∈ [5, 6, 7] then bR (f_X6_go r0  h1) fun a2 g2 => some (.inl v1, g2) else none else none
theorem t_X6_one {G : xG} (C0 : xC) {l : Launch} {r0 : Nat} {r1 : Nat} (h : mH) {o : (Int32 ⊕ Nat) × mH} (H : f_X6_one r0 r1 h = some o) : XT G l mi_X6_one [.ref r0, .ref r1] h (xoI "StrangerMarket$Fault" o.1) o.2 := by
  refine XT.of C0 (by decide) (Nat.le_of_ble_eq_true rfl) (fun C _ _ _ hE => ?_)
  show X G C mi_X6_one 0 [(0, .ref r0), (1, .ref r1)] [] h
  unfold f_X6_one at H
  refine x_aload_n 0 rfl dX6_one_0 ?_
  refine x_aload_n 1 rfl dX6_one_1 ?_
  obtain ⟨c1, H⟩ := oit H
  rcases obT H with ⟨a1, h1, e1, rfl⟩ | ⟨v1, h1, e1, H⟩
  · exact x_goX (t_X6_hold C _ e1) (x_rC (M' := mi_X6_hold) (n := 1) (As := [.ref r1]) (t_X6_hold C _ e1) c1 uc_X6_120 (by decide +kernel) ⟨Nat.le_of_ble_eq_true rfl, Nat.le_of_ble_eq_true rfl⟩ q1053 rfl (Nat.le_of_ble_eq_true rfl) dX6_one_2) hE
  refine x_goR (r := (some (.int v1))) (t_X6_hold C _ e1) (x_rC (M' := mi_X6_hold) (n := 1) (As := [.ref r1]) (t_X6_hold C _ e1) c1 uc_X6_120 (by decide +kernel) ⟨Nat.le_of_ble_eq_true rfl, Nat.le_of_ble_eq_true rfl⟩ q1053 rfl (Nat.le_of_ble_eq_true rfl) dX6_one_2) ?_
  refine x_istore_n [1, 2, 0] dX6_one_5 (by decide) rfl ?_
  refine x_aload_n 0 rfl dX6_one_6 ?_
  obtain ⟨c2, H⟩ := oit H
  obtain ⟨a2, g2, e2, H⟩ := obR H
  refine x_callC (M' := mi_X6_go) (n := 0) (As := []) (t_X6_go C _ e2) c2 uc_X6_95 (by decide +kernel) ⟨Nat.le_of_ble_eq_true rfl, Nat.le_of_ble_eq_true rfl⟩ q522 rfl (Nat.le_of_ble_eq_true rfl) dX6_one_7 ?_
  refine x_iload_n 2 rfl dX6_one_10 ?_
  obtain rfl := Option.some.inj H
  exact x_iretT hE rfl rfl dX6_one_11
abbrev mi_X17_buys : xM := (cX17_buys, yX17_buys, 3, some (.object "StrangerMarket$Act"), 13)
theorem md_X17_buys : xMD mi_X17_buys 1 := ⟨by decide, by decide, by decide +kernel⟩
def f_X17_buys (r0 : Nat) (x1 : Int32) (h : mH) : Option ((Nat ⊕ Nat) × mH) := (gFr [6] 9 h r0).bind fun v1 => (gFr [1] 5 h v1).bind fun v2 => if gC h r0 ∈ [6] then bT (f_X6_one r0 v2 h) fun v3 h3 => (gFr [6] 9 (xnw h3 (.inr (11, [.int 0, .int 0, .int 0])) 3) r0).bind fun v4 => (gFr [1] 4 (xnw h3 (.inr (11, [.int 0, .int 0, .int 0])) 3) v4).bind fun v5 => if gC (xnw h3 (.inr (11, [.int 0, .int 0, .int 0])) 3) r0 ∈ [6] then bT (f_X6_one r0 v5 (xnw h3 (.inr (11, [.int 0, .int 0, .int 0])) 3)) fun v6 h6 => if 6 ≤ h3.2.1 then bR (f_X13_init h3.2.1 x1 v3 v6 h6) fun a7 g7 => some (.inl (h3.2.1), g7) else none else none else none
theorem t_X17_buys {G : xG} (C0 : xC) {l : Launch} {r0 : Nat} {x1 : Int32} (h : mH) {o : (Nat ⊕ Nat) × mH} (H : f_X17_buys r0 x1 h = some o) : XT G l mi_X17_buys [.ref r0, .int x1] h (xoA "StrangerMarket$Fault" o.1) o.2 := by
  refine XT.of C0 (by decide) (Nat.le_of_ble_eq_true rfl) (fun C _ _ _ hE => ?_)
  show X G C mi_X17_buys 0 [(0, .ref r0), (1, .int x1)] [] h
  unfold f_X17_buys at H
  refine x_aload_n 0 rfl dX17_buys_0 ?_
  refine x_aload_n 0 rfl dX17_buys_1 ?_
  obtain ⟨v1, e1, H⟩ := ob H
  refine x_getf fg_X17_20 (gFr_spec e1) dX17_buys_2 ?_
  obtain ⟨v2, e2, H⟩ := ob H
  refine x_getf fg_X17_104 (gFr_spec e2) dX17_buys_5 ?_
  obtain ⟨c3, H⟩ := oit H
  rcases obT H with ⟨a3, h3, e3, rfl⟩ | ⟨v3, h3, e3, H⟩
  · exact x_goX (t_X6_one C _ e3) (x_rU (M' := mi_X6_one) (n := 1) (As := [.ref v2]) (t_X6_one C _ e3) c3 up_X17_65_6 (by decide +kernel) ⟨Nat.le_of_ble_eq_true rfl, Nat.le_of_ble_eq_true rfl⟩ q1046 rfl (Nat.le_of_ble_eq_true rfl) dX17_buys_8) hE
  refine x_goR (r := (some (.int v3))) (t_X6_one C _ e3) (x_rU (M' := mi_X6_one) (n := 1) (As := [.ref v2]) (t_X6_one C _ e3) c3 up_X17_65_6 (by decide +kernel) ⟨Nat.le_of_ble_eq_true rfl, Nat.le_of_ble_eq_true rfl⟩ q1046 rfl (Nat.le_of_ble_eq_true rfl) dX17_buys_8) ?_
  refine x_istore_n [1, 2, 0] dX17_buys_11 (by decide) rfl ?_
  refine x_new (fs := [.int 0, .int 0, .int 0]) ci_11 q1603 q1170 q151 (nf_X13 G) rfl dX17_buys_12 ?_
  refine x_dup dX17_buys_15 rfl ?_
  refine x_iload_n 1 rfl dX17_buys_16 ?_
  refine x_iload_n 2 rfl dX17_buys_17 ?_
  refine x_aload_n 0 rfl dX17_buys_18 ?_
  refine x_aload_n 0 rfl dX17_buys_19 ?_
  obtain ⟨v4, e4, H⟩ := ob H
  refine x_getf fg_X17_20 (gFr_spec e4) dX17_buys_20 ?_
  obtain ⟨v5, e5, H⟩ := ob H
  refine x_getf fg_X17_48 (gFr_spec e5) dX17_buys_23 ?_
  obtain ⟨c6, H⟩ := oit H
  rcases obT H with ⟨a6, h6, e6, rfl⟩ | ⟨v6, h6, e6, H⟩
  · exact x_goX (t_X6_one C _ e6) (x_rU (M' := mi_X6_one) (n := 1) (As := [.ref v5]) (t_X6_one C _ e6) c6 up_X17_65_6 (by decide +kernel) ⟨Nat.le_of_ble_eq_true rfl, Nat.le_of_ble_eq_true rfl⟩ q1046 rfl (Nat.le_of_ble_eq_true rfl) dX17_buys_26) hE
  refine x_goR (r := (some (.int v6))) (t_X6_one C _ e6) (x_rU (M' := mi_X6_one) (n := 1) (As := [.ref v5]) (t_X6_one C _ e6) c6 up_X17_65_6 (by decide +kernel) ⟨Nat.le_of_ble_eq_true rfl, Nat.le_of_ble_eq_true rfl⟩ q1046 rfl (Nat.le_of_ble_eq_true rfl) dX17_buys_26) ?_
  obtain ⟨c7, H⟩ := oit H
  obtain ⟨a7, g7, e7, H⟩ := obR H
  refine x_callI (M' := mi_X13_init) (n := 3) (As := [.int x1, .int v3, .int v6]) (t_X13_init C _ e7) c7 md_X13_init ⟨Nat.le_of_ble_eq_true rfl, Nat.le_of_ble_eq_true rfl⟩ rfl rfl q1604 q1172 q151 q1173 rfl (Nat.le_of_ble_eq_true rfl) dX17_buys_29 ?_
  obtain rfl := Option.some.inj H
  exact x_aretT hE rfl (by first | exact Or.inl ⟨_, rfl⟩ | exact Or.inr ⟨_, rfl⟩) dX17_buys_32
abbrev mi_X6_is : xM := (cX6_is, yX6_is, 2, some .boolean, 3)
theorem md_X6_is : xMD mi_X6_is 1 := ⟨by decide, by decide, by decide +kernel⟩
def f_X6_is (r0 : Nat) (r1 : Nat) (h : mH) : Option (Int32 × mH) := (gFi [5, 6, 7] 4 h r0).bind fun v1 => if v1 = (2 : Int32) then (gFr [5, 6, 7] 8 h r0).bind fun v3 => if gC h v3 = 23 then bR (f_J8_equals v3 r1 h) fun a4 g4 => if a4 = 0 then some ((0 : Int32), g4) else some ((1 : Int32), g4) else none else some ((0 : Int32), h)
theorem t_X6_is {G : xG} (C0 : xC) {l : Launch} {r0 : Nat} {r1 : Nat} (h : mH) {o : Int32 × mH} (H : f_X6_is r0 r1 h = some o) : XR G l mi_X6_is [.ref r0, .ref r1] h (some (.int o.1)) o.2 := by
  refine XR.of C0 (by decide) (Nat.le_of_ble_eq_true rfl) (fun C _ _ _ hE => ?_)
  show X G C mi_X6_is 0 [(0, .ref r0), (1, .ref r1)] [] h
  unfold f_X6_is at H
  refine x_aload_n 0 rfl dX6_is_0 ?_
  obtain ⟨v1, e1, H⟩ := ob H
  refine x_getf fg_X6_38 (gFi_spec e1) dX6_is_1 ?_
  refine x_iconst (2 : Int32) dX6_is_4 ic_2 ?_
  refine x_icmp_ne 23 dX6_is_5 (by decide) (fun c2 => ?_) (fun c2 => ?_)
  · rw [if_neg c2] at H
    refine x_iconst (0 : Int32) dX6_is_23 ic_0 ?_
    obtain rfl := Option.some.inj H
    exact x_iret hE rfl rfl dX6_is_24
  · rw [if_pos c2] at H
    refine x_aload_n 0 rfl dX6_is_8 ?_
    obtain ⟨v3, e3, H⟩ := ob H
    refine x_getf fg_X6_11 (gFr_spec e3) dX6_is_9 ?_
    refine x_aload_n 1 rfl dX6_is_12 ?_
    obtain ⟨c4, H⟩ := oit H
    obtain ⟨a4, g4, e4, H⟩ := obR H
    refine x_callV (M' := mi_J8_equals) (n := 1) (As := [.ref r1]) (t_J8_equals C _ e4) c4 rfl rfl md_J8_equals ⟨Nat.le_of_ble_eq_true rfl, Nat.le_of_ble_eq_true rfl⟩ q727 q728 q729 q136 q730 rfl (Nat.le_of_ble_eq_true rfl) dX6_is_13 ?_
    refine x_if_eq 23 dX6_is_16 (by decide) (fun c5 => ?_) (fun c5 => ?_)
    · rw [if_pos c5] at H
      refine x_iconst (0 : Int32) dX6_is_23 ic_0 ?_
      obtain rfl := Option.some.inj H
      exact x_iret hE rfl rfl dX6_is_24
    · rw [if_neg c5] at H
      refine x_iconst (1 : Int32) dX6_is_19 ic_1 ?_
      refine x_goto (tgt := 24) dX6_is_20 (by decide) ?_
      obtain rfl := Option.some.inj H
      exact x_iret hE rfl rfl dX6_is_24
abbrev mi_X17_does : xM := (cX17_does, yX17_does, 6, some (.object "StrangerMarket$Act"), 14)
theorem md_X17_does : xMD mi_X17_does 1 := ⟨by decide, by decide, by decide +kernel⟩
def f_X17_does_b50 (r0 : Nat) (x1 : Int32) (x2 : Int32) (x3 : Int32) (x4 : Int32) (s0 : Nat) (s1 : Int32) (h : mH) : Option ((Nat ⊕ Nat) × mH) := if gC h s0 ∈ [6] then bT (f_X6_need s0 s1 (1 : Int32) h) fun v5 h5 => if gC h5 r0 ∈ [6] then bR (f_X6_go r0  h5) fun a6 g6 => if x2 = 0 then if x4 = 0 then (gFr [6] 9 g6 r0).bind fun v9 => (gFr [1] 4 g6 v9).bind fun v10 => if gC g6 r0 ∈ [6] then bT (f_X6_one r0 v10 g6) fun v11 h11 => if x3 = 0 then (gFr [6] 9 (xnw h11 (.inr (13, [.int 0, .int 0, .int 0])) 3) r0).bind fun v13 => (gFr [1] 4 (xnw h11 (.inr (13, [.int 0, .int 0, .int 0])) 3) v13).bind fun v14 => if gC (xnw h11 (.inr (13, [.int 0, .int 0, .int 0])) 3) r0 ∈ [6] then bT (f_X6_one r0 v14 (xnw h11 (.inr (13, [.int 0, .int 0, .int 0])) 3)) fun v15 h15 => if 6 ≤ h11.2.1 then bR (f_X15_init h11.2.1 x1 v11 v15 h15) fun a16 g16 => some (.inl (h11.2.1), g16) else none else none else if 6 ≤ h11.2.1 then bR (f_X14_init h11.2.1 x1 v11 (xnw h11 (.inr (12, [.int 0, .int 0])) 2)) fun a17 g17 => some (.inl (h11.2.1), g17) else none else none else if 6 ≤ g6.2.1 then bR (f_X16_init g6.2.1 x1 (xnw g6 (.inr (14, [.int 0])) 1)) fun a18 g18 => some (.inl (g6.2.1), g18) else none else if gC g6 r0 = 6 then bT (f_X17_buys r0 x1 g6) fun v19 h19 => some (.inl (v19), h19) else none else none else none
theorem t_X17_does_b50 {G : xG} {C : xC} {o : (Nat ⊕ Nat) × mH} (hE : xEndT G C [] (xoA "StrangerMarket$Fault" o.1) o.2) (r0 : Nat) (x1 : Int32) (x2 : Int32) (x3 : Int32) (x4 : Int32) (s0 : Nat) (s1 : Int32) (h : mH) (H : f_X17_does_b50 r0 x1 x2 x3 x4 s0 s1 h = some o) : X G C mi_X17_does 50 [(0, .ref r0), (1, .int x1), (2, .int x2), (3, .int x3), (4, .int x4)] [.int s1, .ref s0] h := by
  unfold f_X17_does_b50 at H
  refine x_iconst (1 : Int32) dX17_does_50 ic_1 ?_
  obtain ⟨c5, H⟩ := oit H
  rcases obT H with ⟨a5, h5, e5, rfl⟩ | ⟨v5, h5, e5, H⟩
  · exact x_goX (t_X6_need C _ e5) (x_rU (M' := mi_X6_need) (n := 2) (As := [.int s1, .int (1 : Int32)]) (t_X6_need C _ e5) c5 up_X17_61_6 (by decide +kernel) ⟨Nat.le_of_ble_eq_true rfl, Nat.le_of_ble_eq_true rfl⟩ q749 rfl (Nat.le_of_ble_eq_true rfl) dX17_does_51) hE
  refine x_goR (r := none) (t_X6_need C _ e5) (x_rU (M' := mi_X6_need) (n := 2) (As := [.int s1, .int (1 : Int32)]) (t_X6_need C _ e5) c5 up_X17_61_6 (by decide +kernel) ⟨Nat.le_of_ble_eq_true rfl, Nat.le_of_ble_eq_true rfl⟩ q749 rfl (Nat.le_of_ble_eq_true rfl) dX17_does_51) ?_
  refine x_aload_n 0 rfl dX17_does_54 ?_
  obtain ⟨c6, H⟩ := oit H
  obtain ⟨a6, g6, e6, H⟩ := obR H
  refine x_callU (M' := mi_X6_go) (n := 0) (As := []) (t_X6_go C _ e6) c6 up_X17_24_6 (by decide +kernel) ⟨Nat.le_of_ble_eq_true rfl, Nat.le_of_ble_eq_true rfl⟩ q522 rfl (Nat.le_of_ble_eq_true rfl) dX17_does_55 ?_
  refine x_iload_n 2 rfl dX17_does_58 ?_
  refine x_if_eq 68 dX17_does_59 (by decide) (fun c7 => ?_) (fun c7 => ?_)
  · rw [if_pos c7] at H
    refine x_iload 4 rfl dX17_does_68 ?_
    refine x_if_eq 82 dX17_does_70 (by decide) (fun c8 => ?_) (fun c8 => ?_)
    · rw [if_pos c8] at H
      refine x_aload_n 0 rfl dX17_does_82 ?_
      refine x_aload_n 0 rfl dX17_does_83 ?_
      obtain ⟨v9, e9, H⟩ := ob H
      refine x_getf fg_X17_20 (gFr_spec e9) dX17_does_84 ?_
      obtain ⟨v10, e10, H⟩ := ob H
      refine x_getf fg_X17_48 (gFr_spec e10) dX17_does_87 ?_
      obtain ⟨c11, H⟩ := oit H
      rcases obT H with ⟨a11, h11, e11, rfl⟩ | ⟨v11, h11, e11, H⟩
      · exact x_goX (t_X6_one C _ e11) (x_rU (M' := mi_X6_one) (n := 1) (As := [.ref v10]) (t_X6_one C _ e11) c11 up_X17_65_6 (by decide +kernel) ⟨Nat.le_of_ble_eq_true rfl, Nat.le_of_ble_eq_true rfl⟩ q1046 rfl (Nat.le_of_ble_eq_true rfl) dX17_does_90) hE
      refine x_goR (r := (some (.int v11))) (t_X6_one C _ e11) (x_rU (M' := mi_X6_one) (n := 1) (As := [.ref v10]) (t_X6_one C _ e11) c11 up_X17_65_6 (by decide +kernel) ⟨Nat.le_of_ble_eq_true rfl, Nat.le_of_ble_eq_true rfl⟩ q1046 rfl (Nat.le_of_ble_eq_true rfl) dX17_does_90) ?_
      refine x_istore [1, 2, 3, 4, 5, 0] dX17_does_93 (by decide) rfl ?_
      refine x_iload_n 3 rfl dX17_does_95 ?_
      refine x_if_eq 112 dX17_does_96 (by decide) (fun c12 => ?_) (fun c12 => ?_)
      · rw [if_pos c12] at H
        refine x_new (fs := [.int 0, .int 0, .int 0]) ci_13 q1609 q1348 q153 (nf_X15 G) rfl dX17_does_112 ?_
        refine x_dup dX17_does_115 rfl ?_
        refine x_iload_n 1 rfl dX17_does_116 ?_
        refine x_iload 5 rfl dX17_does_117 ?_
        refine x_aload_n 0 rfl dX17_does_119 ?_
        refine x_aload_n 0 rfl dX17_does_120 ?_
        obtain ⟨v13, e13, H⟩ := ob H
        refine x_getf fg_X17_20 (gFr_spec e13) dX17_does_121 ?_
        obtain ⟨v14, e14, H⟩ := ob H
        refine x_getf fg_X17_48 (gFr_spec e14) dX17_does_124 ?_
        obtain ⟨c15, H⟩ := oit H
        rcases obT H with ⟨a15, h15, e15, rfl⟩ | ⟨v15, h15, e15, H⟩
        · exact x_goX (t_X6_one C _ e15) (x_rU (M' := mi_X6_one) (n := 1) (As := [.ref v14]) (t_X6_one C _ e15) c15 up_X17_65_6 (by decide +kernel) ⟨Nat.le_of_ble_eq_true rfl, Nat.le_of_ble_eq_true rfl⟩ q1046 rfl (Nat.le_of_ble_eq_true rfl) dX17_does_127) hE
        refine x_goR (r := (some (.int v15))) (t_X6_one C _ e15) (x_rU (M' := mi_X6_one) (n := 1) (As := [.ref v14]) (t_X6_one C _ e15) c15 up_X17_65_6 (by decide +kernel) ⟨Nat.le_of_ble_eq_true rfl, Nat.le_of_ble_eq_true rfl⟩ q1046 rfl (Nat.le_of_ble_eq_true rfl) dX17_does_127) ?_
        obtain ⟨c16, H⟩ := oit H
        obtain ⟨a16, g16, e16, H⟩ := obR H
        refine x_callI (M' := mi_X15_init) (n := 3) (As := [.int x1, .int v11, .int v15]) (t_X15_init C _ e16) c16 md_X15_init ⟨Nat.le_of_ble_eq_true rfl, Nat.le_of_ble_eq_true rfl⟩ rfl rfl q1610 q1350 q153 q1351 rfl (Nat.le_of_ble_eq_true rfl) dX17_does_130 ?_
        obtain rfl := Option.some.inj H
        exact x_aretT hE rfl (by first | exact Or.inl ⟨_, rfl⟩ | exact Or.inr ⟨_, rfl⟩) dX17_does_133
      · rw [if_neg c12] at H
        refine x_new (fs := [.int 0, .int 0]) ci_12 q1607 q1323 q152 (nf_X14 G) rfl dX17_does_99 ?_
        refine x_dup dX17_does_102 rfl ?_
        refine x_iload_n 1 rfl dX17_does_103 ?_
        refine x_iload 5 rfl dX17_does_104 ?_
        obtain ⟨c17, H⟩ := oit H
        obtain ⟨a17, g17, e17, H⟩ := obR H
        refine x_callI (M' := mi_X14_init) (n := 2) (As := [.int x1, .int v11]) (t_X14_init C _ e17) c17 md_X14_init ⟨Nat.le_of_ble_eq_true rfl, Nat.le_of_ble_eq_true rfl⟩ rfl rfl q1608 q1325 q152 q1326 rfl (Nat.le_of_ble_eq_true rfl) dX17_does_106 ?_
        refine x_goto (tgt := 133) dX17_does_109 (by decide) ?_
        obtain rfl := Option.some.inj H
        exact x_aretT hE rfl (by first | exact Or.inl ⟨_, rfl⟩ | exact Or.inr ⟨_, rfl⟩) dX17_does_133
    · rw [if_neg c8] at H
      refine x_new (fs := [.int 0]) ci_14 q1605 q1336 q154 (nf_X16 G) rfl dX17_does_73 ?_
      refine x_dup dX17_does_76 rfl ?_
      refine x_iload_n 1 rfl dX17_does_77 ?_
      obtain ⟨c18, H⟩ := oit H
      obtain ⟨a18, g18, e18, H⟩ := obR H
      refine x_callI (M' := mi_X16_init) (n := 1) (As := [.int x1]) (t_X16_init C _ e18) c18 md_X16_init ⟨Nat.le_of_ble_eq_true rfl, Nat.le_of_ble_eq_true rfl⟩ rfl rfl q1606 q1338 q154 q1339 rfl (Nat.le_of_ble_eq_true rfl) dX17_does_78 ?_
      obtain rfl := Option.some.inj H
      exact x_aretT hE rfl (by first | exact Or.inl ⟨_, rfl⟩ | exact Or.inr ⟨_, rfl⟩) dX17_does_81
  · rw [if_neg c7] at H
    refine x_aload_n 0 rfl dX17_does_62 ?_
    refine x_iload_n 1 rfl dX17_does_63 ?_
    obtain ⟨c19, H⟩ := oit H
    rcases obT H with ⟨a19, h19, e19, rfl⟩ | ⟨v19, h19, e19, H⟩
    · exact x_goX (t_X17_buys C _ e19) (x_rV (M' := mi_X17_buys) (n := 1) (As := [.int x1]) (t_X17_buys C _ e19) c19 rfl rfl md_X17_buys ⟨Nat.le_of_ble_eq_true rfl, Nat.le_of_ble_eq_true rfl⟩ q1599 q1601 qs40 q155 q1602 rfl (Nat.le_of_ble_eq_true rfl) dX17_does_64) hE
    refine x_goR (r := (some (.ref v19))) (t_X17_buys C _ e19) (x_rV (M' := mi_X17_buys) (n := 1) (As := [.int x1]) (t_X17_buys C _ e19) c19 rfl rfl md_X17_buys ⟨Nat.le_of_ble_eq_true rfl, Nat.le_of_ble_eq_true rfl⟩ q1599 q1601 qs40 q155 q1602 rfl (Nat.le_of_ble_eq_true rfl) dX17_does_64) ?_
    obtain rfl := Option.some.inj H
    exact x_aretT hE rfl (by first | exact Or.inl ⟨_, rfl⟩ | exact Or.inr ⟨_, rfl⟩) dX17_does_67
def f_X17_does_b45 (r0 : Nat) (x1 : Int32) (x2 : Int32) (x3 : Int32) (x4 : Int32) (s0 : Nat) (h : mH) : Option ((Nat ⊕ Nat) × mH) := f_X17_does_b50 r0 x1 x2 x3 x4 s0 (1 : Int32) h
theorem t_X17_does_b45 {G : xG} {C : xC} {o : (Nat ⊕ Nat) × mH} (hE : xEndT G C [] (xoA "StrangerMarket$Fault" o.1) o.2) (r0 : Nat) (x1 : Int32) (x2 : Int32) (x3 : Int32) (x4 : Int32) (s0 : Nat) (h : mH) (H : f_X17_does_b45 r0 x1 x2 x3 x4 s0 h = some o) : X G C mi_X17_does 45 [(0, .ref r0), (1, .int x1), (2, .int x2), (3, .int x3), (4, .int x4)] [.ref s0] h := by
  unfold f_X17_does_b45 at H
  refine x_iconst (1 : Int32) dX17_does_45 ic_1 ?_
  refine x_goto (tgt := 50) dX17_does_46 (by decide) ?_
  exact t_X17_does_b50 hE _ _ _ _ _ _ _ _ H
def f_X17_does (r0 : Nat) (x1 : Int32) (h : mH) : Option ((Nat ⊕ Nat) × mH) := if gC h r0 ∈ [6] then bR (f_X6_is r0 26 h) fun a1 g1 => if gC g1 r0 ∈ [6] then bR (f_X6_is r0 27 g1) fun a2 g2 => if gC g2 r0 ∈ [6] then bR (f_X6_is r0 28 g2) fun a3 g3 => if a1 = 0 then if a2 = 0 then if a3 = 0 then if gC g3 r0 ∈ [6] then bR (f_X6_is r0 29 g3) fun a22 g22 => if a22 = 0 then f_X17_does_b50 r0 x1 a1 a2 a3 r0 (0 : Int32) g22 else f_X17_does_b45 r0 x1 a1 a2 a3 r0 g22 else none else f_X17_does_b45 r0 x1 a1 a2 a3 r0 g3 else f_X17_does_b45 r0 x1 a1 a2 a3 r0 g3 else f_X17_does_b45 r0 x1 a1 a2 a3 r0 g3 else none else none else none
theorem t_X17_does {G : xG} (C0 : xC) {l : Launch} {r0 : Nat} {x1 : Int32} (h : mH) {o : (Nat ⊕ Nat) × mH} (H : f_X17_does r0 x1 h = some o) : XT G l mi_X17_does [.ref r0, .int x1] h (xoA "StrangerMarket$Fault" o.1) o.2 := by
  refine XT.of C0 (by decide) (Nat.le_of_ble_eq_true rfl) (fun C _ _ _ hE => ?_)
  show X G C mi_X17_does 0 [(0, .ref r0), (1, .int x1)] [] h
  unfold f_X17_does at H
  refine x_aload_n 0 rfl dX17_does_0 ?_
  refine x_ldcS (tx := "buys") (a := 26) (List.mem_of_getElem? (i := 18) rfl) (by decide) (by decide) dX17_does_1 ?_
  obtain ⟨c1, H⟩ := oit H
  obtain ⟨a1, g1, e1, H⟩ := obR H
  refine x_callU (M' := mi_X6_is) (n := 1) (As := [.ref 26]) (t_X6_is C _ e1) c1 up_X17_44_6 (by decide +kernel) ⟨Nat.le_of_ble_eq_true rfl, Nat.le_of_ble_eq_true rfl⟩ q726 rfl (Nat.le_of_ble_eq_true rfl) dX17_does_3 ?_
  refine x_istore_n [1, 2, 0] dX17_does_6 (by decide) rfl ?_
  refine x_aload_n 0 rfl dX17_does_7 ?_
  refine x_ldcS (tx := "nods") (a := 27) (List.mem_of_getElem? (i := 19) rfl) (by decide) (by decide) dX17_does_8 ?_
  obtain ⟨c2, H⟩ := oit H
  obtain ⟨a2, g2, e2, H⟩ := obR H
  refine x_callU (M' := mi_X6_is) (n := 1) (As := [.ref 27]) (t_X6_is C _ e2) c2 up_X17_44_6 (by decide +kernel) ⟨Nat.le_of_ble_eq_true rfl, Nat.le_of_ble_eq_true rfl⟩ q726 rfl (Nat.le_of_ble_eq_true rfl) dX17_does_10 ?_
  refine x_istore_n [1, 2, 3, 0] dX17_does_13 (by decide) rfl ?_
  refine x_aload_n 0 rfl dX17_does_14 ?_
  refine x_ldcS (tx := "veils") (a := 28) (List.mem_of_getElem? (i := 20) rfl) (by decide) (by decide) dX17_does_15 ?_
  obtain ⟨c3, H⟩ := oit H
  obtain ⟨a3, g3, e3, H⟩ := obR H
  refine x_callU (M' := mi_X6_is) (n := 1) (As := [.ref 28]) (t_X6_is C _ e3) c3 up_X17_44_6 (by decide +kernel) ⟨Nat.le_of_ble_eq_true rfl, Nat.le_of_ble_eq_true rfl⟩ q726 rfl (Nat.le_of_ble_eq_true rfl) dX17_does_17 ?_
  refine x_istore [1, 2, 3, 4, 0] dX17_does_20 (by decide) rfl ?_
  refine x_aload_n 0 rfl dX17_does_22 ?_
  refine x_iload_n 2 rfl dX17_does_23 ?_
  refine x_if_ne 45 dX17_does_24 (by decide) (fun c4 => ?_) (fun c4 => ?_)
  · rw [if_neg c4] at H
    exact t_X17_does_b45 hE _ _ _ _ _ _ _ H
  · rw [if_pos c4] at H
    refine x_iload_n 3 rfl dX17_does_27 ?_
    refine x_if_ne 45 dX17_does_28 (by decide) (fun c20 => ?_) (fun c20 => ?_)
    · rw [if_neg c20] at H
      exact t_X17_does_b45 hE _ _ _ _ _ _ _ H
    · rw [if_pos c20] at H
      refine x_iload 4 rfl dX17_does_31 ?_
      refine x_if_ne 45 dX17_does_33 (by decide) (fun c21 => ?_) (fun c21 => ?_)
      · rw [if_neg c21] at H
        exact t_X17_does_b45 hE _ _ _ _ _ _ _ H
      · rw [if_pos c21] at H
        refine x_aload_n 0 rfl dX17_does_36 ?_
        refine x_ldcS (tx := "tells") (a := 29) (List.mem_of_getElem? (i := 21) rfl) (by decide) (by decide) dX17_does_37 ?_
        obtain ⟨c22, H⟩ := oit H
        obtain ⟨a22, g22, e22, H⟩ := obR H
        refine x_callU (M' := mi_X6_is) (n := 1) (As := [.ref 29]) (t_X6_is C _ e22) c22 up_X17_44_6 (by decide +kernel) ⟨Nat.le_of_ble_eq_true rfl, Nat.le_of_ble_eq_true rfl⟩ q726 rfl (Nat.le_of_ble_eq_true rfl) dX17_does_39 ?_
        refine x_if_eq 49 dX17_does_42 (by decide) (fun c23 => ?_) (fun c23 => ?_)
        · rw [if_pos c23] at H
          refine x_iconst (0 : Int32) dX17_does_49 ic_0 ?_
          exact t_X17_does_b50 hE _ _ _ _ _ _ _ _ H
        · rw [if_neg c23] at H
          exact t_X17_does_b45 hE _ _ _ _ _ _ _ H
abbrev mi_X18_init : xM := (cX18_init, yX18_init, 2, none, 2)
theorem md_X18_init : xMD mi_X18_init 1 := ⟨by decide, by decide, by decide +kernel⟩
def f_X18_init (r0 : Nat) (x1 : Int32) (h : mH) : Option (Unit × mH) := if 6 ≤ r0 then bR (f_X11_init r0 (-1 : Int32) h) fun a1 g1 => (pF [15] 1 (.int x1) g1 r0).bind fun h2 => some ((), h2) else none
theorem t_X18_init {G : xG} (C0 : xC) {l : Launch} {r0 : Nat} {x1 : Int32} (h : mH) {o : Unit × mH} (H : f_X18_init r0 x1 h = some o) : XR G l mi_X18_init [.ref r0, .int x1] h none o.2 := by
  refine XR.of C0 (by decide) (Nat.le_of_ble_eq_true rfl) (fun C _ _ _ hE => ?_)
  show X G C mi_X18_init 0 [(0, .ref r0), (1, .int x1)] [] h
  unfold f_X18_init at H
  refine x_aload_n 0 rfl dX18_init_0 ?_
  refine x_iconst (-1 : Int32) dX18_init_1 ic_m1 ?_
  obtain ⟨c1, H⟩ := oit H
  obtain ⟨a1, g1, e1, H⟩ := obR H
  refine x_callI (M' := mi_X11_init) (n := 1) (As := [.int (-1 : Int32)]) (t_X11_init C _ e1) c1 md_X11_init ⟨Nat.le_of_ble_eq_true rfl, Nat.le_of_ble_eq_true rfl⟩ rfl rfl q1619 q1178 q149 q1179 rfl (Nat.le_of_ble_eq_true rfl) dX18_init_2 ?_
  refine x_aload_n 0 rfl dX18_init_5 ?_
  refine x_iload_n 1 rfl dX18_init_6 ?_
  obtain ⟨h2, e2, H⟩ := ob H
  refine x_putf fp_X18_9 rfl rfl e2 dX18_init_7 ?_
  obtain rfl := Option.some.inj H
  exact x_vret hE rfl dX18_init_10
abbrev mi_X6_number : xM := (cX6_number, yX6_number, 4, some .int, 10)
theorem md_X6_number : xMD mi_X6_number 2 := ⟨by decide, by decide, by decide +kernel⟩
def f_X6_number_b14 (r0 : Nat) (x1 : Int32) (x2 : Int32) (s0 : Nat) (s1 : Int32) (h : mH) : Option ((Int32 ⊕ Nat) × mH) := if gC h s0 ∈ [5, 6, 7] then bT (f_X6_need s0 s1 (1 : Int32) h) fun v3 h3 => (gFi [5, 6, 7] 6 h3 r0).bind fun v4 => bR (f_X1_isIn v4 x1 x2 h3) fun a5 g5 => if gC g5 r0 ∈ [5, 6, 7] then bT (f_X6_need r0 a5 (2 : Int32) g5) fun v6 h6 => (gFi [5, 6, 7] 6 h6 r0).bind fun v7 => if gC h6 r0 ∈ [5, 6, 7] then bR (f_X6_go r0  h6) fun a8 g8 => some (.inl v7, g8) else none else none else none
theorem t_X6_number_b14 {G : xG} {C : xC} {o : (Int32 ⊕ Nat) × mH} (hE : xEndT G C [] (xoI "StrangerMarket$Fault" o.1) o.2) (r0 : Nat) (x1 : Int32) (x2 : Int32) (s0 : Nat) (s1 : Int32) (h : mH) (H : f_X6_number_b14 r0 x1 x2 s0 s1 h = some o) : X G C mi_X6_number 14 [(0, .ref r0), (1, .int x1), (2, .int x2)] [.int s1, .ref s0] h := by
  unfold f_X6_number_b14 at H
  refine x_iconst (1 : Int32) dX6_number_14 ic_1 ?_
  obtain ⟨c3, H⟩ := oit H
  rcases obT H with ⟨a3, h3, e3, rfl⟩ | ⟨v3, h3, e3, H⟩
  · exact x_goX (t_X6_need C _ e3) (x_rC (M' := mi_X6_need) (n := 2) (As := [.int s1, .int (1 : Int32)]) (t_X6_need C _ e3) c3 uc_X6_87 (by decide +kernel) ⟨Nat.le_of_ble_eq_true rfl, Nat.le_of_ble_eq_true rfl⟩ q749 rfl (Nat.le_of_ble_eq_true rfl) dX6_number_15) hE
  refine x_goR (r := none) (t_X6_need C _ e3) (x_rC (M' := mi_X6_need) (n := 2) (As := [.int s1, .int (1 : Int32)]) (t_X6_need C _ e3) c3 uc_X6_87 (by decide +kernel) ⟨Nat.le_of_ble_eq_true rfl, Nat.le_of_ble_eq_true rfl⟩ q749 rfl (Nat.le_of_ble_eq_true rfl) dX6_number_15) ?_
  refine x_aload_n 0 rfl dX6_number_18 ?_
  refine x_aload_n 0 rfl dX6_number_19 ?_
  obtain ⟨v4, e4, H⟩ := ob H
  refine x_getf fg_X6_51 (gFi_spec e4) dX6_number_20 ?_
  refine x_iload_n 1 rfl dX6_number_23 ?_
  refine x_iload_n 2 rfl dX6_number_24 ?_
  obtain ⟨a5, g5, e5, H⟩ := obR H
  refine x_callSN (M' := mi_X1_isIn) (n := 3) (As := [.int v4, .int x1, .int x2]) (t_X1_isIn C _ e5) md_X1_isIn ⟨Nat.le_of_ble_eq_true rfl, Nat.le_of_ble_eq_true rfl⟩ q920 q921 q120 q922 rfl (Nat.le_of_ble_eq_true rfl) dX6_number_25 ?_
  refine x_iconst (2 : Int32) dX6_number_28 ic_2 ?_
  obtain ⟨c6, H⟩ := oit H
  rcases obT H with ⟨a6, h6, e6, rfl⟩ | ⟨v6, h6, e6, H⟩
  · exact x_goX (t_X6_need C _ e6) (x_rC (M' := mi_X6_need) (n := 2) (As := [.int a5, .int (2 : Int32)]) (t_X6_need C _ e6) c6 uc_X6_87 (by decide +kernel) ⟨Nat.le_of_ble_eq_true rfl, Nat.le_of_ble_eq_true rfl⟩ q749 rfl (Nat.le_of_ble_eq_true rfl) dX6_number_29) hE
  refine x_goR (r := none) (t_X6_need C _ e6) (x_rC (M' := mi_X6_need) (n := 2) (As := [.int a5, .int (2 : Int32)]) (t_X6_need C _ e6) c6 uc_X6_87 (by decide +kernel) ⟨Nat.le_of_ble_eq_true rfl, Nat.le_of_ble_eq_true rfl⟩ q749 rfl (Nat.le_of_ble_eq_true rfl) dX6_number_29) ?_
  refine x_aload_n 0 rfl dX6_number_32 ?_
  obtain ⟨v7, e7, H⟩ := ob H
  refine x_getf fg_X6_51 (gFi_spec e7) dX6_number_33 ?_
  refine x_istore_n [1, 2, 3, 0] dX6_number_36 (by decide) rfl ?_
  refine x_aload_n 0 rfl dX6_number_37 ?_
  obtain ⟨c8, H⟩ := oit H
  obtain ⟨a8, g8, e8, H⟩ := obR H
  refine x_callC (M' := mi_X6_go) (n := 0) (As := []) (t_X6_go C _ e8) c8 uc_X6_95 (by decide +kernel) ⟨Nat.le_of_ble_eq_true rfl, Nat.le_of_ble_eq_true rfl⟩ q522 rfl (Nat.le_of_ble_eq_true rfl) dX6_number_38 ?_
  refine x_iload_n 3 rfl dX6_number_41 ?_
  obtain rfl := Option.some.inj H
  exact x_iretT hE rfl rfl dX6_number_42
def f_X6_number (r0 : Nat) (x1 : Int32) (x2 : Int32) (h : mH) : Option ((Int32 ⊕ Nat) × mH) := (gFi [5, 6, 7] 4 h r0).bind fun v1 => if v1 = (3 : Int32) then f_X6_number_b14 r0 x1 x2 r0 (1 : Int32) h else f_X6_number_b14 r0 x1 x2 r0 (0 : Int32) h
theorem t_X6_number {G : xG} (C0 : xC) {l : Launch} {r0 : Nat} {x1 : Int32} {x2 : Int32} (h : mH) {o : (Int32 ⊕ Nat) × mH} (H : f_X6_number r0 x1 x2 h = some o) : XT G l mi_X6_number [.ref r0, .int x1, .int x2] h (xoI "StrangerMarket$Fault" o.1) o.2 := by
  refine XT.of C0 (by decide) (Nat.le_of_ble_eq_true rfl) (fun C _ _ _ hE => ?_)
  show X G C mi_X6_number 0 [(0, .ref r0), (1, .int x1), (2, .int x2)] [] h
  unfold f_X6_number at H
  refine x_aload_n 0 rfl dX6_number_0 ?_
  refine x_aload_n 0 rfl dX6_number_1 ?_
  obtain ⟨v1, e1, H⟩ := ob H
  refine x_getf fg_X6_38 (gFi_spec e1) dX6_number_2 ?_
  refine x_iconst (3 : Int32) dX6_number_5 ic_3 ?_
  refine x_icmp_ne 13 dX6_number_6 (by decide) (fun c2 => ?_) (fun c2 => ?_)
  · rw [if_neg c2] at H
    refine x_iconst (0 : Int32) dX6_number_13 ic_0 ?_
    exact t_X6_number_b14 hE _ _ _ _ _ _ H
  · rw [if_pos c2] at H
    refine x_iconst (1 : Int32) dX6_number_9 ic_1 ?_
    refine x_goto (tgt := 14) dX6_number_10 (by decide) ?_
    exact t_X6_number_b14 hE _ _ _ _ _ _ H
abbrev mi_X17_act : xM := (cX17_act, yX17_act, 2, some (.object "StrangerMarket$Act"), 15)
theorem md_X17_act : xMD mi_X17_act 0 := ⟨by decide, by decide, by decide +kernel⟩
def f_X17_act_b41 (r0 : Nat) (x1 : Int32) (s0 : Nat) (s1 : Int32) (h : mH) : Option ((Nat ⊕ Nat) × mH) := if gC h s0 ∈ [6] then bT (f_X6_need s0 s1 (4 : Int32) h) fun v6 h6 => if x1 = 0 then (gFr [6] 9 h6 r0).bind fun v11 => (gFr [1] 4 h6 v11).bind fun v12 => if gC h6 r0 ∈ [6] then bT (f_X6_one r0 v12 h6) fun v13 h13 => if gC h13 r0 = 6 then bT (f_X17_does r0 v13 h13) fun v14 h14 => some (.inl (v14), h14) else none else none else if gC h6 r0 ∈ [6] then bR (f_X6_go r0  h6) fun a8 g8 => if gC (xnw g8 (.inr (15, [.int 0, .int 0])) 2) r0 ∈ [6] then bT (f_X6_number r0 (1 : Int32) (60 : Int32) (xnw g8 (.inr (15, [.int 0, .int 0])) 2)) fun v9 h9 => if 6 ≤ g8.2.1 then bR (f_X18_init g8.2.1 v9 h9) fun a10 g10 => some (.inl (g8.2.1), g10) else none else none else none else none
theorem t_X17_act_b41 {G : xG} {C : xC} {o : (Nat ⊕ Nat) × mH} (hE : xEndT G C [] (xoA "StrangerMarket$Fault" o.1) o.2) (r0 : Nat) (x1 : Int32) (s0 : Nat) (s1 : Int32) (h : mH) (H : f_X17_act_b41 r0 x1 s0 s1 h = some o) : X G C mi_X17_act 41 [(0, .ref r0), (1, .int x1)] [.int s1, .ref s0] h := by
  unfold f_X17_act_b41 at H
  refine x_iconst (4 : Int32) dX17_act_41 ic_4 ?_
  obtain ⟨c6, H⟩ := oit H
  rcases obT H with ⟨a6, h6, e6, rfl⟩ | ⟨v6, h6, e6, H⟩
  · exact x_goX (t_X6_need C _ e6) (x_rU (M' := mi_X6_need) (n := 2) (As := [.int s1, .int (4 : Int32)]) (t_X6_need C _ e6) c6 up_X17_61_6 (by decide +kernel) ⟨Nat.le_of_ble_eq_true rfl, Nat.le_of_ble_eq_true rfl⟩ q749 rfl (Nat.le_of_ble_eq_true rfl) dX17_act_42) hE
  refine x_goR (r := none) (t_X6_need C _ e6) (x_rU (M' := mi_X6_need) (n := 2) (As := [.int s1, .int (4 : Int32)]) (t_X6_need C _ e6) c6 up_X17_61_6 (by decide +kernel) ⟨Nat.le_of_ble_eq_true rfl, Nat.le_of_ble_eq_true rfl⟩ q749 rfl (Nat.le_of_ble_eq_true rfl) dX17_act_42) ?_
  refine x_iload_n 1 rfl dX17_act_45 ?_
  refine x_if_ne 65 dX17_act_46 (by decide) (fun c7 => ?_) (fun c7 => ?_)
  · rw [if_neg c7] at H
    refine x_aload_n 0 rfl dX17_act_65 ?_
    obtain ⟨c8, H⟩ := oit H
    obtain ⟨a8, g8, e8, H⟩ := obR H
    refine x_callU (M' := mi_X6_go) (n := 0) (As := []) (t_X6_go C _ e8) c8 up_X17_24_6 (by decide +kernel) ⟨Nat.le_of_ble_eq_true rfl, Nat.le_of_ble_eq_true rfl⟩ q522 rfl (Nat.le_of_ble_eq_true rfl) dX17_act_66 ?_
    refine x_new (fs := [.int 0, .int 0]) ci_15 q1611 q1612 q156 (nf_X18 G) rfl dX17_act_69 ?_
    refine x_dup dX17_act_72 rfl ?_
    refine x_aload_n 0 rfl dX17_act_73 ?_
    refine x_iconst (1 : Int32) dX17_act_74 ic_1 ?_
    refine x_bipush (60 : Int32) dX17_act_75 bi_60 ?_
    obtain ⟨c9, H⟩ := oit H
    rcases obT H with ⟨a9, h9, e9, rfl⟩ | ⟨v9, h9, e9, H⟩
    · exact x_goX (t_X6_number C _ e9) (x_rU (M' := mi_X6_number) (n := 2) (As := [.int (1 : Int32), .int (60 : Int32)]) (t_X6_number C _ e9) c9 up_X17_74_6 (by decide +kernel) ⟨Nat.le_of_ble_eq_true rfl, Nat.le_of_ble_eq_true rfl⟩ q918 rfl (Nat.le_of_ble_eq_true rfl) dX17_act_77) hE
    refine x_goR (r := (some (.int v9))) (t_X6_number C _ e9) (x_rU (M' := mi_X6_number) (n := 2) (As := [.int (1 : Int32), .int (60 : Int32)]) (t_X6_number C _ e9) c9 up_X17_74_6 (by decide +kernel) ⟨Nat.le_of_ble_eq_true rfl, Nat.le_of_ble_eq_true rfl⟩ q918 rfl (Nat.le_of_ble_eq_true rfl) dX17_act_77) ?_
    obtain ⟨c10, H⟩ := oit H
    obtain ⟨a10, g10, e10, H⟩ := obR H
    refine x_callI (M' := mi_X18_init) (n := 1) (As := [.int v9]) (t_X18_init C _ e10) c10 md_X18_init ⟨Nat.le_of_ble_eq_true rfl, Nat.le_of_ble_eq_true rfl⟩ rfl rfl q1616 q1617 q156 q1618 rfl (Nat.le_of_ble_eq_true rfl) dX17_act_80 ?_
    obtain rfl := Option.some.inj H
    exact x_aretT hE rfl (by first | exact Or.inl ⟨_, rfl⟩ | exact Or.inr ⟨_, rfl⟩) dX17_act_83
  · rw [if_pos c7] at H
    refine x_aload_n 0 rfl dX17_act_49 ?_
    refine x_aload_n 0 rfl dX17_act_50 ?_
    refine x_aload_n 0 rfl dX17_act_51 ?_
    obtain ⟨v11, e11, H⟩ := ob H
    refine x_getf fg_X17_20 (gFr_spec e11) dX17_act_52 ?_
    obtain ⟨v12, e12, H⟩ := ob H
    refine x_getf fg_X17_48 (gFr_spec e12) dX17_act_55 ?_
    obtain ⟨c13, H⟩ := oit H
    rcases obT H with ⟨a13, h13, e13, rfl⟩ | ⟨v13, h13, e13, H⟩
    · exact x_goX (t_X6_one C _ e13) (x_rU (M' := mi_X6_one) (n := 1) (As := [.ref v12]) (t_X6_one C _ e13) c13 up_X17_65_6 (by decide +kernel) ⟨Nat.le_of_ble_eq_true rfl, Nat.le_of_ble_eq_true rfl⟩ q1046 rfl (Nat.le_of_ble_eq_true rfl) dX17_act_58) hE
    refine x_goR (r := (some (.int v13))) (t_X6_one C _ e13) (x_rU (M' := mi_X6_one) (n := 1) (As := [.ref v12]) (t_X6_one C _ e13) c13 up_X17_65_6 (by decide +kernel) ⟨Nat.le_of_ble_eq_true rfl, Nat.le_of_ble_eq_true rfl⟩ q1046 rfl (Nat.le_of_ble_eq_true rfl) dX17_act_58) ?_
    obtain ⟨c14, H⟩ := oit H
    rcases obT H with ⟨a14, h14, e14, rfl⟩ | ⟨v14, h14, e14, H⟩
    · exact x_goX (t_X17_does C _ e14) (x_rV (M' := mi_X17_does) (n := 1) (As := [.int v13]) (t_X17_does C _ e14) c14 rfl rfl md_X17_does ⟨Nat.le_of_ble_eq_true rfl, Nat.le_of_ble_eq_true rfl⟩ q1591 q1593 qs39 q155 q1594 rfl (Nat.le_of_ble_eq_true rfl) dX17_act_61) hE
    refine x_goR (r := (some (.ref v14))) (t_X17_does C _ e14) (x_rV (M' := mi_X17_does) (n := 1) (As := [.int v13]) (t_X17_does C _ e14) c14 rfl rfl md_X17_does ⟨Nat.le_of_ble_eq_true rfl, Nat.le_of_ble_eq_true rfl⟩ q1591 q1593 qs39 q155 q1594 rfl (Nat.le_of_ble_eq_true rfl) dX17_act_61) ?_
    obtain rfl := Option.some.inj H
    exact x_aretT hE rfl (by first | exact Or.inl ⟨_, rfl⟩ | exact Or.inr ⟨_, rfl⟩) dX17_act_64
def f_X17_act_b23 (r0 : Nat) (x1 : Int32) (h : mH) : Option ((Nat ⊕ Nat) × mH) := (gFr [6] 10 h r0).bind fun v3 => if gC h v3 = 21 then bR (f_J2_size v3  h) fun a4 g4 => if (40 : Int32) ≤ a4 then f_X17_act_b41 r0 x1 r0 (0 : Int32) g4 else f_X17_act_b41 r0 x1 r0 (1 : Int32) g4 else none
theorem t_X17_act_b23 {G : xG} {C : xC} {o : (Nat ⊕ Nat) × mH} (hE : xEndT G C [] (xoA "StrangerMarket$Fault" o.1) o.2) (r0 : Nat) (x1 : Int32) (h : mH) (H : f_X17_act_b23 r0 x1 h = some o) : X G C mi_X17_act 23 [(0, .ref r0), (1, .int x1)] [] h := by
  unfold f_X17_act_b23 at H
  refine x_aload_n 0 rfl dX17_act_23 ?_
  refine x_aload_n 0 rfl dX17_act_24 ?_
  obtain ⟨v3, e3, H⟩ := ob H
  refine x_getf fg_X17_14 (gFr_spec e3) dX17_act_25 ?_
  obtain ⟨c4, H⟩ := oit H
  obtain ⟨a4, g4, e4, H⟩ := obR H
  refine x_callV (M' := mi_J2_size) (n := 0) (As := []) (t_J2_size C _ e4) c4 rfl rfl md_J2_size ⟨Nat.le_of_ble_eq_true rfl, Nat.le_of_ble_eq_true rfl⟩ q1584 q317 q318 q124 q319 rfl (Nat.le_of_ble_eq_true rfl) dX17_act_28 ?_
  refine x_bipush (40 : Int32) dX17_act_31 bi_40 ?_
  refine x_icmp_ge 40 dX17_act_33 (by decide) (fun c5 => ?_) (fun c5 => ?_)
  · rw [if_pos c5] at H
    refine x_iconst (0 : Int32) dX17_act_40 ic_0 ?_
    exact t_X17_act_b41 hE _ _ _ _ _ H
  · rw [if_neg c5] at H
    refine x_iconst (1 : Int32) dX17_act_36 ic_1 ?_
    refine x_goto (tgt := 41) dX17_act_37 (by decide) ?_
    exact t_X17_act_b41 hE _ _ _ _ _ H
def f_X17_act (r0 : Nat) (h : mH) : Option ((Nat ⊕ Nat) × mH) := if gC h r0 ∈ [6] then bR (f_X6_is r0 25 h) fun a1 g1 => if a1 = 0 then (gFr [6] 9 g1 r0).bind fun v15 => (gFr [1] 4 g1 v15).bind fun v16 => if gC g1 r0 ∈ [6] then bT (f_X6_hold r0 v16 g1) fun v17 h17 => f_X17_act_b23 r0 a1 h17 else none else f_X17_act_b23 r0 a1 g1 else none
theorem t_X17_act {G : xG} (C0 : xC) {l : Launch} {r0 : Nat} (h : mH) {o : (Nat ⊕ Nat) × mH} (H : f_X17_act r0 h = some o) : XT G l mi_X17_act [.ref r0] h (xoA "StrangerMarket$Fault" o.1) o.2 := by
  refine XT.of C0 (by decide) (Nat.le_of_ble_eq_true rfl) (fun C _ _ _ hE => ?_)
  show X G C mi_X17_act 0 [(0, .ref r0)] [] h
  unfold f_X17_act at H
  refine x_aload_n 0 rfl dX17_act_0 ?_
  refine x_ldcS (tx := "day") (a := 25) (List.mem_of_getElem? (i := 17) rfl) (by decide) (by decide) dX17_act_1 ?_
  obtain ⟨c1, H⟩ := oit H
  obtain ⟨a1, g1, e1, H⟩ := obR H
  refine x_callU (M' := mi_X6_is) (n := 1) (As := [.ref 25]) (t_X6_is C _ e1) c1 up_X17_44_6 (by decide +kernel) ⟨Nat.le_of_ble_eq_true rfl, Nat.le_of_ble_eq_true rfl⟩ q726 rfl (Nat.le_of_ble_eq_true rfl) dX17_act_3 ?_
  refine x_istore_n [1, 0] dX17_act_6 (by decide) rfl ?_
  refine x_iload_n 1 rfl dX17_act_7 ?_
  refine x_if_ne 23 dX17_act_8 (by decide) (fun c2 => ?_) (fun c2 => ?_)
  · rw [if_neg c2] at H
    exact t_X17_act_b23 hE _ _ _ H
  · rw [if_pos c2] at H
    refine x_aload_n 0 rfl dX17_act_11 ?_
    refine x_aload_n 0 rfl dX17_act_12 ?_
    obtain ⟨v15, e15, H⟩ := ob H
    refine x_getf fg_X17_20 (gFr_spec e15) dX17_act_13 ?_
    obtain ⟨v16, e16, H⟩ := ob H
    refine x_getf fg_X17_48 (gFr_spec e16) dX17_act_16 ?_
    obtain ⟨c17, H⟩ := oit H
    rcases obT H with ⟨a17, h17, e17, rfl⟩ | ⟨v17, h17, e17, H⟩
    · exact x_goX (t_X6_hold C _ e17) (x_rU (M' := mi_X6_hold) (n := 1) (As := [.ref v16]) (t_X6_hold C _ e17) c17 up_X17_53_6 (by decide +kernel) ⟨Nat.le_of_ble_eq_true rfl, Nat.le_of_ble_eq_true rfl⟩ q1053 rfl (Nat.le_of_ble_eq_true rfl) dX17_act_19) hE
    refine x_goR (r := (some (.int v17))) (t_X6_hold C _ e17) (x_rU (M' := mi_X6_hold) (n := 1) (As := [.ref v16]) (t_X6_hold C _ e17) c17 up_X17_53_6 (by decide +kernel) ⟨Nat.le_of_ble_eq_true rfl, Nat.le_of_ble_eq_true rfl⟩ q1053 rfl (Nat.le_of_ble_eq_true rfl) dX17_act_19) ?_
    refine x_pop dX17_act_22 rfl ?_
    exact t_X17_act_b23 hE _ _ _ H
abbrev mi_J0_init : xM := (cJ0_init, yJ0_init, 1, none, 1)
theorem md_J0_init : xMD mi_J0_init 0 := ⟨by decide, by decide, by decide +kernel⟩
def f_J0_init (r0 : Nat) (h : mH) : Option (Unit × mH) := if 6 ≤ r0 then some ((), h) else none
theorem t_J0_init {G : xG} (C0 : xC) {l : Launch} {r0 : Nat} (h : mH) {o : Unit × mH} (H : f_J0_init r0 h = some o) : XR G l mi_J0_init [.ref r0] h none o.2 := by
  refine XR.of C0 (by decide) (Nat.le_of_ble_eq_true rfl) (fun C _ _ _ hE => ?_)
  show X G C mi_J0_init 0 [(0, .ref r0)] [] h
  unfold f_J0_init at H
  refine x_aload_n 0 rfl dJ0_init_0 ?_
  obtain ⟨c1, H⟩ := oit H
  refine x_oinit c1 (by decide) q189 q170 q171 (Nat.le_of_ble_eq_true rfl) dJ0_init_1 ?_
  obtain rfl := Option.some.inj H
  exact x_vret hE rfl dJ0_init_4
abbrev mi_J1_init : xM := (cJ1_init, yJ1_init, 1, none, 2)
theorem md_J1_init : xMD mi_J1_init 0 := ⟨by decide, by decide, by decide +kernel⟩
def f_J1_init (r0 : Nat) (h : mH) : Option (Unit × mH) := if 6 ≤ r0 then bR (f_J0_init r0  h) fun a1 g1 => (pF [21] 0 (.int (0 : Int32)) g1 r0).bind fun h2 => some ((), h2) else none
theorem t_J1_init {G : xG} (C0 : xC) {l : Launch} {r0 : Nat} (h : mH) {o : Unit × mH} (H : f_J1_init r0 h = some o) : XR G l mi_J1_init [.ref r0] h none o.2 := by
  refine XR.of C0 (by decide) (Nat.le_of_ble_eq_true rfl) (fun C _ _ _ hE => ?_)
  show X G C mi_J1_init 0 [(0, .ref r0)] [] h
  unfold f_J1_init at H
  refine x_aload_n 0 rfl dJ1_init_0 ?_
  obtain ⟨c1, H⟩ := oit H
  obtain ⟨a1, g1, e1, H⟩ := obR H
  refine x_callI (M' := mi_J0_init) (n := 0) (As := []) (t_J0_init C _ e1) c1 md_J0_init ⟨Nat.le_of_ble_eq_true rfl, Nat.le_of_ble_eq_true rfl⟩ rfl rfl q186 q187 q122 q188 rfl (Nat.le_of_ble_eq_true rfl) dJ1_init_1 ?_
  refine x_aload_n 0 rfl dJ1_init_4 ?_
  refine x_iconst (0 : Int32) dJ1_init_5 ic_0 ?_
  obtain ⟨h2, e2, H⟩ := ob H
  refine x_putf (fp_J1_7 _) rfl rfl e2 dJ1_init_6 ?_
  obtain rfl := Option.some.inj H
  exact x_vret hE rfl dJ1_init_9
abbrev mi_J2_init : xM := (cJ2_init, yJ2_init, 1, none, 3)
theorem md_J2_init : xMD mi_J2_init 0 := ⟨by decide, by decide, by decide +kernel⟩
def f_J2_init (r0 : Nat) (h : mH) : Option (Unit × mH) := if 6 ≤ r0 then bR (f_J1_init r0  h) fun a1 g1 => (pF [21] 1 (.ref 6) g1 r0).bind fun h2 => some ((), h2) else none
theorem t_J2_init {G : xG} (C0 : xC) {l : Launch} {r0 : Nat} (h : mH) {o : Unit × mH} (H : f_J2_init r0 h = some o) : XR G l mi_J2_init [.ref r0] h none o.2 := by
  refine XR.of C0 (by decide) (Nat.le_of_ble_eq_true rfl) (fun C _ _ _ hE => ?_)
  show X G C mi_J2_init 0 [(0, .ref r0)] [] h
  unfold f_J2_init at H
  refine x_aload_n 0 rfl dJ2_init_0 ?_
  obtain ⟨c1, H⟩ := oit H
  obtain ⟨a1, g1, e1, H⟩ := obR H
  refine x_callI (M' := mi_J1_init) (n := 0) (As := []) (t_J1_init C _ e1) c1 md_J1_init ⟨Nat.le_of_ble_eq_true rfl, Nat.le_of_ble_eq_true rfl⟩ rfl rfl q183 q184 q123 q185 rfl (Nat.le_of_ble_eq_true rfl) dJ2_init_1 ?_
  refine x_aload_n 0 rfl dJ2_init_4 ?_
  refine x_gets (v := .ref 6) (List.mem_of_getElem? (i := 0) rfl) q190 dJ2_init_5 ?_
  obtain ⟨h2, e2, H⟩ := ob H
  refine x_putf (fp_J2_9 _) rfl rfl e2 dJ2_init_8 ?_
  obtain rfl := Option.some.inj H
  exact x_vret hE rfl dJ2_init_11
abbrev mi_X6_init : xM := (cX6_init, yX6_init, 4, none, 1)
theorem md_X6_init : xMD mi_X6_init 3 := ⟨by decide, by decide, by decide +kernel⟩
def f_X6_init (r0 : Nat) (r1 : Nat) (x2 : Int32) (x3 : Int32) (h : mH) : Option (Unit × mH) := if 6 ≤ r0 then (pF [5, 6, 7] 8 (.ref 9) h r0).bind fun h2 => (pF [5, 6, 7] 0 (.ref r1) h2 r0).bind fun h3 => (pF [5, 6, 7] 1 (.int x2) h3 r0).bind fun h4 => (pF [5, 6, 7] 2 (.int x3) h4 r0).bind fun h5 => some ((), h5) else none
theorem t_X6_init {G : xG} (C0 : xC) {l : Launch} {r0 : Nat} {r1 : Nat} {x2 : Int32} {x3 : Int32} (h : mH) {o : Unit × mH} (H : f_X6_init r0 r1 x2 x3 h = some o) : XR G l mi_X6_init [.ref r0, .ref r1, .int x2, .int x3] h none o.2 := by
  refine XR.of C0 (by decide) (Nat.le_of_ble_eq_true rfl) (fun C _ _ _ hE => ?_)
  show X G C mi_X6_init 0 [(0, .ref r0), (1, .ref r1), (2, .int x2), (3, .int x3)] [] h
  unfold f_X6_init at H
  refine x_aload_n 0 rfl dX6_init_0 ?_
  obtain ⟨c1, H⟩ := oit H
  refine x_oinit c1 (by decide) q465 q170 q171 (Nat.le_of_ble_eq_true rfl) dX6_init_1 ?_
  refine x_aload_n 0 rfl dX6_init_4 ?_
  refine x_ldcS (tx := "") (a := 9) (List.mem_of_getElem? (i := 1) rfl) (by decide) (by decide) dX6_init_5 ?_
  obtain ⟨h2, e2, H⟩ := ob H
  refine x_putf (fp_X6_11 _) rfl rfl e2 dX6_init_7 ?_
  refine x_aload_n 0 rfl dX6_init_10 ?_
  refine x_aload_n 1 rfl dX6_init_11 ?_
  obtain ⟨h3, e3, H⟩ := ob H
  refine x_putf fp_X6_17 rfl rfl e3 dX6_init_12 ?_
  refine x_aload_n 0 rfl dX6_init_15 ?_
  refine x_iload_n 2 rfl dX6_init_16 ?_
  obtain ⟨h4, e4, H⟩ := ob H
  refine x_putf fp_X6_21 rfl rfl e4 dX6_init_17 ?_
  refine x_aload_n 0 rfl dX6_init_20 ?_
  refine x_iload_n 3 rfl dX6_init_21 ?_
  obtain ⟨h5, e5, H⟩ := ob H
  refine x_putf fp_X6_25 rfl rfl e5 dX6_init_22 ?_
  obtain rfl := Option.some.inj H
  exact x_vret hE rfl dX6_init_25
abbrev mi_X17_init : xM := (cX17_init, yX17_init, 4, none, 4)
theorem md_X17_init : xMD mi_X17_init 3 := ⟨by decide, by decide, by decide +kernel⟩
def f_X17_init (r0 : Nat) (r1 : Nat) (x2 : Int32) (r3 : Nat) (h : mH) : Option (Unit × mH) := if 6 ≤ r0 then bR (f_X6_init r0 r1 x2 (400 : Int32) h) fun a1 g1 => if 6 ≤ g1.2.1 then bR (f_J2_init g1.2.1  (xnw g1 (.inr (21, [.int 0, .ref 0, .int 0])) 3)) fun a2 g2 => (pF [6] 10 (.ref g1.2.1) g2 r0).bind fun h3 => (pF [6] 9 (.ref r3) h3 r0).bind fun h4 => some ((), h4) else none else none
theorem t_X17_init {G : xG} (C0 : xC) {l : Launch} {r0 : Nat} {r1 : Nat} {x2 : Int32} {r3 : Nat} (h : mH) {o : Unit × mH} (H : f_X17_init r0 r1 x2 r3 h = some o) : XR G l mi_X17_init [.ref r0, .ref r1, .int x2, .ref r3] h none o.2 := by
  refine XR.of C0 (by decide) (Nat.le_of_ble_eq_true rfl) (fun C _ _ _ hE => ?_)
  show X G C mi_X17_init 0 [(0, .ref r0), (1, .ref r1), (2, .int x2), (3, .ref r3)] [] h
  unfold f_X17_init at H
  refine x_aload_n 0 rfl dX17_init_0 ?_
  refine x_aload_n 1 rfl dX17_init_1 ?_
  refine x_iload_n 2 rfl dX17_init_2 ?_
  refine x_sipush (400 : Int32) dX17_init_3 si_400 ?_
  obtain ⟨c1, H⟩ := oit H
  obtain ⟨a1, g1, e1, H⟩ := obR H
  refine x_callI (M' := mi_X6_init) (n := 3) (As := [.ref r1, .int x2, .int (400 : Int32)]) (t_X6_init C _ e1) c1 md_X6_init ⟨Nat.le_of_ble_eq_true rfl, Nat.le_of_ble_eq_true rfl⟩ rfl rfl q1547 q463 q132 q464 rfl (Nat.le_of_ble_eq_true rfl) dX17_init_6 ?_
  refine x_aload_n 0 rfl dX17_init_9 ?_
  refine x_new (fs := [.int 0, .ref 0, .int 0]) ci_21 q1548 q179 q124 (nf_J2 G) rfl dX17_init_10 ?_
  refine x_dup dX17_init_13 rfl ?_
  obtain ⟨c2, H⟩ := oit H
  obtain ⟨a2, g2, e2, H⟩ := obR H
  refine x_callI (M' := mi_J2_init) (n := 0) (As := []) (t_J2_init C _ e2) c2 md_J2_init ⟨Nat.le_of_ble_eq_true rfl, Nat.le_of_ble_eq_true rfl⟩ rfl rfl q1549 q181 q124 q182 rfl (Nat.le_of_ble_eq_true rfl) dX17_init_14 ?_
  obtain ⟨h3, e3, H⟩ := ob H
  refine x_putf fp_X17_14 rfl rfl e3 dX17_init_17 ?_
  refine x_aload_n 0 rfl dX17_init_20 ?_
  refine x_aload_n 3 rfl dX17_init_21 ?_
  obtain ⟨h4, e4, H⟩ := ob H
  refine x_putf fp_X17_20 rfl rfl e4 dX17_init_22 ?_
  obtain rfl := Option.some.inj H
  exact x_vret hE rfl dX17_init_25
abbrev mi_J3_copyOf_3 : xM := (cJ3_copyOf_3, yJ3_copyOf_3, 4, some (.array (.object "java/lang/Object")), 2)
theorem md_J3_copyOf_3 : xMD mi_J3_copyOf_3 3 := ⟨by decide, by decide, by decide +kernel⟩
def f_J3_copyOf_3 (r0 : Nat) (x1 : Int32) (r2 : Nat) (h : mH) : Option (Nat × mH) := if xCmp r2 5 then if r2 = 5 then bR (nR "java/lang/Object" h x1) fun a2 g2 => (aN g2 r0).bind fun v3 => (cpR [0, 1, 2, 3, 4, 5, 6, 7, 8, 9, 10, 11, 12, 13, 14, 15, 16, 17, 18, 19, 20, 21, 22, 23] g2 r0 (0 : Int32) a2 (0 : Int32) (if x1 < v3 then x1 else v3)).bind fun h5 => some (a2, h5) else none else none
theorem t_J3_copyOf_3 {G : xG} (C0 : xC) {l : Launch} {r0 : Nat} {x1 : Int32} {r2 : Nat} (h : mH) {o : Nat × mH} (H : f_J3_copyOf_3 r0 x1 r2 h = some o) : XR G l mi_J3_copyOf_3 [.ref r0, .int x1, .ref r2] h (some (.ref o.1)) o.2 := by
  refine XR.of C0 (by decide) (Nat.le_of_ble_eq_true rfl) (fun C _ _ _ hE => ?_)
  show X G C mi_J3_copyOf_3 0 [(0, .ref r0), (1, .int x1), (2, .ref r2)] [] h
  unfold f_J3_copyOf_3 at H
  refine x_aload_n 2 rfl dJ3_copyOf_3_0 ?_
  refine x_ldcM q1021 dJ3_copyOf_3_1 ?_
  obtain ⟨g1, H⟩ := oit H
  refine x_acmp_ne 13 g1 dJ3_copyOf_3_3 (by decide) (fun c1 => ?_) (fun c1 => ?_)
  · rw [if_neg c1] at H
    refine x_aload_n 2 rfl dJ3_copyOf_3_13 ?_
    exact nomatch H
  · rw [if_pos c1] at H
    refine x_iload_n 1 rfl dJ3_copyOf_3_6 ?_
    obtain ⟨a2, g2, e2, H⟩ := obR H
    refine x_newq (by decide) q1023 e2 dJ3_copyOf_3_7 ?_
    refine x_goto (tgt := 24) dJ3_copyOf_3_10 (by decide) ?_
    refine x_astore_n [1, 2, 3, 0] dJ3_copyOf_3_24 (by decide) rfl ?_
    refine x_aload_n 0 rfl dJ3_copyOf_3_25 ?_
    refine x_iconst (0 : Int32) dJ3_copyOf_3_26 ic_0 ?_
    refine x_aload_n 3 rfl dJ3_copyOf_3_27 ?_
    refine x_iconst (0 : Int32) dJ3_copyOf_3_28 ic_0 ?_
    refine x_aload_n 0 rfl dJ3_copyOf_3_29 ?_
    obtain ⟨v3, e3, H⟩ := ob H
    refine x_alen e3 dJ3_copyOf_3_30 ?_
    refine x_iload_n 1 rfl dJ3_copyOf_3_31 ?_
    refine x_mmin (by decide) q600 q601 q139 q602 (Nat.le_of_ble_eq_true rfl) dJ3_copyOf_3_32 ?_
    obtain ⟨h5, e5, H⟩ := ob H
    refine x_copyR (S := [0, 1, 2, 3, 4, 5, 6, 7, 8, 9, 10, 11, 12, 13, 14, 15, 16, 17, 18, 19, 20, 21, 22, 23]) q603 q349 q348 q129 cs_java_lang_Object e5 (by decide) (Nat.le_of_ble_eq_true rfl) dJ3_copyOf_3_35 ?_
    refine x_aload_n 3 rfl dJ3_copyOf_3_38 ?_
    obtain rfl := Option.some.inj H
    exact x_aret hE rfl (by first | exact Or.inl ⟨_, rfl⟩ | exact Or.inr ⟨_, rfl⟩) dJ3_copyOf_3_39
abbrev mi_J3_copyOf_2 : xM := (cJ3_copyOf_2, yJ3_copyOf_2, 2, some (.array (.object "java/lang/Object")), 3)
theorem md_J3_copyOf_2 : xMD mi_J3_copyOf_2 2 := ⟨by decide, by decide, by decide +kernel⟩
def f_J3_copyOf_2 (r0 : Nat) (x1 : Int32) (h : mH) : Option (Nat × mH) := if gK h r0 = true ∧ 100 ≤ r0 then bR (f_J3_copyOf_3 r0 x1 5 h) fun a2 g2 => some (a2, g2) else none
theorem t_J3_copyOf_2 {G : xG} (C0 : xC) {l : Launch} {r0 : Nat} {x1 : Int32} (h : mH) {o : Nat × mH} (H : f_J3_copyOf_2 r0 x1 h = some o) : XR G l mi_J3_copyOf_2 [.ref r0, .int x1] h (some (.ref o.1)) o.2 := by
  refine XR.of C0 (by decide) (Nat.le_of_ble_eq_true rfl) (fun C _ _ _ hE => ?_)
  show X G C mi_J3_copyOf_2 0 [(0, .ref r0), (1, .int x1)] [] h
  unfold f_J3_copyOf_2 at H
  refine x_aload_n 0 rfl dJ3_copyOf_2_0 ?_
  refine x_iload_n 1 rfl dJ3_copyOf_2_1 ?_
  refine x_aload_n 0 rfl dJ3_copyOf_2_2 ?_
  obtain ⟨c1, H⟩ := oit H
  refine x_getC c1 (by decide) q989 q2587 q2586 q990 q1017 (Nat.le_of_ble_eq_true rfl) dJ3_copyOf_2_3 ?_
  obtain ⟨a2, g2, e2, H⟩ := obR H
  refine x_callS (M' := mi_J3_copyOf_3) (n := 3) (As := [.ref r0, .int x1, .ref 5]) (t_J3_copyOf_3 C _ e2) md_J3_copyOf_3 ⟨Nat.le_of_ble_eq_true rfl, Nat.le_of_ble_eq_true rfl⟩ q1018 q1019 q126 q1020 rfl (Nat.le_of_ble_eq_true rfl) dJ3_copyOf_2_6 ?_
  obtain rfl := Option.some.inj H
  exact x_aret hE rfl (by first | exact Or.inl ⟨_, rfl⟩ | exact Or.inr ⟨_, rfl⟩) dJ3_copyOf_2_9
abbrev mi_J2_grow_2 : xM := (cJ2_grow_2, yJ2_grow_2, 4, some (.array (.object "java/lang/Object")), 4)
theorem md_J2_grow_2 : xMD mi_J2_grow_2 1 := ⟨by decide, by decide, by decide +kernel⟩
def f_J2_grow_2_b20 (r0 : Nat) (x1 : Int32) (x2 : Int32) (h : mH) : Option (Nat × mH) := bR (f_J10_newLength x2 (x1 - x2) (x2 >>> ((1 : Int32) &&& 31)) h) fun a4 g4 => (gFr [21] 1 g4 r0).bind fun v5 => bR (f_J3_copyOf_2 v5 a4 g4) fun a6 g6 => (pF [21] 1 (.ref a6) g6 r0).bind fun h7 => some (a6, h7)
theorem t_J2_grow_2_b20 {G : xG} {C : xC} {o : Nat × mH} (hE : xEnd G C (some (.ref o.1)) o.2) (r0 : Nat) (x1 : Int32) (x2 : Int32) (h : mH) (H : f_J2_grow_2_b20 r0 x1 x2 h = some o) : X G C mi_J2_grow_2 20 [(0, .ref r0), (1, .int x1), (2, .int x2)] [] h := by
  unfold f_J2_grow_2_b20 at H
  refine x_iload_n 2 rfl dJ2_grow_2_20 ?_
  refine x_iload_n 1 rfl dJ2_grow_2_21 ?_
  refine x_iload_n 2 rfl dJ2_grow_2_22 ?_
  refine x_isub dJ2_grow_2_23 ?_
  refine x_iload_n 2 rfl dJ2_grow_2_24 ?_
  refine x_iconst (1 : Int32) dJ2_grow_2_25 ic_1 ?_
  refine x_ishr dJ2_grow_2_26 ?_
  obtain ⟨a4, g4, e4, H⟩ := obR H
  refine x_callS (M' := mi_J10_newLength) (n := 3) (As := [.int x2, .int (x1 - x2), .int (x2 >>> ((1 : Int32) &&& 31))]) (t_J10_newLength C _ e4) md_J10_newLength ⟨Nat.le_of_ble_eq_true rfl, Nat.le_of_ble_eq_true rfl⟩ q985 q580 q138 q581 rfl (Nat.le_of_ble_eq_true rfl) dJ2_grow_2_27 ?_
  refine x_istore_n [1, 2, 3, 0] dJ2_grow_2_30 (by decide) rfl ?_
  refine x_aload_n 0 rfl dJ2_grow_2_31 ?_
  refine x_aload_n 0 rfl dJ2_grow_2_32 ?_
  obtain ⟨v5, e5, H⟩ := ob H
  refine x_getf fg_J2_9 (gFr_spec e5) dJ2_grow_2_33 ?_
  refine x_iload_n 3 rfl dJ2_grow_2_36 ?_
  obtain ⟨a6, g6, e6, H⟩ := obR H
  refine x_callS (M' := mi_J3_copyOf_2) (n := 2) (As := [.ref v5, .int a4]) (t_J3_copyOf_2 C _ e6) md_J3_copyOf_2 ⟨Nat.le_of_ble_eq_true rfl, Nat.le_of_ble_eq_true rfl⟩ q986 q987 q126 q988 rfl (Nat.le_of_ble_eq_true rfl) dJ2_grow_2_37 ?_
  refine x_dup_x1 dJ2_grow_2_40 rfl rfl ?_
  obtain ⟨h7, e7, H⟩ := ob H
  refine x_putf (fp_J2_9 _) rfl rfl e7 dJ2_grow_2_41 ?_
  obtain rfl := Option.some.inj H
  exact x_aret hE rfl (by first | exact Or.inl ⟨_, rfl⟩ | exact Or.inr ⟨_, rfl⟩) dJ2_grow_2_44
def f_J2_grow_2 (r0 : Nat) (x1 : Int32) (h : mH) : Option (Nat × mH) := (gFr [21] 1 h r0).bind fun v1 => (aN h v1).bind fun v2 => if 0 < v2 then f_J2_grow_2_b20 r0 x1 v2 h else (gFr [21] 1 h r0).bind fun v8 => if xCmp v8 6 then if v8 = 6 then bR (nR "java/lang/Object" h (if (10 : Int32) < x1 then x1 else (10 : Int32))) fun a11 g11 => (pF [21] 1 (.ref a11) g11 r0).bind fun h12 => some (a11, h12) else f_J2_grow_2_b20 r0 x1 v2 h else none
theorem t_J2_grow_2 {G : xG} (C0 : xC) {l : Launch} {r0 : Nat} {x1 : Int32} (h : mH) {o : Nat × mH} (H : f_J2_grow_2 r0 x1 h = some o) : XR G l mi_J2_grow_2 [.ref r0, .int x1] h (some (.ref o.1)) o.2 := by
  refine XR.of C0 (by decide) (Nat.le_of_ble_eq_true rfl) (fun C _ _ _ hE => ?_)
  show X G C mi_J2_grow_2 0 [(0, .ref r0), (1, .int x1)] [] h
  unfold f_J2_grow_2 at H
  refine x_aload_n 0 rfl dJ2_grow_2_0 ?_
  obtain ⟨v1, e1, H⟩ := ob H
  refine x_getf fg_J2_9 (gFr_spec e1) dJ2_grow_2_1 ?_
  obtain ⟨v2, e2, H⟩ := ob H
  refine x_alen e2 dJ2_grow_2_4 ?_
  refine x_istore_n [1, 2, 0] dJ2_grow_2_5 (by decide) rfl ?_
  refine x_iload_n 2 rfl dJ2_grow_2_6 ?_
  refine x_if_gt 20 dJ2_grow_2_7 (by decide) (fun c3 => ?_) (fun c3 => ?_)
  · rw [if_pos c3] at H
    exact t_J2_grow_2_b20 hE _ _ _ _ H
  · rw [if_neg c3] at H
    refine x_aload_n 0 rfl dJ2_grow_2_10 ?_
    obtain ⟨v8, e8, H⟩ := ob H
    refine x_getf fg_J2_9 (gFr_spec e8) dJ2_grow_2_11 ?_
    refine x_gets (v := .ref 6) (List.mem_of_getElem? (i := 0) rfl) q190 dJ2_grow_2_14 ?_
    obtain ⟨g9, H⟩ := oit H
    refine x_acmp_eq 45 g9 dJ2_grow_2_17 (by decide) (fun c9 => ?_) (fun c9 => ?_)
    · rw [if_pos c9] at H
      refine x_aload_n 0 rfl dJ2_grow_2_45 ?_
      refine x_bipush (10 : Int32) dJ2_grow_2_46 bi_10 ?_
      refine x_iload_n 1 rfl dJ2_grow_2_48 ?_
      refine x_mmax (by decide) q1024 q583 q139 q584 (Nat.le_of_ble_eq_true rfl) dJ2_grow_2_49 ?_
      obtain ⟨a11, g11, e11, H⟩ := obR H
      refine x_newq (by decide) q1025 e11 dJ2_grow_2_52 ?_
      refine x_dup_x1 dJ2_grow_2_55 rfl rfl ?_
      obtain ⟨h12, e12, H⟩ := ob H
      refine x_putf (fp_J2_9 _) rfl rfl e12 dJ2_grow_2_56 ?_
      obtain rfl := Option.some.inj H
      exact x_aret hE rfl (by first | exact Or.inl ⟨_, rfl⟩ | exact Or.inr ⟨_, rfl⟩) dJ2_grow_2_59
    · rw [if_neg c9] at H
      exact t_J2_grow_2_b20 hE _ _ _ _ H
abbrev mi_J2_grow : xM := (cJ2_grow, yJ2_grow, 1, some (.array (.object "java/lang/Object")), 5)
theorem md_J2_grow : xMD mi_J2_grow 0 := ⟨by decide, by decide, by decide +kernel⟩
def f_J2_grow (r0 : Nat) (h : mH) : Option (Nat × mH) := (gFi [21] 2 h r0).bind fun v1 => if gC h r0 = 21 then bR (f_J2_grow_2 r0 (v1 + (1 : Int32)) h) fun a2 g2 => some (a2, g2) else none
theorem t_J2_grow {G : xG} (C0 : xC) {l : Launch} {r0 : Nat} (h : mH) {o : Nat × mH} (H : f_J2_grow r0 h = some o) : XR G l mi_J2_grow [.ref r0] h (some (.ref o.1)) o.2 := by
  refine XR.of C0 (by decide) (Nat.le_of_ble_eq_true rfl) (fun C _ _ _ hE => ?_)
  show X G C mi_J2_grow 0 [(0, .ref r0)] [] h
  unfold f_J2_grow at H
  refine x_aload_n 0 rfl dJ2_grow_0 ?_
  refine x_aload_n 0 rfl dJ2_grow_1 ?_
  obtain ⟨v1, e1, H⟩ := ob H
  refine x_getf fg_J2_48 (gFi_spec e1) dJ2_grow_2 ?_
  refine x_iconst (1 : Int32) dJ2_grow_5 ic_1 ?_
  refine x_iadd dJ2_grow_6 ?_
  obtain ⟨c2, H⟩ := oit H
  obtain ⟨a2, g2, e2, H⟩ := obR H
  refine x_callV (M' := mi_J2_grow_2) (n := 1) (As := [.int (v1 + (1 : Int32))]) (t_J2_grow_2 C _ e2) c2 rfl rfl md_J2_grow_2 ⟨Nat.le_of_ble_eq_true rfl, Nat.le_of_ble_eq_true rfl⟩ q981 q983 qs11 q124 q984 rfl (Nat.le_of_ble_eq_true rfl) dJ2_grow_7 ?_
  obtain rfl := Option.some.inj H
  exact x_aret hE rfl (by first | exact Or.inl ⟨_, rfl⟩ | exact Or.inr ⟨_, rfl⟩) dJ2_grow_10
