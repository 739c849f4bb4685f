set_option maxRecDepth 100000
set_option maxHeartbeats 4000000
abbrev mi_J6_getValue : xM := (cJ6_getValue, yJ6_getValue, 1, some (.array .byte), 1)
theorem md_J6_getValue : xMD mi_J6_getValue 0 := ⟨by decide, by decide, by decide +kernel⟩
def f_J6_getValue (r0 : Nat) (h : mH) : Option (Nat × mH) := (gFr [22] 0 h r0).bind fun v1 => some (v1, h)
theorem t_J6_getValue {G : xG} (C0 : xC) {l : Launch} {r0 : Nat} (h : mH) {o : Nat × mH} (H : f_J6_getValue r0 h = some o) : XR G l mi_J6_getValue [.ref r0] h (some (.ref o.1)) o.2 := by
  refine XR.of C0 (by decide) (Nat.le_of_ble_eq_true rfl) (fun C _ _ _ hE => ?_)
  show X G C mi_J6_getValue 0 [(0, .ref r0)] [] h
  unfold f_J6_getValue at H
  refine x_aload_n 0 rfl dJ6_getValue_0 ?_
  obtain ⟨v1, e1, H⟩ := ob H
  refine x_getf fg_J6_15 (gFr_spec e1) dJ6_getValue_1 ?_
  obtain rfl := Option.some.inj H
  exact x_aret hE rfl (by first | exact Or.inl ⟨_, rfl⟩ | exact Or.inr ⟨_, rfl⟩) dJ6_getValue_4
abbrev mi_J6_length : xM := (cJ6_length, yJ6_length, 1, some .int, 1)
theorem md_J6_length : xMD mi_J6_length 0 := ⟨by decide, by decide, by decide +kernel⟩
def f_J6_length (r0 : Nat) (h : mH) : Option (Int32 × mH) := (gFi [22] 3 h r0).bind fun v1 => some (v1, h)
theorem t_J6_length {G : xG} (C0 : xC) {l : Launch} {r0 : Nat} (h : mH) {o : Int32 × mH} (H : f_J6_length r0 h = some o) : XR G l mi_J6_length [.ref r0] h (some (.int o.1)) o.2 := by
  refine XR.of C0 (by decide) (Nat.le_of_ble_eq_true rfl) (fun C _ _ _ hE => ?_)
  show X G C mi_J6_length 0 [(0, .ref r0)] [] h
  unfold f_J6_length at H
  refine x_aload_n 0 rfl dJ6_length_0 ?_
  obtain ⟨v1, e1, H⟩ := ob H
  refine x_getf fg_J6_79 (gFi_spec e1) dJ6_length_1 ?_
  obtain rfl := Option.some.inj H
  exact x_iret hE rfl rfl dJ6_length_4
abbrev mi_J7_length : xM := (cJ7_length, yJ7_length, 1, some .int, 2)
theorem md_J7_length : xMD mi_J7_length 0 := ⟨by decide, by decide, by decide +kernel⟩
def f_J7_length (r0 : Nat) (h : mH) : Option (Int32 × mH) := if gC h r0 = 22 then bR (f_J6_length r0  h) fun a1 g1 => some (a1, g1) else none
theorem t_J7_length {G : xG} (C0 : xC) {l : Launch} {r0 : Nat} (h : mH) {o : Int32 × mH} (H : f_J7_length r0 h = some o) : XR G l mi_J7_length [.ref r0] h (some (.int o.1)) o.2 := by
  refine XR.of C0 (by decide) (Nat.le_of_ble_eq_true rfl) (fun C _ _ _ hE => ?_)
  show X G C mi_J7_length 0 [(0, .ref r0)] [] h
  unfold f_J7_length at H
  refine x_aload_n 0 rfl dJ7_length_0 ?_
  obtain ⟨c1, H⟩ := oit H
  obtain ⟨a1, g1, e1, H⟩ := obR H
  refine x_callSU (M' := mi_J6_length) (n := 0) (As := []) (t_J6_length C _ e1) c1 rfl ⟨Nat.le_of_ble_eq_true rfl, Nat.le_of_ble_eq_true rfl⟩ (by decide) (by decide +kernel) q679 q675 q563 q674 q134 q680 rfl (Nat.le_of_ble_eq_true rfl) dJ7_length_1 ?_
  obtain rfl := Option.some.inj H
  exact x_iret hE rfl rfl dJ7_length_4
abbrev mi_J6_isLatin1 : xM := (cJ6_isLatin1, yJ6_isLatin1, 1, some .boolean, 1)
theorem md_J6_isLatin1 : xMD mi_J6_isLatin1 0 := ⟨by decide, by decide, by decide +kernel⟩
def f_J6_isLatin1 (r0 : Nat) (h : mH) : Option (Int32 × mH) := if (1 : Int32) = 0 then some ((0 : Int32), h) else (gFi [22] 1 h r0).bind fun v2 => if v2 = 0 then some ((1 : Int32), h) else some ((0 : Int32), h)
theorem t_J6_isLatin1 {G : xG} (C0 : xC) {l : Launch} {r0 : Nat} (h : mH) {o : Int32 × mH} (H : f_J6_isLatin1 r0 h = some o) : XR G l mi_J6_isLatin1 [.ref r0] h (some (.int o.1)) o.2 := by
  refine XR.of C0 (by decide) (Nat.le_of_ble_eq_true rfl) (fun C _ _ _ hE => ?_)
  show X G C mi_J6_isLatin1 0 [(0, .ref r0)] [] h
  unfold f_J6_isLatin1 at H
  refine x_gets (v := .int 1) (List.mem_of_getElem? (i := 1) rfl) q542 dJ6_isLatin1_0 ?_
  refine x_if_eq 17 dJ6_isLatin1_3 (by decide) (fun c1 => ?_) (fun c1 => ?_)
  · rw [if_pos c1] at H
    refine x_iconst (0 : Int32) dJ6_isLatin1_17 ic_0 ?_
    obtain rfl := Option.some.inj H
    exact x_iret hE rfl rfl dJ6_isLatin1_18
  · rw [if_neg c1] at H
    refine x_aload_n 0 rfl dJ6_isLatin1_6 ?_
    obtain ⟨v2, e2, H⟩ := ob H
    refine x_getf fg_J6_22 (gFi_spec e2) dJ6_isLatin1_7 ?_
    refine x_if_ne 17 dJ6_isLatin1_10 (by decide) (fun c3 => ?_) (fun c3 => ?_)
    · rw [if_neg c3] at H
      refine x_iconst (0 : Int32) dJ6_isLatin1_17 ic_0 ?_
      obtain rfl := Option.some.inj H
      exact x_iret hE rfl rfl dJ6_isLatin1_18
    · rw [if_pos c3] at H
      refine x_iconst (1 : Int32) dJ6_isLatin1_13 ic_1 ?_
      refine x_goto (tgt := 18) dJ6_isLatin1_14 (by decide) ?_
      obtain rfl := Option.some.inj H
      exact x_iret hE rfl rfl dJ6_isLatin1_18
abbrev mi_J3_checkLength : xM := (cJ3_checkLength, yJ3_checkLength, 2, none, 1)
theorem md_J3_checkLength : xMD mi_J3_checkLength 2 := ⟨by decide, by decide, by decide +kernel⟩
def f_J3_checkLength (x0 : Int32) (x1 : Int32) (h : mH) : Option (Unit × mH) := if x0 ≤ x1 then some ((), h) else none
theorem t_J3_checkLength {G : xG} (C0 : xC) {l : Launch} {x0 : Int32} {x1 : Int32} (h : mH) {o : Unit × mH} (H : f_J3_checkLength x0 x1 h = some o) : XR G l mi_J3_checkLength [.int x0, .int x1] h none o.2 := by
  refine XR.of C0 (by decide) (Nat.le_of_ble_eq_true rfl) (fun C _ _ _ hE => ?_)
  show X G C mi_J3_checkLength 0 [(0, .int x0), (1, .int x1)] [] h
  unfold f_J3_checkLength at H
  refine x_iload_n 1 rfl dJ3_checkLength_0 ?_
  refine x_iload_n 0 rfl dJ3_checkLength_1 ?_
  refine x_icmp_ge 37 dJ3_checkLength_2 (by decide) (fun c1 => ?_) (fun c1 => ?_)
  · rw [if_pos c1] at H
    obtain rfl := Option.some.inj H
    exact x_vret hE rfl dJ3_checkLength_37
  · rw [if_neg c1] at H
    exact nomatch H
abbrev mi_J3_copyOfRangeByte : xM := (cJ3_copyOfRangeByte, yJ3_copyOfRangeByte, 5, some (.array .byte), 2)
theorem md_J3_copyOfRangeByte : xMD mi_J3_copyOfRangeByte 3 := ⟨by decide, by decide, by decide +kernel⟩
def f_J3_copyOfRangeByte (r0 : Nat) (x1 : Int32) (x2 : Int32) (h : mH) : Option (Nat × mH) := bR (f_J3_checkLength x1 x2 h) fun a1 g1 => bR (nA .byte g1 (x2 - x1)) fun a2 g2 => (aN g2 r0).bind fun v3 => (cpA g2 r0 x1 a2 (0 : Int32) (if (x2 - x1) < (v3 - x1) then (x2 - x1) else (v3 - x1))).bind fun h5 => some (a2, h5)
theorem t_J3_copyOfRangeByte {G : xG} (C0 : xC) {l : Launch} {r0 : Nat} {x1 : Int32} {x2 : Int32} (h : mH) {o : Nat × mH} (H : f_J3_copyOfRangeByte r0 x1 x2 h = some o) : XR G l mi_J3_copyOfRangeByte [.ref r0, .int x1, .int x2] h (some (.ref o.1)) o.2 := by
  refine XR.of C0 (by decide) (Nat.le_of_ble_eq_true rfl) (fun C _ _ _ hE => ?_)
  show X G C mi_J3_copyOfRangeByte 0 [(0, .ref r0), (1, .int x1), (2, .int x2)] [] h
  unfold f_J3_copyOfRangeByte at H
  refine x_iload_n 1 rfl dJ3_copyOfRangeByte_0 ?_
  refine x_iload_n 2 rfl dJ3_copyOfRangeByte_1 ?_
  obtain ⟨a1, g1, e1, H⟩ := obR H
  refine x_callS (M' := mi_J3_checkLength) (n := 2) (As := [.int x1, .int x2]) (t_J3_checkLength C _ e1) md_J3_checkLength ⟨Nat.le_of_ble_eq_true rfl, Nat.le_of_ble_eq_true rfl⟩ q688 q689 q126 q690 rfl (Nat.le_of_ble_eq_true rfl) dJ3_copyOfRangeByte_2 ?_
  refine x_iload_n 2 rfl dJ3_copyOfRangeByte_5 ?_
  refine x_iload_n 1 rfl dJ3_copyOfRangeByte_6 ?_
  refine x_isub dJ3_copyOfRangeByte_7 ?_
  refine x_istore_n [1, 2, 3, 0] dJ3_copyOfRangeByte_8 (by decide) rfl ?_
  refine x_iload_n 3 rfl dJ3_copyOfRangeByte_9 ?_
  obtain ⟨a2, g2, e2, H⟩ := obR H
  refine x_newa (at_ := .byte) (ty := .byte) rfl (by decide) q204 e2 dJ3_copyOfRangeByte_10 ?_
  refine x_astore [1, 2, 3, 4, 0] dJ3_copyOfRangeByte_12 (by decide) rfl ?_
  refine x_aload_n 0 rfl dJ3_copyOfRangeByte_14 ?_
  refine x_iload_n 1 rfl dJ3_copyOfRangeByte_15 ?_
  refine x_aload 4 rfl dJ3_copyOfRangeByte_16 ?_
  refine x_iconst (0 : Int32) dJ3_copyOfRangeByte_18 ic_0 ?_
  refine x_aload_n 0 rfl dJ3_copyOfRangeByte_19 ?_
  obtain ⟨v3, e3, H⟩ := ob H
  refine x_alen e3 dJ3_copyOfRangeByte_20 ?_
  refine x_iload_n 1 rfl dJ3_copyOfRangeByte_21 ?_
  refine x_isub dJ3_copyOfRangeByte_22 ?_
  refine x_iload_n 3 rfl dJ3_copyOfRangeByte_23 ?_
  refine x_mmin (by decide) q600 q601 q139 q602 (Nat.le_of_ble_eq_true rfl) dJ3_copyOfRangeByte_24 ?_
  obtain ⟨h5, e5, H⟩ := ob H
  refine x_copy q603 q349 q348 q129 e5 (by decide) (Nat.le_of_ble_eq_true rfl) dJ3_copyOfRangeByte_27 ?_
  refine x_aload 4 rfl dJ3_copyOfRangeByte_30 ?_
  obtain rfl := Option.some.inj H
  exact x_aret hE rfl (by first | exact Or.inl ⟨_, rfl⟩ | exact Or.inr ⟨_, rfl⟩) dJ3_copyOfRangeByte_32
abbrev mi_J3_copyOfRange : xM := (cJ3_copyOfRange, yJ3_copyOfRange, 3, some (.array .byte), 3)
theorem md_J3_copyOfRange : xMD mi_J3_copyOfRange 3 := ⟨by decide, by decide, by decide +kernel⟩
def f_J3_copyOfRange_b10 (r0 : Nat) (x1 : Int32) (x2 : Int32) (h : mH) : Option (Nat × mH) := bR (f_J3_copyOfRangeByte r0 x1 x2 h) fun a2 g2 => some (a2, g2)
theorem t_J3_copyOfRange_b10 {G : xG} {C : xC} {o : Nat × mH} (hE : xEnd G C (some (.ref o.1)) o.2) (r0 : Nat) (x1 : Int32) (x2 : Int32) (h : mH) (H : f_J3_copyOfRange_b10 r0 x1 x2 h = some o) : X G C mi_J3_copyOfRange 10 [(0, .ref r0), (1, .int x1), (2, .int x2)] [] h := by
  unfold f_J3_copyOfRange_b10 at H
  refine x_aload_n 0 rfl dJ3_copyOfRange_10 ?_
  refine x_iload_n 1 rfl dJ3_copyOfRange_11 ?_
  refine x_iload_n 2 rfl dJ3_copyOfRange_12 ?_
  obtain ⟨a2, g2, e2, H⟩ := obR H
  refine x_callS (M' := mi_J3_copyOfRangeByte) (n := 3) (As := [.ref r0, .int x1, .int x2]) (t_J3_copyOfRangeByte C _ e2) md_J3_copyOfRangeByte ⟨Nat.le_of_ble_eq_true rfl, Nat.le_of_ble_eq_true rfl⟩ q685 q686 q126 q687 rfl (Nat.le_of_ble_eq_true rfl) dJ3_copyOfRange_13 ?_
  obtain rfl := Option.some.inj H
  exact x_aret hE rfl (by first | exact Or.inl ⟨_, rfl⟩ | exact Or.inr ⟨_, rfl⟩) dJ3_copyOfRange_16
def f_J3_copyOfRange (r0 : Nat) (x1 : Int32) (x2 : Int32) (h : mH) : Option (Nat × mH) := if x1 = 0 then (aN h r0).bind fun v3 => if x2 = v3 then bR (clB h r0) fun a5 g5 => if gKt .byte g5 a5 = true ∧ 100 ≤ a5 then some (a5, g5) else none else f_J3_copyOfRange_b10 r0 x1 x2 h else f_J3_copyOfRange_b10 r0 x1 x2 h
theorem t_J3_copyOfRange {G : xG} (C0 : xC) {l : Launch} {r0 : Nat} {x1 : Int32} {x2 : Int32} (h : mH) {o : Nat × mH} (H : f_J3_copyOfRange r0 x1 x2 h = some o) : XR G l mi_J3_copyOfRange [.ref r0, .int x1, .int x2] h (some (.ref o.1)) o.2 := by
  refine XR.of C0 (by decide) (Nat.le_of_ble_eq_true rfl) (fun C _ _ _ hE => ?_)
  show X G C mi_J3_copyOfRange 0 [(0, .ref r0), (1, .int x1), (2, .int x2)] [] h
  unfold f_J3_copyOfRange at H
  refine x_iload_n 1 rfl dJ3_copyOfRange_0 ?_
  refine x_if_ne 10 dJ3_copyOfRange_1 (by decide) (fun c1 => ?_) (fun c1 => ?_)
  · rw [if_neg c1] at H
    exact t_J3_copyOfRange_b10 hE _ _ _ _ H
  · rw [if_pos c1] at H
    refine x_iload_n 2 rfl dJ3_copyOfRange_4 ?_
    refine x_aload_n 0 rfl dJ3_copyOfRange_5 ?_
    obtain ⟨v3, e3, H⟩ := ob H
    refine x_alen e3 dJ3_copyOfRange_6 ?_
    refine x_icmp_eq 17 dJ3_copyOfRange_7 (by decide) (fun c4 => ?_) (fun c4 => ?_)
    · rw [if_pos c4] at H
      refine x_aload_n 0 rfl dJ3_copyOfRange_17 ?_
      obtain ⟨a5, g5, e5, H⟩ := obR H
      refine x_clone e5 (by decide) q593 q594 q595 q596 q597 q598 (Nat.le_of_ble_eq_true rfl) dJ3_copyOfRange_18 ?_
      obtain ⟨c6, H⟩ := oit H
      refine x_castB q599 c6 dJ3_copyOfRange_21 ?_
      obtain rfl := Option.some.inj H
      exact x_aret hE rfl (by first | exact Or.inl ⟨_, rfl⟩ | exact Or.inr ⟨_, rfl⟩) dJ3_copyOfRange_24
    · rw [if_neg c4] at H
      exact t_J3_copyOfRange_b10 hE _ _ _ _ H
abbrev mi_J9_length : xM := (cJ9_length, yJ9_length, 1, some .int, 1)
theorem md_J9_length : xMD mi_J9_length 1 := ⟨by decide, by decide, by decide +kernel⟩
def f_J9_length (r0 : Nat) (h : mH) : Option (Int32 × mH) := (aN h r0).bind fun v1 => some ((v1 >>> ((1 : Int32) &&& 31)), h)
theorem t_J9_length {G : xG} (C0 : xC) {l : Launch} {r0 : Nat} (h : mH) {o : Int32 × mH} (H : f_J9_length r0 h = some o) : XR G l mi_J9_length [.ref r0] h (some (.int o.1)) o.2 := by
  refine XR.of C0 (by decide) (Nat.le_of_ble_eq_true rfl) (fun C _ _ _ hE => ?_)
  show X G C mi_J9_length 0 [(0, .ref r0)] [] h
  unfold f_J9_length at H
  refine x_aload_n 0 rfl dJ9_length_0 ?_
  obtain ⟨v1, e1, H⟩ := ob H
  refine x_alen e1 dJ9_length_1 ?_
  refine x_iconst (1 : Int32) dJ9_length_2 ic_1 ?_
  refine x_ishr dJ9_length_3 ?_
  obtain rfl := Option.some.inj H
  exact x_iret hE rfl rfl dJ9_length_4
abbrev mi_J5_checkFromIndexSize : xM := (cJ5_checkFromIndexSize, yJ5_checkFromIndexSize, 4, some .int, 1)
theorem md_J5_checkFromIndexSize : xMD mi_J5_checkFromIndexSize 4 := ⟨by decide, by decide, by decide +kernel⟩
def f_J5_checkFromIndexSize_b15 (x0 : Int32) (x1 : Int32) (x2 : Int32) (r3 : Nat) (h : mH) : Option (Int32 × mH) := none
theorem t_J5_checkFromIndexSize_b15 {G : xG} {C : xC} {o : Int32 × mH} (hE : xEnd G C (some (.int o.1)) o.2) (x0 : Int32) (x1 : Int32) (x2 : Int32) (r3 : Nat) (h : mH) (H : f_J5_checkFromIndexSize_b15 x0 x1 x2 r3 h = some o) : X G C mi_J5_checkFromIndexSize 15 [(0, .int x0), (1, .int x1), (2, .int x2), (3, .ref r3)] [] h := by
  unfold f_J5_checkFromIndexSize_b15 at H
  refine x_aload_n 3 rfl dJ5_checkFromIndexSize_15 ?_
  refine x_iload_n 0 rfl dJ5_checkFromIndexSize_16 ?_
  refine x_iload_n 1 rfl dJ5_checkFromIndexSize_17 ?_
  refine x_iload_n 2 rfl dJ5_checkFromIndexSize_18 ?_
  exact nomatch H
def f_J5_checkFromIndexSize (x0 : Int32) (x1 : Int32) (x2 : Int32) (r3 : Nat) (h : mH) : Option (Int32 × mH) := if ((x2 ||| x0) ||| x1) < 0 then f_J5_checkFromIndexSize_b15 x0 x1 x2 r3 h else if x1 ≤ (x2 - x0) then some (x0, h) else f_J5_checkFromIndexSize_b15 x0 x1 x2 r3 h
theorem t_J5_checkFromIndexSize {G : xG} (C0 : xC) {l : Launch} {x0 : Int32} {x1 : Int32} {x2 : Int32} {r3 : Nat} (h : mH) {o : Int32 × mH} (H : f_J5_checkFromIndexSize x0 x1 x2 r3 h = some o) : XR G l mi_J5_checkFromIndexSize [.int x0, .int x1, .int x2, .ref r3] h (some (.int o.1)) o.2 := by
  refine XR.of C0 (by decide) (Nat.le_of_ble_eq_true rfl) (fun C _ _ _ hE => ?_)
  show X G C mi_J5_checkFromIndexSize 0 [(0, .int x0), (1, .int x1), (2, .int x2), (3, .ref r3)] [] h
  unfold f_J5_checkFromIndexSize at H
  refine x_iload_n 2 rfl dJ5_checkFromIndexSize_0 ?_
  refine x_iload_n 0 rfl dJ5_checkFromIndexSize_1 ?_
  refine x_ior dJ5_checkFromIndexSize_2 ?_
  refine x_iload_n 1 rfl dJ5_checkFromIndexSize_3 ?_
  refine x_ior dJ5_checkFromIndexSize_4 ?_
  refine x_if_lt 15 dJ5_checkFromIndexSize_5 (by decide) (fun c1 => ?_) (fun c1 => ?_)
  · rw [if_pos c1] at H
    exact t_J5_checkFromIndexSize_b15 hE _ _ _ _ _ H
  · rw [if_neg c1] at H
    refine x_iload_n 1 rfl dJ5_checkFromIndexSize_8 ?_
    refine x_iload_n 2 rfl dJ5_checkFromIndexSize_9 ?_
    refine x_iload_n 0 rfl dJ5_checkFromIndexSize_10 ?_
    refine x_isub dJ5_checkFromIndexSize_11 ?_
    refine x_icmp_le 23 dJ5_checkFromIndexSize_12 (by decide) (fun c2 => ?_) (fun c2 => ?_)
    · rw [if_pos c2] at H
      refine x_iload_n 0 rfl dJ5_checkFromIndexSize_23 ?_
      obtain rfl := Option.some.inj H
      exact x_iret hE rfl rfl dJ5_checkFromIndexSize_24
    · rw [if_neg c2] at H
      exact t_J5_checkFromIndexSize_b15 hE _ _ _ _ _ H
abbrev mi_J8_checkBoundsOffCount : xM := (cJ8_checkBoundsOffCount, yJ8_checkBoundsOffCount, 3, some .int, 2)
theorem md_J8_checkBoundsOffCount : xMD mi_J8_checkBoundsOffCount 3 := ⟨by decide, by decide, by decide +kernel⟩
def f_J8_checkBoundsOffCount (x0 : Int32) (x1 : Int32) (x2 : Int32) (h : mH) : Option (Int32 × mH) := bR (f_J5_checkFromIndexSize x0 x1 x2 3 h) fun a1 g1 => some (a1, g1)
theorem t_J8_checkBoundsOffCount {G : xG} (C0 : xC) {l : Launch} {x0 : Int32} {x1 : Int32} {x2 : Int32} (h : mH) {o : Int32 × mH} (H : f_J8_checkBoundsOffCount x0 x1 x2 h = some o) : XR G l mi_J8_checkBoundsOffCount [.int x0, .int x1, .int x2] h (some (.int o.1)) o.2 := by
  refine XR.of C0 (by decide) (Nat.le_of_ble_eq_true rfl) (fun C _ _ _ hE => ?_)
  show X G C mi_J8_checkBoundsOffCount 0 [(0, .int x0), (1, .int x1), (2, .int x2)] [] h
  unfold f_J8_checkBoundsOffCount at H
  refine x_iload_n 0 rfl dJ8_checkBoundsOffCount_0 ?_
  refine x_iload_n 1 rfl dJ8_checkBoundsOffCount_1 ?_
  refine x_iload_n 2 rfl dJ8_checkBoundsOffCount_2 ?_
  refine x_gets (v := .ref 3) (List.mem_of_getElem? (i := 4) rfl) q631 dJ8_checkBoundsOffCount_3 ?_
  obtain ⟨a1, g1, e1, H⟩ := obR H
  refine x_callS (M' := mi_J5_checkFromIndexSize) (n := 4) (As := [.int x0, .int x1, .int x2, .ref 3]) (t_J5_checkFromIndexSize C _ e1) md_J5_checkFromIndexSize ⟨Nat.le_of_ble_eq_true rfl, Nat.le_of_ble_eq_true rfl⟩ q633 q634 q128 q635 rfl (Nat.le_of_ble_eq_true rfl) dJ8_checkBoundsOffCount_6 ?_
  obtain rfl := Option.some.inj H
  exact x_iret hE rfl rfl dJ8_checkBoundsOffCount_9
abbrev mi_J9_checkBoundsOffCount : xM := (cJ9_checkBoundsOffCount, yJ9_checkBoundsOffCount, 3, none, 3)
theorem md_J9_checkBoundsOffCount : xMD mi_J9_checkBoundsOffCount 3 := ⟨by decide, by decide, by decide +kernel⟩
def f_J9_checkBoundsOffCount (x0 : Int32) (x1 : Int32) (r2 : Nat) (h : mH) : Option (Unit × mH) := bR (f_J9_length r2 h) fun a1 g1 => bR (f_J8_checkBoundsOffCount x0 x1 a1 g1) fun a2 g2 => some ((), g2)
theorem t_J9_checkBoundsOffCount {G : xG} (C0 : xC) {l : Launch} {x0 : Int32} {x1 : Int32} {r2 : Nat} (h : mH) {o : Unit × mH} (H : f_J9_checkBoundsOffCount x0 x1 r2 h = some o) : XR G l mi_J9_checkBoundsOffCount [.int x0, .int x1, .ref r2] h none o.2 := by
  refine XR.of C0 (by decide) (Nat.le_of_ble_eq_true rfl) (fun C _ _ _ hE => ?_)
  show X G C mi_J9_checkBoundsOffCount 0 [(0, .int x0), (1, .int x1), (2, .ref r2)] [] h
  unfold f_J9_checkBoundsOffCount at H
  refine x_iload_n 0 rfl dJ9_checkBoundsOffCount_0 ?_
  refine x_iload_n 1 rfl dJ9_checkBoundsOffCount_1 ?_
  refine x_aload_n 2 rfl dJ9_checkBoundsOffCount_2 ?_
  obtain ⟨a1, g1, e1, H⟩ := obR H
  refine x_callS (M' := mi_J9_length) (n := 1) (As := [.ref r2]) (t_J9_length C _ e1) md_J9_length ⟨Nat.le_of_ble_eq_true rfl, Nat.le_of_ble_eq_true rfl⟩ q625 q626 q137 q627 rfl (Nat.le_of_ble_eq_true rfl) dJ9_checkBoundsOffCount_3 ?_
  obtain ⟨a2, g2, e2, H⟩ := obR H
  refine x_callS (M' := mi_J8_checkBoundsOffCount) (n := 3) (As := [.int x0, .int x1, .int a1]) (t_J8_checkBoundsOffCount C _ e2) md_J8_checkBoundsOffCount ⟨Nat.le_of_ble_eq_true rfl, Nat.le_of_ble_eq_true rfl⟩ q628 q629 q136 q630 rfl (Nat.le_of_ble_eq_true rfl) dJ9_checkBoundsOffCount_6 ?_
  refine x_pop dJ9_checkBoundsOffCount_9 rfl ?_
  obtain rfl := Option.some.inj H
  exact x_vret hE rfl dJ9_checkBoundsOffCount_10
abbrev mi_J9_getChar : xM := (cJ9_getChar, yJ9_getChar, 2, some .char, 1)
theorem md_J9_getChar : xMD mi_J9_getChar 2 := ⟨by decide, by decide, by decide +kernel⟩
def f_J9_getChar (r0 : Nat) (x1 : Int32) (h : mH) : Option (Int32 × mH) := none
theorem t_J9_getChar {G : xG} (C0 : xC) {l : Launch} {r0 : Nat} {x1 : Int32} (h : mH) {o : Int32 × mH} (H : f_J9_getChar r0 x1 h = some o) : XR G l mi_J9_getChar [.ref r0, .int x1] h (some (.int o.1)) o.2 := by
  refine XR.of C0 (by decide) (Nat.le_of_ble_eq_true rfl) (fun C _ _ _ hE => ?_)
  show X G C mi_J9_getChar 0 [(0, .ref r0), (1, .int x1)] [] h
  unfold f_J9_getChar at H
  exact nomatch H
abbrev mi_J9_compress_2 : xM := (cJ9_compress_2, yJ9_compress_2, 7, some .int, 4)
theorem md_J9_compress_2 : xMD mi_J9_compress_2 5 := ⟨by decide, by decide, by decide +kernel⟩
def f_J9_compress_2_L10 : Nat → Nat → Int32 → Nat → Int32 → Int32 → Int32 → mH → Option (Int32 × mH)
  | 0, _, _, _, _, _, _, _ => none
  | n + 1, r0, x1, r2, x3, x4, x5, h => if x4 ≤ x5 then some (x4, h) else bR (f_J9_getChar r0 x1 h) fun a3 g3 => if a3 ≤ (255 : Int32) then (sI .byte g3 r2 x3 (a3.toInt8.toInt32)).bind fun h5 => (f_J9_compress_2_L10 n) r0 (x1 + (1 : Int32)) r2 (x3 + (1 : Int32)) x4 (x5 + (1 : Int32)) h5 else some (x5, g3)
theorem t_J9_compress_2_L10 {G : xG} {C : xC} {o : Int32 × mH} (hE : xEnd G C (some (.int o.1)) o.2) : ∀ (n : Nat) (r0 : Nat) (x1 : Int32) (r2 : Nat) (x3 : Int32) (x4 : Int32) (x5 : Int32) (h : mH), f_J9_compress_2_L10 n r0 x1 r2 x3 x4 x5 h = some o → X G C mi_J9_compress_2 10 [(0, .ref r0), (1, .int x1), (2, .ref r2), (3, .int x3), (4, .int x4), (5, .int x5)] [] h := by
  intro n
  induction n with
  | zero => intro r0 x1 r2 x3 x4 x5 h H; exact nomatch (show (none : Option (Int32 × mH)) = some o from H)
  | succ n ih =>
    intro r0 x1 r2 x3 x4 x5 h H
    rw [f_J9_compress_2_L10] at H
    refine x_iload 5 rfl dJ9_compress_2_10 ?_
    refine x_iload 4 rfl dJ9_compress_2_12 ?_
    refine x_icmp_ge 53 dJ9_compress_2_14 (by decide) (fun c2 => ?_) (fun c2 => ?_)
    · rw [if_pos c2] at H
      refine x_iload 4 rfl dJ9_compress_2_53 ?_
      obtain rfl := Option.some.inj H
      exact x_iret hE rfl rfl dJ9_compress_2_55
    · rw [if_neg c2] at H
      refine x_aload_n 0 rfl dJ9_compress_2_17 ?_
      refine x_iload_n 1 rfl dJ9_compress_2_18 ?_
      obtain ⟨a3, g3, e3, H⟩ := obR H
      refine x_callS (M' := mi_J9_getChar) (n := 2) (As := [.ref r0, .int x1]) (t_J9_getChar C _ e3) md_J9_getChar ⟨Nat.le_of_ble_eq_true rfl, Nat.le_of_ble_eq_true rfl⟩ q698 q699 q137 q700 rfl (Nat.le_of_ble_eq_true rfl) dJ9_compress_2_19 ?_
      refine x_istore [1, 2, 3, 4, 5, 6, 0] dJ9_compress_2_22 (by decide) rfl ?_
      refine x_iload 6 rfl dJ9_compress_2_24 ?_
      refine x_sipush (255 : Int32) dJ9_compress_2_26 si_255 ?_
      refine x_icmp_le 35 dJ9_compress_2_29 (by decide) (fun c4 => ?_) (fun c4 => ?_)
      · rw [if_pos c4] at H
        refine x_aload_n 2 rfl dJ9_compress_2_35 ?_
        refine x_iload_n 3 rfl dJ9_compress_2_36 ?_
        refine x_iload 6 rfl dJ9_compress_2_37 ?_
        refine x_i2b dJ9_compress_2_39 ?_
        obtain ⟨h5, e5, H⟩ := ob H
        refine x_bast e5 dJ9_compress_2_40 ?_
        refine x_iinc 1 (x1 + (1 : Int32)) [1, 0, 2, 3, 4, 5, 6] dJ9_compress_2_41 rfl (ii_1 _) (by decide) rfl ?_
        refine x_iinc 3 (x3 + (1 : Int32)) [1, 2, 3, 0, 4, 5, 6] dJ9_compress_2_44 rfl (ii_1 _) (by decide) rfl ?_
        refine x_iinc 5 (x5 + (1 : Int32)) [1, 2, 3, 4, 5, 0, 6] dJ9_compress_2_47 rfl (ii_1 _) (by decide) rfl ?_
        refine x_goto (tgt := 10) dJ9_compress_2_50 (by decide) ?_
        refine X.sub [0, 1, 2, 3, 4, 5] rfl ?_
        exact ih _ _ _ _ _ _ _ H
      · rw [if_neg c4] at H
        refine x_iload 5 rfl dJ9_compress_2_32 ?_
        obtain rfl := Option.some.inj H
        exact x_iret hE rfl rfl dJ9_compress_2_34
def f_J9_compress_2 (r0 : Nat) (x1 : Int32) (r2 : Nat) (x3 : Int32) (x4 : Int32) (h : mH) : Option (Int32 × mH) := bR (f_J9_checkBoundsOffCount x1 x4 r0 h) fun a1 g1 => f_J9_compress_2_L10  xFu r0 x1 r2 x3 x4 (0 : Int32) g1
theorem t_J9_compress_2 {G : xG} (C0 : xC) {l : Launch} {r0 : Nat} {x1 : Int32} {r2 : Nat} {x3 : Int32} {x4 : Int32} (h : mH) {o : Int32 × mH} (H : f_J9_compress_2 r0 x1 r2 x3 x4 h = some o) : XR G l mi_J9_compress_2 [.ref r0, .int x1, .ref r2, .int x3, .int x4] h (some (.int o.1)) o.2 := by
  refine XR.of C0 (by decide) (Nat.le_of_ble_eq_true rfl) (fun C _ _ _ hE => ?_)
  show X G C mi_J9_compress_2 0 [(0, .ref r0), (1, .int x1), (2, .ref r2), (3, .int x3), (4, .int x4)] [] h
  unfold f_J9_compress_2 at H
  refine x_iload_n 1 rfl dJ9_compress_2_0 ?_
  refine x_iload 4 rfl dJ9_compress_2_1 ?_
  refine x_aload_n 0 rfl dJ9_compress_2_3 ?_
  obtain ⟨a1, g1, e1, H⟩ := obR H
  refine x_callS (M' := mi_J9_checkBoundsOffCount) (n := 3) (As := [.int x1, .int x4, .ref r0]) (t_J9_checkBoundsOffCount C _ e1) md_J9_checkBoundsOffCount ⟨Nat.le_of_ble_eq_true rfl, Nat.le_of_ble_eq_true rfl⟩ q622 q623 q137 q624 rfl (Nat.le_of_ble_eq_true rfl) dJ9_compress_2_4 ?_
  refine x_iconst (0 : Int32) dJ9_compress_2_7 ic_0 ?_
  refine x_istore [1, 2, 3, 4, 5, 0] dJ9_compress_2_8 (by decide) rfl ?_
  exact t_J9_compress_2_L10 hE  xFu _ _ _ _ _ _ _ H
abbrev mi_J9_compress : xM := (cJ9_compress, yJ9_compress, 6, some (.array .byte), 5)
theorem md_J9_compress : xMD mi_J9_compress 3 := ⟨by decide, by decide, by decide +kernel⟩
def f_J9_compress (r0 : Nat) (x1 : Int32) (x2 : Int32) (h : mH) : Option (Nat × mH) := bR (nA .byte h x2) fun a1 g1 => bR (f_J9_compress_2 r0 x1 a1 (0 : Int32) x2 g1) fun a2 g2 => if a2 = x2 then some (a1, g2) else bR (f_J9_newBytesLength (x1 + x2) g2) fun a4 g4 => bR (f_J3_copyOfRange r0 (x1 <<< ((1 : Int32) &&& 31)) a4 g4) fun a5 g5 => bR (f_J9_getChar a5 a2 g5) fun a6 g6 => if (255 : Int32) < a6 then some (a5, g6) else bR (f_J9_compress_2 a5 (0 : Int32) a1 (0 : Int32) x2 g6) fun a8 g8 => if a8 = x2 then some (a1, g8) else some (a5, g8)
theorem t_J9_compress {G : xG} (C0 : xC) {l : Launch} {r0 : Nat} {x1 : Int32} {x2 : Int32} (h : mH) {o : Nat × mH} (H : f_J9_compress r0 x1 x2 h = some o) : XR G l mi_J9_compress [.ref r0, .int x1, .int x2] h (some (.ref o.1)) o.2 := by
  refine XR.of C0 (by decide) (Nat.le_of_ble_eq_true rfl) (fun C _ _ _ hE => ?_)
  show X G C mi_J9_compress 0 [(0, .ref r0), (1, .int x1), (2, .int x2)] [] h
  unfold f_J9_compress at H
  refine x_iload_n 2 rfl dJ9_compress_0 ?_
  obtain ⟨a1, g1, e1, H⟩ := obR H
  refine x_newa (at_ := .byte) (ty := .byte) rfl (by decide) q204 e1 dJ9_compress_1 ?_
  refine x_astore_n [1, 2, 3, 0] dJ9_compress_3 (by decide) rfl ?_
  refine x_aload_n 0 rfl dJ9_compress_4 ?_
  refine x_iload_n 1 rfl dJ9_compress_5 ?_
  refine x_aload_n 3 rfl dJ9_compress_6 ?_
  refine x_iconst (0 : Int32) dJ9_compress_7 ic_0 ?_
  refine x_iload_n 2 rfl dJ9_compress_8 ?_
  obtain ⟨a2, g2, e2, H⟩ := obR H
  refine x_callS (M' := mi_J9_compress_2) (n := 5) (As := [.ref r0, .int x1, .ref a1, .int (0 : Int32), .int x2]) (t_J9_compress_2 C _ e2) md_J9_compress_2 ⟨Nat.le_of_ble_eq_true rfl, Nat.le_of_ble_eq_true rfl⟩ q695 q696 q137 q697 rfl (Nat.le_of_ble_eq_true rfl) dJ9_compress_9 ?_
  refine x_istore [1, 2, 3, 4, 0] dJ9_compress_12 (by decide) rfl ?_
  refine x_iload 4 rfl dJ9_compress_14 ?_
  refine x_iload_n 2 rfl dJ9_compress_16 ?_
  refine x_icmp_eq 64 dJ9_compress_17 (by decide) (fun c3 => ?_) (fun c3 => ?_)
  · rw [if_pos c3] at H
    refine x_aload_n 3 rfl dJ9_compress_64 ?_
    obtain rfl := Option.some.inj H
    exact x_aret hE rfl (by first | exact Or.inl ⟨_, rfl⟩ | exact Or.inr ⟨_, rfl⟩) dJ9_compress_65
  · rw [if_neg c3] at H
    refine x_aload_n 0 rfl dJ9_compress_20 ?_
    refine x_iload_n 1 rfl dJ9_compress_21 ?_
    refine x_iconst (1 : Int32) dJ9_compress_22 ic_1 ?_
    refine x_ishl dJ9_compress_23 ?_
    refine x_iload_n 1 rfl dJ9_compress_24 ?_
    refine x_iload_n 2 rfl dJ9_compress_25 ?_
    refine x_iadd dJ9_compress_26 ?_
    obtain ⟨a4, g4, e4, H⟩ := obR H
    refine x_callS (M' := mi_J9_newBytesLength) (n := 1) (As := [.int (x1 + x2)]) (t_J9_newBytesLength C _ e4) md_J9_newBytesLength ⟨Nat.le_of_ble_eq_true rfl, Nat.le_of_ble_eq_true rfl⟩ q547 q548 q137 q549 rfl (Nat.le_of_ble_eq_true rfl) dJ9_compress_27 ?_
    obtain ⟨a5, g5, e5, H⟩ := obR H
    refine x_callS (M' := mi_J3_copyOfRange) (n := 3) (As := [.ref r0, .int (x1 <<< ((1 : Int32) &&& 31)), .int a4]) (t_J3_copyOfRange C _ e5) md_J3_copyOfRange ⟨Nat.le_of_ble_eq_true rfl, Nat.le_of_ble_eq_true rfl⟩ q701 q683 q126 q684 rfl (Nat.le_of_ble_eq_true rfl) dJ9_compress_30 ?_
    refine x_astore [1, 2, 3, 4, 5, 0] dJ9_compress_33 (by decide) rfl ?_
    refine x_aload 5 rfl dJ9_compress_35 ?_
    refine x_iload 4 rfl dJ9_compress_37 ?_
    obtain ⟨a6, g6, e6, H⟩ := obR H
    refine x_callS (M' := mi_J9_getChar) (n := 2) (As := [.ref a5, .int a2]) (t_J9_getChar C _ e6) md_J9_getChar ⟨Nat.le_of_ble_eq_true rfl, Nat.le_of_ble_eq_true rfl⟩ q698 q699 q137 q700 rfl (Nat.le_of_ble_eq_true rfl) dJ9_compress_39 ?_
    refine x_sipush (255 : Int32) dJ9_compress_42 si_255 ?_
    refine x_icmp_gt 61 dJ9_compress_45 (by decide) (fun c7 => ?_) (fun c7 => ?_)
    · rw [if_pos c7] at H
      refine x_aload 5 rfl dJ9_compress_61 ?_
      obtain rfl := Option.some.inj H
      exact x_aret hE rfl (by first | exact Or.inl ⟨_, rfl⟩ | exact Or.inr ⟨_, rfl⟩) dJ9_compress_63
    · rw [if_neg c7] at H
      refine x_aload 5 rfl dJ9_compress_48 ?_
      refine x_iconst (0 : Int32) dJ9_compress_50 ic_0 ?_
      refine x_aload_n 3 rfl dJ9_compress_51 ?_
      refine x_iconst (0 : Int32) dJ9_compress_52 ic_0 ?_
      refine x_iload_n 2 rfl dJ9_compress_53 ?_
      obtain ⟨a8, g8, e8, H⟩ := obR H
      refine x_callS (M' := mi_J9_compress_2) (n := 5) (As := [.ref a5, .int (0 : Int32), .ref a1, .int (0 : Int32), .int x2]) (t_J9_compress_2 C _ e8) md_J9_compress_2 ⟨Nat.le_of_ble_eq_true rfl, Nat.le_of_ble_eq_true rfl⟩ q695 q696 q137 q697 rfl (Nat.le_of_ble_eq_true rfl) dJ9_compress_54 ?_
      refine x_iload_n 2 rfl dJ9_compress_57 ?_
      refine x_icmp_eq 64 dJ9_compress_58 (by decide) (fun c9 => ?_) (fun c9 => ?_)
      · rw [if_pos c9] at H
        refine x_aload_n 3 rfl dJ9_compress_64 ?_
        obtain rfl := Option.some.inj H
        exact x_aret hE rfl (by first | exact Or.inl ⟨_, rfl⟩ | exact Or.inr ⟨_, rfl⟩) dJ9_compress_65
      · rw [if_neg c9] at H
        refine x_aload 5 rfl dJ9_compress_61 ?_
        obtain rfl := Option.some.inj H
        exact x_aret hE rfl (by first | exact Or.inl ⟨_, rfl⟩ | exact Or.inr ⟨_, rfl⟩) dJ9_compress_63
abbrev mi_J9_coderFromArrayLen : xM := (cJ9_coderFromArrayLen, yJ9_coderFromArrayLen, 2, some .byte, 1)
theorem md_J9_coderFromArrayLen : xMD mi_J9_coderFromArrayLen 2 := ⟨by decide, by decide, by decide +kernel⟩
def f_J9_coderFromArrayLen (r0 : Nat) (x1 : Int32) (h : mH) : Option (Int32 × mH) := (aN h r0).bind fun v1 => rB ((((x1 - v1).toUInt32 >>> ((31 : Int32).toUInt32 &&& Int32.toUInt32 31)).toInt32).toInt8.toInt32) h
theorem t_J9_coderFromArrayLen {G : xG} (C0 : xC) {l : Launch} {r0 : Nat} {x1 : Int32} (h : mH) {o : Int32 × mH} (H : f_J9_coderFromArrayLen r0 x1 h = some o) : XR G l mi_J9_coderFromArrayLen [.ref r0, .int x1] h (some (.int o.1)) o.2 := by
  refine XR.of C0 (by decide) (Nat.le_of_ble_eq_true rfl) (fun C _ _ _ hE => ?_)
  show X G C mi_J9_coderFromArrayLen 0 [(0, .ref r0), (1, .int x1)] [] h
  unfold f_J9_coderFromArrayLen at H
  refine x_iload_n 1 rfl dJ9_coderFromArrayLen_0 ?_
  refine x_aload_n 0 rfl dJ9_coderFromArrayLen_1 ?_
  obtain ⟨v1, e1, H⟩ := ob H
  refine x_alen e1 dJ9_coderFromArrayLen_2 ?_
  refine x_isub dJ9_coderFromArrayLen_3 ?_
  refine x_bipush (31 : Int32) dJ9_coderFromArrayLen_4 bi_31 ?_
  refine x_iushr dJ9_coderFromArrayLen_6 ?_
  refine x_i2b dJ9_coderFromArrayLen_7 ?_
  obtain ⟨c, rfl⟩ := rB_spec H
  exact x_iret hE rfl c dJ9_coderFromArrayLen_8
abbrev mi_J8_init_2 : xM := (cJ8_init_2, yJ8_init_2, 5, none, 6)
theorem md_J8_init_2 : xMD mi_J8_init_2 2 := ⟨by decide, by decide, by decide +kernel⟩
def f_J8_init_2_b79 (r0 : Nat) (r3 : Nat) (x4 : Int32) (h : mH) : Option (Unit × mH) := (pF [23] 1 (.int (1 : Int32)) h r0).bind fun h7 => bR (f_J3_copyOfRange r3 (0 : Int32) (x4 <<< ((1 : Int32) &&& 31)) h7) fun a8 g8 => (pF [23] 0 (.ref a8) g8 r0).bind fun h9 => some ((), h9)
theorem t_J8_init_2_b79 {G : xG} {C : xC} {o : Unit × mH} (hE : xEnd G C none o.2) (r0 : Nat) (r3 : Nat) (x4 : Int32) (h : mH) (H : f_J8_init_2_b79 r0 r3 x4 h = some o) : X G C mi_J8_init_2 79 [(0, .ref r0), (3, .ref r3), (4, .int x4)] [] h := by
  unfold f_J8_init_2_b79 at H
  refine x_aload_n 0 rfl dJ8_init_2_79 ?_
  refine x_iconst (1 : Int32) dJ8_init_2_80 ic_1 ?_
  obtain ⟨h7, e7, H⟩ := ob H
  refine x_putf fp_J8_15 rfl rfl e7 dJ8_init_2_81 ?_
  refine x_aload_n 0 rfl dJ8_init_2_84 ?_
  refine x_aload_n 1 rfl dJ8_init_2_85 ?_
  refine x_iconst (0 : Int32) dJ8_init_2_86 ic_0 ?_
  refine x_iload 2 rfl dJ8_init_2_87 ?_
  refine x_iconst (1 : Int32) dJ8_init_2_89 ic_1 ?_
  refine x_ishl dJ8_init_2_90 ?_
  obtain ⟨a8, g8, e8, H⟩ := obR H
  refine x_callS (M' := mi_J3_copyOfRange) (n := 3) (As := [.ref r3, .int (0 : Int32), .int (x4 <<< ((1 : Int32) &&& 31))]) (t_J3_copyOfRange C _ e8) md_J3_copyOfRange ⟨Nat.le_of_ble_eq_true rfl, Nat.le_of_ble_eq_true rfl⟩ q682 q683 q126 q684 rfl (Nat.le_of_ble_eq_true rfl) dJ8_init_2_91 ?_
  obtain ⟨h9, e9, H⟩ := ob H
  refine x_putf fp_J8_9 rfl rfl e9 dJ8_init_2_94 ?_
  obtain rfl := Option.some.inj H
  exact x_vret hE rfl dJ8_init_2_97
def f_J8_init_2 (r0 : Nat) (r1 : Nat) (r2 : Nat) (h : mH) : Option (Unit × mH) := if 6 ≤ r0 then if gC h r1 ∈ [22] then bR (f_J6_getValue r1  h) fun a2 g2 => if gC g2 r1 ∈ [22] then bR (f_J7_length r1  g2) fun a3 g3 => if gC g3 r1 ∈ [22] then bR (f_J6_isLatin1 r1  g3) fun a4 g4 => if a4 = 0 then if (1 : Int32) = 0 then f_J8_init_2_b79 r0 a2 a3 g4 else (gFi [22] 2 g4 r1).bind fun v10 => if v10 = 0 then f_J8_init_2_b79 r0 a2 a3 g4 else bR (f_J9_compress a2 (0 : Int32) a3 g4) fun a12 g12 => (pF [23] 0 (.ref a12) g12 r0).bind fun h13 => (gFr [23] 0 h13 r0).bind fun v14 => bR (f_J9_coderFromArrayLen v14 a3 h13) fun a15 g15 => if a15.toInt8.toInt32 = a15 then (pF [23] 1 (.int a15) g15 r0).bind fun h16 => some ((), h16) else none else (pF [23] 1 (.int (0 : Int32)) g4 r0).bind fun h17 => bR (f_J3_copyOfRange a2 (0 : Int32) a3 h17) fun a18 g18 => (pF [23] 0 (.ref a18) g18 r0).bind fun h19 => some ((), h19) else none else none else none else none
theorem t_J8_init_2 {G : xG} (C0 : xC) {l : Launch} {r0 : Nat} {r1 : Nat} {r2 : Nat} (h : mH) {o : Unit × mH} (H : f_J8_init_2 r0 r1 r2 h = some o) : XR G l mi_J8_init_2 [.ref r0, .ref r1, .ref r2] h none o.2 := by
  refine XR.of C0 (by decide) (Nat.le_of_ble_eq_true rfl) (fun C _ _ _ hE => ?_)
  show X G C mi_J8_init_2 0 [(0, .ref r0), (1, .ref r1), (2, .ref r2)] [] h
  unfold f_J8_init_2 at H
  refine x_aload_n 0 rfl dJ8_init_2_0 ?_
  obtain ⟨c1, H⟩ := oit H
  refine x_oinit c1 (by decide) q667 q170 q171 (Nat.le_of_ble_eq_true rfl) dJ8_init_2_1 ?_
  refine x_aload_n 1 rfl dJ8_init_2_4 ?_
  obtain ⟨c2, H⟩ := oit H
  obtain ⟨a2, g2, e2, H⟩ := obR H
  refine x_callC (M' := mi_J6_getValue) (n := 0) (As := []) (t_J6_getValue C _ e2) c2 uc_J8_552 (by decide +kernel) ⟨Nat.le_of_ble_eq_true rfl, Nat.le_of_ble_eq_true rfl⟩ q672 rfl (Nat.le_of_ble_eq_true rfl) dJ8_init_2_5 ?_
  refine x_astore_n [1, 2, 3, 0] dJ8_init_2_8 (by decide) rfl ?_
  refine x_aload_n 1 rfl dJ8_init_2_9 ?_
  obtain ⟨c3, H⟩ := oit H
  obtain ⟨a3, g3, e3, H⟩ := obR H
  refine x_callU (M' := mi_J7_length) (n := 0) (As := []) (t_J7_length C _ e3) c3 up_J8_549_22 (by decide +kernel) ⟨Nat.le_of_ble_eq_true rfl, Nat.le_of_ble_eq_true rfl⟩ q678 rfl (Nat.le_of_ble_eq_true rfl) dJ8_init_2_10 ?_
  refine x_istore [1, 2, 3, 4, 0] dJ8_init_2_13 (by decide) rfl ?_
  refine x_aload_n 1 rfl dJ8_init_2_15 ?_
  obtain ⟨c4, H⟩ := oit H
  obtain ⟨a4, g4, e4, H⟩ := obR H
  refine x_callC (M' := mi_J6_isLatin1) (n := 0) (As := []) (t_J6_isLatin1 C _ e4) c4 uc_J8_1047 (by decide +kernel) ⟨Nat.le_of_ble_eq_true rfl, Nat.le_of_ble_eq_true rfl⟩ q608 rfl (Nat.le_of_ble_eq_true rfl) dJ8_init_2_16 ?_
  refine x_if_eq 41 dJ8_init_2_19 (by decide) (fun c5 => ?_) (fun c5 => ?_)
  · rw [if_pos c5] at H
    refine x_gets (v := .int 1) (List.mem_of_getElem? (i := 1) rfl) q691 dJ8_init_2_41 ?_
    refine x_if_eq 79 dJ8_init_2_44 (by decide) (fun c6 => ?_) (fun c6 => ?_)
    · rw [if_pos c6] at H
      refine X.sub [0, 3, 4] rfl ?_
      exact t_J8_init_2_b79 hE _ _ _ _ H
    · rw [if_neg c6] at H
      refine x_aload_n 1 rfl dJ8_init_2_47 ?_
      obtain ⟨v10, e10, H⟩ := ob H
      refine x_getf fg_J8_1048 (gFi_spec e10) dJ8_init_2_48 ?_
      refine x_if_eq 79 dJ8_init_2_51 (by decide) (fun c11 => ?_) (fun c11 => ?_)
      · rw [if_pos c11] at H
        refine X.sub [0, 3, 4] rfl ?_
        exact t_J8_init_2_b79 hE _ _ _ _ H
      · rw [if_neg c11] at H
        refine x_aload_n 0 rfl dJ8_init_2_54 ?_
        refine x_aload_n 3 rfl dJ8_init_2_55 ?_
        refine x_iconst (0 : Int32) dJ8_init_2_56 ic_0 ?_
        refine x_iload 4 rfl dJ8_init_2_57 ?_
        obtain ⟨a12, g12, e12, H⟩ := obR H
        refine x_callS (M' := mi_J9_compress) (n := 3) (As := [.ref a2, .int (0 : Int32), .int a3]) (t_J9_compress C _ e12) md_J9_compress ⟨Nat.le_of_ble_eq_true rfl, Nat.le_of_ble_eq_true rfl⟩ q692 q693 q137 q694 rfl (Nat.le_of_ble_eq_true rfl) dJ8_init_2_59 ?_
        obtain ⟨h13, e13, H⟩ := ob H
        refine x_putf fp_J8_9 rfl rfl e13 dJ8_init_2_62 ?_
        refine x_aload_n 0 rfl dJ8_init_2_65 ?_
        refine x_aload_n 0 rfl dJ8_init_2_66 ?_
        obtain ⟨v14, e14, H⟩ := ob H
        refine x_getf fg_J8_9 (gFr_spec e14) dJ8_init_2_67 ?_
        refine x_iload 4 rfl dJ8_init_2_70 ?_
        obtain ⟨a15, g15, e15, H⟩ := obR H
        refine x_callS (M' := mi_J9_coderFromArrayLen) (n := 2) (As := [.ref v14, .int a3]) (t_J9_coderFromArrayLen C _ e15) md_J9_coderFromArrayLen ⟨Nat.le_of_ble_eq_true rfl, Nat.le_of_ble_eq_true rfl⟩ q702 q703 q137 q704 rfl (Nat.le_of_ble_eq_true rfl) dJ8_init_2_72 ?_
        obtain ⟨c16, H⟩ := oit H
        obtain ⟨h16, e16, H⟩ := ob H
        refine x_putf fp_J8_15 (nzB c16) (fzB c16) e16 dJ8_init_2_75 ?_
        obtain rfl := Option.some.inj H
        exact x_vret hE rfl dJ8_init_2_78
  · rw [if_neg c5] at H
    refine x_aload_n 0 rfl dJ8_init_2_22 ?_
    refine x_iconst (0 : Int32) dJ8_init_2_23 ic_0 ?_
    obtain ⟨h17, e17, H⟩ := ob H
    refine x_putf fp_J8_15 rfl rfl e17 dJ8_init_2_24 ?_
    refine x_aload_n 0 rfl dJ8_init_2_27 ?_
    refine x_aload_n 3 rfl dJ8_init_2_28 ?_
    refine x_iconst (0 : Int32) dJ8_init_2_29 ic_0 ?_
    refine x_iload 4 rfl dJ8_init_2_30 ?_
    obtain ⟨a18, g18, e18, H⟩ := obR H
    refine x_callS (M' := mi_J3_copyOfRange) (n := 3) (As := [.ref a2, .int (0 : Int32), .int a3]) (t_J3_copyOfRange C _ e18) md_J3_copyOfRange ⟨Nat.le_of_ble_eq_true rfl, Nat.le_of_ble_eq_true rfl⟩ q682 q683 q126 q684 rfl (Nat.le_of_ble_eq_true rfl) dJ8_init_2_32 ?_
    obtain ⟨h19, e19, H⟩ := ob H
    refine x_putf fp_J8_9 rfl rfl e19 dJ8_init_2_35 ?_
    refine x_goto (tgt := 97) dJ8_init_2_38 (by decide) ?_
    obtain rfl := Option.some.inj H
    exact x_vret hE rfl dJ8_init_2_97
abbrev mi_J8_init : xM := (cJ8_init, yJ8_init, 2, none, 7)
theorem md_J8_init : xMD mi_J8_init 1 := ⟨by decide, by decide, by decide +kernel⟩
def f_J8_init (r0 : Nat) (r1 : Nat) (h : mH) : Option (Unit × mH) := if 6 ≤ r0 then bR (f_J8_init_2 r0 r1 0 h) fun a1 g1 => some ((), g1) else none
theorem t_J8_init {G : xG} (C0 : xC) {l : Launch} {r0 : Nat} {r1 : Nat} (h : mH) {o : Unit × mH} (H : f_J8_init r0 r1 h = some o) : XR G l mi_J8_init [.ref r0, .ref r1] h none o.2 := by
  refine XR.of C0 (by decide) (Nat.le_of_ble_eq_true rfl) (fun C _ _ _ hE => ?_)
  show X G C mi_J8_init 0 [(0, .ref r0), (1, .ref r1)] [] h
  unfold f_J8_init at H
  refine x_aload_n 0 rfl dJ8_init_0 ?_
  refine x_aload_n 1 rfl dJ8_init_1 ?_
  refine x_null dJ8_init_2 ?_
  obtain ⟨c1, H⟩ := oit H
  obtain ⟨a1, g1, e1, H⟩ := obR H
  refine x_callI (M' := mi_J8_init_2) (n := 2) (As := [.ref r1, .ref 0]) (t_J8_init_2 C _ e1) c1 md_J8_init_2 ⟨Nat.le_of_ble_eq_true rfl, Nat.le_of_ble_eq_true rfl⟩ rfl rfl q664 q665 q136 q666 rfl (Nat.le_of_ble_eq_true rfl) dJ8_init_3 ?_
  obtain rfl := Option.some.inj H
  exact x_vret hE rfl dJ8_init_6
abbrev mi_J7_toString : xM := (cJ7_toString, yJ7_toString, 1, some (.object "java/lang/String"), 8)
theorem md_J7_toString : xMD mi_J7_toString 0 := ⟨by decide, by decide, by decide +kernel⟩
def f_J7_toString (r0 : Nat) (h : mH) : Option (Nat × mH) := if 6 ≤ h.2.1 then bR (f_J8_init h.2.1 r0 (xnw h (.inr (23, [.ref 0, .int 0])) 4)) fun a1 g1 => some (h.2.1, g1) else none
theorem t_J7_toString {G : xG} (C0 : xC) {l : Launch} {r0 : Nat} (h : mH) {o : Nat × mH} (H : f_J7_toString r0 h = some o) : XR G l mi_J7_toString [.ref r0] h (some (.ref o.1)) o.2 := by
  refine XR.of C0 (by decide) (Nat.le_of_ble_eq_true rfl) (fun C _ _ _ hE => ?_)
  show X G C mi_J7_toString 0 [(0, .ref r0)] [] h
  unfold f_J7_toString at H
  refine x_new (fs := [.ref 0, .int 0]) ci_23 q659 q660 q136 (nf_J8 G) rfl dJ7_toString_0 ?_
  refine x_dup dJ7_toString_3 rfl ?_
  refine x_aload_n 0 rfl dJ7_toString_4 ?_
  obtain ⟨c1, H⟩ := oit H
  obtain ⟨a1, g1, e1, H⟩ := obR H
  refine x_callI (M' := mi_J8_init) (n := 1) (As := [.ref r0]) (t_J8_init C _ e1) c1 md_J8_init ⟨Nat.le_of_ble_eq_true rfl, Nat.le_of_ble_eq_true rfl⟩ rfl rfl q661 q662 q136 q663 rfl (Nat.le_of_ble_eq_true rfl) dJ7_toString_5 ?_
  obtain rfl := Option.some.inj H
  exact x_aret hE rfl (by first | exact Or.inl ⟨_, rfl⟩ | exact Or.inr ⟨_, rfl⟩) dJ7_toString_8
abbrev mi_J10_hugeLength : xM := (cJ10_hugeLength, yJ10_hugeLength, 3, some .int, 1)
theorem md_J10_hugeLength : xMD mi_J10_hugeLength 2 := ⟨by decide, by decide, by decide +kernel⟩
def f_J10_hugeLength (x0 : Int32) (x1 : Int32) (h : mH) : Option (Int32 × mH) := if 0 ≤ (x0 + x1) then if (2147483639 : Int32) < (x0 + x1) then some ((x0 + x1), h) else some ((2147483639 : Int32), h) else none
theorem t_J10_hugeLength {G : xG} (C0 : xC) {l : Launch} {x0 : Int32} {x1 : Int32} (h : mH) {o : Int32 × mH} (H : f_J10_hugeLength x0 x1 h = some o) : XR G l mi_J10_hugeLength [.int x0, .int x1] h (some (.int o.1)) o.2 := by
  refine XR.of C0 (by decide) (Nat.le_of_ble_eq_true rfl) (fun C _ _ _ hE => ?_)
  show X G C mi_J10_hugeLength 0 [(0, .int x0), (1, .int x1)] [] h
  unfold f_J10_hugeLength at H
  refine x_iload_n 0 rfl dJ10_hugeLength_0 ?_
  refine x_iload_n 1 rfl dJ10_hugeLength_1 ?_
  refine x_iadd dJ10_hugeLength_2 ?_
  refine x_istore_n [1, 2, 0] dJ10_hugeLength_3 (by decide) rfl ?_
  refine x_iload_n 2 rfl dJ10_hugeLength_4 ?_
  refine x_if_ge 49 dJ10_hugeLength_5 (by decide) (fun c1 => ?_) (fun c1 => ?_)
  · rw [if_pos c1] at H
    refine x_iload_n 2 rfl dJ10_hugeLength_49 ?_
    refine x_ldc q585 dJ10_hugeLength_50 ?_
    refine x_icmp_gt 58 dJ10_hugeLength_52 (by decide) (fun c2 => ?_) (fun c2 => ?_)
    · rw [if_pos c2] at H
      refine x_iload_n 2 rfl dJ10_hugeLength_58 ?_
      obtain rfl := Option.some.inj H
      exact x_iret hE rfl rfl dJ10_hugeLength_59
    · rw [if_neg c2] at H
      refine x_ldc q585 dJ10_hugeLength_55 ?_
      obtain rfl := Option.some.inj H
      exact x_iret hE rfl rfl dJ10_hugeLength_57
  · rw [if_neg c1] at H
    exact nomatch H
abbrev mi_J10_newLength : xM := (cJ10_newLength, yJ10_newLength, 4, some .int, 2)
theorem md_J10_newLength : xMD mi_J10_newLength 3 := ⟨by decide, by decide, by decide +kernel⟩
def f_J10_newLength_b21 (x0 : Int32) (x1 : Int32) (h : mH) : Option (Int32 × mH) := bR (f_J10_hugeLength x0 x1 h) fun a3 g3 => some (a3, g3)
theorem t_J10_newLength_b21 {G : xG} {C : xC} {o : Int32 × mH} (hE : xEnd G C (some (.int o.1)) o.2) (x0 : Int32) (x1 : Int32) (h : mH) (H : f_J10_newLength_b21 x0 x1 h = some o) : X G C mi_J10_newLength 21 [(0, .int x0), (1, .int x1)] [] h := by
  unfold f_J10_newLength_b21 at H
  refine x_iload_n 0 rfl dJ10_newLength_21 ?_
  refine x_iload_n 1 rfl dJ10_newLength_22 ?_
  obtain ⟨a3, g3, e3, H⟩ := obR H
  refine x_callS (M' := mi_J10_hugeLength) (n := 2) (As := [.int x0, .int x1]) (t_J10_hugeLength C _ e3) md_J10_hugeLength ⟨Nat.le_of_ble_eq_true rfl, Nat.le_of_ble_eq_true rfl⟩ q586 q587 q138 q588 rfl (Nat.le_of_ble_eq_true rfl) dJ10_newLength_23 ?_
  obtain rfl := Option.some.inj H
  exact x_iret hE rfl rfl dJ10_newLength_26
def f_J10_newLength (x0 : Int32) (x1 : Int32) (x2 : Int32) (h : mH) : Option (Int32 × mH) := if (x0 + (if x1 < x2 then x2 else x1)) ≤ (0 : Int32) then f_J10_newLength_b21 x0 x1 h else if (2147483639 : Int32) < (x0 + (if x1 < x2 then x2 else x1)) then f_J10_newLength_b21 x0 x1 h else some ((x0 + (if x1 < x2 then x2 else x1)), h)
theorem t_J10_newLength {G : xG} (C0 : xC) {l : Launch} {x0 : Int32} {x1 : Int32} {x2 : Int32} (h : mH) {o : Int32 × mH} (H : f_J10_newLength x0 x1 x2 h = some o) : XR G l mi_J10_newLength [.int x0, .int x1, .int x2] h (some (.int o.1)) o.2 := by
  refine XR.of C0 (by decide) (Nat.le_of_ble_eq_true rfl) (fun C _ _ _ hE => ?_)
  show X G C mi_J10_newLength 0 [(0, .int x0), (1, .int x1), (2, .int x2)] [] h
  unfold f_J10_newLength at H
  refine x_iload_n 0 rfl dJ10_newLength_0 ?_
  refine x_iload_n 1 rfl dJ10_newLength_1 ?_
  refine x_iload_n 2 rfl dJ10_newLength_2 ?_
  refine x_mmax (by decide) q582 q583 q139 q584 (Nat.le_of_ble_eq_true rfl) dJ10_newLength_3 ?_
  refine x_iadd dJ10_newLength_6 ?_
  refine x_istore_n [1, 2, 3, 0] dJ10_newLength_7 (by decide) rfl ?_
  refine x_iconst (0 : Int32) dJ10_newLength_8 ic_0 ?_
  refine x_iload_n 3 rfl dJ10_newLength_9 ?_
  refine x_icmp_ge 21 dJ10_newLength_10 (by decide) (fun c2 => ?_) (fun c2 => ?_)
  · rw [if_pos c2] at H
    refine X.sub [0, 1] rfl ?_
    exact t_J10_newLength_b21 hE _ _ _ H
  · rw [if_neg c2] at H
    refine x_iload_n 3 rfl dJ10_newLength_13 ?_
    refine x_ldc q585 dJ10_newLength_14 ?_
    refine x_icmp_gt 21 dJ10_newLength_16 (by decide) (fun c4 => ?_) (fun c4 => ?_)
    · rw [if_pos c4] at H
      refine X.sub [0, 1] rfl ?_
      exact t_J10_newLength_b21 hE _ _ _ H
    · rw [if_neg c4] at H
      refine x_iload_n 3 rfl dJ10_newLength_19 ?_
      obtain rfl := Option.some.inj H
      exact x_iret hE rfl rfl dJ10_newLength_20
abbrev mi_J6_newCapacity : xM := (cJ6_newCapacity, yJ6_newCapacity, 6, some .int, 3)
theorem md_J6_newCapacity : xMD mi_J6_newCapacity 1 := ⟨by decide, by decide, by decide +kernel⟩
def f_J6_newCapacity (r0 : Nat) (x1 : Int32) (h : mH) : Option (Int32 × mH) := (gFr [22] 0 h r0).bind fun v1 => (aN h v1).bind fun v2 => (gFi [22] 1 h r0).bind fun v3 => (gFi [22] 1 h r0).bind fun v4 => bR (f_J10_newLength v2 ((x1 <<< (v3 &&& 31)) - v2) (v2 + ((2 : Int32) <<< (v4 &&& 31))) h) fun a5 g5 => if a5 = (2147483647 : Int32) then none else (gFi [22] 1 g5 r0).bind fun v7 => some ((a5 >>> (v7 &&& 31)), g5)
theorem t_J6_newCapacity {G : xG} (C0 : xC) {l : Launch} {r0 : Nat} {x1 : Int32} (h : mH) {o : Int32 × mH} (H : f_J6_newCapacity r0 x1 h = some o) : XR G l mi_J6_newCapacity [.ref r0, .int x1] h (some (.int o.1)) o.2 := by
  refine XR.of C0 (by decide) (Nat.le_of_ble_eq_true rfl) (fun C _ _ _ hE => ?_)
  show X G C mi_J6_newCapacity 0 [(0, .ref r0), (1, .int x1)] [] h
  unfold f_J6_newCapacity at H
  refine x_aload_n 0 rfl dJ6_newCapacity_0 ?_
  obtain ⟨v1, e1, H⟩ := ob H
  refine x_getf fg_J6_15 (gFr_spec e1) dJ6_newCapacity_1 ?_
  obtain ⟨v2, e2, H⟩ := ob H
  refine x_alen e2 dJ6_newCapacity_4 ?_
  refine x_istore_n [1, 2, 0] dJ6_newCapacity_5 (by decide) rfl ?_
  refine x_iload_n 1 rfl dJ6_newCapacity_6 ?_
  refine x_aload_n 0 rfl dJ6_newCapacity_7 ?_
  obtain ⟨v3, e3, H⟩ := ob H
  refine x_getf fg_J6_22 (gFi_spec e3) dJ6_newCapacity_8 ?_
  refine x_ishl dJ6_newCapacity_11 ?_
  refine x_istore_n [1, 2, 3, 0] dJ6_newCapacity_12 (by decide) rfl ?_
  refine x_iload_n 3 rfl dJ6_newCapacity_13 ?_
  refine x_iload_n 2 rfl dJ6_newCapacity_14 ?_
  refine x_isub dJ6_newCapacity_15 ?_
  refine x_istore [1, 2, 3, 4, 0] dJ6_newCapacity_16 (by decide) rfl ?_
  refine x_iload_n 2 rfl dJ6_newCapacity_18 ?_
  refine x_iload 4 rfl dJ6_newCapacity_19 ?_
  refine x_iload_n 2 rfl dJ6_newCapacity_21 ?_
  refine x_iconst (2 : Int32) dJ6_newCapacity_22 ic_2 ?_
  refine x_aload_n 0 rfl dJ6_newCapacity_23 ?_
  obtain ⟨v4, e4, H⟩ := ob H
  refine x_getf fg_J6_22 (gFi_spec e4) dJ6_newCapacity_24 ?_
  refine x_ishl dJ6_newCapacity_27 ?_
  refine x_iadd dJ6_newCapacity_28 ?_
  obtain ⟨a5, g5, e5, H⟩ := obR H
  refine x_callS (M' := mi_J10_newLength) (n := 3) (As := [.int v2, .int ((x1 <<< (v3 &&& 31)) - v2), .int (v2 + ((2 : Int32) <<< (v4 &&& 31)))]) (t_J10_newLength C _ e5) md_J10_newLength ⟨Nat.le_of_ble_eq_true rfl, Nat.le_of_ble_eq_true rfl⟩ q579 q580 q138 q581 rfl (Nat.le_of_ble_eq_true rfl) dJ6_newCapacity_29 ?_
  refine x_istore [1, 2, 3, 4, 5, 0] dJ6_newCapacity_32 (by decide) rfl ?_
  refine x_iload 5 rfl dJ6_newCapacity_34 ?_
  refine x_ldc q589 dJ6_newCapacity_36 ?_
  refine x_icmp_ne 51 dJ6_newCapacity_38 (by decide) (fun c6 => ?_) (fun c6 => ?_)
  · rw [if_neg c6] at H
    refine x_iload 5 rfl dJ6_newCapacity_51 ?_
    refine x_aload_n 0 rfl dJ6_newCapacity_53 ?_
    obtain ⟨v7, e7, H⟩ := ob H
    refine x_getf fg_J6_22 (gFi_spec e7) dJ6_newCapacity_54 ?_
    refine x_ishr dJ6_newCapacity_57 ?_
    obtain rfl := Option.some.inj H
    exact x_iret hE rfl rfl dJ6_newCapacity_58
  · rw [if_pos c6] at H
    exact nomatch H
abbrev mi_J3_copyOf : xM := (cJ3_copyOf, yJ3_copyOf, 3, some (.array .byte), 2)
theorem md_J3_copyOf : xMD mi_J3_copyOf 2 := ⟨by decide, by decide, by decide +kernel⟩
def f_J3_copyOf (r0 : Nat) (x1 : Int32) (h : mH) : Option (Nat × mH) := (aN h r0).bind fun v1 => if x1 = v1 then bR (clB h r0) fun a7 g7 => if gKt .byte g7 a7 = true ∧ 100 ≤ a7 then some (a7, g7) else none else bR (nA .byte h x1) fun a3 g3 => (aN g3 r0).bind fun v4 => (cpA g3 r0 (0 : Int32) a3 (0 : Int32) (if x1 < v4 then x1 else v4)).bind fun h6 => some (a3, h6)
theorem t_J3_copyOf {G : xG} (C0 : xC) {l : Launch} {r0 : Nat} {x1 : Int32} (h : mH) {o : Nat × mH} (H : f_J3_copyOf r0 x1 h = some o) : XR G l mi_J3_copyOf [.ref r0, .int x1] h (some (.ref o.1)) o.2 := by
  refine XR.of C0 (by decide) (Nat.le_of_ble_eq_true rfl) (fun C _ _ _ hE => ?_)
  show X G C mi_J3_copyOf 0 [(0, .ref r0), (1, .int x1)] [] h
  unfold f_J3_copyOf at H
  refine x_iload_n 1 rfl dJ3_copyOf_0 ?_
  refine x_aload_n 0 rfl dJ3_copyOf_1 ?_
  obtain ⟨v1, e1, H⟩ := ob H
  refine x_alen e1 dJ3_copyOf_2 ?_
  refine x_icmp_ne 14 dJ3_copyOf_3 (by decide) (fun c2 => ?_) (fun c2 => ?_)
  · rw [if_neg c2] at H
    refine x_iload_n 1 rfl dJ3_copyOf_14 ?_
    obtain ⟨a3, g3, e3, H⟩ := obR H
    refine x_newa (at_ := .byte) (ty := .byte) rfl (by decide) q204 e3 dJ3_copyOf_15 ?_
    refine x_astore_n [1, 2, 0] dJ3_copyOf_17 (by decide) rfl ?_
    refine x_aload_n 0 rfl dJ3_copyOf_18 ?_
    refine x_iconst (0 : Int32) dJ3_copyOf_19 ic_0 ?_
    refine x_aload_n 2 rfl dJ3_copyOf_20 ?_
    refine x_iconst (0 : Int32) dJ3_copyOf_21 ic_0 ?_
    refine x_aload_n 0 rfl dJ3_copyOf_22 ?_
    obtain ⟨v4, e4, H⟩ := ob H
    refine x_alen e4 dJ3_copyOf_23 ?_
    refine x_iload_n 1 rfl dJ3_copyOf_24 ?_
    refine x_mmin (by decide) q600 q601 q139 q602 (Nat.le_of_ble_eq_true rfl) dJ3_copyOf_25 ?_
    obtain ⟨h6, e6, H⟩ := ob H
    refine x_copy q603 q349 q348 q129 e6 (by decide) (Nat.le_of_ble_eq_true rfl) dJ3_copyOf_28 ?_
    refine x_aload_n 2 rfl dJ3_copyOf_31 ?_
    obtain rfl := Option.some.inj H
    exact x_aret hE rfl (by first | exact Or.inl ⟨_, rfl⟩ | exact Or.inr ⟨_, rfl⟩) dJ3_copyOf_32
  · rw [if_pos c2] at H
    refine x_aload_n 0 rfl dJ3_copyOf_6 ?_
    obtain ⟨a7, g7, e7, H⟩ := obR H
    refine x_clone e7 (by decide) q593 q594 q595 q596 q597 q598 (Nat.le_of_ble_eq_true rfl) dJ3_copyOf_7 ?_
    obtain ⟨c8, H⟩ := oit H
    refine x_castB q599 c8 dJ3_copyOf_10 ?_
    obtain rfl := Option.some.inj H
    exact x_aret hE rfl (by first | exact Or.inl ⟨_, rfl⟩ | exact Or.inr ⟨_, rfl⟩) dJ3_copyOf_13
abbrev mi_J6_ensureCapacityInternal : xM := (cJ6_ensureCapacityInternal, yJ6_ensureCapacityInternal, 3, none, 4)
theorem md_J6_ensureCapacityInternal : xMD mi_J6_ensureCapacityInternal 1 := ⟨by decide, by decide, by decide +kernel⟩
def f_J6_ensureCapacityInternal (r0 : Nat) (x1 : Int32) (h : mH) : Option (Unit × mH) := (gFr [22] 0 h r0).bind fun v1 => (aN h v1).bind fun v2 => (gFi [22] 1 h r0).bind fun v3 => if (x1 - (v2 >>> (v3 &&& 31))) ≤ 0 then some ((), h) else (gFr [22] 0 h r0).bind fun v5 => if gC h r0 ∈ [22] then bR (f_J6_newCapacity r0 x1 h) fun a6 g6 => (gFi [22] 1 g6 r0).bind fun v7 => bR (f_J3_copyOf v5 (a6 <<< (v7 &&& 31)) g6) fun a8 g8 => (pF [22] 0 (.ref a8) g8 r0).bind fun h9 => some ((), h9) else none
theorem t_J6_ensureCapacityInternal {G : xG} (C0 : xC) {l : Launch} {r0 : Nat} {x1 : Int32} (h : mH) {o : Unit × mH} (H : f_J6_ensureCapacityInternal r0 x1 h = some o) : XR G l mi_J6_ensureCapacityInternal [.ref r0, .int x1] h none o.2 := by
  refine XR.of C0 (by decide) (Nat.le_of_ble_eq_true rfl) (fun C _ _ _ hE => ?_)
  show X G C mi_J6_ensureCapacityInternal 0 [(0, .ref r0), (1, .int x1)] [] h
  unfold f_J6_ensureCapacityInternal at H
  refine x_aload_n 0 rfl dJ6_ensureCapacityInternal_0 ?_
  obtain ⟨v1, e1, H⟩ := ob H
  refine x_getf fg_J6_15 (gFr_spec e1) dJ6_ensureCapacityInternal_1 ?_
  obtain ⟨v2, e2, H⟩ := ob H
  refine x_alen e2 dJ6_ensureCapacityInternal_4 ?_
  refine x_aload_n 0 rfl dJ6_ensureCapacityInternal_5 ?_
  obtain ⟨v3, e3, H⟩ := ob H
  refine x_getf fg_J6_22 (gFi_spec e3) dJ6_ensureCapacityInternal_6 ?_
  refine x_ishr dJ6_ensureCapacityInternal_9 ?_
  refine x_istore_n [1, 2, 0] dJ6_ensureCapacityInternal_10 (by decide) rfl ?_
  refine x_iload_n 1 rfl dJ6_ensureCapacityInternal_11 ?_
  refine x_iload_n 2 rfl dJ6_ensureCapacityInternal_12 ?_
  refine x_isub dJ6_ensureCapacityInternal_13 ?_
  refine x_if_le 38 dJ6_ensureCapacityInternal_14 (by decide) (fun c4 => ?_) (fun c4 => ?_)
  · rw [if_pos c4] at H
    obtain rfl := Option.some.inj H
    exact x_vret hE rfl dJ6_ensureCapacityInternal_38
  · rw [if_neg c4] at H
    refine x_aload_n 0 rfl dJ6_ensureCapacityInternal_17 ?_
    refine x_aload_n 0 rfl dJ6_ensureCapacityInternal_18 ?_
    obtain ⟨v5, e5, H⟩ := ob H
    refine x_getf fg_J6_15 (gFr_spec e5) dJ6_ensureCapacityInternal_19 ?_
    refine x_aload_n 0 rfl dJ6_ensureCapacityInternal_22 ?_
    refine x_iload_n 1 rfl dJ6_ensureCapacityInternal_23 ?_
    obtain ⟨c6, H⟩ := oit H
    obtain ⟨a6, g6, e6, H⟩ := obR H
    refine x_callC (M' := mi_J6_newCapacity) (n := 1) (As := [.int x1]) (t_J6_newCapacity C _ e6) c6 uc_J6_104 (by decide +kernel) ⟨Nat.le_of_ble_eq_true rfl, Nat.le_of_ble_eq_true rfl⟩ q578 rfl (Nat.le_of_ble_eq_true rfl) dJ6_ensureCapacityInternal_24 ?_
    refine x_aload_n 0 rfl dJ6_ensureCapacityInternal_27 ?_
    obtain ⟨v7, e7, H⟩ := ob H
    refine x_getf fg_J6_22 (gFi_spec e7) dJ6_ensureCapacityInternal_28 ?_
    refine x_ishl dJ6_ensureCapacityInternal_31 ?_
    obtain ⟨a8, g8, e8, H⟩ := obR H
    refine x_callS (M' := mi_J3_copyOf) (n := 2) (As := [.ref v5, .int (a6 <<< (v7 &&& 31))]) (t_J3_copyOf C _ e8) md_J3_copyOf ⟨Nat.le_of_ble_eq_true rfl, Nat.le_of_ble_eq_true rfl⟩ q590 q591 q126 q592 rfl (Nat.le_of_ble_eq_true rfl) dJ6_ensureCapacityInternal_32 ?_
    obtain ⟨h9, e9, H⟩ := ob H
    refine x_putf (fp_J6_15 _) rfl rfl e9 dJ6_ensureCapacityInternal_35 ?_
    obtain rfl := Option.some.inj H
    exact x_vret hE rfl dJ6_ensureCapacityInternal_38
abbrev mi_J12_canEncode : xM := (cJ12_canEncode, yJ12_canEncode, 1, some .boolean, 1)
theorem md_J12_canEncode : xMD mi_J12_canEncode 1 := ⟨by decide, by decide, by decide +kernel⟩
def f_J12_canEncode (x0 : Int32) (h : mH) : Option (Int32 × mH) := if (255 : Int32) < x0 then some ((0 : Int32), h) else some ((1 : Int32), h)
theorem t_J12_canEncode {G : xG} (C0 : xC) {l : Launch} {x0 : Int32} (h : mH) {o : Int32 × mH} (H : f_J12_canEncode x0 h = some o) : XR G l mi_J12_canEncode [.int x0] h (some (.int o.1)) o.2 := by
  refine XR.of C0 (by decide) (Nat.le_of_ble_eq_true rfl) (fun C _ _ _ hE => ?_)
  show X G C mi_J12_canEncode 0 [(0, .int x0)] [] h
  unfold f_J12_canEncode at H
  refine x_iload_n 0 rfl dJ12_canEncode_0 ?_
  refine x_sipush (255 : Int32) dJ12_canEncode_1 si_255 ?_
  refine x_icmp_gt 11 dJ12_canEncode_4 (by decide) (fun c1 => ?_) (fun c1 => ?_)
  · rw [if_pos c1] at H
    refine x_iconst (0 : Int32) dJ12_canEncode_11 ic_0 ?_
    obtain rfl := Option.some.inj H
    exact x_iret hE rfl rfl dJ12_canEncode_12
  · rw [if_neg c1] at H
    refine x_iconst (1 : Int32) dJ12_canEncode_7 ic_1 ?_
    refine x_goto (tgt := 12) dJ12_canEncode_8 (by decide) ?_
    obtain rfl := Option.some.inj H
    exact x_iret hE rfl rfl dJ12_canEncode_12
abbrev mi_J8_checkIndex : xM := (cJ8_checkIndex, yJ8_checkIndex, 2, none, 2)
theorem md_J8_checkIndex : xMD mi_J8_checkIndex 2 := ⟨by decide, by decide, by decide +kernel⟩
def f_J8_checkIndex (x0 : Int32) (x1 : Int32) (h : mH) : Option (Unit × mH) := bR (f_J5_checkIndex x0 x1 3 h) fun a1 g1 => some ((), g1)
theorem t_J8_checkIndex {G : xG} (C0 : xC) {l : Launch} {x0 : Int32} {x1 : Int32} (h : mH) {o : Unit × mH} (H : f_J8_checkIndex x0 x1 h = some o) : XR G l mi_J8_checkIndex [.int x0, .int x1] h none o.2 := by
  refine XR.of C0 (by decide) (Nat.le_of_ble_eq_true rfl) (fun C _ _ _ hE => ?_)
  show X G C mi_J8_checkIndex 0 [(0, .int x0), (1, .int x1)] [] h
  unfold f_J8_checkIndex at H
  refine x_iload_n 0 rfl dJ8_checkIndex_0 ?_
  refine x_iload_n 1 rfl dJ8_checkIndex_1 ?_
  refine x_gets (v := .ref 3) (List.mem_of_getElem? (i := 4) rfl) q631 dJ8_checkIndex_2 ?_
  obtain ⟨a1, g1, e1, H⟩ := obR H
  refine x_callS (M' := mi_J5_checkIndex) (n := 3) (As := [.int x0, .int x1, .ref 3]) (t_J5_checkIndex C _ e1) md_J5_checkIndex ⟨Nat.le_of_ble_eq_true rfl, Nat.le_of_ble_eq_true rfl⟩ q654 q332 q128 q333 rfl (Nat.le_of_ble_eq_true rfl) dJ8_checkIndex_5 ?_
  refine x_pop dJ8_checkIndex_8 rfl ?_
  obtain rfl := Option.some.inj H
  exact x_vret hE rfl dJ8_checkIndex_9
abbrev mi_J9_checkIndex : xM := (cJ9_checkIndex, yJ9_checkIndex, 2, none, 3)
theorem md_J9_checkIndex : xMD mi_J9_checkIndex 2 := ⟨by decide, by decide, by decide +kernel⟩
def f_J9_checkIndex (x0 : Int32) (r1 : Nat) (h : mH) : Option (Unit × mH) := bR (f_J9_length r1 h) fun a1 g1 => bR (f_J8_checkIndex x0 a1 g1) fun a2 g2 => some ((), g2)
theorem t_J9_checkIndex {G : xG} (C0 : xC) {l : Launch} {x0 : Int32} {r1 : Nat} (h : mH) {o : Unit × mH} (H : f_J9_checkIndex x0 r1 h = some o) : XR G l mi_J9_checkIndex [.int x0, .ref r1] h none o.2 := by
  refine XR.of C0 (by decide) (Nat.le_of_ble_eq_true rfl) (fun C _ _ _ hE => ?_)
  show X G C mi_J9_checkIndex 0 [(0, .int x0), (1, .ref r1)] [] h
  unfold f_J9_checkIndex at H
  refine x_iload_n 0 rfl dJ9_checkIndex_0 ?_
  refine x_aload_n 1 rfl dJ9_checkIndex_1 ?_
  obtain ⟨a1, g1, e1, H⟩ := obR H
  refine x_callS (M' := mi_J9_length) (n := 1) (As := [.ref r1]) (t_J9_length C _ e1) md_J9_length ⟨Nat.le_of_ble_eq_true rfl, Nat.le_of_ble_eq_true rfl⟩ q625 q626 q137 q627 rfl (Nat.le_of_ble_eq_true rfl) dJ9_checkIndex_2 ?_
  obtain ⟨a2, g2, e2, H⟩ := obR H
  refine x_callS (M' := mi_J8_checkIndex) (n := 2) (As := [.int x0, .int a1]) (t_J8_checkIndex C _ e2) md_J8_checkIndex ⟨Nat.le_of_ble_eq_true rfl, Nat.le_of_ble_eq_true rfl⟩ q651 q652 q136 q653 rfl (Nat.le_of_ble_eq_true rfl) dJ9_checkIndex_5 ?_
  obtain rfl := Option.some.inj H
  exact x_vret hE rfl dJ9_checkIndex_8
abbrev mi_J9_putChar : xM := (cJ9_putChar, yJ9_putChar, 3, none, 1)
theorem md_J9_putChar : xMD mi_J9_putChar 3 := ⟨by decide, by decide, by decide +kernel⟩
def f_J9_putChar (r0 : Nat) (x1 : Int32) (x2 : Int32) (h : mH) : Option (Unit × mH) := none
theorem t_J9_putChar {G : xG} (C0 : xC) {l : Launch} {r0 : Nat} {x1 : Int32} {x2 : Int32} (h : mH) {o : Unit × mH} (H : f_J9_putChar r0 x1 x2 h = some o) : XR G l mi_J9_putChar [.ref r0, .int x1, .int x2] h none o.2 := by
  refine XR.of C0 (by decide) (Nat.le_of_ble_eq_true rfl) (fun C _ _ _ hE => ?_)
  show X G C mi_J9_putChar 0 [(0, .ref r0), (1, .int x1), (2, .int x2)] [] h
  unfold f_J9_putChar at H
  exact nomatch H
abbrev mi_J9_putCharSB : xM := (cJ9_putCharSB, yJ9_putCharSB, 3, none, 4)
theorem md_J9_putCharSB : xMD mi_J9_putCharSB 3 := ⟨by decide, by decide, by decide +kernel⟩
def f_J9_putCharSB (r0 : Nat) (x1 : Int32) (x2 : Int32) (h : mH) : Option (Unit × mH) := bR (f_J9_checkIndex x1 r0 h) fun a1 g1 => bR (f_J9_putChar r0 x1 x2 g1) fun a2 g2 => some ((), g2)
theorem t_J9_putCharSB {G : xG} (C0 : xC) {l : Launch} {r0 : Nat} {x1 : Int32} {x2 : Int32} (h : mH) {o : Unit × mH} (H : f_J9_putCharSB r0 x1 x2 h = some o) : XR G l mi_J9_putCharSB [.ref r0, .int x1, .int x2] h none o.2 := by
  refine XR.of C0 (by decide) (Nat.le_of_ble_eq_true rfl) (fun C _ _ _ hE => ?_)
  show X G C mi_J9_putCharSB 0 [(0, .ref r0), (1, .int x1), (2, .int x2)] [] h
  unfold f_J9_putCharSB at H
  refine x_iload_n 1 rfl dJ9_putCharSB_0 ?_
  refine x_aload_n 0 rfl dJ9_putCharSB_1 ?_
  obtain ⟨a1, g1, e1, H⟩ := obR H
  refine x_callS (M' := mi_J9_checkIndex) (n := 2) (As := [.int x1, .ref r0]) (t_J9_checkIndex C _ e1) md_J9_checkIndex ⟨Nat.le_of_ble_eq_true rfl, Nat.le_of_ble_eq_true rfl⟩ q648 q649 q137 q650 rfl (Nat.le_of_ble_eq_true rfl) dJ9_putCharSB_2 ?_
  refine x_aload_n 0 rfl dJ9_putCharSB_5 ?_
  refine x_iload_n 1 rfl dJ9_putCharSB_6 ?_
  refine x_iload_n 2 rfl dJ9_putCharSB_7 ?_
  obtain ⟨a2, g2, e2, H⟩ := obR H
  refine x_callS (M' := mi_J9_putChar) (n := 3) (As := [.ref r0, .int x1, .int x2]) (t_J9_putChar C _ e2) md_J9_putChar ⟨Nat.le_of_ble_eq_true rfl, Nat.le_of_ble_eq_true rfl⟩ q636 q637 q137 q638 rfl (Nat.le_of_ble_eq_true rfl) dJ9_putCharSB_8 ?_
  obtain rfl := Option.some.inj H
  exact x_vret hE rfl dJ9_putCharSB_11
abbrev mi_J6_append : xM := (cJ6_append, yJ6_append, 2, some (.object "java/lang/AbstractStringBuilder"), 5)
theorem md_J6_append : xMD mi_J6_append 1 := ⟨by decide, by decide, by decide +kernel⟩
def f_J6_append_b45 (r0 : Nat) (x1 : Int32) (h : mH) : Option (Nat × mH) := if gC h r0 ∈ [22] then bR (f_J6_isLatin1 r0  h) fun a5 g5 => if a5 = 0 then (gFr [22] 0 g5 r0).bind fun v7 => (gFi [22] 3 g5 r0).bind fun v8 => (pF [22] 3 (.int (v8 + (1 : Int32))) g5 r0).bind fun h9 => bR (f_J9_putCharSB v7 v8 x1 h9) fun a10 g10 => some (r0, g10) else none else none
theorem t_J6_append_b45 {G : xG} {C : xC} {o : Nat × mH} (hE : xEnd G C (some (.ref o.1)) o.2) (r0 : Nat) (x1 : Int32) (h : mH) (H : f_J6_append_b45 r0 x1 h = some o) : X G C mi_J6_append 45 [(0, .ref r0), (1, .int x1)] [] h := by
  unfold f_J6_append_b45 at H
  refine x_aload_n 0 rfl dJ6_append_45 ?_
  obtain ⟨c5, H⟩ := oit H
  obtain ⟨a5, g5, e5, H⟩ := obR H
  refine x_callC (M' := mi_J6_isLatin1) (n := 0) (As := []) (t_J6_isLatin1 C _ e5) c5 uc_J6_83 (by decide +kernel) ⟨Nat.le_of_ble_eq_true rfl, Nat.le_of_ble_eq_true rfl⟩ q608 rfl (Nat.le_of_ble_eq_true rfl) dJ6_append_46 ?_
  refine x_if_eq 56 dJ6_append_49 (by decide) (fun c6 => ?_) (fun c6 => ?_)
  · rw [if_pos c6] at H
    refine x_aload_n 0 rfl dJ6_append_56 ?_
    obtain ⟨v7, e7, H⟩ := ob H
    refine x_getf fg_J6_15 (gFr_spec e7) dJ6_append_57 ?_
    refine x_aload_n 0 rfl dJ6_append_60 ?_
    refine x_dup dJ6_append_61 rfl ?_
    obtain ⟨v8, e8, H⟩ := ob H
    refine x_getf fg_J6_79 (gFi_spec e8) dJ6_append_62 ?_
    refine x_dup_x1 dJ6_append_65 rfl rfl ?_
    refine x_iconst (1 : Int32) dJ6_append_66 ic_1 ?_
    refine x_iadd dJ6_append_67 ?_
    obtain ⟨h9, e9, H⟩ := ob H
    refine x_putf (fp_J6_79 _) rfl rfl e9 dJ6_append_68 ?_
    refine x_iload_n 1 rfl dJ6_append_71 ?_
    obtain ⟨a10, g10, e10, H⟩ := obR H
    refine x_callS (M' := mi_J9_putCharSB) (n := 3) (As := [.ref v7, .int v8, .int x1]) (t_J9_putCharSB C _ e10) md_J9_putCharSB ⟨Nat.le_of_ble_eq_true rfl, Nat.le_of_ble_eq_true rfl⟩ q645 q646 q137 q647 rfl (Nat.le_of_ble_eq_true rfl) dJ6_append_72 ?_
    refine x_aload_n 0 rfl dJ6_append_75 ?_
    obtain rfl := Option.some.inj H
    exact x_aret hE rfl (by first | exact Or.inl ⟨_, rfl⟩ | exact Or.inr ⟨_, rfl⟩) dJ6_append_76
  · rw [if_neg c6] at H
    refine x_aload_n 0 rfl dJ6_append_52 ?_
    exact nomatch H
def f_J6_append (r0 : Nat) (x1 : Int32) (h : mH) : Option (Nat × mH) := (gFi [22] 3 h r0).bind fun v1 => if gC h r0 ∈ [22] then bR (f_J6_ensureCapacityInternal r0 (v1 + (1 : Int32)) h) fun a2 g2 => if gC g2 r0 ∈ [22] then bR (f_J6_isLatin1 r0  g2) fun a3 g3 => if a3 = 0 then f_J6_append_b45 r0 x1 g3 else bR (f_J12_canEncode x1 g3) fun a11 g11 => if a11 = 0 then f_J6_append_b45 r0 x1 g11 else (gFr [22] 0 g11 r0).bind fun v13 => (gFi [22] 3 g11 r0).bind fun v14 => (pF [22] 3 (.int (v14 + (1 : Int32))) g11 r0).bind fun h15 => (sI .byte h15 v13 v14 (x1.toInt8.toInt32)).bind fun h16 => some (r0, h16) else none else none
theorem t_J6_append {G : xG} (C0 : xC) {l : Launch} {r0 : Nat} {x1 : Int32} (h : mH) {o : Nat × mH} (H : f_J6_append r0 x1 h = some o) : XR G l mi_J6_append [.ref r0, .int x1] h (some (.ref o.1)) o.2 := by
  refine XR.of C0 (by decide) (Nat.le_of_ble_eq_true rfl) (fun C _ _ _ hE => ?_)
  show X G C mi_J6_append 0 [(0, .ref r0), (1, .int x1)] [] h
  unfold f_J6_append at H
  refine x_aload_n 0 rfl dJ6_append_0 ?_
  refine x_aload_n 0 rfl dJ6_append_1 ?_
  obtain ⟨v1, e1, H⟩ := ob H
  refine x_getf fg_J6_79 (gFi_spec e1) dJ6_append_2 ?_
  refine x_iconst (1 : Int32) dJ6_append_5 ic_1 ?_
  refine x_iadd dJ6_append_6 ?_
  obtain ⟨c2, H⟩ := oit H
  obtain ⟨a2, g2, e2, H⟩ := obR H
  refine x_callC (M' := mi_J6_ensureCapacityInternal) (n := 1) (As := [.int (v1 + (1 : Int32))]) (t_J6_ensureCapacityInternal C _ e2) c2 uc_J6_100 (by decide +kernel) ⟨Nat.le_of_ble_eq_true rfl, Nat.le_of_ble_eq_true rfl⟩ q574 rfl (Nat.le_of_ble_eq_true rfl) dJ6_append_7 ?_
  refine x_aload_n 0 rfl dJ6_append_10 ?_
  obtain ⟨c3, H⟩ := oit H
  obtain ⟨a3, g3, e3, H⟩ := obR H
  refine x_callC (M' := mi_J6_isLatin1) (n := 0) (As := []) (t_J6_isLatin1 C _ e3) c3 uc_J6_83 (by decide +kernel) ⟨Nat.le_of_ble_eq_true rfl, Nat.le_of_ble_eq_true rfl⟩ q608 rfl (Nat.le_of_ble_eq_true rfl) dJ6_append_11 ?_
  refine x_if_eq 45 dJ6_append_14 (by decide) (fun c4 => ?_) (fun c4 => ?_)
  · rw [if_pos c4] at H
    exact t_J6_append_b45 hE _ _ _ H
  · rw [if_neg c4] at H
    refine x_iload_n 1 rfl dJ6_append_17 ?_
    obtain ⟨a11, g11, e11, H⟩ := obR H
    refine x_callS (M' := mi_J12_canEncode) (n := 1) (As := [.int x1]) (t_J12_canEncode C _ e11) md_J12_canEncode ⟨Nat.le_of_ble_eq_true rfl, Nat.le_of_ble_eq_true rfl⟩ q609 q610 q140 q611 rfl (Nat.le_of_ble_eq_true rfl) dJ6_append_18 ?_
    refine x_if_eq 45 dJ6_append_21 (by decide) (fun c12 => ?_) (fun c12 => ?_)
    · rw [if_pos c12] at H
      exact t_J6_append_b45 hE _ _ _ H
    · rw [if_neg c12] at H
      refine x_aload_n 0 rfl dJ6_append_24 ?_
      obtain ⟨v13, e13, H⟩ := ob H
      refine x_getf fg_J6_15 (gFr_spec e13) dJ6_append_25 ?_
      refine x_aload_n 0 rfl dJ6_append_28 ?_
      refine x_dup dJ6_append_29 rfl ?_
      obtain ⟨v14, e14, H⟩ := ob H
      refine x_getf fg_J6_79 (gFi_spec e14) dJ6_append_30 ?_
      refine x_dup_x1 dJ6_append_33 rfl rfl ?_
      refine x_iconst (1 : Int32) dJ6_append_34 ic_1 ?_
      refine x_iadd dJ6_append_35 ?_
      obtain ⟨h15, e15, H⟩ := ob H
      refine x_putf (fp_J6_79 _) rfl rfl e15 dJ6_append_36 ?_
      refine x_iload_n 1 rfl dJ6_append_39 ?_
      refine x_i2b dJ6_append_40 ?_
      obtain ⟨h16, e16, H⟩ := ob H
      refine x_bast e16 dJ6_append_41 ?_
      refine x_goto (tgt := 75) dJ6_append_42 (by decide) ?_
      refine x_aload_n 0 rfl dJ6_append_75 ?_
      obtain rfl := Option.some.inj H
      exact x_aret hE rfl (by first | exact Or.inl ⟨_, rfl⟩ | exact Or.inr ⟨_, rfl⟩) dJ6_append_76
abbrev mi_J7_append : xM := (cJ7_append, yJ7_append, 2, some (.object "java/lang/StringBuilder"), 6)
theorem md_J7_append : xMD mi_J7_append 1 := ⟨by decide, by decide, by decide +kernel⟩
def f_J7_append (r0 : Nat) (x1 : Int32) (h : mH) : Option (Nat × mH) := if gC h r0 = 22 then bR (f_J6_append r0 x1 h) fun a1 g1 => some (r0, g1) else none
theorem t_J7_append {G : xG} (C0 : xC) {l : Launch} {r0 : Nat} {x1 : Int32} (h : mH) {o : Nat × mH} (H : f_J7_append r0 x1 h = some o) : XR G l mi_J7_append [.ref r0, .int x1] h (some (.ref o.1)) o.2 := by
  refine XR.of C0 (by decide) (Nat.le_of_ble_eq_true rfl) (fun C _ _ _ hE => ?_)
  show X G C mi_J7_append 0 [(0, .ref r0), (1, .int x1)] [] h
  unfold f_J7_append at H
  refine x_aload_n 0 rfl dJ7_append_0 ?_
  refine x_iload_n 1 rfl dJ7_append_1 ?_
  obtain ⟨c1, H⟩ := oit H
  obtain ⟨a1, g1, e1, H⟩ := obR H
  refine x_callSU (M' := mi_J6_append) (n := 1) (As := [.int x1]) (t_J6_append C _ e1) c1 rfl ⟨Nat.le_of_ble_eq_true rfl, Nat.le_of_ble_eq_true rfl⟩ (by decide) (by decide +kernel) q568 q2526 q563 q569 q134 q570 rfl (Nat.le_of_ble_eq_true rfl) dJ7_append_2 ?_
  refine x_pop dJ7_append_5 rfl ?_
  refine x_aload_n 0 rfl dJ7_append_6 ?_
  obtain rfl := Option.some.inj H
  exact x_aret hE rfl (by first | exact Or.inl ⟨_, rfl⟩ | exact Or.inr ⟨_, rfl⟩) dJ7_append_7
abbrev mi_X6_byteAt : xM := (cX6_byteAt, yX6_byteAt, 2, some .int, 1)
theorem md_X6_byteAt : xMD mi_X6_byteAt 1 := ⟨by decide, by decide, by decide +kernel⟩
def f_X6_byteAt (r0 : Nat) (x1 : Int32) (h : mH) : Option (Int32 × mH) := (gFi [5, 6, 7] 1 h r0).bind fun v1 => if v1 ≤ x1 then some ((0 : Int32), h) else (gFr [5, 6, 7] 0 h r0).bind fun v3 => (aI .byte h v3 x1).bind fun v4 => some ((v4 &&& (255 : Int32)), h)
theorem t_X6_byteAt {G : xG} (C0 : xC) {l : Launch} {r0 : Nat} {x1 : Int32} (h : mH) {o : Int32 × mH} (H : f_X6_byteAt r0 x1 h = some o) : XR G l mi_X6_byteAt [.ref r0, .int x1] h (some (.int o.1)) o.2 := by
  refine XR.of C0 (by decide) (Nat.le_of_ble_eq_true rfl) (fun C _ _ _ hE => ?_)
  show X G C mi_X6_byteAt 0 [(0, .ref r0), (1, .int x1)] [] h
  unfold f_X6_byteAt at H
  refine x_iload_n 1 rfl dX6_byteAt_0 ?_
  refine x_aload_n 0 rfl dX6_byteAt_1 ?_
  obtain ⟨v1, e1, H⟩ := ob H
  refine x_getf fg_X6_21 (gFi_spec e1) dX6_byteAt_2 ?_
  refine x_icmp_ge 21 dX6_byteAt_5 (by decide) (fun c2 => ?_) (fun c2 => ?_)
  · rw [if_pos c2] at H
    refine x_iconst (0 : Int32) dX6_byteAt_21 ic_0 ?_
    obtain rfl := Option.some.inj H
    exact x_iret hE rfl rfl dX6_byteAt_22
  · rw [if_neg c2] at H
    refine x_aload_n 0 rfl dX6_byteAt_8 ?_
    obtain ⟨v3, e3, H⟩ := ob H
    refine x_getf fg_X6_17 (gFr_spec e3) dX6_byteAt_9 ?_
    refine x_iload_n 1 rfl dX6_byteAt_12 ?_
    obtain ⟨v4, e4, H⟩ := ob H
    refine x_bald e4 dX6_byteAt_13 ?_
    refine x_sipush (255 : Int32) dX6_byteAt_14 si_255 ?_
    refine x_iand dX6_byteAt_17 ?_
    refine x_goto (tgt := 22) dX6_byteAt_18 (by decide) ?_
    obtain rfl := Option.some.inj H
    exact x_iret hE rfl rfl dX6_byteAt_22
abbrev mi_X6_isDigit : xM := (cX6_isDigit, yX6_isDigit, 1, some .boolean, 1)
theorem md_X6_isDigit : xMD mi_X6_isDigit 1 := ⟨by decide, by decide, by decide +kernel⟩
def f_X6_isDigit (x0 : Int32) (h : mH) : Option (Int32 × mH) := if x0 < (48 : Int32) then some ((0 : Int32), h) else if (57 : Int32) < x0 then some ((0 : Int32), h) else some ((1 : Int32), h)
theorem t_X6_isDigit {G : xG} (C0 : xC) {l : Launch} {x0 : Int32} (h : mH) {o : Int32 × mH} (H : f_X6_isDigit x0 h = some o) : XR G l mi_X6_isDigit [.int x0] h (some (.int o.1)) o.2 := by
  refine XR.of C0 (by decide) (Nat.le_of_ble_eq_true rfl) (fun C _ _ _ hE => ?_)
  show X G C mi_X6_isDigit 0 [(0, .int x0)] [] h
  unfold f_X6_isDigit at H
  refine x_iload_n 0 rfl dX6_isDigit_0 ?_
  refine x_bipush (48 : Int32) dX6_isDigit_1 bi_48 ?_
  refine x_icmp_lt 16 dX6_isDigit_3 (by decide) (fun c1 => ?_) (fun c1 => ?_)
  · rw [if_pos c1] at H
    refine x_iconst (0 : Int32) dX6_isDigit_16 ic_0 ?_
    obtain rfl := Option.some.inj H
    exact x_iret hE rfl rfl dX6_isDigit_17
  · rw [if_neg c1] at H
    refine x_iload_n 0 rfl dX6_isDigit_6 ?_
    refine x_bipush (57 : Int32) dX6_isDigit_7 bi_57 ?_
    refine x_icmp_gt 16 dX6_isDigit_9 (by decide) (fun c2 => ?_) (fun c2 => ?_)
    · rw [if_pos c2] at H
      refine x_iconst (0 : Int32) dX6_isDigit_16 ic_0 ?_
      obtain rfl := Option.some.inj H
      exact x_iret hE rfl rfl dX6_isDigit_17
    · rw [if_neg c2] at H
      refine x_iconst (1 : Int32) dX6_isDigit_12 ic_1 ?_
      refine x_goto (tgt := 17) dX6_isDigit_13 (by decide) ?_
      obtain rfl := Option.some.inj H
      exact x_iret hE rfl rfl dX6_isDigit_17
abbrev mi_X6_isLetter : xM := (cX6_isLetter, yX6_isLetter, 1, some .boolean, 1)
theorem md_X6_isLetter : xMD mi_X6_isLetter 1 := ⟨by decide, by decide, by decide +kernel⟩
def f_X6_isLetter (x0 : Int32) (h : mH) : Option (Int32 × mH) := if x0 < (97 : Int32) then some ((0 : Int32), h) else if (122 : Int32) < x0 then some ((0 : Int32), h) else some ((1 : Int32), h)
theorem t_X6_isLetter {G : xG} (C0 : xC) {l : Launch} {x0 : Int32} (h : mH) {o : Int32 × mH} (H : f_X6_isLetter x0 h = some o) : XR G l mi_X6_isLetter [.int x0] h (some (.int o.1)) o.2 := by
  refine XR.of C0 (by decide) (Nat.le_of_ble_eq_true rfl) (fun C _ _ _ hE => ?_)
  show X G C mi_X6_isLetter 0 [(0, .int x0)] [] h
  unfold f_X6_isLetter at H
  refine x_iload_n 0 rfl dX6_isLetter_0 ?_
  refine x_bipush (97 : Int32) dX6_isLetter_1 bi_97 ?_
  refine x_icmp_lt 16 dX6_isLetter_3 (by decide) (fun c1 => ?_) (fun c1 => ?_)
  · rw [if_pos c1] at H
    refine x_iconst (0 : Int32) dX6_isLetter_16 ic_0 ?_
    obtain rfl := Option.some.inj H
    exact x_iret hE rfl rfl dX6_isLetter_17
  · rw [if_neg c1] at H
    refine x_iload_n 0 rfl dX6_isLetter_6 ?_
    refine x_bipush (122 : Int32) dX6_isLetter_7 bi_122 ?_
    refine x_icmp_gt 16 dX6_isLetter_9 (by decide) (fun c2 => ?_) (fun c2 => ?_)
    · rw [if_pos c2] at H
      refine x_iconst (0 : Int32) dX6_isLetter_16 ic_0 ?_
      obtain rfl := Option.some.inj H
      exact x_iret hE rfl rfl dX6_isLetter_17
    · rw [if_neg c2] at H
      refine x_iconst (1 : Int32) dX6_isLetter_12 ic_1 ?_
      refine x_goto (tgt := 17) dX6_isLetter_13 (by decide) ?_
      obtain rfl := Option.some.inj H
      exact x_iret hE rfl rfl dX6_isLetter_17
abbrev mi_X6_go : xM := (cX6_go, yX6_go, 5, none, 9)
theorem md_X6_go : xMD mi_X6_go 0 := ⟨by decide, by decide, by decide +kernel⟩
def f_X6_go_b401 (s0 : Nat) (s1 : Int32) (h : mH) : Option (Unit × mH) := (pF [5, 6, 7] 4 (.int s1) h s0).bind fun h19 => some ((), h19)
theorem t_X6_go_b401 {G : xG} {C : xC} {o : Unit × mH} (hE : xEnd G C none o.2) (s0 : Nat) (s1 : Int32) (h : mH) (H : f_X6_go_b401 s0 s1 h = some o) : X G C mi_X6_go 401 [] [.int s1, .ref s0] h := by
  unfold f_X6_go_b401 at H
  obtain ⟨h19, e19, H⟩ := ob H
  refine x_putf (fp_X6_38 _) rfl rfl e19 dX6_go_401 ?_
  obtain rfl := Option.some.inj H
  exact x_vret hE rfl dX6_go_404
def f_X6_go_b388 (s0 : Nat) (h : mH) : Option (Unit × mH) := f_X6_go_b401 s0 (1 : Int32) h
theorem t_X6_go_b388 {G : xG} {C : xC} {o : Unit × mH} (hE : xEnd G C none o.2) (s0 : Nat) (h : mH) (H : f_X6_go_b388 s0 h = some o) : X G C mi_X6_go 388 [] [.ref s0] h := by
  unfold f_X6_go_b388 at H
  refine x_iconst (1 : Int32) dX6_go_388 ic_1 ?_
  refine x_goto (tgt := 401) dX6_go_389 (by decide) ?_
  exact t_X6_go_b401 hE _ _ _ H
def f_X6_go_b385 (x2 : Int32) (s0 : Nat) (s1 : Int32) (s2 : Int32) (h : mH) : Option (Unit × mH) := if s1 ≤ s2 then if x2 = 0 then f_X6_go_b401 s0 (3 : Int32) h else f_X6_go_b401 s0 (2 : Int32) h else f_X6_go_b388 s0 h
theorem t_X6_go_b385 {G : xG} {C : xC} {o : Unit × mH} (hE : xEnd G C none o.2) (x2 : Int32) (s0 : Nat) (s1 : Int32) (s2 : Int32) (h : mH) (H : f_X6_go_b385 x2 s0 s1 s2 h = some o) : X G C mi_X6_go 385 [(2, .int x2)] [.int s2, .int s1, .ref s0] h := by
  unfold f_X6_go_b385 at H
  refine x_icmp_le 392 dX6_go_385 (by decide) (fun c23 => ?_) (fun c23 => ?_)
  · rw [if_pos c23] at H
    refine x_iload_n 0 rfl dX6_go_392 ?_
    refine x_if_eq 400 dX6_go_393 (by decide) (fun c24 => ?_) (fun c24 => ?_)
    · rw [if_pos c24] at H
      refine x_iconst (3 : Int32) dX6_go_400 ic_3 ?_
      refine X.sub [] rfl ?_
      exact t_X6_go_b401 hE _ _ _ H
    · rw [if_neg c24] at H
      refine x_iconst (2 : Int32) dX6_go_396 ic_2 ?_
      refine x_goto (tgt := 401) dX6_go_397 (by decide) ?_
      refine X.sub [] rfl ?_
      exact t_X6_go_b401 hE _ _ _ H
  · rw [if_neg c23] at H
    refine X.sub [] rfl ?_
    exact t_X6_go_b388 hE _ _ H
def f_X6_go_b352 (r0 : Nat) (x2 : Int32) (x3 : Int32) (r4 : Nat) (h : mH) : Option (Unit × mH) := if gC h r4 = 22 then bR (f_J7_toString r4  h) fun a16 g16 => (pF [5, 6, 7] 8 (.ref a16) g16 r0).bind fun h17 => if x3 = 0 then f_X6_go_b388 r0 h17 else (gFi [5, 6, 7] 3 h17 r0).bind fun v20 => (gFi [5, 6, 7] 5 h17 r0).bind fun v21 => if x2 = 0 then f_X6_go_b385 x2 r0 (v20 - v21) (3 : Int32) h17 else f_X6_go_b385 x2 r0 (v20 - v21) (7 : Int32) h17 else none
theorem t_X6_go_b352 {G : xG} {C : xC} {o : Unit × mH} (hE : xEnd G C none o.2) (r0 : Nat) (x2 : Int32) (x3 : Int32) (r4 : Nat) (h : mH) (H : f_X6_go_b352 r0 x2 x3 r4 h = some o) : X G C mi_X6_go 352 [(0, .ref r0), (2, .int x2), (3, .int x3), (4, .ref r4)] [] h := by
  unfold f_X6_go_b352 at H
  refine x_aload_n 0 rfl dX6_go_352 ?_
  refine x_aload 3 rfl dX6_go_353 ?_
  obtain ⟨c16, H⟩ := oit H
  obtain ⟨a16, g16, e16, H⟩ := obR H
  refine x_callV (M' := mi_J7_toString) (n := 0) (As := []) (t_J7_toString C _ e16) c16 rfl rfl md_J7_toString ⟨Nat.le_of_ble_eq_true rfl, Nat.le_of_ble_eq_true rfl⟩ q655 q656 q657 q135 q658 rfl (Nat.le_of_ble_eq_true rfl) dX6_go_355 ?_
  obtain ⟨h17, e17, H⟩ := ob H
  refine x_putf (fp_X6_11 _) rfl rfl e17 dX6_go_358 ?_
  refine x_aload_n 0 rfl dX6_go_361 ?_
  refine x_iload_n 2 rfl dX6_go_362 ?_
  refine x_if_eq 388 dX6_go_363 (by decide) (fun c18 => ?_) (fun c18 => ?_)
  · rw [if_pos c18] at H
    refine X.sub [] rfl ?_
    exact t_X6_go_b388 hE _ _ H
  · rw [if_neg c18] at H
    refine x_aload_n 0 rfl dX6_go_366 ?_
    obtain ⟨v20, e20, H⟩ := ob H
    refine x_getf fg_X6_28 (gFi_spec e20) dX6_go_367 ?_
    refine x_aload_n 0 rfl dX6_go_370 ?_
    obtain ⟨v21, e21, H⟩ := ob H
    refine x_getf fg_X6_35 (gFi_spec e21) dX6_go_371 ?_
    refine x_isub dX6_go_374 ?_
    refine x_iload_n 1 rfl dX6_go_375 ?_
    refine x_if_eq 384 dX6_go_376 (by decide) (fun c22 => ?_) (fun c22 => ?_)
    · rw [if_pos c22] at H
      refine x_iconst (3 : Int32) dX6_go_384 ic_3 ?_
      refine X.sub [1] rfl ?_
      exact t_X6_go_b385 hE _ _ _ _ _ H
    · rw [if_neg c22] at H
      refine x_bipush (7 : Int32) dX6_go_379 bi_7 ?_
      refine x_goto (tgt := 385) dX6_go_381 (by decide) ?_
      refine X.sub [1] rfl ?_
      exact t_X6_go_b385 hE _ _ _ _ _ H
def f_X6_go_b339 (kb : Nat → Int32 → Int32 → Nat → mH → Option (Unit × mH)) (k352 : Nat → Int32 → Int32 → Nat → mH → Option (Unit × mH)) (r0 : Nat) (x2 : Int32) (x3 : Int32) (r4 : Nat) (h : mH) : Option (Unit × mH) := (gFi [5, 6, 7] 3 h r0).bind fun v36 => (pF [5, 6, 7] 3 (.int (v36 + (1 : Int32))) h r0).bind fun h37 => kb r0 x2 x3 r4 h37
theorem t_X6_go_b339 {G : xG} {C : xC} {o : Unit × mH} (hE : xEnd G C none o.2) {kb : Nat → Int32 → Int32 → Nat → mH → Option (Unit × mH)} (hkb : ∀ (r0 : Nat) (x2 : Int32) (x3 : Int32) (r4 : Nat) (h : mH), kb r0 x2 x3 r4 h = some o → X G C mi_X6_go 221 [(0, .ref r0), (2, .int x2), (3, .int x3), (4, .ref r4)] [] h) {k352 : Nat → Int32 → Int32 → Nat → mH → Option (Unit × mH)} (hk352 : ∀ (r0 : Nat) (x2 : Int32) (x3 : Int32) (r4 : Nat) (h : mH), k352 r0 x2 x3 r4 h = some o → X G C mi_X6_go 352 [(0, .ref r0), (2, .int x2), (3, .int x3), (4, .ref r4)] [] h) (r0 : Nat) (x2 : Int32) (x3 : Int32) (r4 : Nat) (h : mH) (H : f_X6_go_b339 kb k352 r0 x2 x3 r4 h = some o) : X G C mi_X6_go 339 [(0, .ref r0), (2, .int x2), (3, .int x3), (4, .ref r4)] [] h := by
  unfold f_X6_go_b339 at H
  refine x_aload_n 0 rfl dX6_go_339 ?_
  refine x_dup dX6_go_340 rfl ?_
  obtain ⟨v36, e36, H⟩ := ob H
  refine x_getf fg_X6_28 (gFi_spec e36) dX6_go_341 ?_
  refine x_iconst (1 : Int32) dX6_go_344 ic_1 ?_
  refine x_iadd dX6_go_345 ?_
  obtain ⟨h37, e37, H⟩ := ob H
  refine x_putf (fp_X6_28 _) rfl rfl e37 dX6_go_346 ?_
  refine x_goto (tgt := 221) dX6_go_349 (by decide) ?_
  exact hkb _ _ _ _ _ H
def f_X6_go_b303 (kb : Nat → Int32 → Int32 → Nat → mH → Option (Unit × mH)) (k352 : Nat → Int32 → Int32 → Nat → mH → Option (Unit × mH)) (r0 : Nat) (x2 : Int32) (x3 : Int32) (r4 : Nat) (h : mH) : Option (Unit × mH) := (gFi [5, 6, 7] 3 h r0).bind fun v33 => (gFi [5, 6, 7] 5 h r0).bind fun v34 => if (3 : Int32) ≤ (v33 - v34) then f_X6_go_b339 kb k352 r0 x2 x3 r4 h else (gFi [5, 6, 7] 6 h r0).bind fun v38 => (gFi [5, 6, 7] 3 h r0).bind fun v39 => if gC h r0 ∈ [5, 6, 7] then bR (f_X6_byteAt r0 v39 h) fun a40 g40 => (pF [5, 6, 7] 6 (.int ((((10 : Int32) * v38) + a40) - (48 : Int32))) g40 r0).bind fun h41 => f_X6_go_b339 kb k352 r0 x2 x3 r4 h41 else none
theorem t_X6_go_b303 {G : xG} {C : xC} {o : Unit × mH} (hE : xEnd G C none o.2) {kb : Nat → Int32 → Int32 → Nat → mH → Option (Unit × mH)} (hkb : ∀ (r0 : Nat) (x2 : Int32) (x3 : Int32) (r4 : Nat) (h : mH), kb r0 x2 x3 r4 h = some o → X G C mi_X6_go 221 [(0, .ref r0), (2, .int x2), (3, .int x3), (4, .ref r4)] [] h) {k352 : Nat → Int32 → Int32 → Nat → mH → Option (Unit × mH)} (hk352 : ∀ (r0 : Nat) (x2 : Int32) (x3 : Int32) (r4 : Nat) (h : mH), k352 r0 x2 x3 r4 h = some o → X G C mi_X6_go 352 [(0, .ref r0), (2, .int x2), (3, .int x3), (4, .ref r4)] [] h) (r0 : Nat) (x2 : Int32) (x3 : Int32) (r4 : Nat) (h : mH) (H : f_X6_go_b303 kb k352 r0 x2 x3 r4 h = some o) : X G C mi_X6_go 303 [(0, .ref r0), (2, .int x2), (3, .int x3), (4, .ref r4)] [] h := by
  unfold f_X6_go_b303 at H
  refine x_aload_n 0 rfl dX6_go_303 ?_
  obtain ⟨v33, e33, H⟩ := ob H
  refine x_getf fg_X6_28 (gFi_spec e33) dX6_go_304 ?_
  refine x_aload_n 0 rfl dX6_go_307 ?_
  obtain ⟨v34, e34, H⟩ := ob H
  refine x_getf fg_X6_35 (gFi_spec e34) dX6_go_308 ?_
  refine x_isub dX6_go_311 ?_
  refine x_iconst (3 : Int32) dX6_go_312 ic_3 ?_
  refine x_icmp_ge 339 dX6_go_313 (by decide) (fun c35 => ?_) (fun c35 => ?_)
  · rw [if_pos c35] at H
    exact t_X6_go_b339 hE hkb hk352 _ _ _ _ _ H
  · rw [if_neg c35] at H
    refine x_aload_n 0 rfl dX6_go_316 ?_
    refine x_bipush (10 : Int32) dX6_go_317 bi_10 ?_
    refine x_aload_n 0 rfl dX6_go_319 ?_
    obtain ⟨v38, e38, H⟩ := ob H
    refine x_getf fg_X6_51 (gFi_spec e38) dX6_go_320 ?_
    refine x_imul dX6_go_323 ?_
    refine x_aload_n 0 rfl dX6_go_324 ?_
    refine x_aload_n 0 rfl dX6_go_325 ?_
    obtain ⟨v39, e39, H⟩ := ob H
    refine x_getf fg_X6_28 (gFi_spec e39) dX6_go_326 ?_
    obtain ⟨c40, H⟩ := oit H
    obtain ⟨a40, g40, e40, H⟩ := obR H
    refine x_callC (M' := mi_X6_byteAt) (n := 1) (As := [.int v39]) (t_X6_byteAt C _ e40) c40 uc_X6_31 (by decide +kernel) ⟨Nat.le_of_ble_eq_true rfl, Nat.le_of_ble_eq_true rfl⟩ q526 rfl (Nat.le_of_ble_eq_true rfl) dX6_go_329 ?_
    refine x_iadd dX6_go_332 ?_
    refine x_bipush (48 : Int32) dX6_go_333 bi_48 ?_
    refine x_isub dX6_go_335 ?_
    obtain ⟨h41, e41, H⟩ := ob H
    refine x_putf (fp_X6_51 _) rfl rfl e41 dX6_go_336 ?_
    exact t_X6_go_b339 hE hkb hk352 _ _ _ _ _ H
def f_X6_go_b273 (kb : Nat → Int32 → Int32 → Nat → mH → Option (Unit × mH)) (k352 : Nat → Int32 → Int32 → Nat → mH → Option (Unit × mH)) (r0 : Nat) (x2 : Int32) (r4 : Nat) (s0 : Int32) (h : mH) : Option (Unit × mH) := (gFi [5, 6, 7] 3 h r0).bind fun v30 => (gFi [5, 6, 7] 5 h r0).bind fun v31 => if (7 : Int32) ≤ (v30 - v31) then f_X6_go_b303 kb k352 r0 x2 s0 r4 h else (gFi [5, 6, 7] 3 h r0).bind fun v42 => if gC h r0 ∈ [5, 6, 7] then bR (f_X6_byteAt r0 v42 h) fun a43 g43 => if gC g43 r4 = 22 then bR (f_J7_append r4 ((a43.toUInt32 % 65536).toInt32) g43) fun a44 g44 => f_X6_go_b303 kb k352 r0 x2 s0 r4 g44 else none else none
theorem t_X6_go_b273 {G : xG} {C : xC} {o : Unit × mH} (hE : xEnd G C none o.2) {kb : Nat → Int32 → Int32 → Nat → mH → Option (Unit × mH)} (hkb : ∀ (r0 : Nat) (x2 : Int32) (x3 : Int32) (r4 : Nat) (h : mH), kb r0 x2 x3 r4 h = some o → X G C mi_X6_go 221 [(0, .ref r0), (2, .int x2), (3, .int x3), (4, .ref r4)] [] h) {k352 : Nat → Int32 → Int32 → Nat → mH → Option (Unit × mH)} (hk352 : ∀ (r0 : Nat) (x2 : Int32) (x3 : Int32) (r4 : Nat) (h : mH), k352 r0 x2 x3 r4 h = some o → X G C mi_X6_go 352 [(0, .ref r0), (2, .int x2), (3, .int x3), (4, .ref r4)] [] h) (r0 : Nat) (x2 : Int32) (r4 : Nat) (s0 : Int32) (h : mH) (H : f_X6_go_b273 kb k352 r0 x2 r4 s0 h = some o) : X G C mi_X6_go 273 [(0, .ref r0), (2, .int x2), (4, .ref r4)] [.int s0] h := by
  unfold f_X6_go_b273 at H
  refine x_istore_n [1, 2, 0, 3] dX6_go_273 (by decide) rfl ?_
  refine x_aload_n 0 rfl dX6_go_274 ?_
  obtain ⟨v30, e30, H⟩ := ob H
  refine x_getf fg_X6_28 (gFi_spec e30) dX6_go_275 ?_
  refine x_aload_n 0 rfl dX6_go_278 ?_
  obtain ⟨v31, e31, H⟩ := ob H
  refine x_getf fg_X6_35 (gFi_spec e31) dX6_go_279 ?_
  refine x_isub dX6_go_282 ?_
  refine x_bipush (7 : Int32) dX6_go_283 bi_7 ?_
  refine x_icmp_ge 303 dX6_go_285 (by decide) (fun c32 => ?_) (fun c32 => ?_)
  · rw [if_pos c32] at H
    exact t_X6_go_b303 hE hkb hk352 _ _ _ _ _ H
  · rw [if_neg c32] at H
    refine x_aload 3 rfl dX6_go_288 ?_
    refine x_aload_n 0 rfl dX6_go_290 ?_
    refine x_aload_n 0 rfl dX6_go_291 ?_
    obtain ⟨v42, e42, H⟩ := ob H
    refine x_getf fg_X6_28 (gFi_spec e42) dX6_go_292 ?_
    obtain ⟨c43, H⟩ := oit H
    obtain ⟨a43, g43, e43, H⟩ := obR H
    refine x_callC (M' := mi_X6_byteAt) (n := 1) (As := [.int v42]) (t_X6_byteAt C _ e43) c43 uc_X6_31 (by decide +kernel) ⟨Nat.le_of_ble_eq_true rfl, Nat.le_of_ble_eq_true rfl⟩ q526 rfl (Nat.le_of_ble_eq_true rfl) dX6_go_295 ?_
    refine x_i2c dX6_go_298 ?_
    obtain ⟨c44, H⟩ := oit H
    obtain ⟨a44, g44, e44, H⟩ := obR H
    refine x_callV (M' := mi_J7_append) (n := 1) (As := [.int ((a43.toUInt32 % 65536).toInt32)]) (t_J7_append C _ e44) c44 rfl rfl md_J7_append ⟨Nat.le_of_ble_eq_true rfl, Nat.le_of_ble_eq_true rfl⟩ q564 q565 q566 q135 q567 rfl (Nat.le_of_ble_eq_true rfl) dX6_go_299 ?_
    refine x_pop dX6_go_302 rfl ?_
    exact t_X6_go_b303 hE hkb hk352 _ _ _ _ _ H
def f_X6_go_b272 (kb : Nat → Int32 → Int32 → Nat → mH → Option (Unit × mH)) (k352 : Nat → Int32 → Int32 → Nat → mH → Option (Unit × mH)) (r0 : Nat) (x2 : Int32) (r4 : Nat) (h : mH) : Option (Unit × mH) := f_X6_go_b273 kb k352 r0 x2 r4 (0 : Int32) h
theorem t_X6_go_b272 {G : xG} {C : xC} {o : Unit × mH} (hE : xEnd G C none o.2) {kb : Nat → Int32 → Int32 → Nat → mH → Option (Unit × mH)} (hkb : ∀ (r0 : Nat) (x2 : Int32) (x3 : Int32) (r4 : Nat) (h : mH), kb r0 x2 x3 r4 h = some o → X G C mi_X6_go 221 [(0, .ref r0), (2, .int x2), (3, .int x3), (4, .ref r4)] [] h) {k352 : Nat → Int32 → Int32 → Nat → mH → Option (Unit × mH)} (hk352 : ∀ (r0 : Nat) (x2 : Int32) (x3 : Int32) (r4 : Nat) (h : mH), k352 r0 x2 x3 r4 h = some o → X G C mi_X6_go 352 [(0, .ref r0), (2, .int x2), (3, .int x3), (4, .ref r4)] [] h) (r0 : Nat) (x2 : Int32) (r4 : Nat) (h : mH) (H : f_X6_go_b272 kb k352 r0 x2 r4 h = some o) : X G C mi_X6_go 272 [(0, .ref r0), (2, .int x2), (4, .ref r4)] [] h := by
  unfold f_X6_go_b272 at H
  refine x_iconst (0 : Int32) dX6_go_272 ic_0 ?_
  exact t_X6_go_b273 hE hkb hk352 _ _ _ _ _ H
def f_X6_go_b249 (kb : Nat → Int32 → Int32 → Nat → mH → Option (Unit × mH)) (k352 : Nat → Int32 → Int32 → Nat → mH → Option (Unit × mH)) (r0 : Nat) (x2 : Int32) (x3 : Int32) (r4 : Nat) (h : mH) : Option (Unit × mH) := if x3 = 0 then f_X6_go_b272 kb k352 r0 x2 r4 h else (gFi [5, 6, 7] 3 h r0).bind fun v45 => if gC h r0 ∈ [5, 6, 7] then bR (f_X6_byteAt r0 v45 h) fun a46 g46 => bR (f_X6_isLetter a46 g46) fun a47 g47 => if a47 = x2 then f_X6_go_b273 kb k352 r0 x2 r4 (1 : Int32) g47 else f_X6_go_b272 kb k352 r0 x2 r4 g47 else none
theorem t_X6_go_b249 {G : xG} {C : xC} {o : Unit × mH} (hE : xEnd G C none o.2) {kb : Nat → Int32 → Int32 → Nat → mH → Option (Unit × mH)} (hkb : ∀ (r0 : Nat) (x2 : Int32) (x3 : Int32) (r4 : Nat) (h : mH), kb r0 x2 x3 r4 h = some o → X G C mi_X6_go 221 [(0, .ref r0), (2, .int x2), (3, .int x3), (4, .ref r4)] [] h) {k352 : Nat → Int32 → Int32 → Nat → mH → Option (Unit × mH)} (hk352 : ∀ (r0 : Nat) (x2 : Int32) (x3 : Int32) (r4 : Nat) (h : mH), k352 r0 x2 x3 r4 h = some o → X G C mi_X6_go 352 [(0, .ref r0), (2, .int x2), (3, .int x3), (4, .ref r4)] [] h) (r0 : Nat) (x2 : Int32) (x3 : Int32) (r4 : Nat) (h : mH) (H : f_X6_go_b249 kb k352 r0 x2 x3 r4 h = some o) : X G C mi_X6_go 249 [(0, .ref r0), (2, .int x2), (3, .int x3), (4, .ref r4)] [] h := by
  unfold f_X6_go_b249 at H
  refine x_iload_n 2 rfl dX6_go_249 ?_
  refine x_if_eq 272 dX6_go_250 (by decide) (fun c29 => ?_) (fun c29 => ?_)
  · rw [if_pos c29] at H
    refine X.sub [0, 1, 3] rfl ?_
    exact t_X6_go_b272 hE hkb hk352 _ _ _ _ H
  · rw [if_neg c29] at H
    refine x_aload_n 0 rfl dX6_go_253 ?_
    refine x_aload_n 0 rfl dX6_go_254 ?_
    obtain ⟨v45, e45, H⟩ := ob H
    refine x_getf fg_X6_28 (gFi_spec e45) dX6_go_255 ?_
    obtain ⟨c46, H⟩ := oit H
    obtain ⟨a46, g46, e46, H⟩ := obR H
    refine x_callC (M' := mi_X6_byteAt) (n := 1) (As := [.int v45]) (t_X6_byteAt C _ e46) c46 uc_X6_31 (by decide +kernel) ⟨Nat.le_of_ble_eq_true rfl, Nat.le_of_ble_eq_true rfl⟩ q526 rfl (Nat.le_of_ble_eq_true rfl) dX6_go_258 ?_
    obtain ⟨a47, g47, e47, H⟩ := obR H
    refine x_callS (M' := mi_X6_isLetter) (n := 1) (As := [.int a46]) (t_X6_isLetter C _ e47) md_X6_isLetter ⟨Nat.le_of_ble_eq_true rfl, Nat.le_of_ble_eq_true rfl⟩ q527 q528 q132 q529 rfl (Nat.le_of_ble_eq_true rfl) dX6_go_261 ?_
    refine x_iload_n 1 rfl dX6_go_264 ?_
    refine x_icmp_ne 272 dX6_go_265 (by decide) (fun c48 => ?_) (fun c48 => ?_)
    · rw [if_neg c48] at H
      refine X.sub [0, 1, 3] rfl ?_
      exact t_X6_go_b272 hE hkb hk352 _ _ _ _ H
    · rw [if_pos c48] at H
      refine x_iconst (1 : Int32) dX6_go_268 ic_1 ?_
      refine x_goto (tgt := 273) dX6_go_269 (by decide) ?_
      refine X.sub [0, 1, 3] rfl ?_
      exact t_X6_go_b273 hE hkb hk352 _ _ _ _ _ H
def f_X6_go_L221 (k352 : Nat → Int32 → Int32 → Nat → mH → Option (Unit × mH)) : Nat → Nat → Int32 → Int32 → Nat → mH → Option (Unit × mH)
  | 0, _, _, _, _, _ => none
  | n + 1, r0, x2, x3, r4, h => (gFi [5, 6, 7] 3 h r0).bind fun v25 => if gC h r0 ∈ [5, 6, 7] then bR (f_X6_byteAt r0 v25 h) fun a26 g26 => bR (f_X6_isLetter a26 g26) fun a27 g27 => if a27 = 0 then (gFi [5, 6, 7] 3 g27 r0).bind fun v49 => if gC g27 r0 ∈ [5, 6, 7] then bR (f_X6_byteAt r0 v49 g27) fun a50 g50 => bR (f_X6_isDigit a50 g50) fun a51 g51 => if a51 = 0 then k352 r0 x2 x3 r4 g51 else f_X6_go_b249 (f_X6_go_L221 k352 n) k352 r0 x2 x3 r4 g51 else none else f_X6_go_b249 (f_X6_go_L221 k352 n) k352 r0 x2 x3 r4 g27 else none
theorem t_X6_go_L221 {G : xG} {C : xC} {o : Unit × mH} (hE : xEnd G C none o.2) {k352 : Nat → Int32 → Int32 → Nat → mH → Option (Unit × mH)} (hk352 : ∀ (r0 : Nat) (x2 : Int32) (x3 : Int32) (r4 : Nat) (h : mH), k352 r0 x2 x3 r4 h = some o → X G C mi_X6_go 352 [(0, .ref r0), (2, .int x2), (3, .int x3), (4, .ref r4)] [] h) : ∀ (n : Nat) (r0 : Nat) (x2 : Int32) (x3 : Int32) (r4 : Nat) (h : mH), f_X6_go_L221 k352 n r0 x2 x3 r4 h = some o → X G C mi_X6_go 221 [(0, .ref r0), (2, .int x2), (3, .int x3), (4, .ref r4)] [] h := by
  intro n
  induction n with
  | zero => intro r0 x2 x3 r4 h H; exact nomatch (show (none : Option (Unit × mH)) = some o from H)
  | succ n ih =>
    intro r0 x2 x3 r4 h H
    rw [f_X6_go_L221] at H
    refine x_aload_n 0 rfl dX6_go_221 ?_
    refine x_aload_n 0 rfl dX6_go_222 ?_
    obtain ⟨v25, e25, H⟩ := ob H
    refine x_getf fg_X6_28 (gFi_spec e25) dX6_go_223 ?_
    obtain ⟨c26, H⟩ := oit H
    obtain ⟨a26, g26, e26, H⟩ := obR H
    refine x_callC (M' := mi_X6_byteAt) (n := 1) (As := [.int v25]) (t_X6_byteAt C _ e26) c26 uc_X6_31 (by decide +kernel) ⟨Nat.le_of_ble_eq_true rfl, Nat.le_of_ble_eq_true rfl⟩ q526 rfl (Nat.le_of_ble_eq_true rfl) dX6_go_226 ?_
    obtain ⟨a27, g27, e27, H⟩ := obR H
    refine x_callS (M' := mi_X6_isLetter) (n := 1) (As := [.int a26]) (t_X6_isLetter C _ e27) md_X6_isLetter ⟨Nat.le_of_ble_eq_true rfl, Nat.le_of_ble_eq_true rfl⟩ q527 q528 q132 q529 rfl (Nat.le_of_ble_eq_true rfl) dX6_go_229 ?_
    refine x_if_ne 249 dX6_go_232 (by decide) (fun c28 => ?_) (fun c28 => ?_)
    · rw [if_neg c28] at H
      exact t_X6_go_b249 hE ih hk352 _ _ _ _ _ H
    · rw [if_pos c28] at H
      refine x_aload_n 0 rfl dX6_go_235 ?_
      refine x_aload_n 0 rfl dX6_go_236 ?_
      obtain ⟨v49, e49, H⟩ := ob H
      refine x_getf fg_X6_28 (gFi_spec e49) dX6_go_237 ?_
      obtain ⟨c50, H⟩ := oit H
      obtain ⟨a50, g50, e50, H⟩ := obR H
      refine x_callC (M' := mi_X6_byteAt) (n := 1) (As := [.int v49]) (t_X6_byteAt C _ e50) c50 uc_X6_31 (by decide +kernel) ⟨Nat.le_of_ble_eq_true rfl, Nat.le_of_ble_eq_true rfl⟩ q526 rfl (Nat.le_of_ble_eq_true rfl) dX6_go_240 ?_
      obtain ⟨a51, g51, e51, H⟩ := obR H
      refine x_callS (M' := mi_X6_isDigit) (n := 1) (As := [.int a50]) (t_X6_isDigit C _ e51) md_X6_isDigit ⟨Nat.le_of_ble_eq_true rfl, Nat.le_of_ble_eq_true rfl⟩ q530 q531 q132 q532 rfl (Nat.le_of_ble_eq_true rfl) dX6_go_243 ?_
      refine x_if_eq 352 dX6_go_246 (by decide) (fun c52 => ?_) (fun c52 => ?_)
      · rw [if_pos c52] at H
        exact hk352 _ _ _ _ _ H
      · rw [if_neg c52] at H
        exact t_X6_go_b249 hE ih hk352 _ _ _ _ _ H
def f_X6_go_b200 (r0 : Nat) (x1 : Int32) (h : mH) : Option (Unit × mH) := bR (f_X6_isLetter x1 h) fun a13 g13 => (pF [5, 6, 7] 6 (.int (0 : Int32)) g13 r0).bind fun h14 => if 6 ≤ h14.2.1 then bR (f_J7_init h14.2.1  (xnw h14 (.inr (22, [.ref 0, .int 0, .int 0, .int 0])) 4)) fun a15 g15 => f_X6_go_L221 (f_X6_go_b352) xFu r0 a13 (1 : Int32) h14.2.1 g15 else none
theorem t_X6_go_b200 {G : xG} {C : xC} {o : Unit × mH} (hE : xEnd G C none o.2) (r0 : Nat) (x1 : Int32) (h : mH) (H : f_X6_go_b200 r0 x1 h = some o) : X G C mi_X6_go 200 [(0, .ref r0), (1, .int x1)] [] h := by
  unfold f_X6_go_b200 at H
  refine x_iload_n 1 rfl dX6_go_200 ?_
  obtain ⟨a13, g13, e13, H⟩ := obR H
  refine x_callS (M' := mi_X6_isLetter) (n := 1) (As := [.int x1]) (t_X6_isLetter C _ e13) md_X6_isLetter ⟨Nat.le_of_ble_eq_true rfl, Nat.le_of_ble_eq_true rfl⟩ q527 q528 q132 q529 rfl (Nat.le_of_ble_eq_true rfl) dX6_go_201 ?_
  refine x_istore_n [1, 2, 0] dX6_go_204 (by decide) rfl ?_
  refine x_iconst (1 : Int32) dX6_go_205 ic_1 ?_
  refine x_istore_n [1, 2, 3, 0] dX6_go_206 (by decide) rfl ?_
  refine x_aload_n 0 rfl dX6_go_207 ?_
  refine x_iconst (0 : Int32) dX6_go_208 ic_0 ?_
  obtain ⟨h14, e14, H⟩ := ob H
  refine x_putf (fp_X6_51 _) rfl rfl e14 dX6_go_209 ?_
  refine x_new (fs := [.ref 0, .int 0, .int 0, .int 0]) ci_22 q533 q534 q135 (nf_J7 G) rfl dX6_go_212 ?_
  refine x_dup dX6_go_215 rfl ?_
  obtain ⟨c15, H⟩ := oit H
  obtain ⟨a15, g15, e15, H⟩ := obR H
  refine x_callI (M' := mi_J7_init) (n := 0) (As := []) (t_J7_init C _ e15) c15 md_J7_init ⟨Nat.le_of_ble_eq_true rfl, Nat.le_of_ble_eq_true rfl⟩ rfl rfl q535 q536 q135 q537 rfl (Nat.le_of_ble_eq_true rfl) dX6_go_216 ?_
  refine x_astore [1, 2, 3, 4, 0] dX6_go_219 (by decide) rfl ?_
  refine X.sub [0, 2, 3, 4] rfl ?_
  exact t_X6_go_L221 hE (t_X6_go_b352 hE) xFu _ _ _ _ _ H
def f_X6_go_b181 (r0 : Nat) (x1 : Int32) (s0 : Nat) (s1 : Int32) (h : mH) : Option (Unit × mH) := (pF [5, 6, 7] 4 (.int s1) h s0).bind fun h57 => (pF [5, 6, 7] 7 (.int x1) h57 r0).bind fun h58 => (gFi [5, 6, 7] 3 h58 r0).bind fun v59 => (pF [5, 6, 7] 3 (.int (v59 + (1 : Int32))) h58 r0).bind fun h60 => some ((), h60)
theorem t_X6_go_b181 {G : xG} {C : xC} {o : Unit × mH} (hE : xEnd G C none o.2) (r0 : Nat) (x1 : Int32) (s0 : Nat) (s1 : Int32) (h : mH) (H : f_X6_go_b181 r0 x1 s0 s1 h = some o) : X G C mi_X6_go 181 [(0, .ref r0), (1, .int x1)] [.int s1, .ref s0] h := by
  unfold f_X6_go_b181 at H
  obtain ⟨h57, e57, H⟩ := ob H
  refine x_putf (fp_X6_38 _) rfl rfl e57 dX6_go_181 ?_
  refine x_aload_n 0 rfl dX6_go_184 ?_
  refine x_iload_n 1 rfl dX6_go_185 ?_
  obtain ⟨h58, e58, H⟩ := ob H
  refine x_putf (fp_X6_48 _) rfl rfl e58 dX6_go_186 ?_
  refine x_aload_n 0 rfl dX6_go_189 ?_
  refine x_dup dX6_go_190 rfl ?_
  obtain ⟨v59, e59, H⟩ := ob H
  refine x_getf fg_X6_28 (gFi_spec e59) dX6_go_191 ?_
  refine x_iconst (1 : Int32) dX6_go_194 ic_1 ?_
  refine x_iadd dX6_go_195 ?_
  obtain ⟨h60, e60, H⟩ := ob H
  refine x_putf (fp_X6_28 _) rfl rfl e60 dX6_go_196 ?_
  obtain rfl := Option.some.inj H
  exact x_vret hE rfl dX6_go_199
def f_X6_go_b175 (r0 : Nat) (x1 : Int32) (s0 : Nat) (h : mH) : Option (Unit × mH) := f_X6_go_b181 r0 x1 s0 (6 : Int32) h
theorem t_X6_go_b175 {G : xG} {C : xC} {o : Unit × mH} (hE : xEnd G C none o.2) (r0 : Nat) (x1 : Int32) (s0 : Nat) (h : mH) (H : f_X6_go_b175 r0 x1 s0 h = some o) : X G C mi_X6_go 175 [(0, .ref r0), (1, .int x1)] [.ref s0] h := by
  unfold f_X6_go_b175 at H
  refine x_bipush (6 : Int32) dX6_go_175 bi_6 ?_
  refine x_goto (tgt := 181) dX6_go_177 (by decide) ?_
  exact t_X6_go_b181 hE _ _ _ _ _ H
def f_X6_go_b94 (r0 : Nat) (h : mH) : Option (Unit × mH) := (gFi [5, 6, 7] 3 h r0).bind fun v6 => (gFi [5, 6, 7] 1 h r0).bind fun v7 => if v6 < v7 then (gFi [5, 6, 7] 3 h r0).bind fun v9 => if gC h r0 ∈ [5, 6, 7] then bR (f_X6_byteAt r0 v9 h) fun a10 g10 => bR (f_X6_isLetter a10 g10) fun a11 g11 => if a11 = 0 then bR (f_X6_isDigit a10 g11) fun a53 g53 => if a53 = 0 then if a10 = (59 : Int32) then f_X6_go_b181 r0 a10 r0 (4 : Int32) g53 else if a10 = (60 : Int32) then f_X6_go_b175 r0 a10 r0 g53 else if a10 = (61 : Int32) then f_X6_go_b175 r0 a10 r0 g53 else if a10 = (62 : Int32) then f_X6_go_b175 r0 a10 r0 g53 else if a10 = (40 : Int32) then f_X6_go_b175 r0 a10 r0 g53 else if a10 = (41 : Int32) then f_X6_go_b175 r0 a10 r0 g53 else f_X6_go_b181 r0 a10 r0 (1 : Int32) g53 else f_X6_go_b200 r0 a10 g53 else f_X6_go_b200 r0 a10 g11 else none else (pF [5, 6, 7] 4 (.int (0 : Int32)) h r0).bind fun h65 => some ((), h65)
theorem t_X6_go_b94 {G : xG} {C : xC} {o : Unit × mH} (hE : xEnd G C none o.2) (r0 : Nat) (h : mH) (H : f_X6_go_b94 r0 h = some o) : X G C mi_X6_go 94 [(0, .ref r0)] [] h := by
  unfold f_X6_go_b94 at H
  refine x_aload_n 0 rfl dX6_go_94 ?_
  obtain ⟨v6, e6, H⟩ := ob H
  refine x_getf fg_X6_28 (gFi_spec e6) dX6_go_95 ?_
  refine x_aload_n 0 rfl dX6_go_98 ?_
  obtain ⟨v7, e7, H⟩ := ob H
  refine x_getf fg_X6_21 (gFi_spec e7) dX6_go_99 ?_
  refine x_icmp_lt 111 dX6_go_102 (by decide) (fun c8 => ?_) (fun c8 => ?_)
  · rw [if_pos c8] at H
    refine x_aload_n 0 rfl dX6_go_111 ?_
    refine x_aload_n 0 rfl dX6_go_112 ?_
    obtain ⟨v9, e9, H⟩ := ob H
    refine x_getf fg_X6_28 (gFi_spec e9) dX6_go_113 ?_
    obtain ⟨c10, H⟩ := oit H
    obtain ⟨a10, g10, e10, H⟩ := obR H
    refine x_callC (M' := mi_X6_byteAt) (n := 1) (As := [.int v9]) (t_X6_byteAt C _ e10) c10 uc_X6_31 (by decide +kernel) ⟨Nat.le_of_ble_eq_true rfl, Nat.le_of_ble_eq_true rfl⟩ q526 rfl (Nat.le_of_ble_eq_true rfl) dX6_go_116 ?_
    refine x_istore_n [1, 0] dX6_go_119 (by decide) rfl ?_
    refine x_iload_n 1 rfl dX6_go_120 ?_
    obtain ⟨a11, g11, e11, H⟩ := obR H
    refine x_callS (M' := mi_X6_isLetter) (n := 1) (As := [.int a10]) (t_X6_isLetter C _ e11) md_X6_isLetter ⟨Nat.le_of_ble_eq_true rfl, Nat.le_of_ble_eq_true rfl⟩ q527 q528 q132 q529 rfl (Nat.le_of_ble_eq_true rfl) dX6_go_121 ?_
    refine x_if_ne 200 dX6_go_124 (by decide) (fun c12 => ?_) (fun c12 => ?_)
    · rw [if_neg c12] at H
      exact t_X6_go_b200 hE _ _ _ H
    · rw [if_pos c12] at H
      refine x_iload_n 1 rfl dX6_go_127 ?_
      obtain ⟨a53, g53, e53, H⟩ := obR H
      refine x_callS (M' := mi_X6_isDigit) (n := 1) (As := [.int a10]) (t_X6_isDigit C _ e53) md_X6_isDigit ⟨Nat.le_of_ble_eq_true rfl, Nat.le_of_ble_eq_true rfl⟩ q530 q531 q132 q532 rfl (Nat.le_of_ble_eq_true rfl) dX6_go_128 ?_
      refine x_if_ne 200 dX6_go_131 (by decide) (fun c54 => ?_) (fun c54 => ?_)
      · rw [if_neg c54] at H
        exact t_X6_go_b200 hE _ _ _ H
      · rw [if_pos c54] at H
        refine x_aload_n 0 rfl dX6_go_134 ?_
        refine x_iload_n 1 rfl dX6_go_135 ?_
        refine x_bipush (59 : Int32) dX6_go_136 bi_59 ?_
        refine x_icmp_ne 145 dX6_go_138 (by decide) (fun c55 => ?_) (fun c55 => ?_)
        · rw [if_neg c55] at H
          refine x_iload_n 1 rfl dX6_go_145 ?_
          refine x_bipush (60 : Int32) dX6_go_146 bi_60 ?_
          refine x_icmp_eq 175 dX6_go_148 (by decide) (fun c56 => ?_) (fun c56 => ?_)
          · rw [if_pos c56] at H
            exact t_X6_go_b175 hE _ _ _ _ H
          · rw [if_neg c56] at H
            refine x_iload_n 1 rfl dX6_go_151 ?_
            refine x_bipush (61 : Int32) dX6_go_152 bi_61 ?_
            refine x_icmp_eq 175 dX6_go_154 (by decide) (fun c61 => ?_) (fun c61 => ?_)
            · rw [if_pos c61] at H
              exact t_X6_go_b175 hE _ _ _ _ H
            · rw [if_neg c61] at H
              refine x_iload_n 1 rfl dX6_go_157 ?_
              refine x_bipush (62 : Int32) dX6_go_158 bi_62 ?_
              refine x_icmp_eq 175 dX6_go_160 (by decide) (fun c62 => ?_) (fun c62 => ?_)
              · rw [if_pos c62] at H
                exact t_X6_go_b175 hE _ _ _ _ H
              · rw [if_neg c62] at H
                refine x_iload_n 1 rfl dX6_go_163 ?_
                refine x_bipush (40 : Int32) dX6_go_164 bi_40 ?_
                refine x_icmp_eq 175 dX6_go_166 (by decide) (fun c63 => ?_) (fun c63 => ?_)
                · rw [if_pos c63] at H
                  exact t_X6_go_b175 hE _ _ _ _ H
                · rw [if_neg c63] at H
                  refine x_iload_n 1 rfl dX6_go_169 ?_
                  refine x_bipush (41 : Int32) dX6_go_170 bi_41 ?_
                  refine x_icmp_ne 180 dX6_go_172 (by decide) (fun c64 => ?_) (fun c64 => ?_)
                  · rw [if_neg c64] at H
                    refine x_iconst (1 : Int32) dX6_go_180 ic_1 ?_
                    exact t_X6_go_b181 hE _ _ _ _ _ H
                  · rw [if_pos c64] at H
                    exact t_X6_go_b175 hE _ _ _ _ H
        · rw [if_pos c55] at H
          refine x_iconst (4 : Int32) dX6_go_141 ic_4 ?_
          refine x_goto (tgt := 181) dX6_go_142 (by decide) ?_
          exact t_X6_go_b181 hE _ _ _ _ _ H
  · rw [if_neg c8] at H
    refine x_aload_n 0 rfl dX6_go_105 ?_
    refine x_iconst (0 : Int32) dX6_go_106 ic_0 ?_
    obtain ⟨h65, e65, H⟩ := ob H
    refine x_putf (fp_X6_38 _) rfl rfl e65 dX6_go_107 ?_
    obtain rfl := Option.some.inj H
    exact x_vret hE rfl dX6_go_110
def f_X6_go_b50 (r0 : Nat) (h : mH) : Option (Unit × mH) := (gFi [5, 6, 7] 3 h r0).bind fun v1 => (pF [5, 6, 7] 5 (.int v1) h r0).bind fun h2 => (gFi [5, 6, 7] 1 h2 r0).bind fun v3 => (gFi [5, 6, 7] 2 h2 r0).bind fun v4 => if v3 ≤ v4 then f_X6_go_b94 r0 h2 else (gFi [5, 6, 7] 5 h2 r0).bind fun v66 => (gFi [5, 6, 7] 2 h2 r0).bind fun v67 => if v66 < v67 then f_X6_go_b94 r0 h2 else (gFi [5, 6, 7] 2 h2 r0).bind fun v69 => (pF [5, 6, 7] 5 (.int v69) h2 r0).bind fun h70 => (pF [5, 6, 7] 4 (.int (5 : Int32)) h70 r0).bind fun h71 => some ((), h71)
theorem t_X6_go_b50 {G : xG} {C : xC} {o : Unit × mH} (hE : xEnd G C none o.2) (r0 : Nat) (h : mH) (H : f_X6_go_b50 r0 h = some o) : X G C mi_X6_go 50 [(0, .ref r0)] [] h := by
  unfold f_X6_go_b50 at H
  refine x_aload_n 0 rfl dX6_go_50 ?_
  refine x_aload_n 0 rfl dX6_go_51 ?_
  obtain ⟨v1, e1, H⟩ := ob H
  refine x_getf fg_X6_28 (gFi_spec e1) dX6_go_52 ?_
  obtain ⟨h2, e2, H⟩ := ob H
  refine x_putf (fp_X6_35 _) rfl rfl e2 dX6_go_55 ?_
  refine x_aload_n 0 rfl dX6_go_58 ?_
  obtain ⟨v3, e3, H⟩ := ob H
  refine x_getf fg_X6_21 (gFi_spec e3) dX6_go_59 ?_
  refine x_aload_n 0 rfl dX6_go_62 ?_
  obtain ⟨v4, e4, H⟩ := ob H
  refine x_getf fg_X6_25 (gFi_spec e4) dX6_go_63 ?_
  refine x_icmp_le 94 dX6_go_66 (by decide) (fun c5 => ?_) (fun c5 => ?_)
  · rw [if_pos c5] at H
    exact t_X6_go_b94 hE _ _ H
  · rw [if_neg c5] at H
    refine x_aload_n 0 rfl dX6_go_69 ?_
    obtain ⟨v66, e66, H⟩ := ob H
    refine x_getf fg_X6_35 (gFi_spec e66) dX6_go_70 ?_
    refine x_aload_n 0 rfl dX6_go_73 ?_
    obtain ⟨v67, e67, H⟩ := ob H
    refine x_getf fg_X6_25 (gFi_spec e67) dX6_go_74 ?_
    refine x_icmp_lt 94 dX6_go_77 (by decide) (fun c68 => ?_) (fun c68 => ?_)
    · rw [if_pos c68] at H
      exact t_X6_go_b94 hE _ _ H
    · rw [if_neg c68] at H
      refine x_aload_n 0 rfl dX6_go_80 ?_
      refine x_aload_n 0 rfl dX6_go_81 ?_
      obtain ⟨v69, e69, H⟩ := ob H
      refine x_getf fg_X6_25 (gFi_spec e69) dX6_go_82 ?_
      obtain ⟨h70, e70, H⟩ := ob H
      refine x_putf (fp_X6_35 _) rfl rfl e70 dX6_go_85 ?_
      refine x_aload_n 0 rfl dX6_go_88 ?_
      refine x_iconst (5 : Int32) dX6_go_89 ic_5 ?_
      obtain ⟨h71, e71, H⟩ := ob H
      refine x_putf (fp_X6_38 _) rfl rfl e71 dX6_go_90 ?_
      obtain rfl := Option.some.inj H
      exact x_vret hE rfl dX6_go_93
def f_X6_go_b37 (kb : Nat → mH → Option (Unit × mH)) (k50 : Nat → mH → Option (Unit × mH)) (r0 : Nat) (h : mH) : Option (Unit × mH) := (gFi [5, 6, 7] 3 h r0).bind fun v78 => (pF [5, 6, 7] 3 (.int (v78 + (1 : Int32))) h r0).bind fun h79 => kb r0 h79
theorem t_X6_go_b37 {G : xG} {C : xC} {o : Unit × mH} (hE : xEnd G C none o.2) {kb : Nat → mH → Option (Unit × mH)} (hkb : ∀ (r0 : Nat) (h : mH), kb r0 h = some o → X G C mi_X6_go 0 [(0, .ref r0)] [] h) {k50 : Nat → mH → Option (Unit × mH)} (hk50 : ∀ (r0 : Nat) (h : mH), k50 r0 h = some o → X G C mi_X6_go 50 [(0, .ref r0)] [] h) (r0 : Nat) (h : mH) (H : f_X6_go_b37 kb k50 r0 h = some o) : X G C mi_X6_go 37 [(0, .ref r0)] [] h := by
  unfold f_X6_go_b37 at H
  refine x_aload_n 0 rfl dX6_go_37 ?_
  refine x_dup dX6_go_38 rfl ?_
  obtain ⟨v78, e78, H⟩ := ob H
  refine x_getf fg_X6_28 (gFi_spec e78) dX6_go_39 ?_
  refine x_iconst (1 : Int32) dX6_go_42 ic_1 ?_
  refine x_iadd dX6_go_43 ?_
  obtain ⟨h79, e79, H⟩ := ob H
  refine x_putf (fp_X6_28 _) rfl rfl e79 dX6_go_44 ?_
  refine x_goto (tgt := 0) dX6_go_47 (by decide) ?_
  exact hkb _ _ H
def f_X6_go_L0 (k50 : Nat → mH → Option (Unit × mH)) : Nat → Nat → mH → Option (Unit × mH)
  | 0, _, _ => none
  | n + 1, r0, h => (gFi [5, 6, 7] 3 h r0).bind fun v72 => (gFi [5, 6, 7] 1 h r0).bind fun v73 => if v73 ≤ v72 then k50 r0 h else (gFi [5, 6, 7] 3 h r0).bind fun v75 => if gC h r0 ∈ [5, 6, 7] then bR (f_X6_byteAt r0 v75 h) fun a76 g76 => if a76 = (32 : Int32) then f_X6_go_b37 (f_X6_go_L0 k50 n) k50 r0 g76 else (gFi [5, 6, 7] 3 g76 r0).bind fun v80 => if gC g76 r0 ∈ [5, 6, 7] then bR (f_X6_byteAt r0 v80 g76) fun a81 g81 => if a81 = (10 : Int32) then f_X6_go_b37 (f_X6_go_L0 k50 n) k50 r0 g81 else k50 r0 g81 else none else none
theorem t_X6_go_L0 {G : xG} {C : xC} {o : Unit × mH} (hE : xEnd G C none o.2) {k50 : Nat → mH → Option (Unit × mH)} (hk50 : ∀ (r0 : Nat) (h : mH), k50 r0 h = some o → X G C mi_X6_go 50 [(0, .ref r0)] [] h) : ∀ (n : Nat) (r0 : Nat) (h : mH), f_X6_go_L0 k50 n r0 h = some o → X G C mi_X6_go 0 [(0, .ref r0)] [] h := by
  intro n
  induction n with
  | zero => intro r0 h H; exact nomatch (show (none : Option (Unit × mH)) = some o from H)
  | succ n ih =>
    intro r0 h H
    rw [f_X6_go_L0] at H
    refine x_aload_n 0 rfl dX6_go_0 ?_
    obtain ⟨v72, e72, H⟩ := ob H
    refine x_getf fg_X6_28 (gFi_spec e72) dX6_go_1 ?_
    refine x_aload_n 0 rfl dX6_go_4 ?_
    obtain ⟨v73, e73, H⟩ := ob H
    refine x_getf fg_X6_21 (gFi_spec e73) dX6_go_5 ?_
    refine x_icmp_ge 50 dX6_go_8 (by decide) (fun c74 => ?_) (fun c74 => ?_)
    · rw [if_pos c74] at H
      exact hk50 _ _ H
    · rw [if_neg c74] at H
      refine x_aload_n 0 rfl dX6_go_11 ?_
      refine x_aload_n 0 rfl dX6_go_12 ?_
      obtain ⟨v75, e75, H⟩ := ob H
      refine x_getf fg_X6_28 (gFi_spec e75) dX6_go_13 ?_
      obtain ⟨c76, H⟩ := oit H
      obtain ⟨a76, g76, e76, H⟩ := obR H
      refine x_callC (M' := mi_X6_byteAt) (n := 1) (As := [.int v75]) (t_X6_byteAt C _ e76) c76 uc_X6_31 (by decide +kernel) ⟨Nat.le_of_ble_eq_true rfl, Nat.le_of_ble_eq_true rfl⟩ q526 rfl (Nat.le_of_ble_eq_true rfl) dX6_go_16 ?_
      refine x_bipush (32 : Int32) dX6_go_19 bi_32 ?_
      refine x_icmp_eq 37 dX6_go_21 (by decide) (fun c77 => ?_) (fun c77 => ?_)
      · rw [if_pos c77] at H
        exact t_X6_go_b37 hE ih hk50 _ _ H
      · rw [if_neg c77] at H
        refine x_aload_n 0 rfl dX6_go_24 ?_
        refine x_aload_n 0 rfl dX6_go_25 ?_
        obtain ⟨v80, e80, H⟩ := ob H
        refine x_getf fg_X6_28 (gFi_spec e80) dX6_go_26 ?_
        obtain ⟨c81, H⟩ := oit H
        obtain ⟨a81, g81, e81, H⟩ := obR H
        refine x_callC (M' := mi_X6_byteAt) (n := 1) (As := [.int v80]) (t_X6_byteAt C _ e81) c81 uc_X6_31 (by decide +kernel) ⟨Nat.le_of_ble_eq_true rfl, Nat.le_of_ble_eq_true rfl⟩ q526 rfl (Nat.le_of_ble_eq_true rfl) dX6_go_29 ?_
        refine x_bipush (10 : Int32) dX6_go_32 bi_10 ?_
        refine x_icmp_ne 50 dX6_go_34 (by decide) (fun c82 => ?_) (fun c82 => ?_)
        · rw [if_neg c82] at H
          exact hk50 _ _ H
        · rw [if_pos c82] at H
          exact t_X6_go_b37 hE ih hk50 _ _ H
def f_X6_go (r0 : Nat) (h : mH) : Option (Unit × mH) := f_X6_go_L0 (f_X6_go_b50) xFu r0 h
theorem t_X6_go {G : xG} (C0 : xC) {l : Launch} {r0 : Nat} (h : mH) {o : Unit × mH} (H : f_X6_go r0 h = some o) : XR G l mi_X6_go [.ref r0] h none o.2 := by
  refine XR.of C0 (by decide) (Nat.le_of_ble_eq_true rfl) (fun C _ _ _ hE => ?_)
  show X G C mi_X6_go 0 [(0, .ref r0)] [] h
  unfold f_X6_go at H
  exact t_X6_go_L0 hE (t_X6_go_b50 hE) xFu _ _ H
abbrev mi_J12_equals : xM := (cJ12_equals, yJ12_equals, 3, some .boolean, 1)
theorem md_J12_equals : xMD mi_J12_equals 2 := ⟨by decide, by decide, by decide +kernel⟩
def f_J12_equals_L9 : Nat → Nat → Nat → Int32 → mH → Option (Int32 × mH)
  | 0, _, _, _, _ => none
  | n + 1, r0, r1, x2, h => (aN h r0).bind fun v4 => if v4 ≤ x2 then some ((1 : Int32), h) else (aI .byte h r0 x2).bind fun v6 => (aI .byte h r1 x2).bind fun v7 => if v6 = v7 then (f_J12_equals_L9 n) r0 r1 (x2 + (1 : Int32)) h else some ((0 : Int32), h)
theorem t_J12_equals_L9 {G : xG} {C : xC} {o : Int32 × mH} (hE : xEnd G C (some (.int o.1)) o.2) : ∀ (n : Nat) (r0 : Nat) (r1 : Nat) (x2 : Int32) (h : mH), f_J12_equals_L9 n r0 r1 x2 h = some o → X G C mi_J12_equals 9 [(0, .ref r0), (1, .ref r1), (2, .int x2)] [] h := by
  intro n
  induction n with
  | zero => intro r0 r1 x2 h H; exact nomatch (show (none : Option (Int32 × mH)) = some o from H)
  | succ n ih =>
    intro r0 r1 x2 h H
    rw [f_J12_equals_L9] at H
    refine x_iload_n 2 rfl dJ12_equals_9 ?_
    refine x_aload_n 0 rfl dJ12_equals_10 ?_
    obtain ⟨v4, e4, H⟩ := ob H
    refine x_alen e4 dJ12_equals_11 ?_
    refine x_icmp_ge 32 dJ12_equals_12 (by decide) (fun c5 => ?_) (fun c5 => ?_)
    · rw [if_pos c5] at H
      refine x_iconst (1 : Int32) dJ12_equals_32 ic_1 ?_
      obtain rfl := Option.some.inj H
      exact x_iret hE rfl rfl dJ12_equals_33
    · rw [if_neg c5] at H
      refine x_aload_n 0 rfl dJ12_equals_15 ?_
      refine x_iload_n 2 rfl dJ12_equals_16 ?_
      obtain ⟨v6, e6, H⟩ := ob H
      refine x_bald e6 dJ12_equals_17 ?_
      refine x_aload_n 1 rfl dJ12_equals_18 ?_
      refine x_iload_n 2 rfl dJ12_equals_19 ?_
      obtain ⟨v7, e7, H⟩ := ob H
      refine x_bald e7 dJ12_equals_20 ?_
      refine x_icmp_eq 26 dJ12_equals_21 (by decide) (fun c8 => ?_) (fun c8 => ?_)
      · rw [if_pos c8] at H
        refine x_iinc 2 (x2 + (1 : Int32)) [1, 2, 0] dJ12_equals_26 rfl (ii_1 _) (by decide) rfl ?_
        refine x_goto (tgt := 9) dJ12_equals_29 (by decide) ?_
        exact ih _ _ _ _ H
      · rw [if_neg c8] at H
        refine x_iconst (0 : Int32) dJ12_equals_24 ic_0 ?_
        obtain rfl := Option.some.inj H
        exact x_iret hE rfl rfl dJ12_equals_25
def f_J12_equals (r0 : Nat) (r1 : Nat) (h : mH) : Option (Int32 × mH) := (aN h r0).bind fun v1 => (aN h r1).bind fun v2 => if v1 = v2 then f_J12_equals_L9  xFu r0 r1 (0 : Int32) h else some ((0 : Int32), h)
theorem t_J12_equals {G : xG} (C0 : xC) {l : Launch} {r0 : Nat} {r1 : Nat} (h : mH) {o : Int32 × mH} (H : f_J12_equals r0 r1 h = some o) : XR G l mi_J12_equals [.ref r0, .ref r1] h (some (.int o.1)) o.2 := by
  refine XR.of C0 (by decide) (Nat.le_of_ble_eq_true rfl) (fun C _ _ _ hE => ?_)
  show X G C mi_J12_equals 0 [(0, .ref r0), (1, .ref r1)] [] h
  unfold f_J12_equals at H
  refine x_aload_n 0 rfl dJ12_equals_0 ?_
  obtain ⟨v1, e1, H⟩ := ob H
  refine x_alen e1 dJ12_equals_1 ?_
  refine x_aload_n 1 rfl dJ12_equals_2 ?_
  obtain ⟨v2, e2, H⟩ := ob H
  refine x_alen e2 dJ12_equals_3 ?_
  refine x_icmp_ne 34 dJ12_equals_4 (by decide) (fun c3 => ?_) (fun c3 => ?_)
  · rw [if_neg c3] at H
    refine x_iconst (0 : Int32) dJ12_equals_34 ic_0 ?_
    obtain rfl := Option.some.inj H
    exact x_iret hE rfl rfl dJ12_equals_35
  · rw [if_pos c3] at H
    refine x_iconst (0 : Int32) dJ12_equals_7 ic_0 ?_
    refine x_istore_n [1, 2, 0] dJ12_equals_8 (by decide) rfl ?_
    exact t_J12_equals_L9 hE  xFu _ _ _ _ H
abbrev mi_J8_equals : xM := (cJ8_equals, yJ8_equals, 3, some .boolean, 2)
theorem md_J8_equals : xMD mi_J8_equals 1 := ⟨by decide, by decide, by decide +kernel⟩
def f_J8_equals_b36 (r0 : Nat) (r2 : Nat) (h : mH) : Option (Int32 × mH) := (gFr [23] 0 h r0).bind fun v6 => (gFr [23] 0 h r2).bind fun v7 => bR (f_J12_equals v6 v7 h) fun a8 g8 => if a8 = 0 then some ((0 : Int32), g8) else some ((1 : Int32), g8)
theorem t_J8_equals_b36 {G : xG} {C : xC} {o : Int32 × mH} (hE : xEnd G C (some (.int o.1)) o.2) (r0 : Nat) (r2 : Nat) (h : mH) (H : f_J8_equals_b36 r0 r2 h = some o) : X G C mi_J8_equals 36 [(0, .ref r0), (2, .ref r2)] [] h := by
  unfold f_J8_equals_b36 at H
  refine x_aload_n 0 rfl dJ8_equals_36 ?_
  obtain ⟨v6, e6, H⟩ := ob H
  refine x_getf fg_J8_9 (gFr_spec e6) dJ8_equals_37 ?_
  refine x_aload_n 1 rfl dJ8_equals_40 ?_
  obtain ⟨v7, e7, H⟩ := ob H
  refine x_getf fg_J8_9 (gFr_spec e7) dJ8_equals_41 ?_
  obtain ⟨a8, g8, e8, H⟩ := obR H
  refine x_callS (M' := mi_J12_equals) (n := 2) (As := [.ref v6, .ref v7]) (t_J12_equals C _ e8) md_J12_equals ⟨Nat.le_of_ble_eq_true rfl, Nat.le_of_ble_eq_true rfl⟩ q732 q733 q140 q734 rfl (Nat.le_of_ble_eq_true rfl) dJ8_equals_44 ?_
  refine x_if_eq 54 dJ8_equals_47 (by decide) (fun c9 => ?_) (fun c9 => ?_)
  · rw [if_pos c9] at H
    refine x_iconst (0 : Int32) dJ8_equals_54 ic_0 ?_
    obtain rfl := Option.some.inj H
    exact x_iret hE rfl rfl dJ8_equals_55
  · rw [if_neg c9] at H
    refine x_iconst (1 : Int32) dJ8_equals_50 ic_1 ?_
    refine x_goto (tgt := 55) dJ8_equals_51 (by decide) ?_
    obtain rfl := Option.some.inj H
    exact x_iret hE rfl rfl dJ8_equals_55
def f_J8_equals (r0 : Nat) (r1 : Nat) (h : mH) : Option (Int32 × mH) := if xCmp r0 r1 then if r0 = r1 then some ((1 : Int32), h) else if gC h r1 ∈ [23] then if (1 : Int32) = 0 then some ((0 : Int32), h) else if r1 = 0 ∨ gC h r1 ∈ [23] then if (1 : Int32) = 0 then f_J8_equals_b36 r0 r1 h else (gFi [23] 1 h r0).bind fun v10 => (gFi [23] 1 h r1).bind fun v11 => if v10 = v11 then f_J8_equals_b36 r0 r1 h else some ((0 : Int32), h) else none else none else none
theorem t_J8_equals {G : xG} (C0 : xC) {l : Launch} {r0 : Nat} {r1 : Nat} (h : mH) {o : Int32 × mH} (H : f_J8_equals r0 r1 h = some o) : XR G l mi_J8_equals [.ref r0, .ref r1] h (some (.int o.1)) o.2 := by
  refine XR.of C0 (by decide) (Nat.le_of_ble_eq_true rfl) (fun C _ _ _ hE => ?_)
  show X G C mi_J8_equals 0 [(0, .ref r0), (1, .ref r1)] [] h
  unfold f_J8_equals at H
  refine x_aload_n 0 rfl dJ8_equals_0 ?_
  refine x_aload_n 1 rfl dJ8_equals_1 ?_
  obtain ⟨g1, H⟩ := oit H
  refine x_acmp_ne 7 g1 dJ8_equals_2 (by decide) (fun c1 => ?_) (fun c1 => ?_)
  · rw [if_neg c1] at H
    refine x_aload_n 1 rfl dJ8_equals_7 ?_
    obtain ⟨c2, H⟩ := oit H
    refine x_inst cs_java_lang_String q731 c2 dJ8_equals_8 ?_
    refine x_if_eq 54 dJ8_equals_11 (by decide) (fun c3 => ?_) (fun c3 => ?_)
    · rw [if_pos c3] at H
      refine x_iconst (0 : Int32) dJ8_equals_54 ic_0 ?_
      obtain rfl := Option.some.inj H
      exact x_iret hE rfl rfl dJ8_equals_55
    · rw [if_neg c3] at H
      refine x_aload_n 1 rfl dJ8_equals_14 ?_
      obtain ⟨c4, H⟩ := oit H
      refine x_cast cs_java_lang_String q731 c4 dJ8_equals_15 ?_
      refine x_astore_n [1, 2, 0] dJ8_equals_18 (by decide) rfl ?_
      refine x_gets (v := .int 1) (List.mem_of_getElem? (i := 1) rfl) q691 dJ8_equals_19 ?_
      refine x_if_eq 36 dJ8_equals_22 (by decide) (fun c5 => ?_) (fun c5 => ?_)
      · rw [if_pos c5] at H
        refine X.sub [0, 2] rfl ?_
        exact t_J8_equals_b36 hE _ _ _ H
      · rw [if_neg c5] at H
        refine x_aload_n 0 rfl dJ8_equals_25 ?_
        obtain ⟨v10, e10, H⟩ := ob H
        refine x_getf fg_J8_15 (gFi_spec e10) dJ8_equals_26 ?_
        refine x_aload_n 2 rfl dJ8_equals_29 ?_
        obtain ⟨v11, e11, H⟩ := ob H
        refine x_getf fg_J8_15 (gFi_spec e11) dJ8_equals_30 ?_
        refine x_icmp_ne 54 dJ8_equals_33 (by decide) (fun c12 => ?_) (fun c12 => ?_)
        · rw [if_neg c12] at H
          refine x_iconst (0 : Int32) dJ8_equals_54 ic_0 ?_
          obtain rfl := Option.some.inj H
          exact x_iret hE rfl rfl dJ8_equals_55
        · rw [if_pos c12] at H
          refine X.sub [0, 2] rfl ?_
          exact t_J8_equals_b36 hE _ _ _ H
  · rw [if_pos c1] at H
    refine x_iconst (1 : Int32) dJ8_equals_5 ic_1 ?_
    obtain rfl := Option.some.inj H
    exact x_iret hE rfl rfl dJ8_equals_6
abbrev mi_X6_find : xM := (cX6_find, yX6_find, 3, some .int, 4)
theorem md_X6_find : xMD mi_X6_find 1 := ⟨by decide, by decide, by decide +kernel⟩
def f_X6_find_L2 : Nat → Nat → Nat → Int32 → mH → Option (Int32 × mH)
  | 0, _, _, _, _ => none
  | n + 1, r0, r1, x2, h => if gC h r1 = 21 then bR (f_J2_size r1  h) fun a1 g1 => if a1 ≤ x2 then some ((-1 : Int32), g1) else if gC g1 r1 = 21 then bR (f_J2_get r1 x2 g1) fun a3 g3 => if a3 = 0 ∨ gC g3 a3 ∈ [9, 10] then (gFr [9, 10] 0 g3 a3).bind fun v5 => (gFr [5, 6, 7] 8 g3 r0).bind fun v6 => if gC g3 v5 = 23 then bR (f_J8_equals v5 v6 g3) fun a7 g7 => if a7 = 0 then (f_X6_find_L2 n) r0 r1 (x2 + (1 : Int32)) g7 else some (x2, g7) else none else none else none else none
theorem t_X6_find_L2 {G : xG} {C : xC} {o : Int32 × mH} (hE : xEnd G C (some (.int o.1)) o.2) : ∀ (n : Nat) (r0 : Nat) (r1 : Nat) (x2 : Int32) (h : mH), f_X6_find_L2 n r0 r1 x2 h = some o → X G C mi_X6_find 2 [(0, .ref r0), (1, .ref r1), (2, .int x2)] [] h := by
  intro n
  induction n with
  | zero => intro r0 r1 x2 h H; exact nomatch (show (none : Option (Int32 × mH)) = some o from H)
  | succ n ih =>
    intro r0 r1 x2 h H
    rw [f_X6_find_L2] at H
    refine x_iload_n 2 rfl dX6_find_2 ?_
    refine x_aload_n 1 rfl dX6_find_3 ?_
    obtain ⟨c1, H⟩ := oit H
    obtain ⟨a1, g1, e1, H⟩ := obR H
    refine x_callV (M' := mi_J2_size) (n := 0) (As := []) (t_J2_size C _ e1) c1 rfl rfl md_J2_size ⟨Nat.le_of_ble_eq_true rfl, Nat.le_of_ble_eq_true rfl⟩ q908 q317 q318 q124 q319 rfl (Nat.le_of_ble_eq_true rfl) dX6_find_4 ?_
    refine x_icmp_ge 39 dX6_find_7 (by decide) (fun c2 => ?_) (fun c2 => ?_)
    · rw [if_pos c2] at H
      refine x_iconst (-1 : Int32) dX6_find_39 ic_m1 ?_
      obtain rfl := Option.some.inj H
      exact x_iret hE rfl rfl dX6_find_40
    · rw [if_neg c2] at H
      refine x_aload_n 1 rfl dX6_find_10 ?_
      refine x_iload_n 2 rfl dX6_find_11 ?_
      obtain ⟨c3, H⟩ := oit H
      obtain ⟨a3, g3, e3, H⟩ := obR H
      refine x_callV (M' := mi_J2_get) (n := 1) (As := [.int x2]) (t_J2_get C _ e3) c3 rfl rfl md_J2_get ⟨Nat.le_of_ble_eq_true rfl, Nat.le_of_ble_eq_true rfl⟩ q909 q325 q326 q124 q327 rfl (Nat.le_of_ble_eq_true rfl) dX6_find_12 ?_
      obtain ⟨c4, H⟩ := oit H
      refine x_cast cs_StrangerMarket_Named q910 c4 dX6_find_15 ?_
      obtain ⟨v5, e5, H⟩ := ob H
      refine x_getf fg_X6_109 (gFr_spec e5) dX6_find_18 ?_
      refine x_aload_n 0 rfl dX6_find_21 ?_
      obtain ⟨v6, e6, H⟩ := ob H
      refine x_getf fg_X6_11 (gFr_spec e6) dX6_find_22 ?_
      obtain ⟨c7, H⟩ := oit H
      obtain ⟨a7, g7, e7, H⟩ := obR H
      refine x_callV (M' := mi_J8_equals) (n := 1) (As := [.ref v6]) (t_J8_equals C _ e7) c7 rfl rfl md_J8_equals ⟨Nat.le_of_ble_eq_true rfl, Nat.le_of_ble_eq_true rfl⟩ q727 q728 q729 q136 q730 rfl (Nat.le_of_ble_eq_true rfl) dX6_find_25 ?_
      refine x_if_eq 33 dX6_find_28 (by decide) (fun c8 => ?_) (fun c8 => ?_)
      · rw [if_pos c8] at H
        refine x_iinc 2 (x2 + (1 : Int32)) [1, 2, 0] dX6_find_33 rfl (ii_1 _) (by decide) rfl ?_
        refine x_goto (tgt := 2) dX6_find_36 (by decide) ?_
        exact ih _ _ _ _ H
      · rw [if_neg c8] at H
        refine x_iload_n 2 rfl dX6_find_31 ?_
        obtain rfl := Option.some.inj H
        exact x_iret hE rfl rfl dX6_find_32
def f_X6_find (r0 : Nat) (r1 : Nat) (h : mH) : Option (Int32 × mH) := f_X6_find_L2  xFu r0 r1 (0 : Int32) h
theorem t_X6_find {G : xG} (C0 : xC) {l : Launch} {r0 : Nat} {r1 : Nat} (h : mH) {o : Int32 × mH} (H : f_X6_find r0 r1 h = some o) : XR G l mi_X6_find [.ref r0, .ref r1] h (some (.int o.1)) o.2 := by
  refine XR.of C0 (by decide) (Nat.le_of_ble_eq_true rfl) (fun C _ _ _ hE => ?_)
  show X G C mi_X6_find 0 [(0, .ref r0), (1, .ref r1)] [] h
  unfold f_X6_find at H
  refine x_iconst (0 : Int32) dX6_find_0 ic_0 ?_
  refine x_istore_n [1, 2, 0] dX6_find_1 (by decide) rfl ?_
  exact t_X6_find_L2 hE  xFu _ _ _ _ H
abbrev mi_J8_coder : xM := (cJ8_coder, yJ8_coder, 1, some .byte, 1)
theorem md_J8_coder : xMD mi_J8_coder 0 := ⟨by decide, by decide, by decide +kernel⟩
def f_J8_coder (r0 : Nat) (h : mH) : Option (Int32 × mH) := if (1 : Int32) = 0 then some ((1 : Int32), h) else (gFi [23] 1 h r0).bind fun v2 => rB v2 h
theorem t_J8_coder {G : xG} (C0 : xC) {l : Launch} {r0 : Nat} (h : mH) {o : Int32 × mH} (H : f_J8_coder r0 h = some o) : XR G l mi_J8_coder [.ref r0] h (some (.int o.1)) o.2 := by
  refine XR.of C0 (by decide) (Nat.le_of_ble_eq_true rfl) (fun C _ _ _ hE => ?_)
  show X G C mi_J8_coder 0 [(0, .ref r0)] [] h
  unfold f_J8_coder at H
  refine x_gets (v := .int 1) (List.mem_of_getElem? (i := 1) rfl) q691 dJ8_coder_0 ?_
  refine x_if_eq 13 dJ8_coder_3 (by decide) (fun c1 => ?_) (fun c1 => ?_)
  · rw [if_pos c1] at H
    refine x_iconst (1 : Int32) dJ8_coder_13 ic_1 ?_
    obtain rfl := Option.some.inj H
    exact x_iret hE rfl rfl dJ8_coder_14
  · rw [if_neg c1] at H
    refine x_aload_n 0 rfl dJ8_coder_6 ?_
    obtain ⟨v2, e2, H⟩ := ob H
    refine x_getf fg_J8_15 (gFi_spec e2) dJ8_coder_7 ?_
    refine x_goto (tgt := 14) dJ8_coder_10 (by decide) ?_
    obtain ⟨c, rfl⟩ := rB_spec H
    exact x_iret hE rfl c dJ8_coder_14
abbrev mi_J8_length : xM := (cJ8_length, yJ8_length, 1, some .int, 2)
theorem md_J8_length : xMD mi_J8_length 0 := ⟨by decide, by decide, by decide +kernel⟩
def f_J8_length (r0 : Nat) (h : mH) : Option (Int32 × mH) := (gFr [23] 0 h r0).bind fun v1 => (aN h v1).bind fun v2 => if gC h r0 = 23 then bR (f_J8_coder r0  h) fun a3 g3 => some ((v2 >>> (a3 &&& 31)), g3) else none
theorem t_J8_length {G : xG} (C0 : xC) {l : Launch} {r0 : Nat} (h : mH) {o : Int32 × mH} (H : f_J8_length r0 h = some o) : XR G l mi_J8_length [.ref r0] h (some (.int o.1)) o.2 := by
  refine XR.of C0 (by decide) (Nat.le_of_ble_eq_true rfl) (fun C _ _ _ hE => ?_)
  show X G C mi_J8_length 0 [(0, .ref r0)] [] h
  unfold f_J8_length at H
  refine x_aload_n 0 rfl dJ8_length_0 ?_
  obtain ⟨v1, e1, H⟩ := ob H
  refine x_getf fg_J8_9 (gFr_spec e1) dJ8_length_1 ?_
  obtain ⟨v2, e2, H⟩ := ob H
  refine x_alen e2 dJ8_length_4 ?_
  refine x_aload_n 0 rfl dJ8_length_5 ?_
  obtain ⟨c3, H⟩ := oit H
  obtain ⟨a3, g3, e3, H⟩ := obR H
  refine x_callV (M' := mi_J8_coder) (n := 0) (As := []) (t_J8_coder C _ e3) c3 rfl rfl md_J8_coder ⟨Nat.le_of_ble_eq_true rfl, Nat.le_of_ble_eq_true rfl⟩ q857 q858 q859 q136 q860 rfl (Nat.le_of_ble_eq_true rfl) dJ8_length_6 ?_
  refine x_ishr dJ8_length_9 ?_
  obtain rfl := Option.some.inj H
  exact x_iret hE rfl rfl dJ8_length_10
