section XM2
variable {G : xG} {C : xC} {M M' : xM} {pc : Nat} {lv : List (Nat × Value)} {st : List Value} {h h1 : mH} {r : Option Value}
/-- a String constant by a wide index -/
theorem x_ldcSw {ix a : Nat} {tx : String} (hq : (M.2.1.cls, ix, tx, a) ∈ xStr) (ha : 6 ≤ a) (ha2 : a < 100) (hd : decode M.1 pc = .ok (.ldc_w ix, 3)) (kk : X G C M (pc + 3) lv (.ref a :: st) h) : X G C M pc lv st h := X.step kk (fun hC ls H locs cells slots hl k => by
  have k : xW C H locs cells slots (F0 C.2.1.2.1 (pc + 3) ls (xrv G (.ref a) :: st.map (xrv G))) := k
  rw [xrv_hi ha, show xmu G a = G.2.1 a by unfold xmu; rw [if_pos (show a < xK from ha2)]] at k
  have hZ := hC.2.2.2.2.2.2.2.2.1.2.2.2.2.2.2.2.1 _ hq
  intro T hT X
  obtain ⟨t, a1, b1⟩ := k T hT X
  refine ⟨t, ?_, b1⟩
  obtain ⟨kc, cf, i, a', hk, hcf, hcp, -, hr, hev'⟩ := Cond.stringRef_spec hC.2.2.1 hZ.1
  cases hZ.2.symm.trans hev'
  obtain ⟨k', hk', he⟩ := X.warmed.alike.2.2 _ _ hk
  have hr' : k'.resolved[ix]? = some (some (.string (G.2.1 a))) := by
    rcases X.warmed.entry hk hk' ix with h | ⟨h, -⟩
    · rw [h]; exact hr
    · rw [hr] at h; cases h
  have hdg : decode C.2.2.1.2.1.code pc = .ok (.ldc_w ix, 3) := by rw [hC.2.1]; exact hd
  jvm_step X.here [hC.1, hdg, Op.ldc_w.wp_string (e := C.1.2.2.1) (s := T) (f := F0 C.2.1.2.1 pc ls (st.map (xrv G))) X.here.top hk' (by rw [he]; exact hcf) hcp hr']
  exact a1)
def gKt (t : FieldType) (h : mH) (r : Nat) : Bool := match h.1 r with
  | some (.inl (t', _, _)) => t' == t
  | _ => false
theorem gKt_spec {t : FieldType} {r : Nat} (hr : gKt t h r = true) : ∃ (n : Nat) (a : mA), h.1 r = some (.inl (t, n, a)) := by
  unfold gKt at hr
  split at hr
  · rename_i t' n a h1
    have e : t' = t := by simpa using hr
    subst e
    exact ⟨n, a, h1⟩
  · cases hr
theorem x_castB {ix r : Nat} (w : Cond.classLink M.2.1.cls ix "[B" ∈ lw_all) (hr : gKt .byte h r = true ∧ 100 ≤ r) (hd : decode M.1 pc = .ok (.checkcast ix, 3)) (kk : X G C M (pc + 3) lv (.ref r :: st) h) : X G C M pc lv (.ref r :: st) h := X.stepR kk (fun hC ls H locs cells slots hl hR kw => by
  obtain ⟨n, a, h1⟩ := gKt_spec hr.1
  obtain ⟨a1, a2, a3⟩ := hR.2.2.2 r _ h1
  have a3 := xAt.at hr.2 a3
  have hWD := hC.2.2.2.2.2.2.2.2.1
  have kw : xW C H locs cells slots (F0 C.2.1.2.1 (pc + 3) ls (xrv G (.ref r) :: st.map (xrv G))) := kw
  show xW C H locs cells slots (F0 C.2.1.2.1 pc ls (xrv G (.ref r) :: st.map (xrv G)))
  rw [xrv_hi a1] at kw ⊢
  exact va_castA hC.1 hC.2.1 hC.2.2.1 (hC.2.2.2.2.1 _ w) (xP1 a3) 0 rfl (hWD.arr (t := .byte) (by decide)).2 hd kw)
/-- a step that makes one cell of n slots (with the locals' frame) -/
theorem X.stepN2 {pc' n : Nat} {st' : List Value} {c : mC} (kk : X G C M pc' lv st' (xnw h c n)) (f : xOK G C M → ∀ (ls : Array Slot) (H : Heap) (locs : List Loc) (cells slots : Nat), ls.size = M.2.2.1 → xHR G h H → cells + 1 ≤ C.1.2.2.2.cells → slots + n ≤ C.1.2.2.2.slots → (∀ (H1 : Heap), xHR G (xnw h c n) H1 → xW C H1 locs (cells + 1) (slots + n) (F0 C.2.1.2.1 pc' ls (st'.map (xrv G)))) → xW C H locs cells slots (F0 C.2.1.2.1 pc ls (st.map (xrv G)))) : X G C M pc lv st h := by
  obtain ⟨⟨b1, b2⟩, k⟩ := kk
  have b1 : h.2.1 + 1 ≤ C.2.2.2.2.1 := b1
  have b2 : h.2.2 + n ≤ C.2.2.2.2.2 := b2
  refine ⟨⟨Nat.le_of_succ_le b1, Nat.le_trans (Nat.le_add_right _ _) b2⟩, fun hC h1 h2 ls H locs hl hR hq => ?_⟩
  obtain ⟨-, -, -, -, -, -, -, -, -, -, -, -, hc, hs, -⟩ := id hC
  refine f hC ls H locs _ _ hl.1 hR (by omega) (by omega) (fun H1 hR1 => ?_)
  have k9 := k hC (Nat.le_trans h1 (Nat.le_succ _)) (Nat.le_trans h2 (Nat.le_add_right _ _)) ls H1 locs hl hR1 hq
  have e1 : (xnw h c n).2.1 - C.2.2.2.1.1 = h.2.1 - C.2.2.2.1.1 + 1 := by show h.2.1 + 1 - _ = _; omega
  have e2 : (xnw h c n).2.2 - C.2.2.2.1.2 = h.2.2 - C.2.2.2.1.2 + n := by show h.2.2 + n - _ = _; omega
  rw [e1, e2] at k9
  exact k9
/-- clone of a byte array -/
def clB (h : mH) (r : Nat) : Option (Nat × mH) := match h.1 r with
  | some (.inl (t, n, .inl f)) => if t = .byte ∧ 100 ≤ r ∧ ∀ i, i < n → fits .byte (.int (f i)) = true then some (h.2.1, xnw h (.inl (.byte, n, .inl f)) n) else none
  | _ => none
set_option maxHeartbeats 2000000 in
theorem x_clone {ix r0 q0 : Nat} {h' : mH} (hv : clB h r0 = some (q0, h')) (hf : 1 ≤ M.2.2.2.2) (w1 : Cond.methodLink M.2.1.cls ix ⟨"[B", "clone", "()Ljava/lang/Object;"⟩ ∈ lw_all) (w2 : Cond.sameMethod "[B" "java/lang/Object" "clone" "()Ljava/lang/Object;" ∈ lw_all) (w3 : Cond.native ⟨"java/lang/Object", "clone", "()Ljava/lang/Object;"⟩ ∈ lw_all) (w4 : Cond.instanceMethod ⟨"java/lang/Object", "clone", "()Ljava/lang/Object;"⟩ ∈ lw_all) (w5 : Cond.selects "[B" ⟨"[B", "clone", "()Ljava/lang/Object;"⟩ ⟨"java/lang/Object", "clone", "()Ljava/lang/Object;"⟩ ∈ lw_all) (w6 : Cond.castable "[B" "java/lang/Cloneable" ∈ lw_tbl) (hst : (st.map fun v => v.category).sum ≤ 8) (hd : decode M.1 pc = .ok (.invokevirtual ix, 3)) (kk : X G C M (pc + 3) lv (.ref q0 :: st) h') : X G C M pc lv (.ref r0 :: st) h := by
  unfold clB at hv
  split at hv
  · rename_i t n f h1
    split at hv
    · rename_i h2
      obtain ⟨rfl, hr9, hfit⟩ := h2
      cases hv
      refine X.stepN2 kk (fun hC ls H locs cells slots hsz9 hR b1 b2 kw => ?_)
      obtain ⟨a1, a2, a3⟩ := hR.2.2.2 r0 _ h1
      have hWD := hC.2.2.2.2.2.2.2.2.1
      have hts := hC.2.2.2.2.1
      obtain ⟨-, -, -, -, -, -, -, -, -, -, f1, f2, -, -, -⟩ := id hC
      show xW C H locs cells slots (F0 C.2.1.2.1 pc ls (xrv G (.ref r0) :: st.map (xrv G)))
      rw [xrv_hi a1]
      have hnm : C.2.1.1.vm.findClass "[B" = some (G.2.2.2.2.1 .byte) := (hWD.arr (t := .byte) (by decide)).2
      have hA := (hWD.arr (t := .byte) (by decide)).1
      have a3 : H[xmu G r0]? = some (vp_cell (G.2.2.2.2.1 .byte) (n, .inl f)) := xAt.at hr9 a3
      have hsz : (vp_cell (G.2.2.2.2.1 .byte) (n, .inl f)).slots.size = n := arrV_size _ _ _
      obtain ⟨c0, t0', g1, g2, g3⟩ := Cond.castable_spec (va_Nw.use (A := C.2.1.2.2.1) rfl (hWD.2.1 _ w6 rfl))
      cases hnm.symm.trans g1
      intro T hT X
      have hcellT : T.heap[xmu G r0]? = some (vp_cell (G.2.2.2.2.1 .byte) (n, .inl f)) := by rw [hT]; exact a3
      obtain ⟨-, kA, hkA, comp, hkind⟩ := State.isArrayOf_alike X.warmed.alike (hA 0 (fun _ => .null))
      obtain ⟨-, kS, hkS, compS, hkindS⟩ := hA 0 (fun _ => .null)
      obtain ⟨vm', X', st9⟩ := X.cloneArray hC.1 hC.2.2.1 (hts _ w1) (hts _ w2) (hts _ w3) (hts _ w4) (hts _ w5) (a := xmu G r0) (cell := vp_cell (G.2.2.2.2.1 .byte) (n, .inl f)) hcellT (fun k h => by cases h) (fun h => by cases h) hnm g2 g3
        (fun i v hv => by
          have hk' : T.vm.classes[G.2.2.2.2.1 .byte]? = some kA := hkA
          have hi : i < n := by
            have := (Array.getElem?_eq_some_iff.mp hv).1
            rw [hsz] at this
            exact this
          have hv9 : (arrV (G.2.2.2.2.1 .byte) n (fun j => .int (f j))).slots[i]? = some v := hv
          rw [arrV_read _ _ hi] at hv9
          cases hv9
          have h9 := hfit i hi
          show T.fitsSlot (G.2.2.2.2.1 .byte) _ i _ = true
          simpa [State.fitsSlot, State.slotType?, hk', hkind] using h9)
        (g := F0 C.2.1.2.1 pc ls (.ref (xmu G r0) :: st.map (xrv G))) rfl (hsz9.trans hC.2.2.2.1.symm) rfl (by rw [hC.2.1]; exact hd) (Nat.le_trans hf f1) (by show 2 * 0 + ((st.map (xrv G)).map fun v => v.category).sum + 14 ≤ _; rw [xcat_sum]; omega) b1 (by rw [hsz]; exact b2) (hloader := Vm.clonesLoader_of_array hkS hkindS)
      rw [hsz] at X'
      generalize hH1 : H.push (vp_cell (G.2.2.2.2.1 .byte) (n, .inl f)) = H1
      have z1 : H1.size = H.size + 1 := by rw [← hH1, Array.size_push]
      have e1 : H1[H.size]? = some (vp_cell (G.2.2.2.2.1 .byte) (n, .inl f)) := by rw [← hH1, Array.getElem?_push_size]
      have o1 : ∀ q : Nat, q < H.size → H1[q]? = H[q]? := fun q hq => by rw [← hH1, Array.getElem?_push, if_neg (Nat.ne_of_lt hq)]
      have hszm : xmu G h.2.1 = H.size := by rw [xmu_own hR.1, hR.2.1]; rfl
      have hh : xrv G (.ref h.2.1) = .ref H.size := by
        have h1 : 100 ≤ h.2.1 := hR.1
        rw [xrv_hi (by omega), hszm]
      have k9 := kw H1 (hR.new hWD.2.2.2.2.2 (n := n) e1 z1 o1)
      have k9 : xW C H1 locs (cells + 1) (slots + n) (F0 C.2.1.2.1 (pc + 3) ls (xrv G (.ref h.2.1) :: st.map (xrv G))) := k9
      rw [hh] at k9
      obtain ⟨t9, q1, q2⟩ := k9 ((T.setVm vm').pushCell (vp_cell (G.2.2.2.2.1 .byte) (n, .inl f))) (by rw [← hH1, ← hT]; rfl) X'
      refine ⟨t9, st9 t9 ?_, q2⟩
      rw [hT]
      exact q1
    · cases hv
  · cases hv
end XM2
