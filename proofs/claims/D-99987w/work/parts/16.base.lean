section XAC
variable {G : xG} {C : xC} {M M' : xM} {pc : Nat} {lv : List (Nat × Value)} {st : List Value} {h h1 : mH}
def cpA (h : mH) (s : Nat) (sp : Int32) (d : Nat) (dp n : Int32) : Option mH := match h.1 s, h.1 d with
  | some (.inl (t0, n0, .inl f)), some (.inl (t1, n1, .inl g)) => if t0 = t1 ∧ (t0 = .int ∨ (t0 = .byte ∧ ∀ i, i < n.toNatClampNeg → fits .byte (.int (f (sp.toNatClampNeg + i))) = true)) ∧ 100 ≤ d ∧ 0 ≤ sp ∧ 0 ≤ dp ∧ 0 ≤ n ∧ sp.toNatClampNeg + n.toNatClampNeg ≤ n0 ∧ dp.toNatClampNeg + n.toNatClampNeg ≤ n1 then some (xup h d (.inl (t1, n1, .inl (va_cpy f g sp.toNatClampNeg dp.toNatClampNeg n.toNatClampNeg)))) else none
  | _, _ => none
theorem cpA_spec {s d : Nat} {sp dp n : Int32} {h' : mH} (hv : cpA h s sp d dp n = some h') : ∃ (t : FieldType) (n0 n1 : Nat) (f g : Nat → Int32), h.1 s = some (.inl (t, n0, .inl f)) ∧ h.1 d = some (.inl (t, n1, .inl g)) ∧ (t = .int ∨ (t = .byte ∧ ∀ i, i < n.toNatClampNeg → fits .byte (.int (f (sp.toNatClampNeg + i))) = true)) ∧ 100 ≤ d ∧ 0 ≤ sp ∧ 0 ≤ dp ∧ 0 ≤ n ∧ sp.toNatClampNeg + n.toNatClampNeg ≤ n0 ∧ dp.toNatClampNeg + n.toNatClampNeg ≤ n1 ∧ h' = xup h d (.inl (t, n1, .inl (va_cpy f g sp.toNatClampNeg dp.toNatClampNeg n.toNatClampNeg))) := by
  unfold cpA at hv
  split at hv
  · rename_i t0 n0 f t1 n1 g e0 e1
    split at hv
    · rename_i hc
      obtain ⟨rfl, h2, h3, h4, h5, h6, h7, h8⟩ := hc
      cases hv
      exact ⟨t0, n0, n1, f, g, e0, e1, h2, h3, h4, h5, h6, h7, h8, rfl⟩
    · cases hv
  · cases hv
set_option maxHeartbeats 2000000 in
/-- System.arraycopy of whole numbers -/
theorem x_copy {ix s0 d0 : Nat} {sp dp n : Int32} {h' : mH} (hw : Cond.methodLink M.2.1.cls ix arraycopyName ∈ lw_all) (w1 : Cond.native arraycopyName ∈ lw_all) (w2 : Cond.static arraycopyName ∈ lw_all) (w3 : Cond.initialized "java/lang/System" ∈ lw_all) (hv : cpA h s0 sp d0 dp n = some h') (hf : 2 ≤ M.2.2.2.2) (hst : (st.map fun v => v.category).sum ≤ 8) (hd : decode M.1 pc = .ok (.invokestatic ix, 3)) (kk : X G C M (pc + 3) lv st h') : X G C M pc lv (.int n :: .int dp :: .ref d0 :: .int sp :: .ref s0 :: st) h := by
  obtain ⟨t, n0, n1, f, g, g1, g2, ht, h3, p1, p2, p3, h4, h5, rfl⟩ := cpA_spec hv
  refine ⟨kk.1, fun hC b1 b2 ls H locs hl hR hq => ?_⟩
  have k := kk.2 hC b1 b2
  have hWD := hC.2.2.2.2.2.2.2.2.1
  have hin0 : t ∈ xTy := by rcases ht with rfl | ⟨rfl, -⟩ <;> decide
  obtain ⟨a1, cs, hc0, q2, q3, q4, q5⟩ := x_arr hWD hR hin0 g1
  obtain ⟨c1, c2, c3⟩ := hR.2.2.2 d0 _ g2
  have c3 := xAt.at h3 c3
  have hts := hC.2.2.2.2.1
  show xW C H locs _ _ (F0 C.2.1.2.1 pc ls (.int n :: .int dp :: xrv G (.ref d0) :: .int sp :: xrv G (.ref s0) :: st.map (xrv G)))
  rw [xrv_hi a1, xrv_hi c1]
  have hin : t ∈ xTy := by rcases ht with rfl | ⟨rfl, -⟩ <;> decide
  have hprim : refKind t = false := by rcases ht with rfl | ⟨rfl, -⟩ <;> rfl
  have hfit : ∀ i, i < n.toNatClampNeg → fits t (.int (f (sp.toNatClampNeg + i))) = true := by
    rcases ht with rfl | ⟨rfl, hb⟩
    · intro i _; rfl
    · exact hb
  have nn : ∀ z : Int32, 0 ≤ z → z.toInt = (z.toNatClampNeg : Int) := by
    intro z hz
    have hz0 : (0 : Int) ≤ z.toInt := by simpa using Int32.le_iff_toInt_le.mp hz
    show z.toInt = ((z.toInt.toNat : Nat) : Int)
    omega
  intro T hT X
  have hc1 : H[xmu G d0]? = some (vp_cell (G.2.2.2.2.1 t) (n1, .inl g)) := c3
  obtain ⟨q6, k0, hk0, cm0, hkk0⟩ := q2
  obtain ⟨-, k1, hk1, cm1, hkk1⟩ := (hWD.arr hin).1 n1 (fun j => .int (g j))
  obtain ⟨-, -, -, -, -, -, -, -, -, -, f1, f2, -, -, -⟩ := id hC
  have e9 : nativeFrameWords "java/lang/System" "arraycopy" 5 ≤ 60 := by decide
  obtain ⟨vm', X', step⟩ := X.arraycopy hC.1 hC.2.2.1 (hts _ hw) (hts _ w1) (hts _ w2) (hts _ w3) (src := xmu G s0) (dst := xmu G d0) (cs := cs) (cd := vp_cell (G.2.2.2.2.1 t) (n1, .inl g)) (srcPos := sp) (destPos := dp) (n := n) (by rw [hT]; exact hc0) (by rw [hT]; exact hc1)
    q6 (fun _ h => by cases h) q3 (fun h => by cases h) hk0 hk1 hkk0 hkk1 (by simp [hprim]) (Int32.not_lt.mpr p1) (Int32.not_lt.mpr p2) (Int32.not_lt.mpr p3)
    (by rw [nn sp p1, nn n p3]; have q9 := q4.1; omega)
    (by rw [nn dp p2, nn n p3]; show ¬ _ > ((arrV (G.2.2.2.2.1 t) n1 (fun j => .int (g j))).slots.size : Int); rw [arrV_size]; omega)
    (fun vm₁ _ i hi => by
      have e : cs.slots.getD (sp.toNatClampNeg + i) .null = .int (f (sp.toNatClampNeg + i)) := by
        rw [Array.getD_eq_getD_getElem?, q5 _ (by omega)]
        rfl
      refine ⟨?_, ?_⟩
      · rw [e]
        exact hfit i hi
      · rw [e]
        exact trivial)
    (g := F0 C.2.1.2.1 pc ls (.int n :: .int dp :: .ref (xmu G d0) :: .int sp :: .ref (xmu G s0) :: st.map (xrv G))) rfl (hl.1.trans hC.2.2.2.1.symm) (rest := st.map (xrv G)) rfl (by rw [hC.2.1]; exact hd) (by omega) (by show 2 * 0 + ((st.map (xrv G)).map fun v => v.category).sum + (nativeFrameWords "java/lang/System" "arraycopy" 5 + 11) ≤ _; rw [xcat_sum]; omega)
  have e1 : copied cs (vp_cell (G.2.2.2.2.1 t) (n1, .inl g)) sp dp n = vp_cell (G.2.2.2.2.1 t) (n1, .inl (va_cpy f g sp.toNatClampNeg dp.toNatClampNeg n.toNatClampNeg)) := va_copiedX (fun z => .int z) cs _ f g q5 h4
  rw [e1] at X' step
  have hl9 : xmu G d0 < H.size := (Array.getElem?_eq_some_iff.mp hc1).1
  have hheap : ((T.setVm vm').setCell (xmu G d0) (vp_cell (G.2.2.2.2.1 t) (n1, .inl (va_cpy f g sp.toNatClampNeg dp.toNatClampNeg n.toNatClampNeg)))).heap = H.setIfInBounds (xmu G d0) (vp_cell (G.2.2.2.2.1 t) (n1, .inl (va_cpy f g sp.toNatClampNeg dp.toNatClampNeg n.toNatClampNeg))) := by rw [← hT]; rfl
  have oq : ∀ q : Nat, q ≠ xmu G d0 → (H.setIfInBounds (xmu G d0) (vp_cell (G.2.2.2.2.1 t) (n1, .inl (va_cpy f g sp.toNatClampNeg dp.toNatClampNeg n.toNatClampNeg))))[q]? = H[q]? := fun q hq => by simp [Array.getElem?_setIfInBounds, Ne.symm hq]
  obtain ⟨t9, a9, b9⟩ := k ls _ _ hl (hR.put hWD.2.2.2.2.2 h3 c2 (show (H.setIfInBounds (xmu G d0) _)[xmu G d0]? = some _ by simp [Array.getElem?_setIfInBounds, hl9]; rfl) (by simp) oq) (fun q hq9 => by
      rcases List.mem_append.mp hq9 with h | h
      · exact hq q h
      · obtain ⟨z, -, hz⟩ := List.mem_map.mp h
        rw [← hz]
        show G.1 ≤ xmu G d0
        rw [xmu_own h3]
        omega) _ hheap X'
  exact ⟨t9, step t9 a9, b9⟩
def cpR (S : List Nat) (h : mH) (s : Nat) (sp : Int32) (d : Nat) (dp n : Int32) : Option mH := match h.1 s, h.1 d with
  | some (.inl (t0, n0, .inr (.inr f))), some (.inl (t1, n1, .inr (.inr g))) => if t0 = .object "java/lang/Object" ∧ t1 = .object "java/lang/Object" ∧ (∀ i, i < n.toNatClampNeg → f (sp.toNatClampNeg + i) = 0 ∨ (gC h (f (sp.toNatClampNeg + i)) ∈ S ∧ 100 ≤ f (sp.toNatClampNeg + i))) ∧ (100 ≤ d ∧ 100 ≤ s) ∧ 0 ≤ sp ∧ 0 ≤ dp ∧ 0 ≤ n ∧ sp.toNatClampNeg + n.toNatClampNeg ≤ n0 ∧ dp.toNatClampNeg + n.toNatClampNeg ≤ n1 then some (xup h d (.inl (t1, n1, .inr (.inr (va_cpy f g sp.toNatClampNeg dp.toNatClampNeg n.toNatClampNeg))))) else none
  | _, _ => none
theorem cpR_spec {S : List Nat} {s d : Nat} {sp dp n : Int32} {h' : mH} (hv : cpR S h s sp d dp n = some h') : ∃ (n0 n1 : Nat) (f g : Nat → Nat), h.1 s = some (.inl (.object "java/lang/Object", n0, .inr (.inr f))) ∧ h.1 d = some (.inl (.object "java/lang/Object", n1, .inr (.inr g))) ∧ (∀ i, i < n.toNatClampNeg → f (sp.toNatClampNeg + i) = 0 ∨ (gC h (f (sp.toNatClampNeg + i)) ∈ S ∧ 100 ≤ f (sp.toNatClampNeg + i))) ∧ (100 ≤ d ∧ 100 ≤ s) ∧ 0 ≤ sp ∧ 0 ≤ dp ∧ 0 ≤ n ∧ sp.toNatClampNeg + n.toNatClampNeg ≤ n0 ∧ dp.toNatClampNeg + n.toNatClampNeg ≤ n1 ∧ h' = xup h d (.inl (.object "java/lang/Object", n1, .inr (.inr (va_cpy f g sp.toNatClampNeg dp.toNatClampNeg n.toNatClampNeg)))) := by
  unfold cpR at hv
  split at hv
  · rename_i t0 n0 f t1 n1 g e0 e1
    split at hv
    · rename_i hc
      obtain ⟨rfl, rfl, h2, h3, h4, h5, h6, h7, h8⟩ := hc
      cases hv
      exact ⟨n0, n1, f, g, e0, e1, h2, h3, h4, h5, h6, h7, h8, rfl⟩
    · cases hv
  · cases hv
set_option maxHeartbeats 2000000 in
/-- System.arraycopy of references (Object[]) -/
theorem x_copyR {S : List Nat} {ix s0 d0 : Nat} {sp dp n : Int32} {h' : mH} (hw : Cond.methodLink M.2.1.cls ix arraycopyName ∈ lw_all) (w1 : Cond.native arraycopyName ∈ lw_all) (w2 : Cond.static arraycopyName ∈ lw_all) (w3 : Cond.initialized "java/lang/System" ∈ lw_all) (hS : ∀ c ∈ S, xCast "java/lang/Object" c) (hv : cpR S h s0 sp d0 dp n = some h') (hf : 2 ≤ M.2.2.2.2) (hst : (st.map fun v => v.category).sum ≤ 8) (hd : decode M.1 pc = .ok (.invokestatic ix, 3)) (kk : X G C M (pc + 3) lv st h') : X G C M pc lv (.int n :: .int dp :: .ref d0 :: .int sp :: .ref s0 :: st) h := by
  obtain ⟨n0, n1, f, g, g1, g2, hel, h3, p1, p2, p3, h4, h5, rfl⟩ := cpR_spec hv
  refine ⟨kk.1, fun hC b1 b2 ls H locs hl hR hq => ?_⟩
  have k := kk.2 hC b1 b2
  obtain ⟨h3, h39⟩ := h3
  obtain ⟨a1, a2, a3⟩ := hR.2.2.2 s0 _ g1
  obtain ⟨c1, c2, c3⟩ := hR.2.2.2 d0 _ g2
  have a3 := xAt.at h39 a3
  have c3 := xAt.at h3 c3
  have hWD := hC.2.2.2.2.2.2.2.2.1
  have hts := hC.2.2.2.2.1
  show xW C H locs _ _ (F0 C.2.1.2.1 pc ls (.int n :: .int dp :: xrv G (.ref d0) :: .int sp :: xrv G (.ref s0) :: st.map (xrv G)))
  rw [xrv_hi a1, xrv_hi c1]
  have hin : FieldType.object "java/lang/Object" ∈ xTy := by decide
  have nn : ∀ z : Int32, 0 ≤ z → z.toInt = (z.toNatClampNeg : Int) := by
    intro z hz
    have hz0 : (0 : Int) ≤ z.toInt := by simpa using Int32.le_iff_toInt_le.mp hz
    show z.toInt = ((z.toInt.toNat : Nat) : Int)
    omega
  intro T hT X
  have hc0 : H[xmu G s0]? = some (vp_cell (G.2.2.2.2.1 (.object "java/lang/Object")) (n0, .inr (.inr (.inr (.inr (fun j => xro G (f j))))))) := a3
  have hc1 : H[xmu G d0]? = some (vp_cell (G.2.2.2.2.1 (.object "java/lang/Object")) (n1, .inr (.inr (.inr (.inr (fun j => xro G (g j))))))) := c3
  obtain ⟨-, k0, hk0, cm0, hkk0⟩ := (hWD.arr hin).1 n0 (fun j => va_rf (xro G (f j)))
  obtain ⟨-, k1, hk1, cm1, hkk1⟩ := (hWD.arr hin).1 n1 (fun j => va_rf (xro G (g j)))
  obtain ⟨-, -, -, -, -, -, -, -, -, -, f1, f2, -, -, -⟩ := id hC
  have e9 : nativeFrameWords "java/lang/System" "arraycopy" 5 ≤ 60 := by decide
  obtain ⟨vm', X', step⟩ := X.arraycopy hC.1 hC.2.2.1 (hts _ hw) (hts _ w1) (hts _ w2) (hts _ w3) (src := xmu G s0) (dst := xmu G d0) (cs := vp_cell (G.2.2.2.2.1 (.object "java/lang/Object")) (n0, .inr (.inr (.inr (.inr (fun j => xro G (f j))))))) (cd := vp_cell (G.2.2.2.2.1 (.object "java/lang/Object")) (n1, .inr (.inr (.inr (.inr (fun j => xro G (g j))))))) (srcPos := sp) (destPos := dp) (n := n) (by rw [hT]; exact hc0) (by rw [hT]; exact hc1)
    (fun _ h => by cases h) (fun _ h => by cases h) (fun h => by cases h) (fun h => by cases h) hk0 hk1 hkk0 hkk1 rfl (Int32.not_lt.mpr p1) (Int32.not_lt.mpr p2) (Int32.not_lt.mpr p3)
    (by rw [nn sp p1, nn n p3]; show ¬ _ > ((arrV (G.2.2.2.2.1 (.object "java/lang/Object")) n0 (fun j => va_rf (xro G (f j)))).slots.size : Int); rw [arrV_size]; omega)
    (by rw [nn dp p2, nn n p3]; show ¬ _ > ((arrV (G.2.2.2.2.1 (.object "java/lang/Object")) n1 (fun j => va_rf (xro G (g j)))).slots.size : Int); rw [arrV_size]; omega)
    (fun vm₁ hal i hi => by
      have e : (vp_cell (G.2.2.2.2.1 (.object "java/lang/Object")) (n0, .inr (.inr (.inr (.inr (fun j => xro G (f j))))))).slots.getD (sp.toNatClampNeg + i) .null = va_rf (xro G (f (sp.toNatClampNeg + i))) := by
        show (arrV (G.2.2.2.2.1 (.object "java/lang/Object")) n0 (fun j => va_rf (xro G (f j)))).slots.getD _ _ = _
        rw [Array.getD_eq_getD_getElem?, arrV_read _ _ (by omega)]
        rfl
      rw [e]
      rcases hel i hi with hy | ⟨hy, hy9⟩
      · rw [hy]
        exact ⟨rfl, trivial⟩
      · obtain ⟨fs, hx⟩ := gC_spec hy (fun c hc => by obtain ⟨q, hq, -⟩ := hS c hc; exact ⟨q, hq⟩)
        obtain ⟨y1, y2, y3⟩ := hR.2.2.2 _ _ hx
        obtain ⟨q, hq9, -⟩ := id (hS _ hy)
        obtain ⟨cellV, g1, g2, ⟨kC, hkC⟩, hasg⟩ := va_rAny hWD.1 (xP1 (xAt.at hy9 y3)) (q0 := 0) rfl hq9 (xcast_asg hWD (hS _ hy) hq9)
        rw [xro_hi y1]
        obtain ⟨kA, comp, r1, r2, r3, -⟩ := (hWD.arr hin).2
        cases hk1.symm.trans r1
        cases hkk1.symm.trans r2
        obtain ⟨kE, hkE, -⟩ := Vm.findClass_spec r3
        obtain ⟨kC', hkC', -⟩ := hal.2.2 _ _ hkC
        obtain ⟨kE', hkE', -⟩ := hal.2.2 _ _ hkE
        refine ⟨rfl, cellV, (show T.heap[xmu G (f (sp.toNatClampNeg + i))]? = some cellV by rw [hT]; exact g1), (fun q h => by rw [h] at g2; cases g2), ⟨kC', hkC'⟩, ?_, ?_⟩
        · exact ⟨kE', hkE'⟩
        · show vm₁.assignable _ _ = true
          rw [hal.assignable]
          exact hasg _ r3)
    (g := F0 C.2.1.2.1 pc ls (.int n :: .int dp :: .ref (xmu G d0) :: .int sp :: .ref (xmu G s0) :: st.map (xrv G))) rfl (hl.1.trans hC.2.2.2.1.symm) (rest := st.map (xrv G)) rfl (by rw [hC.2.1]; exact hd) (by omega) (by show 2 * 0 + ((st.map (xrv G)).map fun v => v.category).sum + (nativeFrameWords "java/lang/System" "arraycopy" 5 + 11) ≤ _; rw [xcat_sum]; omega)
  have e1 : copied (vp_cell (G.2.2.2.2.1 (.object "java/lang/Object")) (n0, .inr (.inr (.inr (.inr (fun j => xro G (f j))))))) (vp_cell (G.2.2.2.2.1 (.object "java/lang/Object")) (n1, .inr (.inr (.inr (.inr (fun j => xro G (g j))))))) sp dp n = vp_cell (G.2.2.2.2.1 (.object "java/lang/Object")) (n1, .inr (.inr (.inr (.inr (fun j => xro G (va_cpy f g sp.toNatClampNeg dp.toNatClampNeg n.toNatClampNeg j)))))) := by
    rw [vp_cell_q, vp_cell_q, vp_cell_q]
    exact va_copied (fun z => va_rf (xro G z)) _ _ f g h4
  rw [e1] at X' step
  have hl9 : xmu G d0 < H.size := (Array.getElem?_eq_some_iff.mp hc1).1
  have hheap : ((T.setVm vm').setCell (xmu G d0) (vp_cell (G.2.2.2.2.1 (.object "java/lang/Object")) (n1, .inr (.inr (.inr (.inr (fun j => xro G (va_cpy f g sp.toNatClampNeg dp.toNatClampNeg n.toNatClampNeg j)))))))).heap = H.setIfInBounds (xmu G d0) (vp_cell (G.2.2.2.2.1 (.object "java/lang/Object")) (n1, .inr (.inr (.inr (.inr (fun j => xro G (va_cpy f g sp.toNatClampNeg dp.toNatClampNeg n.toNatClampNeg j))))))) := by rw [← hT]; rfl
  have oq : ∀ q : Nat, q ≠ xmu G d0 → (H.setIfInBounds (xmu G d0) (vp_cell (G.2.2.2.2.1 (.object "java/lang/Object")) (n1, .inr (.inr (.inr (.inr (fun j => xro G (va_cpy f g sp.toNatClampNeg dp.toNatClampNeg n.toNatClampNeg j))))))))[q]? = H[q]? := fun q hq => by simp [Array.getElem?_setIfInBounds, Ne.symm hq]
  obtain ⟨t9, a9, b9⟩ := k ls _ _ hl (hR.put hWD.2.2.2.2.2 h3 c2 (show (H.setIfInBounds (xmu G d0) _)[xmu G d0]? = some _ by simp [Array.getElem?_setIfInBounds, hl9]; rfl) (by simp) oq) (fun q hq9 => by
      rcases List.mem_append.mp hq9 with h | h
      · exact hq q h
      · obtain ⟨z, -, hz⟩ := List.mem_map.mp h
        rw [← hz]
        show G.1 ≤ xmu G d0
        rw [xmu_own h3]
        omega) _ hheap X'
  exact ⟨t9, step t9 a9, b9⟩
end XAC
