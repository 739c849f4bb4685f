/-! THE START: what the entry gives -/
set_option maxHeartbeats 4000000 in
theorem st_cls {s : State} {A : Array Value} (ht : ∀ w ∈ lw_tbl, w.before A s = true) : ∃ (dC : Nat → ClassId) (dI : Nat → Nat → Nat), ∀ (k : Nat) (q : vw_C), xCl[k]? = some q → u_Kn s q.1 q.2.1 q.2.2 (dC k) (dI k) := by
  obtain ⟨c0, i0, h0⟩ := u_known (C := RX1) (T := TX1) (N := 21) (n := 21) ht (fun w h => lw_all_tbl (in_X1 w h)) (ht _ (lw_all_tbl q165))
  obtain ⟨c1, i1, h1⟩ := u_known (C := RX2) (T := TX2) (N := 6) (n := 6) ht (fun w h => lw_all_tbl (in_X2 w h)) (ht _ (lw_all_tbl q173))
  obtain ⟨c2, i2, h2⟩ := u_known (C := RX3) (T := TX3) (N := 13) (n := 13) ht (fun w h => lw_all_tbl (in_X3 w h)) (ht _ (lw_all_tbl q244))
  obtain ⟨c3, i3, h3⟩ := u_known (C := RX4) (T := TX4) (N := 3) (n := 3) ht (fun w h => lw_all_tbl (in_X4 w h)) (ht _ (lw_all_tbl q354))
  obtain ⟨c4, i4, h4⟩ := u_known (C := RX5) (T := TX5) (N := 52) (n := 52) ht (fun w h => lw_all_tbl (in_X5 w h)) (ht _ (lw_all_tbl q1894))
  obtain ⟨c5, i5, h5⟩ := u_known (C := RX7) (T := TX7) (N := 11) (n := 11) ht (fun w h => lw_all_tbl (in_X7 w h)) (ht _ (lw_all_tbl q458))
  obtain ⟨c6, i6, h6⟩ := u_known (C := RX17) (T := TX17) (N := 11) (n := 11) ht (fun w h => lw_all_tbl (in_X17 w h)) (ht _ (lw_all_tbl q1543))
  obtain ⟨c7, i7, h7⟩ := u_known (C := RX19) (T := TX19) (N := 12) (n := 12) ht (fun w h => lw_all_tbl (in_X19 w h)) (ht _ (lw_all_tbl q1644))
  obtain ⟨c8, i8, h8⟩ := u_known (C := RX8) (T := TX8) (N := 8) (n := 8) ht (fun w h => lw_all_tbl (in_X8 w h)) (ht _ (lw_all_tbl q751))
  obtain ⟨c9, i9, h9⟩ := u_known (C := RX9) (T := TX9) (N := 1) (n := 1) ht (fun w h => lw_all_tbl (in_X9 w h)) (ht _ (lw_all_tbl q1032))
  obtain ⟨c10, i10, h10⟩ := u_known (C := RX10) (T := TX10) (N := 7) (n := 7) ht (fun w h => lw_all_tbl (in_X10 w h)) (ht _ (lw_all_tbl q912))
  obtain ⟨c11, i11, h11⟩ := u_known (C := RX13) (T := TX13) (N := 3) (n := 3) ht (fun w h => lw_all_tbl (in_X13 w h)) (ht _ (lw_all_tbl q1170))
  obtain ⟨c12, i12, h12⟩ := u_known (C := RX14) (T := TX14) (N := 2) (n := 2) ht (fun w h => lw_all_tbl (in_X14 w h)) (ht _ (lw_all_tbl q1323))
  obtain ⟨c13, i13, h13⟩ := u_known (C := RX15) (T := TX15) (N := 3) (n := 3) ht (fun w h => lw_all_tbl (in_X15 w h)) (ht _ (lw_all_tbl q1348))
  obtain ⟨c14, i14, h14⟩ := u_known (C := RX16) (T := TX16) (N := 1) (n := 1) ht (fun w h => lw_all_tbl (in_X16 w h)) (ht _ (lw_all_tbl q1336))
  obtain ⟨c15, i15, h15⟩ := u_known (C := RX18) (T := TX18) (N := 2) (n := 2) ht (fun w h => lw_all_tbl (in_X18 w h)) (ht _ (lw_all_tbl q1612))
  obtain ⟨c16, i16, h16⟩ := u_known (C := RX21) (T := TX21) (N := 1) (n := 1) ht (fun w h => lw_all_tbl (in_X21 w h)) (ht _ (lw_all_tbl q1718))
  obtain ⟨c17, i17, h17⟩ := u_known (C := RX22) (T := TX22) (N := 2) (n := 2) ht (fun w h => lw_all_tbl (in_X22 w h)) (ht _ (lw_all_tbl q1731))
  obtain ⟨c18, i18, h18⟩ := u_known (C := RX23) (T := TX23) (N := 1) (n := 1) ht (fun w h => lw_all_tbl (in_X23 w h)) (ht _ (lw_all_tbl q1747))
  obtain ⟨c19, i19, h19⟩ := u_known (C := RX24) (T := TX24) (N := 3) (n := 3) ht (fun w h => lw_all_tbl (in_X24 w h)) (ht _ (lw_all_tbl q1761))
  obtain ⟨c20, i20, h20⟩ := u_known (C := RX25) (T := TX25) (N := 3) (n := 3) ht (fun w h => lw_all_tbl (in_X25 w h)) (ht _ (lw_all_tbl q1781))
  obtain ⟨c21, i21, h21⟩ := u_known (C := RJ2) (T := TJ2) (N := 3) (n := 3) ht (fun w h => lw_all_tbl (in_J2 w h)) (ht _ (lw_all_tbl q179))
  obtain ⟨c22, i22, h22⟩ := u_known (C := RJ7) (T := TJ7) (N := 4) (n := 4) ht (fun w h => lw_all_tbl (in_J7 w h)) (ht _ (lw_all_tbl q534))
  obtain ⟨c23, i23, h23⟩ := u_known (C := RJ8) (T := TJ8) (N := 4) (n := 4) ht (fun w h => lw_all_tbl (in_J8 w h)) (ht _ (lw_all_tbl q660))
  refine ⟨fun k => [c0, c1, c2, c3, c4, c5, c6, c7, c8, c9, c10, c11, c12, c13, c14, c15, c16, c17, c18, c19, c20, c21, c22, c23].getD k c0, fun k => [i0, i1, i2, i3, i4, i5, i6, i7, i8, i9, i10, i11, i12, i13, i14, i15, i16, i17, i18, i19, i20, i21, i22, i23].getD k i0, ?_⟩
  intro k q hq
  match k, hq with
  | 0, hq => cases hq; exact h0
  | 1, hq => cases hq; exact h1
  | 2, hq => cases hq; exact h2
  | 3, hq => cases hq; exact h3
  | 4, hq => cases hq; exact h4
  | 5, hq => cases hq; exact h5
  | 6, hq => cases hq; exact h6
  | 7, hq => cases hq; exact h7
  | 8, hq => cases hq; exact h8
  | 9, hq => cases hq; exact h9
  | 10, hq => cases hq; exact h10
  | 11, hq => cases hq; exact h11
  | 12, hq => cases hq; exact h12
  | 13, hq => cases hq; exact h13
  | 14, hq => cases hq; exact h14
  | 15, hq => cases hq; exact h15
  | 16, hq => cases hq; exact h16
  | 17, hq => cases hq; exact h17
  | 18, hq => cases hq; exact h18
  | 19, hq => cases hq; exact h19
  | 20, hq => cases hq; exact h20
  | 21, hq => cases hq; exact h21
  | 22, hq => cases hq; exact h22
  | 23, hq => cases hq; exact ⟨fun k hk => h23.1 k (by first | exact hk | (have hk : k < 2 := hk; omega)), h23.2⟩
  | k + 24, hq => simp [xCl] at hq
