set_option maxRecDepth 100000 in
theorem nse_eq : vx_at0 "StrangerMarket" 9 xNse ["java/lang/RuntimeException", "java/lang/Exception"] = ([141, 770, 779, 782, 785, 787, 771, 772, 170, 171, 773, 778, 783, 803, 760, 804, 762, 805, 764, 774, 776, 766, 1872, 1873, 1874, 1875, 1863, 1875, 1876, 1877, 1878, 753, 1878, 1879, 1880, 771, 755, 1871, 1861, 1862, 1865, 781, 1866, 1867, 1868, 1869, 769, 768, 1870] : List Nat).filterMap (fun i => lw_tbl[i]?) := by decide +kernel
set_option maxRecDepth 100000 in
theorem nse_ok : (vx_at0 "StrangerMarket" 9 xNse ["java/lang/RuntimeException", "java/lang/Exception"]).all (fun w => (goodWord w || xNwB w) && vx_ot w) = true := by decide +kernel
theorem nse_at : ∀ w ∈ vx_at0 "StrangerMarket" 9 xNse ["java/lang/RuntimeException", "java/lang/Exception"], (w ∈ lw_all ∨ (w ∈ lw_tbl ∧ xNwB w = true)) ∧ vx_ot w = true := by
  intro w hw
  have h1 := List.all_eq_true.mp nse_ok w hw
  rw [nse_eq] at hw
  obtain ⟨i, -, hi⟩ := List.mem_filterMap.mp hw
  have h2 : w ∈ lw_tbl := List.mem_of_getElem? hi
  simp only [Bool.and_eq_true, Bool.or_eq_true] at h1
  refine ⟨?_, h1.2⟩
  rcases h1.1 with e | e
  · exact Or.inl (lw_g h2 e)
  · exact Or.inr ⟨h2, e⟩
