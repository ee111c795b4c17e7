set_option maxRecDepth 100000
/-- the words of the machine's throws -/
theorem gx_all {L : List Cond} (h : L.all (fun w => decide (w ∈ lw_tbl) && (goodWord w || gw_nk w)) = true) {args : Array Value} {s : State} (hts : ∀ w ∈ lw_all, w.before args s = true) (hN : gw_N s) : ∀ w ∈ L, w.before args s = true := by
  intro w hw
  have h1 := List.all_eq_true.mp h w hw
  simp only [Bool.and_eq_true, Bool.or_eq_true, decide_eq_true_eq] at h1
  rcases h1.2 with g | g
  · exact hts w (lw_g h1.1 g)
  · refine va_Nw.use ?_ (hN w h1.1 g)
    unfold gw_nk at g
    split at g
    · rfl
    · rfl
    · rfl
    · rfl
    · cases g
theorem gx_lN : (vx_atN 8).all (fun w => decide (w ∈ lw_tbl) && (goodWord w || gw_nk w)) = true := by decide +kernel
theorem gx_oN : (vx_atN 8).all vx_ot = true := by decide +kernel
theorem gx_lI : (vx_atM "java/lang/ArrayIndexOutOfBoundsException" ["java/lang/IndexOutOfBoundsException", "java/lang/RuntimeException", "java/lang/Exception"]).all (fun w => decide (w ∈ lw_tbl) && (goodWord w || gw_nk w)) = true := by decide +kernel
theorem gx_oI : (vx_atM "java/lang/ArrayIndexOutOfBoundsException" ["java/lang/IndexOutOfBoundsException", "java/lang/RuntimeException", "java/lang/Exception"]).all vx_ot = true := by decide +kernel
theorem gx_lS : (vx_atM "java/lang/NegativeArraySizeException" ["java/lang/RuntimeException", "java/lang/Exception"]).all (fun w => decide (w ∈ lw_tbl) && (goodWord w || gw_nk w)) = true := by decide +kernel
theorem gx_oS : (vx_atM "java/lang/NegativeArraySizeException" ["java/lang/RuntimeException", "java/lang/Exception"]).all vx_ot = true := by decide +kernel
theorem gx_lA : (vx_atM "java/lang/ArrayStoreException" ["java/lang/RuntimeException", "java/lang/Exception"]).all (fun w => decide (w ∈ lw_tbl) && (goodWord w || gw_nk w)) = true := by decide +kernel
theorem gx_oA : (vx_atM "java/lang/ArrayStoreException" ["java/lang/RuntimeException", "java/lang/Exception"]).all vx_ot = true := by decide +kernel
