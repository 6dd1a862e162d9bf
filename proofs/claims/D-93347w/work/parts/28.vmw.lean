/-! THE WORDS OF THE MACHINE's THROWS -/
set_option maxRecDepth 100000
theorem vw_cce : ∀ w ∈ vx_atM "java/lang/ClassCastException" vN, w ∈ lw_tbl := by decide +kernel
theorem vw_neg : ∀ w ∈ vx_atM "java/lang/NegativeArraySizeException" vN, w ∈ lw_tbl := by decide +kernel
theorem vw_ari : ∀ w ∈ vx_atM "java/lang/ArithmeticException" vN, w ∈ lw_tbl := by decide +kernel
theorem vw_npe : ∀ w ∈ vx_atN 8, w ∈ lw_tbl := by decide +kernel
theorem vw_good : ((vx_atM "java/lang/ClassCastException" vN).all vx_ot && (vx_atM "java/lang/NegativeArraySizeException" vN).all vx_ot && (vx_atM "java/lang/ArithmeticException" vN).all vx_ot && (vx_atN 8).all vx_ot) = true := by decide +kernel
theorem vw_all : ∀ w ∈ cVM, w ∈ lw_tbl := by
  intro w hw
  unfold cVM at hw
  simp only [List.mem_append] at hw
  rcases hw with ((h | h) | h) | h
  · exact vw_cce w h
  · exact vw_neg w h
  · exact vw_ari w h
  · exact vw_npe w h
