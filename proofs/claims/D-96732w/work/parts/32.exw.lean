/-! words of the machine's own exceptions, by their places. Own text, printed by exw.py. -/
set_option maxRecDepth 100000
def jLCCE : List Cond := vx_atM "java/lang/ClassCastException" ["java/lang/RuntimeException", "java/lang/Exception"]
theorem jLCCE_pl : jLCCE = [117, 457, 400, 419, 422, 424, 458, 459, 163, 164, 394, 399, 420, 427, 451, 428, 452, 429, 453, 395, 397, 454, 392, 393, 426, 454, 383, 384, 385, 386, 445, 386, 387, 388, 389, 447, 389, 390, 391, 392, 449, 121, 460, 181, 461, 463, 462, 464, 120, 382, 443, 450, 403, 434, 436, 440, 432, 456, 455, 430].filterMap (fun i => lw_tbl[i]?) := by decide +kernel
theorem jLCCE_g : jLCCE.all (fun w => goodWord w || nestW w) = true := by decide +kernel
theorem jLCCE_o : jLCCE.all vx_ot = true := by decide +kernel
def jLAIO : List Cond := vx_atM "java/lang/ArrayIndexOutOfBoundsException" ["java/lang/IndexOutOfBoundsException", "java/lang/RuntimeException", "java/lang/Exception"]
theorem jLAIO_pl : jLAIO = [117, 457, 400, 419, 422, 424, 458, 459, 163, 164, 394, 399, 420, 427, 451, 428, 452, 429, 453, 395, 397, 454, 392, 393, 426, 454, 492, 493, 494, 495, 507, 495, 496, 497, 386, 445, 386, 387, 388, 389, 447, 389, 390, 391, 392, 449, 121, 460, 181, 461, 463, 462, 464, 124, 491, 505, 508, 402, 500, 501, 503, 499, 456, 455, 498].filterMap (fun i => lw_tbl[i]?) := by decide +kernel
theorem jLAIO_g : jLAIO.all (fun w => goodWord w || nestW w) = true := by decide +kernel
theorem jLAIO_o : jLAIO.all vx_ot = true := by decide +kernel
def jLNAS : List Cond := vx_atM "java/lang/NegativeArraySizeException" ["java/lang/RuntimeException", "java/lang/Exception"]
theorem jLNAS_pl : jLNAS = [117, 457, 400, 419, 422, 424, 458, 459, 163, 164, 394, 399, 420, 427, 451, 428, 452, 429, 453, 395, 397, 454, 392, 393, 426, 454, 1428, 1429, 1430, 386, 445, 386, 387, 388, 389, 447, 389, 390, 391, 392, 449, 121, 460, 181, 461, 463, 462, 464, 149, 1427, 1438, 1439, 404, 1433, 1434, 1436, 1432, 456, 455, 1431].filterMap (fun i => lw_tbl[i]?) := by decide +kernel
theorem jLNAS_g : jLNAS.all (fun w => goodWord w || nestW w) = true := by decide +kernel
theorem jLNAS_o : jLNAS.all vx_ot = true := by decide +kernel
def jLNPE : List Cond := vx_atN 8
theorem jLNPE_pl : jLNPE = [117, 457, 400, 419, 422, 424, 458, 459, 163, 164, 394, 399, 420, 427, 451, 428, 452, 429, 453, 395, 397, 454, 416, 406, 407, 475, 477, 413, 414, 489, 466, 467, 468, 469, 444, 469, 470, 471, 472, 446, 472, 473, 474, 458, 448, 122, 411, 487, 488, 405, 483, 484, 486, 456, 455, 481].filterMap (fun i => lw_tbl[i]?) := by decide +kernel
theorem jLNPE_g : jLNPE.all (fun w => goodWord w || nestW w) = true := by decide +kernel
theorem jLNPE_o : jLNPE.all vx_ot = true := by decide +kernel
theorem jhat {κ : jK} (hN : jNst κ) {args : Array Value} {s : State} (hts : ∀ w ∈ lw_all, w.before args s = true) (hX : κ.2.2.2.2.2 s) {L : List Cond} {ps : List Nat} (hp : L = ps.filterMap (fun i => lw_tbl[i]?)) (hg : L.all (fun w => goodWord w || nestW w) = true) : ∀ w ∈ L, w.before args s = true := by
  intro w hw
  have h1 := List.all_eq_true.mp hg w hw
  have hm : w ∈ lw_tbl := by
    rw [hp] at hw
    obtain ⟨i, -, hi⟩ := List.mem_filterMap.mp hw
    exact List.mem_of_getElem? hi
  rw [Bool.or_eq_true] at h1
  rcases h1 with h1 | h1
  · exact hts w (List.mem_filter.mpr ⟨hm, h1⟩)
  · refine va_Nw.use ?_ ((hN s hX).1 w hm h1)
    revert h1
    cases w <;> first | (intro _; rfl) | (intro h; cases h)
theorem jhot {L : List Cond} (h : L.all vx_ot = true) : ∀ w ∈ L, vx_ot w = true := List.all_eq_true.mp h

