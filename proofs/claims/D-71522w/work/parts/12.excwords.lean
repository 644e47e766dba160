/-! EXCEPTIONS OF THE MACHINE: their words by their places -/
set_option maxRecDepth 100000
theorem hat_of {args : Array Value} {s : State} {D : va_G} {k : Nat → ClassId} (L : List Cond) (ps : List Nat) (h : L = ps.filterMap (fun i => lw_tbl[i]?)) (h2 : L.all (fun w => goodWord w || decide (w ∈ nwL)) = true) (hts : ∀ w ∈ lw_all, w.before args s = true) (hK : KK D k s) : ∀ w ∈ L, w.before args s = true := by
  intro w hw
  have h3 := List.all_eq_true.mp h2 w hw
  rw [h] at hw
  obtain ⟨i, -, hi⟩ := List.mem_filterMap.mp hw
  rcases Bool.or_eq_true _ _ ▸ h3 with g | g
  · exact hts w (List.mem_filter.mpr ⟨List.mem_of_getElem? hi, g⟩)
  · have g2 : w ∈ nwL := of_decide_eq_true g
    exact va_Nw.use (nwL_tabs w g2) (hK.2.1 w g2)
theorem ot_of (L : List Cond) (h : L.all vx_ot = true) : ∀ w ∈ L, vx_ot w = true := List.all_eq_true.mp h
abbrev nmAIO : List String := ["java/lang/IndexOutOfBoundsException", "java/lang/RuntimeException", "java/lang/Exception"]
abbrev LAIO : List Cond := vx_atM "java/lang/ArrayIndexOutOfBoundsException" nmAIO
theorem atAIO : LAIO = ([96, 294, 303, 323, 326, 328, 295, 296, 117, 118, 297, 302, 324, 344, 284, 345, 286, 346, 288, 298, 300, 290, 681, 682, 343, 290, 852, 853, 854, 855, 867, 855, 856, 857, 675, 692, 675, 676, 677, 678, 278, 678, 679, 680, 681, 280, 103, 694, 167, 695, 697, 696, 698, 108, 851, 865, 868, 306, 860, 861, 863, 859, 293, 292, 858] : List Nat).filterMap (fun i => lw_tbl[i]?) := by decide +kernel
abbrev nmCCE : List String := ["java/lang/RuntimeException", "java/lang/Exception"]
abbrev LCCE : List Cond := vx_atM "java/lang/ClassCastException" nmCCE
theorem atCCE : LCCE = ([96, 294, 303, 323, 326, 328, 295, 296, 117, 118, 297, 302, 324, 344, 284, 345, 286, 346, 288, 298, 300, 290, 681, 682, 343, 290, 882, 883, 884, 675, 692, 675, 676, 677, 678, 278, 678, 679, 680, 681, 280, 103, 694, 167, 695, 697, 696, 698, 109, 881, 892, 893, 307, 887, 888, 890, 886, 293, 292, 885] : List Nat).filterMap (fun i => lw_tbl[i]?) := by decide +kernel
abbrev nmNAS : List String := ["java/lang/RuntimeException", "java/lang/Exception"]
abbrev LNAS : List Cond := vx_atM "java/lang/NegativeArraySizeException" nmNAS
theorem atNAS : LNAS = ([96, 294, 303, 323, 326, 328, 295, 296, 117, 118, 297, 302, 324, 344, 284, 345, 286, 346, 288, 298, 300, 290, 681, 682, 343, 290, 806, 807, 808, 675, 692, 675, 676, 677, 678, 278, 678, 679, 680, 681, 280, 103, 694, 167, 695, 697, 696, 698, 105, 805, 816, 817, 308, 811, 812, 814, 810, 293, 292, 809] : List Nat).filterMap (fun i => lw_tbl[i]?) := by decide +kernel
abbrev nmARI : List String := ["java/lang/RuntimeException", "java/lang/Exception"]
abbrev LARI : List Cond := vx_atS "java/lang/Math" 113 "java/lang/ArithmeticException" nmARI
theorem atARI : LARI = ([96, 294, 303, 323, 326, 328, 295, 296, 117, 118, 297, 302, 324, 344, 284, 345, 286, 346, 288, 298, 300, 290, 681, 682, 343, 290, 672, 673, 674, 675, 692, 675, 676, 677, 678, 278, 678, 679, 680, 681, 280, 708, 671, 690, 693, 305, 685, 686, 688, 684, 293, 292, 683] : List Nat).filterMap (fun i => lw_tbl[i]?) := by decide +kernel
abbrev LNPE : List Cond := vx_atN 8
theorem atNPE : LNPE = ([96, 294, 303, 323, 326, 328, 295, 296, 117, 118, 297, 302, 324, 344, 284, 345, 286, 346, 288, 298, 300, 290, 320, 310, 311, 835, 837, 317, 318, 849, 826, 827, 828, 829, 691, 829, 830, 831, 832, 277, 832, 833, 834, 295, 279, 106, 315, 847, 848, 309, 843, 844, 846, 293, 292, 841] : List Nat).filterMap (fun i => lw_tbl[i]?) := by decide +kernel
theorem gdAIO : LAIO.all (fun w => goodWord w || decide (w ∈ nwL)) = true := by decide +kernel
theorem otAIO : LAIO.all vx_ot = true := by decide +kernel
theorem gdCCE : LCCE.all (fun w => goodWord w || decide (w ∈ nwL)) = true := by decide +kernel
theorem otCCE : LCCE.all vx_ot = true := by decide +kernel
theorem gdNAS : LNAS.all (fun w => goodWord w || decide (w ∈ nwL)) = true := by decide +kernel
theorem otNAS : LNAS.all vx_ot = true := by decide +kernel
theorem gdARI : LARI.all (fun w => goodWord w || decide (w ∈ nwL)) = true := by decide +kernel
theorem otARI : LARI.all vx_ot = true := by decide +kernel
theorem gdNPE : LNPE.all (fun w => goodWord w || decide (w ∈ nwL)) = true := by decide +kernel
theorem otNPE : LNPE.all vx_ot = true := by decide +kernel
