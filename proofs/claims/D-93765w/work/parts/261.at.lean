set_option maxRecDepth 100000
/-! ===== STAGE 1, methods that throw: the words of the machine's exceptions, by their places (printed by s2_at.py) ===== -/
theorem hx_in {L : List Cond} (ps qs : List Nat) (h1 : L.filter goodWord = ps.filterMap (fun i => lw_tbl[i]?)) (h2 : L.filter (fun w => !goodWord w) = qs.filterMap (fun i => lw_tbl[i]?)) (h3 : L.all (fun w => goodWord w || hk_isN w) = true) (h4 : L.all vx_ot = true) :
    (∀ w ∈ L, (goodWord w = true ∧ w ∈ lw_all) ∨ (hk_isN w = true ∧ w ∈ lw_tbl)) ∧ ∀ w ∈ L, vx_ot w = true := by
  refine ⟨fun w hw => ?_, fun w hw => List.all_eq_true.mp h4 w hw⟩
  have h5 := List.all_eq_true.mp h3 w hw
  by_cases g : goodWord w = true
  · have : w ∈ L.filter goodWord := List.mem_filter.mpr ⟨hw, g⟩
    rw [h1] at this
    obtain ⟨i, -, hi⟩ := List.mem_filterMap.mp this
    exact Or.inl ⟨g, lw_w i hi g⟩
  · have g2 : (!goodWord w) = true := by
      cases e : goodWord w with
      | true => exact absurd e g
      | false => rfl
    have : w ∈ L.filter (fun w => !goodWord w) := List.mem_filter.mpr ⟨hw, g2⟩
    rw [h2] at this
    obtain ⟨i, -, hi⟩ := List.mem_filterMap.mp this
    refine Or.inr ⟨?_, List.mem_of_getElem? hi⟩
    have h6 : (goodWord w || hk_isN w) = true := h5
    rw [Bool.or_eq_true] at h6
    exact h6.elim (fun q => absurd q g) id
theorem hx_wN : (∀ w ∈ vx_atN 8, (goodWord w = true ∧ w ∈ lw_all) ∨ (hk_isN w = true ∧ w ∈ lw_tbl)) ∧ ∀ w ∈ vx_atN 8, vx_ot w = true :=
  hx_in [113, 900, 843, 862, 865, 867, 901, 902, 144, 145, 837, 842, 863, 870, 894, 871, 895, 872, 896, 838, 840, 897, 859, 849, 850, 918, 920, 856, 857, 909, 910, 911, 912, 912, 913, 914, 915, 915, 916, 917, 901, 117, 854, 931, 848, 926, 927, 929, 868, 898, 924] [932, 887, 889, 891, 930] (by decide +kernel) (by decide +kernel) (by decide +kernel) (by decide +kernel)
theorem hx_wCC : (∀ w ∈ vx_atM "java/lang/ClassCastException" ["java/lang/RuntimeException", "java/lang/Exception"], (goodWord w = true ∧ w ∈ lw_all) ∨ (hk_isN w = true ∧ w ∈ lw_tbl)) ∧ ∀ w ∈ vx_atM "java/lang/ClassCastException" ["java/lang/RuntimeException", "java/lang/Exception"], vx_ot w = true :=
  hx_in [113, 900, 843, 862, 865, 867, 901, 902, 144, 145, 837, 842, 863, 870, 894, 871, 895, 872, 896, 838, 840, 897, 835, 836, 869, 897, 826, 827, 828, 829, 829, 830, 831, 832, 832, 833, 834, 835, 100, 903, 162, 904, 906, 905, 907, 116, 825, 893, 846, 877, 879, 883, 875, 868, 898, 873] [888, 890, 892, 886] (by decide +kernel) (by decide +kernel) (by decide +kernel) (by decide +kernel)
theorem hx_wAI : (∀ w ∈ vx_atM "java/lang/ArrayIndexOutOfBoundsException" ["java/lang/IndexOutOfBoundsException", "java/lang/RuntimeException", "java/lang/Exception"], (goodWord w = true ∧ w ∈ lw_all) ∨ (hk_isN w = true ∧ w ∈ lw_tbl)) ∧ ∀ w ∈ vx_atM "java/lang/ArrayIndexOutOfBoundsException" ["java/lang/IndexOutOfBoundsException", "java/lang/RuntimeException", "java/lang/Exception"], vx_ot w = true :=
  hx_in [113, 900, 843, 862, 865, 867, 901, 902, 144, 145, 837, 842, 863, 870, 894, 871, 895, 872, 896, 838, 840, 897, 835, 836, 869, 897, 935, 936, 937, 938, 938, 939, 940, 829, 829, 830, 831, 832, 832, 833, 834, 835, 100, 903, 162, 904, 906, 905, 907, 119, 934, 951, 845, 943, 944, 946, 942, 868, 898, 941] [950, 888, 890, 892, 948] (by decide +kernel) (by decide +kernel) (by decide +kernel) (by decide +kernel)
theorem hx_wNA : (∀ w ∈ vx_atM "java/lang/NegativeArraySizeException" ["java/lang/RuntimeException", "java/lang/Exception"], (goodWord w = true ∧ w ∈ lw_all) ∨ (hk_isN w = true ∧ w ∈ lw_tbl)) ∧ ∀ w ∈ vx_atM "java/lang/NegativeArraySizeException" ["java/lang/RuntimeException", "java/lang/Exception"], vx_ot w = true :=
  hx_in [113, 900, 843, 862, 865, 867, 901, 902, 144, 145, 837, 842, 863, 870, 894, 871, 895, 872, 896, 838, 840, 897, 835, 836, 869, 897, 1394, 1395, 1396, 829, 829, 830, 831, 832, 832, 833, 834, 835, 100, 903, 162, 904, 906, 905, 907, 130, 1393, 1405, 847, 1399, 1400, 1402, 1398, 868, 898, 1397] [888, 890, 892, 1404] (by decide +kernel) (by decide +kernel) (by decide +kernel) (by decide +kernel)
