/-! THE REFERENCE's CONSTRUCTOR, walked -/
theorem BN_v : BN = 601071 := rfl
theorem BS_v : BS = 7293034 := rfl
set_option maxRecDepth 100000 in
theorem mctor_E {sh : Nat → Nat × Nat} {I : Nat → Nat → Int32} {L : Nat → Nat → Int64} {R : Nat → Nat → Nat} (h : sh 223 = (1, 24)) (hI : ∀ j, I 223 j = 0) :
    ∃ h', E (153, 0, [vR 223, vU, vU], []) (sh, I, L, R, 224, 3242) = some (.inl none, h') ∧ (h'.2.2.2.2 = (250, 17888)) ∧ (∀ p ∈ shpB, h'.1 p.1 = p.2) ∧ (∀ p ∈ rfB, h'.2.2.2.1 p.1 p.2.1 = p.2.2) ∧ (∀ p ∈ i1B, h'.2.1 p.1 p.2.1 = p.2.2) ∧ (∀ p ∈ r1B, h'.2.2.2.1 p.1 p.2.1 = p.2.2)
      ∧ ∀ a, a < 223 → h'.1 a = sh a ∧ ∀ j, h'.2.1 a j = I a j ∧ h'.2.2.2.1 a j = R a j := by
  apply Exists.intro
  refine ⟨?_, ?_, ?_, ?_, ?_, ?_, ?_⟩
  · simp (maxSteps := 2000000) only [r153_0, r153_1, r153_4, r153_5, r153_8, r153_10, r153_13, r153_14, r153_15, r153_18, r153_19, r153_22, r153_24, r153_27, r153_28, r153_31, r153_33, r153_36, r153_37, r153_39, r153_41, r153_44, r153_45, r153_47, r153_49, r153_52, r153_53, r153_55, r153_57, r153_60, r153_61, r153_64, r153_66, r153_69, r153_70, r153_73, r153_75, r153_78, r153_79, r153_82, r153_84, r153_87, r153_88, r153_91, r153_93, r153_96, r153_97, r153_99, r153_101, r153_104, r153_105, r153_107, r153_109, r153_112, r153_113, r153_115, r153_117, r153_120, r153_121, r153_123, r153_125, r153_128, r153_129, r153_130, r153_132, r153_135, r153_136, r153_137, r153_139, r153_142, r153_143, r153_146, r153_148, r153_151, r153_152, r153_155, r153_157, r153_160, r153_161, r153_164, r153_166, r153_169, r153_170, r153_172, r153_175, r153_176, r153_178, r153_180, r153_183, r153_184, r153_186, r153_188, r153_191, r153_192, r153_194, r153_196, r153_199, r153_200, r153_201, r153_203, r153_206, r153_207, r153_208, r153_210, r153_213, r153_214, r153_215, r153_217, r153_220, r153_221, r153_223, r153_225, r153_228, r153_229, r153_230, r153_231, r153_232, r153_235, r153_236, r153_237, r153_238, r153_239, r153_242, r153_243, r153_246, r153_247, r153_248, r153_249, r153_250, r153_251, r153_252, r153_253, r153_254, r153_257, r153_258, r153_259, r153_260, r153_261, r153_262, r153_263, r153_266, r153_267, r153_270, r153_271, r153_272, r153_275, r153_276, r153_279, r153_280, r153_281, r153_282, r153_285, r153_286, r153_287, r153_288, r153_289, r153_290, r153_291, r153_294, r153_295, r153_298, r153_299, r153_300, r153_303, r153_304, r153_307, r153_308, r153_309, r153_312, r153_314, r153_317, r153_318, r153_319, r153_322, r153_323, r153_326, r153_327, r153_328, r153_331, r153_334, r153_337, r153_340, t153, grd_t, grd_f, bhd_v, bhd_n, bhd_t, bhd_ite, bhd_none, grd_ite, isL_I, isL_L, isL_R, stW_0, stW_I, stW_L, stW_R, Nat.add_zero, Nat.reduceAdd, Nat.zero_le, Nat.reduceLeDiff, Nat.reduceSub, decide_true, decide_false, Bool.and_true, Bool.true_and, Bool.and_self, Bool.not_false, Bool.not_true, Bool.and_false, Bool.false_and, Bool.or_true, Bool.true_or, Bool.or_false, Bool.false_or, if_true, if_false, ite_true, ite_false, beq_self_eq_true, K0_v, u2_ap, Nat.reduceEqDiff, Nat.reduceBEq, and_self, and_true, true_and, false_and, and_false, reduceIte, nk_1_0, nk_1_1, nk_0, io_0_0, io_1_1, io_2_2, io_3_3, io_4_4, io_5_5, io_6_6, io_7_7, io_8_8, io_9_9, io_10_10, io_11_11, io_12_12, io_13_13, io_14_14, io_14_15, io_15_15, io_14_16, io_16_16, io_14_17, io_16_17, io_17_17, io_18_18, io_18_19, io_19_19, io_18_20, io_20_20, io_18_21, io_21_21, io_18_22, io_21_22, io_22_22, io_18_23, io_21_23, io_23_23, io_24_24, io_25_25, io_26_26, seval, h, u1_ap, zr_ap, BN_v, BS_v, inb, or_self, not_false_eq_true, or_false, false_or]
    rfl
  · rfl
  · simp (maxSteps := 2000000) only [shpB, List.forall_mem_cons, List.not_mem_nil, false_implies, implies_true, seval, u1_ap, h, and_self]
  · simp (maxSteps := 2000000) only [rfB, List.forall_mem_cons, List.not_mem_nil, false_implies, implies_true, seval, u2_ap, zr_ap, if_true, if_false, and_self, and_true, true_and, false_and, and_false]
  · simp (maxSteps := 2000000) only [i1B, hI, List.forall_mem_cons, List.not_mem_nil, false_implies, implies_true, seval, u2_ap, zr_ap, if_true, if_false, and_self, and_true, true_and, false_and, and_false]
  · simp (maxSteps := 2000000) only [r1B, List.forall_mem_cons, List.not_mem_nil, false_implies, implies_true, seval, u2_ap, zr_ap, if_true, if_false, and_self, and_true, true_and, false_and, and_false]
  · intro a ha
    refine ⟨?_, ?_⟩
    · simp (disch := omega) only [u1_ne]
    · intro j
      refine ⟨?_, ?_⟩
      · simp (disch := omega) only [u2_ne, zr_ne]
      · simp (disch := omega) only [u2_ne, zr_ne]
