theorem fJ1_7 : VFd "java/util/AbstractList" 7 [14] 0 (.int) false := by
  intro c hc
  cases List.mem_singleton.mp hc
  exact ⟨RJ2, TJ2, 3, tyJ2, rfl, in_J2, by decide, tyJ2_ok, nmJ2, by decide +kernel, rfl, Or.inl ⟨_, q239, Or.inl rfl⟩⟩
theorem fJ2_9 : VFd "java/util/ArrayList" 9 [14] 1 (.array (.object "java/lang/Object")) false := by
  intro c hc
  cases List.mem_singleton.mp hc
  exact ⟨RJ2, TJ2, 3, tyJ2, rfl, in_J2, by decide, tyJ2_ok, nmJ2, by decide +kernel, rfl, Or.inl ⟨_, q237, Or.inl rfl⟩⟩
theorem fJ2_48 : VFd "java/util/ArrayList" 48 [14] 2 (.int) false := by
  intro c hc
  cases List.mem_singleton.mp hc
  exact ⟨RJ2, TJ2, 3, tyJ2, rfl, in_J2, by decide, tyJ2_ok, nmJ2, by decide +kernel, rfl, Or.inl ⟨_, q238, Or.inl rfl⟩⟩
theorem st_java_lang_Object : ∀ c ∈ ([5, 6, 7, 8, 9] : List Nat), ∃ r : vw_C, vwCl[c]? = some r ∧ (r.1, "java/lang/Object") ∈ gnC := by
  intro c hc
  simp only [List.mem_cons, List.not_mem_nil, or_false] at hc
  rcases hc with rfl | rfl | rfl | rfl | rfl
  · exact ⟨(RX6, TX6, 5), rfl, List.mem_of_getElem? (i := 20) rfl⟩
  · exact ⟨(RX7, TX7, 5), rfl, List.mem_of_getElem? (i := 21) rfl⟩
  · exact ⟨(RX9, TX9, 6), rfl, List.mem_of_getElem? (i := 23) rfl⟩
  · exact ⟨(RX10, TX10, 6), rfl, List.mem_of_getElem? (i := 4) rfl⟩
  · exact ⟨(RX11, TX11, 3), rfl, List.mem_of_getElem? (i := 5) rfl⟩
theorem fJ2_63 : VFd "java/util/ArrayList" 63 [14] 0 (.int) false := by
  intro c hc
  cases List.mem_singleton.mp hc
  exact ⟨RJ2, TJ2, 3, tyJ2, rfl, in_J2, by decide, tyJ2_ok, nmJ2, by decide +kernel, rfl, Or.inl ⟨_, q240, Or.inr q241⟩⟩
theorem fJ9_7 : VFd "java/lang/Throwable" 7 [4] 0 (.object "java/lang/Throwable") false := by
  intro c hc
  cases List.mem_singleton.mp hc
  exact ⟨RX5, TX5, 8, tyX5, rfl, in_X5, by decide, tyX5_ok, nmX5, by decide +kernel, rfl, Or.inl ⟨_, q575, Or.inl rfl⟩⟩
theorem fJ9_17 : VFd "java/lang/Throwable" 17 [4] 1 (.array (.object "java/lang/StackTraceElement")) false := by
  intro c hc
  cases List.mem_singleton.mp hc
  exact ⟨RX5, TX5, 8, tyX5, rfl, in_X5, by decide, tyX5_ok, nmX5, by decide +kernel, rfl, Or.inl ⟨_, q576, Or.inl rfl⟩⟩
theorem fJ9_24 : VFd "java/lang/Throwable" 24 [4] 2 (.object "java/util/List") false := by
  intro c hc
  cases List.mem_singleton.mp hc
  exact ⟨RX5, TX5, 8, tyX5, rfl, in_X5, by decide, tyX5_ok, nmX5, by decide +kernel, rfl, Or.inl ⟨_, q577, Or.inl rfl⟩⟩
theorem fJ9_31 : VFd "java/lang/Throwable" 31 [4] 3 (.object "java/lang/String") false := by
  intro c hc
  cases List.mem_singleton.mp hc
  exact ⟨RX5, TX5, 8, tyX5, rfl, in_X5, by decide, tyX5_ok, nmX5, by decide +kernel, rfl, Or.inl ⟨_, q574, Or.inl rfl⟩⟩
theorem fX2_3 : VFd "SaidSo$Reader" 3 [2] 7 (.object "SaidSo") true := by
  intro c hc
  cases List.mem_singleton.mp hc
  exact ⟨RX2, TX2, 8, tyX2, rfl, in_X2, by decide, tyX2_ok, nmX2, by decide +kernel, rfl, Or.inl ⟨_, q196, Or.inl rfl⟩⟩
theorem fX3_14 : VFd "SaidSo$Case" 14 [3] 0 (.object "java/util/ArrayList") true := by
  intro c hc
  cases List.mem_singleton.mp hc
  exact ⟨RX3, TX3, 7, tyX3, rfl, in_X3, by decide, tyX3_ok, nmX3, by decide +kernel, rfl, Or.inl ⟨_, q251, Or.inl rfl⟩⟩
theorem fX3_20 : VFd "SaidSo$Case" 20 [3] 1 (.object "java/util/ArrayList") true := by
  intro c hc
  cases List.mem_singleton.mp hc
  exact ⟨RX3, TX3, 7, tyX3, rfl, in_X3, by decide, tyX3_ok, nmX3, by decide +kernel, rfl, Or.inl ⟨_, q256, Or.inl rfl⟩⟩
theorem fX3_23 : VFd "SaidSo$Case" 23 [3] 2 (.object "java/util/ArrayList") true := by
  intro c hc
  cases List.mem_singleton.mp hc
  exact ⟨RX3, TX3, 7, tyX3, rfl, in_X3, by decide, tyX3_ok, nmX3, by decide +kernel, rfl, Or.inl ⟨_, q259, Or.inl rfl⟩⟩
theorem fX3_26 : VFd "SaidSo$Case" 26 [3] 3 (.object "java/util/ArrayList") true := by
  intro c hc
  cases List.mem_singleton.mp hc
  exact ⟨RX3, TX3, 7, tyX3, rfl, in_X3, by decide, tyX3_ok, nmX3, by decide +kernel, rfl, Or.inl ⟨_, q262, Or.inl rfl⟩⟩
theorem fX3_31 : VFd "SaidSo$Case" 31 [3] 4 (.array (.object "SaidSo$Part")) true := by
  intro c hc
  cases List.mem_singleton.mp hc
  exact ⟨RX3, TX3, 7, tyX3, rfl, in_X3, by decide, tyX3_ok, nmX3, by decide +kernel, rfl, Or.inl ⟨_, q265, Or.inl rfl⟩⟩
theorem fX1_17 : VFd "SaidSo" 17 [1] 0 (.array (.byte)) true := by
  intro c hc
  cases List.mem_singleton.mp hc
  exact ⟨RX1, TX1, 21, tyX1, rfl, in_X1, by decide, tyX1_ok, nmX1, by decide +kernel, rfl, Or.inl ⟨_, q288, Or.inl rfl⟩⟩
theorem fX1_21 : VFd "SaidSo" 21 [1] 3 (.int) false := by
  intro c hc
  cases List.mem_singleton.mp hc
  exact ⟨RX1, TX1, 21, tyX1, rfl, in_X1, by decide, tyX1_ok, nmX1, by decide +kernel, rfl, Or.inl ⟨_, q291, Or.inl rfl⟩⟩
theorem fX1_25 : VFd "SaidSo" 25 [1] 4 (.int) false := by
  intro c hc
  cases List.mem_singleton.mp hc
  exact ⟨RX1, TX1, 21, tyX1, rfl, in_X1, by decide, tyX1_ok, nmX1, by decide +kernel, rfl, Or.inl ⟨_, q292, Or.inl rfl⟩⟩
theorem fX1_28 : VFd "SaidSo" 28 [1] 5 (.int) false := by
  intro c hc
  cases List.mem_singleton.mp hc
  exact ⟨RX1, TX1, 21, tyX1, rfl, in_X1, by decide, tyX1_ok, nmX1, by decide +kernel, rfl, Or.inl ⟨_, q293, Or.inl rfl⟩⟩
theorem fX1_31 : VFd "SaidSo" 31 [1] 8 (.int) false := by
  intro c hc
  cases List.mem_singleton.mp hc
  exact ⟨RX1, TX1, 21, tyX1, rfl, in_X1, by decide, tyX1_ok, nmX1, by decide +kernel, rfl, Or.inl ⟨_, q296, Or.inl rfl⟩⟩
theorem fX1_34 : VFd "SaidSo" 34 [1] 9 (.int) false := by
  intro c hc
  cases List.mem_singleton.mp hc
  exact ⟨RX1, TX1, 21, tyX1, rfl, in_X1, by decide, tyX1_ok, nmX1, by decide +kernel, rfl, Or.inl ⟨_, q297, Or.inl rfl⟩⟩
theorem fX1_42 : VFd "SaidSo" 42 [1] 10 (.object "SaidSo$Reader") true := by
  intro c hc
  cases List.mem_singleton.mp hc
  exact ⟨RX1, TX1, 21, tyX1, rfl, in_X1, by decide, tyX1_ok, nmX1, by decide +kernel, rfl, Or.inl ⟨_, q298, Or.inl rfl⟩⟩
theorem fX1_49 : VFd "SaidSo" 49 [1] 11 (.object "SaidSo$Case") false := by
  intro c hc
  cases List.mem_singleton.mp hc
  exact ⟨RX1, TX1, 21, tyX1, rfl, in_X1, by decide, tyX1_ok, nmX1, by decide +kernel, rfl, Or.inl ⟨_, q299, Or.inl rfl⟩⟩
theorem fX1_53 : VFd "SaidSo" 53 [1] 12 (.array (.long)) true := by
  intro c hc
  cases List.mem_singleton.mp hc
  exact ⟨RX1, TX1, 21, tyX1, rfl, in_X1, by decide, tyX1_ok, nmX1, by decide +kernel, rfl, Or.inl ⟨_, q300, Or.inl rfl⟩⟩
theorem fX1_57 : VFd "SaidSo" 57 [1] 15 (.array (.int)) true := by
  intro c hc
  cases List.mem_singleton.mp hc
  exact ⟨RX1, TX1, 21, tyX1, rfl, in_X1, by decide, tyX1_ok, nmX1, by decide +kernel, rfl, Or.inl ⟨_, q303, Or.inl rfl⟩⟩
theorem fX1_61 : VFd "SaidSo" 61 [1] 16 (.array (.int)) true := by
  intro c hc
  cases List.mem_singleton.mp hc
  exact ⟨RX1, TX1, 21, tyX1, rfl, in_X1, by decide, tyX1_ok, nmX1, by decide +kernel, rfl, Or.inl ⟨_, q304, Or.inl rfl⟩⟩
theorem fX1_64 : VFd "SaidSo" 64 [1] 18 (.array (.int)) true := by
  intro c hc
  cases List.mem_singleton.mp hc
  exact ⟨RX1, TX1, 21, tyX1, rfl, in_X1, by decide, tyX1_ok, nmX1, by decide +kernel, rfl, Or.inl ⟨_, q306, Or.inl rfl⟩⟩
theorem fX1_67 : VFd "SaidSo" 67 [1] 19 (.array (.int)) true := by
  intro c hc
  cases List.mem_singleton.mp hc
  exact ⟨RX1, TX1, 21, tyX1, rfl, in_X1, by decide, tyX1_ok, nmX1, by decide +kernel, rfl, Or.inl ⟨_, q307, Or.inl rfl⟩⟩
theorem fX1_70 : VFd "SaidSo" 70 [1] 20 (.array (.int)) true := by
  intro c hc
  cases List.mem_singleton.mp hc
  exact ⟨RX1, TX1, 21, tyX1, rfl, in_X1, by decide, tyX1_ok, nmX1, by decide +kernel, rfl, Or.inl ⟨_, q308, Or.inl rfl⟩⟩
theorem fX1_73 : VFd "SaidSo" 73 [1] 1 (.int) false := by
  intro c hc
  cases List.mem_singleton.mp hc
  exact ⟨RX1, TX1, 21, tyX1, rfl, in_X1, by decide, tyX1_ok, nmX1, by decide +kernel, rfl, Or.inl ⟨_, q289, Or.inl rfl⟩⟩
theorem fX1_84 : VFd "SaidSo" 84 [1] 2 (.int) false := by
  intro c hc
  cases List.mem_singleton.mp hc
  exact ⟨RX1, TX1, 21, tyX1, rfl, in_X1, by decide, tyX1_ok, nmX1, by decide +kernel, rfl, Or.inl ⟨_, q290, Or.inl rfl⟩⟩
theorem ct_SaidSo_Thing : ∀ c ∈ ([5] : List Nat), ∃ r : vw_C, vwCl[c]? = some r ∧ (r.1 = "SaidSo$Thing" ∨ (r.1, "SaidSo$Thing") ∈ gnC) := by
  intro c hc
  cases List.mem_singleton.mp hc
  exact ⟨(RX6, TX6, 5), rfl, Or.inl rfl⟩
theorem fX3_45 : VFd "SaidSo$Case" 45 [5] 0 (.int) true := by
  intro c hc
  cases List.mem_singleton.mp hc
  exact ⟨RX6, TX6, 5, tyX6, rfl, in_X6, by decide, tyX6_ok, nmX6, by decide +kernel, rfl, Or.inr ⟨"SaidSo", List.mem_of_getElem? (i := 36) rfl⟩⟩
theorem ct_SaidSo_Teller : ∀ c ∈ ([6] : List Nat), ∃ r : vw_C, vwCl[c]? = some r ∧ (r.1 = "SaidSo$Teller" ∨ (r.1, "SaidSo$Teller") ∈ gnC) := by
  intro c hc
  cases List.mem_singleton.mp hc
  exact ⟨(RX7, TX7, 5), rfl, Or.inl rfl⟩
theorem fX3_51 : VFd "SaidSo$Case" 51 [6] 0 (.int) true := by
  intro c hc
  cases List.mem_singleton.mp hc
  exact ⟨RX7, TX7, 5, tyX7, rfl, in_X7, by decide, tyX7_ok, nmX7, by decide +kernel, rfl, Or.inr ⟨"SaidSo", List.mem_of_getElem? (i := 37) rfl⟩⟩
theorem fX1_115 : VFd "SaidSo" 115 [3] 1 (.object "java/util/ArrayList") true := by
  intro c hc
  cases List.mem_singleton.mp hc
  exact ⟨RX3, TX3, 7, tyX3, rfl, in_X3, by decide, tyX3_ok, nmX3, by decide +kernel, rfl, Or.inr ⟨"SaidSo", List.mem_of_getElem? (i := 1) rfl⟩⟩
theorem fX1_170 : VFd "SaidSo" 170 [6] 4 (.int) false := by
  intro c hc
  cases List.mem_singleton.mp hc
  exact ⟨RX7, TX7, 5, tyX7, rfl, in_X7, by decide, tyX7_ok, nmX7, by decide +kernel, rfl, Or.inr ⟨"SaidSo", List.mem_of_getElem? (i := 16) rfl⟩⟩
theorem fX1_167 : VFd "SaidSo" 167 [6] 3 (.int) true := by
  intro c hc
  cases List.mem_singleton.mp hc
  exact ⟨RX7, TX7, 5, tyX7, rfl, in_X7, by decide, tyX7_ok, nmX7, by decide +kernel, rfl, Or.inr ⟨"SaidSo", List.mem_of_getElem? (i := 15) rfl⟩⟩
theorem fX1_164 : VFd "SaidSo" 164 [6] 2 (.int) true := by
  intro c hc
  cases List.mem_singleton.mp hc
  exact ⟨RX7, TX7, 5, tyX7, rfl, in_X7, by decide, tyX7_ok, nmX7, by decide +kernel, rfl, Or.inr ⟨"SaidSo", List.mem_of_getElem? (i := 14) rfl⟩⟩
theorem fX1_161 : VFd "SaidSo" 161 [6] 1 (.int) true := by
  intro c hc
  cases List.mem_singleton.mp hc
  exact ⟨RX7, TX7, 5, tyX7, rfl, in_X7, by decide, tyX7_ok, nmX7, by decide +kernel, rfl, Or.inr ⟨"SaidSo", List.mem_of_getElem? (i := 13) rfl⟩⟩
theorem fX1_173 : VFd "SaidSo" 173 [3] 2 (.object "java/util/ArrayList") true := by
  intro c hc
  cases List.mem_singleton.mp hc
  exact ⟨RX3, TX3, 7, tyX3, rfl, in_X3, by decide, tyX3_ok, nmX3, by decide +kernel, rfl, Or.inr ⟨"SaidSo", List.mem_of_getElem? (i := 2) rfl⟩⟩
theorem ct_SaidSo_Line : ∀ c ∈ ([7, 8] : List Nat), ∃ r : vw_C, vwCl[c]? = some r ∧ (r.1 = "SaidSo$Line" ∨ (r.1, "SaidSo$Line") ∈ gnC) := by
  intro c hc
  simp only [List.mem_cons, List.not_mem_nil, or_false] at hc
  rcases hc with rfl | rfl
  · exact ⟨(RX9, TX9, 6), rfl, Or.inr (List.mem_of_getElem? (i := 22) rfl)⟩
  · exact ⟨(RX10, TX10, 6), rfl, Or.inr (List.mem_of_getElem? (i := 3) rfl)⟩
theorem fX1_178 : VFd "SaidSo" 178 [7, 8] 4 (.int) true := by
  intro c hc
  simp only [List.mem_cons, List.not_mem_nil, or_false] at hc
  rcases hc with rfl | rfl
  · exact ⟨RX9, TX9, 6, tyX9, rfl, in_X9, by decide, tyX9_ok, nmX9, by decide +kernel, rfl, Or.inl ⟨_, q808, Or.inl rfl⟩⟩
  · exact ⟨RX10, TX10, 6, tyX10, rfl, in_X10, by decide, tyX10_ok, nmX10, by decide +kernel, rfl, Or.inl ⟨_, q808, Or.inl rfl⟩⟩
theorem fX1_181 : VFd "SaidSo" 181 [7, 8] 2 (.int) true := by
  intro c hc
  simp only [List.mem_cons, List.not_mem_nil, or_false] at hc
  rcases hc with rfl | rfl
  · exact ⟨RX9, TX9, 6, tyX9, rfl, in_X9, by decide, tyX9_ok, nmX9, by decide +kernel, rfl, Or.inl ⟨_, q799, Or.inl rfl⟩⟩
  · exact ⟨RX10, TX10, 6, tyX10, rfl, in_X10, by decide, tyX10_ok, nmX10, by decide +kernel, rfl, Or.inl ⟨_, q799, Or.inl rfl⟩⟩
theorem fX1_184 : VFd "SaidSo" 184 [7, 8] 3 (.int) true := by
  intro c hc
  simp only [List.mem_cons, List.not_mem_nil, or_false] at hc
  rcases hc with rfl | rfl
  · exact ⟨RX9, TX9, 6, tyX9, rfl, in_X9, by decide, tyX9_ok, nmX9, by decide +kernel, rfl, Or.inl ⟨_, q801, Or.inl rfl⟩⟩
  · exact ⟨RX10, TX10, 6, tyX10, rfl, in_X10, by decide, tyX10_ok, nmX10, by decide +kernel, rfl, Or.inl ⟨_, q801, Or.inl rfl⟩⟩
theorem fX1_199 : VFd "SaidSo" 199 [7, 8] 5 (.int) true := by
  intro c hc
  simp only [List.mem_cons, List.not_mem_nil, or_false] at hc
  rcases hc with rfl | rfl
  · exact ⟨RX9, TX9, 6, tyX9, rfl, in_X9, by decide, tyX9_ok, nmX9, by decide +kernel, rfl, Or.inl ⟨_, q814, Or.inl rfl⟩⟩
  · exact ⟨RX10, TX10, 6, tyX10, rfl, in_X10, by decide, tyX10_ok, nmX10, by decide +kernel, rfl, Or.inl ⟨_, q814, Or.inl rfl⟩⟩
theorem fX1_125 : VFd "SaidSo" 125 [3] 0 (.object "java/util/ArrayList") true := by
  intro c hc
  cases List.mem_singleton.mp hc
  exact ⟨RX3, TX3, 7, tyX3, rfl, in_X3, by decide, tyX3_ok, nmX3, by decide +kernel, rfl, Or.inr ⟨"SaidSo", List.mem_of_getElem? (i := 0) rfl⟩⟩
theorem fX3_52 : VFd "SaidSo$Case" 52 [6] 2 (.int) true := by
  intro c hc
  cases List.mem_singleton.mp hc
  exact ⟨RX7, TX7, 5, tyX7, rfl, in_X7, by decide, tyX7_ok, nmX7, by decide +kernel, rfl, Or.inr ⟨"SaidSo", List.mem_of_getElem? (i := 38) rfl⟩⟩
theorem fX3_57 : VFd "SaidSo$Case" 57 [7, 8] 2 (.int) true := by
  intro c hc
  simp only [List.mem_cons, List.not_mem_nil, or_false] at hc
  rcases hc with rfl | rfl
  · exact ⟨RX9, TX9, 6, tyX9, rfl, in_X9, by decide, tyX9_ok, nmX9, by decide +kernel, rfl, Or.inl ⟨_, q798, Or.inl rfl⟩⟩
  · exact ⟨RX10, TX10, 6, tyX10, rfl, in_X10, by decide, tyX10_ok, nmX10, by decide +kernel, rfl, Or.inl ⟨_, q798, Or.inl rfl⟩⟩
theorem fX3_60 : VFd "SaidSo$Case" 60 [7, 8] 4 (.int) true := by
  intro c hc
  simp only [List.mem_cons, List.not_mem_nil, or_false] at hc
  rcases hc with rfl | rfl
  · exact ⟨RX9, TX9, 6, tyX9, rfl, in_X9, by decide, tyX9_ok, nmX9, by decide +kernel, rfl, Or.inl ⟨_, q807, Or.inl rfl⟩⟩
  · exact ⟨RX10, TX10, 6, tyX10, rfl, in_X10, by decide, tyX10_ok, nmX10, by decide +kernel, rfl, Or.inl ⟨_, q807, Or.inl rfl⟩⟩
theorem fX8_7 : VFd "SaidSo$Line" 7 [7, 8] 2 (.int) true := by
  intro c hc
  simp only [List.mem_cons, List.not_mem_nil, or_false] at hc
  rcases hc with rfl | rfl
  · exact ⟨RX9, TX9, 6, tyX9, rfl, in_X9, by decide, tyX9_ok, nmX9, by decide +kernel, rfl, Or.inl ⟨_, q797, Or.inl rfl⟩⟩
  · exact ⟨RX10, TX10, 6, tyX10, rfl, in_X10, by decide, tyX10_ok, nmX10, by decide +kernel, rfl, Or.inl ⟨_, q797, Or.inl rfl⟩⟩
theorem fX8_13 : VFd "SaidSo$Line" 13 [7, 8] 3 (.int) true := by
  intro c hc
  simp only [List.mem_cons, List.not_mem_nil, or_false] at hc
  rcases hc with rfl | rfl
  · exact ⟨RX9, TX9, 6, tyX9, rfl, in_X9, by decide, tyX9_ok, nmX9, by decide +kernel, rfl, Or.inl ⟨_, q800, Or.inl rfl⟩⟩
  · exact ⟨RX10, TX10, 6, tyX10, rfl, in_X10, by decide, tyX10_ok, nmX10, by decide +kernel, rfl, Or.inl ⟨_, q800, Or.inl rfl⟩⟩
theorem fX8_16 : VFd "SaidSo$Line" 16 [3] 1 (.object "java/util/ArrayList") true := by
  intro c hc
  cases List.mem_singleton.mp hc
  exact ⟨RX3, TX3, 7, tyX3, rfl, in_X3, by decide, tyX3_ok, nmX3, by decide +kernel, rfl, Or.inr ⟨"SaidSo", List.mem_of_getElem? (i := 40) rfl⟩⟩
theorem fX8_30 : VFd "SaidSo$Line" 30 [7, 8] 0 (.object "SaidSo$Teller") true := by
  intro c hc
  simp only [List.mem_cons, List.not_mem_nil, or_false] at hc
  rcases hc with rfl | rfl
  · exact ⟨RX9, TX9, 6, tyX9, rfl, in_X9, by decide, tyX9_ok, nmX9, by decide +kernel, rfl, Or.inl ⟨_, q788, Or.inl rfl⟩⟩
  · exact ⟨RX10, TX10, 6, tyX10, rfl, in_X10, by decide, tyX10_ok, nmX10, by decide +kernel, rfl, Or.inl ⟨_, q788, Or.inl rfl⟩⟩
theorem fX8_34 : VFd "SaidSo$Line" 34 [3] 0 (.object "java/util/ArrayList") true := by
  intro c hc
  cases List.mem_singleton.mp hc
  exact ⟨RX3, TX3, 7, tyX3, rfl, in_X3, by decide, tyX3_ok, nmX3, by decide +kernel, rfl, Or.inr ⟨"SaidSo", List.mem_of_getElem? (i := 39) rfl⟩⟩
theorem fX8_39 : VFd "SaidSo$Line" 39 [7, 8] 1 (.object "SaidSo$Thing") true := by
  intro c hc
  simp only [List.mem_cons, List.not_mem_nil, or_false] at hc
  rcases hc with rfl | rfl
  · exact ⟨RX9, TX9, 6, tyX9, rfl, in_X9, by decide, tyX9_ok, nmX9, by decide +kernel, rfl, Or.inl ⟨_, q792, Or.inl rfl⟩⟩
  · exact ⟨RX10, TX10, 6, tyX10, rfl, in_X10, by decide, tyX10_ok, nmX10, by decide +kernel, rfl, Or.inl ⟨_, q792, Or.inl rfl⟩⟩
theorem fX8_43 : VFd "SaidSo$Line" 43 [7, 8] 4 (.int) true := by
  intro c hc
  simp only [List.mem_cons, List.not_mem_nil, or_false] at hc
  rcases hc with rfl | rfl
  · exact ⟨RX9, TX9, 6, tyX9, rfl, in_X9, by decide, tyX9_ok, nmX9, by decide +kernel, rfl, Or.inl ⟨_, q804, Or.inl rfl⟩⟩
  · exact ⟨RX10, TX10, 6, tyX10, rfl, in_X10, by decide, tyX10_ok, nmX10, by decide +kernel, rfl, Or.inl ⟨_, q804, Or.inl rfl⟩⟩
theorem fX8_46 : VFd "SaidSo$Line" 46 [7, 8] 5 (.int) true := by
  intro c hc
  simp only [List.mem_cons, List.not_mem_nil, or_false] at hc
  rcases hc with rfl | rfl
  · exact ⟨RX9, TX9, 6, tyX9, rfl, in_X9, by decide, tyX9_ok, nmX9, by decide +kernel, rfl, Or.inl ⟨_, q809, Or.inl rfl⟩⟩
  · exact ⟨RX10, TX10, 6, tyX10, rfl, in_X10, by decide, tyX10_ok, nmX10, by decide +kernel, rfl, Or.inl ⟨_, q809, Or.inl rfl⟩⟩
theorem fX1_141 : VFd "SaidSo" 141 [5] 1 (.int) true := by
  intro c hc
  cases List.mem_singleton.mp hc
  exact ⟨RX6, TX6, 5, tyX6, rfl, in_X6, by decide, tyX6_ok, nmX6, by decide +kernel, rfl, Or.inr ⟨"SaidSo", List.mem_of_getElem? (i := 9) rfl⟩⟩
theorem fX1_102 : VFd "SaidSo" 102 [1] 6 (.int) false := by
  intro c hc
  cases List.mem_singleton.mp hc
  exact ⟨RX1, TX1, 21, tyX1, rfl, in_X1, by decide, tyX1_ok, nmX1, by decide +kernel, rfl, Or.inl ⟨_, q294, Or.inl rfl⟩⟩
theorem fX1_281 : VFd "SaidSo" 281 [3] 3 (.object "java/util/ArrayList") true := by
  intro c hc
  cases List.mem_singleton.mp hc
  exact ⟨RX3, TX3, 7, tyX3, rfl, in_X3, by decide, tyX3_ok, nmX3, by decide +kernel, rfl, Or.inr ⟨"SaidSo", List.mem_of_getElem? (i := 3) rfl⟩⟩
theorem fX1_402 : VFd "SaidSo" 402 [3] 6 (.int) false := by
  intro c hc
  cases List.mem_singleton.mp hc
  exact ⟨RX3, TX3, 7, tyX3, rfl, in_X3, by decide, tyX3_ok, nmX3, by decide +kernel, rfl, Or.inr ⟨"SaidSo", List.mem_of_getElem? (i := 6) rfl⟩⟩
theorem ct_SaidSo_Word : ∀ c ∈ ([7] : List Nat), ∃ r : vw_C, vwCl[c]? = some r ∧ (r.1 = "SaidSo$Word" ∨ (r.1, "SaidSo$Word") ∈ gnC) := by
  intro c hc
  cases List.mem_singleton.mp hc
  exact ⟨(RX9, TX9, 6), rfl, Or.inl rfl⟩
theorem fX9_7 : VFd "SaidSo$Word" 7 [7] 5 (.int) true := by
  intro c hc
  cases List.mem_singleton.mp hc
  exact ⟨RX9, TX9, 6, tyX9, rfl, in_X9, by decide, tyX9_ok, nmX9, by decide +kernel, rfl, Or.inl ⟨_, q812, Or.inr q813⟩⟩
theorem fX9_13 : VFd "SaidSo$Word" 13 [7] 1 (.object "SaidSo$Thing") true := by
  intro c hc
  cases List.mem_singleton.mp hc
  exact ⟨RX9, TX9, 6, tyX9, rfl, in_X9, by decide, tyX9_ok, nmX9, by decide +kernel, rfl, Or.inl ⟨_, q793, Or.inr q794⟩⟩
theorem fX9_17 : VFd "SaidSo$Word" 17 [5] 2 (.int) true := by
  intro c hc
  cases List.mem_singleton.mp hc
  exact ⟨RX6, TX6, 5, tyX6, rfl, in_X6, by decide, tyX6_ok, nmX6, by decide +kernel, rfl, Or.inr ⟨"SaidSo", List.mem_of_getElem? (i := 41) rfl⟩⟩
theorem fX7_9 : VFd "SaidSo$Teller" 9 [6] 4 (.int) false := by
  intro c hc
  cases List.mem_singleton.mp hc
  exact ⟨RX7, TX7, 5, tyX7, rfl, in_X7, by decide, tyX7_ok, nmX7, by decide +kernel, rfl, Or.inl ⟨_, q748, Or.inl rfl⟩⟩
theorem fX1_221 : VFd "SaidSo" 221 [7, 8] 0 (.object "SaidSo$Teller") true := by
  intro c hc
  simp only [List.mem_cons, List.not_mem_nil, or_false] at hc
  rcases hc with rfl | rfl
  · exact ⟨RX9, TX9, 6, tyX9, rfl, in_X9, by decide, tyX9_ok, nmX9, by decide +kernel, rfl, Or.inl ⟨_, q791, Or.inl rfl⟩⟩
  · exact ⟨RX10, TX10, 6, tyX10, rfl, in_X10, by decide, tyX10_ok, nmX10, by decide +kernel, rfl, Or.inl ⟨_, q791, Or.inl rfl⟩⟩
theorem fX10_9 : VFd "SaidSo$Ask" 9 [8] 5 (.int) true := by
  intro c hc
  cases List.mem_singleton.mp hc
  exact ⟨RX10, TX10, 6, tyX10, rfl, in_X10, by decide, tyX10_ok, nmX10, by decide +kernel, rfl, Or.inl ⟨_, q810, Or.inr q811⟩⟩
theorem fX6_9 : VFd "SaidSo$Thing" 9 [5] 3 (.int) false := by
  intro c hc
  cases List.mem_singleton.mp hc
  exact ⟨RX6, TX6, 5, tyX6, rfl, in_X6, by decide, tyX6_ok, nmX6, by decide +kernel, rfl, Or.inl ⟨_, q647, Or.inl rfl⟩⟩
theorem fX9_26 : VFd "SaidSo$Word" 26 [7] 4 (.int) true := by
  intro c hc
  cases List.mem_singleton.mp hc
  exact ⟨RX9, TX9, 6, tyX9, rfl, in_X9, by decide, tyX9_ok, nmX9, by decide +kernel, rfl, Or.inl ⟨_, q805, Or.inr q806⟩⟩
theorem fX6_15 : VFd "SaidSo$Thing" 15 [5] 4 (.int) false := by
  intro c hc
  cases List.mem_singleton.mp hc
  exact ⟨RX6, TX6, 5, tyX6, rfl, in_X6, by decide, tyX6_ok, nmX6, by decide +kernel, rfl, Or.inl ⟨_, q650, Or.inl rfl⟩⟩
theorem fX9_33 : VFd "SaidSo$Word" 33 [7] 0 (.object "SaidSo$Teller") true := by
  intro c hc
  cases List.mem_singleton.mp hc
  exact ⟨RX9, TX9, 6, tyX9, rfl, in_X9, by decide, tyX9_ok, nmX9, by decide +kernel, rfl, Or.inl ⟨_, q789, Or.inr q790⟩⟩
theorem fX9_43 : VFd "SaidSo$Word" 43 [6] 2 (.int) true := by
  intro c hc
  cases List.mem_singleton.mp hc
  exact ⟨RX7, TX7, 5, tyX7, rfl, in_X7, by decide, tyX7_ok, nmX7, by decide +kernel, rfl, Or.inr ⟨"SaidSo", List.mem_of_getElem? (i := 42) rfl⟩⟩
theorem fX1_268 : VFd "SaidSo" 268 [1] 13 (.long) false := by
  intro c hc
  cases List.mem_singleton.mp hc
  exact ⟨RX1, TX1, 21, tyX1, rfl, in_X1, by decide, tyX1_ok, nmX1, by decide +kernel, rfl, Or.inl ⟨_, q301, Or.inl rfl⟩⟩
theorem fX1_272 : VFd "SaidSo" 272 [1] 14 (.long) false := by
  intro c hc
  cases List.mem_singleton.mp hc
  exact ⟨RX1, TX1, 21, tyX1, rfl, in_X1, by decide, tyX1_ok, nmX1, by decide +kernel, rfl, Or.inl ⟨_, q302, Or.inl rfl⟩⟩
theorem ct_SaidSo_Page : ∀ c ∈ ([9] : List Nat), ∃ r : vw_C, vwCl[c]? = some r ∧ (r.1 = "SaidSo$Page" ∨ (r.1, "SaidSo$Page") ∈ gnC) := by
  intro c hc
  cases List.mem_singleton.mp hc
  exact ⟨(RX11, TX11, 3), rfl, Or.inl rfl⟩
theorem fX1_286 : VFd "SaidSo" 286 [9] 0 (.int) true := by
  intro c hc
  cases List.mem_singleton.mp hc
  exact ⟨RX11, TX11, 3, tyX11, rfl, in_X11, by decide, tyX11_ok, nmX11, by decide +kernel, rfl, Or.inr ⟨"SaidSo", List.mem_of_getElem? (i := 17) rfl⟩⟩
theorem fX1_287 : VFd "SaidSo" 287 [9] 1 (.int) true := by
  intro c hc
  cases List.mem_singleton.mp hc
  exact ⟨RX11, TX11, 3, tyX11, rfl, in_X11, by decide, tyX11_ok, nmX11, by decide +kernel, rfl, Or.inr ⟨"SaidSo", List.mem_of_getElem? (i := 18) rfl⟩⟩
theorem fX1_300 : VFd "SaidSo" 300 [9] 2 (.int) true := by
  intro c hc
  cases List.mem_singleton.mp hc
  exact ⟨RX11, TX11, 3, tyX11, rfl, in_X11, by decide, tyX11_ok, nmX11, by decide +kernel, rfl, Or.inr ⟨"SaidSo", List.mem_of_getElem? (i := 19) rfl⟩⟩
theorem fX1_144 : VFd "SaidSo" 144 [5] 2 (.int) true := by
  intro c hc
  cases List.mem_singleton.mp hc
  exact ⟨RX6, TX6, 5, tyX6, rfl, in_X6, by decide, tyX6_ok, nmX6, by decide +kernel, rfl, Or.inr ⟨"SaidSo", List.mem_of_getElem? (i := 10) rfl⟩⟩
theorem fX1_290 : VFd "SaidSo" 290 [7] 1 (.object "SaidSo$Thing") true := by
  intro c hc
  cases List.mem_singleton.mp hc
  exact ⟨RX9, TX9, 6, tyX9, rfl, in_X9, by decide, tyX9_ok, nmX9, by decide +kernel, rfl, Or.inl ⟨_, q795, Or.inr q794⟩⟩
theorem fX1_304 : VFd "SaidSo" 304 [7] 5 (.int) true := by
  intro c hc
  cases List.mem_singleton.mp hc
  exact ⟨RX9, TX9, 6, tyX9, rfl, in_X9, by decide, tyX9_ok, nmX9, by decide +kernel, rfl, Or.inl ⟨_, q815, Or.inr q813⟩⟩
theorem fX1_313 : VFd "SaidSo" 313 [7] 3 (.int) true := by
  intro c hc
  cases List.mem_singleton.mp hc
  exact ⟨RX9, TX9, 6, tyX9, rfl, in_X9, by decide, tyX9_ok, nmX9, by decide +kernel, rfl, Or.inl ⟨_, q802, Or.inr q803⟩⟩
theorem fX1_334 : VFd "SaidSo" 334 [7, 8] 1 (.object "SaidSo$Thing") true := by
  intro c hc
  simp only [List.mem_cons, List.not_mem_nil, or_false] at hc
  rcases hc with rfl | rfl
  · exact ⟨RX9, TX9, 6, tyX9, rfl, in_X9, by decide, tyX9_ok, nmX9, by decide +kernel, rfl, Or.inl ⟨_, q796, Or.inl rfl⟩⟩
  · exact ⟨RX10, TX10, 6, tyX10, rfl, in_X10, by decide, tyX10_ok, nmX10, by decide +kernel, rfl, Or.inl ⟨_, q796, Or.inl rfl⟩⟩
theorem fX7_21 : VFd "SaidSo$Teller" 21 [6] 2 (.int) true := by
  intro c hc
  cases List.mem_singleton.mp hc
  exact ⟨RX7, TX7, 5, tyX7, rfl, in_X7, by decide, tyX7_ok, nmX7, by decide +kernel, rfl, Or.inl ⟨_, q740, Or.inl rfl⟩⟩
theorem fX13_7 : VFd "SaidSo$Number" 7 [10] 0 (.int) true := by
  intro c hc
  cases List.mem_singleton.mp hc
  exact ⟨RX13, TX13, 1, tyX13, rfl, in_X13, by decide, tyX13_ok, nmX13, by decide +kernel, rfl, Or.inl ⟨_, q910, Or.inl rfl⟩⟩
theorem fX14_7 : VFd "SaidSo$Name" 7 [11] 0 (.int) true := by
  intro c hc
  cases List.mem_singleton.mp hc
  exact ⟨RX14, TX14, 1, tyX14, rfl, in_X14, by decide, tyX14_ok, nmX14, by decide +kernel, rfl, Or.inl ⟨_, q920, Or.inl rfl⟩⟩
theorem fX15_7 : VFd "SaidSo$Not" 7 [12, 13] 0 (.object "SaidSo$Part") true := by
  intro c hc
  simp only [List.mem_cons, List.not_mem_nil, or_false] at hc
  rcases hc with rfl | rfl
  · exact ⟨RX15, TX15, 1, tyX15, rfl, in_X15, by decide, tyX15_ok, nmX15, by decide +kernel, rfl, Or.inl ⟨_, q939, Or.inl rfl⟩⟩
  · exact ⟨RX16, TX16, 3, tyX16, rfl, in_X16, by decide, tyX16_ok, nmX16, by decide +kernel, rfl, Or.inl ⟨_, q939, Or.inl rfl⟩⟩
theorem fX16_19 : VFd "SaidSo$Two" 19 [13] 0 (.object "SaidSo$Part") true := by
  intro c hc
  cases List.mem_singleton.mp hc
  exact ⟨RX16, TX16, 3, tyX16, rfl, in_X16, by decide, tyX16_ok, nmX16, by decide +kernel, rfl, Or.inl ⟨_, q940, Or.inr q941⟩⟩
theorem fX16_15 : VFd "SaidSo$Two" 15 [13] 2 (.object "SaidSo$Part") true := by
  intro c hc
  cases List.mem_singleton.mp hc
  exact ⟨RX16, TX16, 3, tyX16, rfl, in_X16, by decide, tyX16_ok, nmX16, by decide +kernel, rfl, Or.inl ⟨_, q938, Or.inl rfl⟩⟩
theorem fX16_9 : VFd "SaidSo$Two" 9 [13] 1 (.int) true := by
  intro c hc
  cases List.mem_singleton.mp hc
  exact ⟨RX16, TX16, 3, tyX16, rfl, in_X16, by decide, tyX16_ok, nmX16, by decide +kernel, rfl, Or.inl ⟨_, q937, Or.inl rfl⟩⟩
theorem fX1_338 : VFd "SaidSo" 338 [3] 4 (.array (.object "SaidSo$Part")) true := by
  intro c hc
  cases List.mem_singleton.mp hc
  exact ⟨RX3, TX3, 7, tyX3, rfl, in_X3, by decide, tyX3_ok, nmX3, by decide +kernel, rfl, Or.inr ⟨"SaidSo", List.mem_of_getElem? (i := 4) rfl⟩⟩
theorem fX1_371 : VFd "SaidSo" 371 [1] 17 (.int) false := by
  intro c hc
  cases List.mem_singleton.mp hc
  exact ⟨RX1, TX1, 21, tyX1, rfl, in_X1, by decide, tyX1_ok, nmX1, by decide +kernel, rfl, Or.inl ⟨_, q305, Or.inl rfl⟩⟩
theorem fX1_99 : VFd "SaidSo" 99 [1] 7 (.int) false := by
  intro c hc
  cases List.mem_singleton.mp hc
  exact ⟨RX1, TX1, 21, tyX1, rfl, in_X1, by decide, tyX1_ok, nmX1, by decide +kernel, rfl, Or.inl ⟨_, q295, Or.inl rfl⟩⟩
theorem fX1_147 : VFd "SaidSo" 147 [5] 3 (.int) false := by
  intro c hc
  cases List.mem_singleton.mp hc
  exact ⟨RX6, TX6, 5, tyX6, rfl, in_X6, by decide, tyX6_ok, nmX6, by decide +kernel, rfl, Or.inr ⟨"SaidSo", List.mem_of_getElem? (i := 11) rfl⟩⟩
theorem fX1_150 : VFd "SaidSo" 150 [5] 4 (.int) false := by
  intro c hc
  cases List.mem_singleton.mp hc
  exact ⟨RX6, TX6, 5, tyX6, rfl, in_X6, by decide, tyX6_ok, nmX6, by decide +kernel, rfl, Or.inr ⟨"SaidSo", List.mem_of_getElem? (i := 12) rfl⟩⟩
set_option maxRecDepth 100000 in
theorem hat_155 {args : Array Value} {s : State} (hts : ∀ w ∈ lw_all, w.before args s = true) (hN : GN s) : ∀ w ∈ vx_at0 "SaidSo" 155 "java/util/NoSuchElementException" ["java/lang/RuntimeException", "java/lang/Exception"], w.before args s = true := vx_hat (B := [.declares ⟨"java/lang/RuntimeException", "<init>", "()V"⟩, .declares ⟨"java/lang/Exception", "<init>", "()V"⟩, .declares ⟨"java/lang/Throwable", "<init>", "()V"⟩, .castable "java/util/NoSuchElementException" "java/util/NoSuchElementException"]) (fun w h => hts w (lw_in _ [152, 539, 548, 554, 557, 559, 540, 541, 181, 182, 542, 547, 555, 575, 529, 576, 531, 577, 533, 543, 545, 535, 1397, 1398, 1399, 1379, 1379, 1380, 1381, 1382, 1382, 1383, 1384, 540, 1396, 1388, 1390, 553, 1391, 1392, 1393, 1394, 573, 537, 1395] (by decide +kernel) (by decide +kernel) w h)) (by decide +kernel) (vx_c (va_Nw.use rfl (hN.2.2.2.2.2.1 _ (List.mem_of_getElem? (i := 3) rfl))) (vx_c (va_Nw.use rfl (hN.2.2.2.2.2.1 _ (List.mem_of_getElem? (i := 2) rfl))) (vx_c (va_Nw.use rfl (hN.2.2.2.2.2.1 _ (List.mem_of_getElem? (i := 1) rfl))) (vx_c (va_Nw.use rfl (hN.2.2.1 _ (List.mem_of_getElem? (i := 1) rfl))) vx_n))))
set_option maxRecDepth 100000 in
theorem hat_134 {args : Array Value} {s : State} (hts : ∀ w ∈ lw_all, w.before args s = true) (hN : GN s) : ∀ w ∈ vx_at0 "SaidSo" 134 "java/lang/IndexOutOfBoundsException" ["java/lang/RuntimeException", "java/lang/Exception"], w.before args s = true := vx_hat (B := [.declares ⟨"java/lang/RuntimeException", "<init>", "()V"⟩, .declares ⟨"java/lang/Exception", "<init>", "()V"⟩, .declares ⟨"java/lang/Throwable", "<init>", "()V"⟩, .castable "java/lang/IndexOutOfBoundsException" "java/lang/IndexOutOfBoundsException"]) (fun w h => hts w (lw_in _ [152, 539, 548, 554, 557, 559, 540, 541, 181, 182, 542, 547, 555, 575, 529, 576, 531, 577, 533, 543, 545, 535, 1376, 1377, 1378, 1379, 1379, 1380, 1381, 1382, 1382, 1383, 1384, 540, 1375, 1367, 1369, 552, 1370, 1371, 1372, 1373, 573, 537, 1374] (by decide +kernel) (by decide +kernel) w h)) (by decide +kernel) (vx_c (va_Nw.use rfl (hN.2.2.2.2.2.1 _ (List.mem_of_getElem? (i := 3) rfl))) (vx_c (va_Nw.use rfl (hN.2.2.2.2.2.1 _ (List.mem_of_getElem? (i := 2) rfl))) (vx_c (va_Nw.use rfl (hN.2.2.2.2.2.1 _ (List.mem_of_getElem? (i := 1) rfl))) (vx_c (va_Nw.use rfl (hN.2.2.1 _ (List.mem_of_getElem? (i := 0) rfl))) vx_n))))
theorem fX11_7 : VFd "SaidSo$Page" 7 [9] 0 (.int) true := by
  intro c hc
  cases List.mem_singleton.mp hc
  exact ⟨RX11, TX11, 3, tyX11, rfl, in_X11, by decide, tyX11_ok, nmX11, by decide +kernel, rfl, Or.inl ⟨_, q852, Or.inl rfl⟩⟩
theorem fX11_13 : VFd "SaidSo$Page" 13 [9] 1 (.int) true := by
  intro c hc
  cases List.mem_singleton.mp hc
  exact ⟨RX11, TX11, 3, tyX11, rfl, in_X11, by decide, tyX11_ok, nmX11, by decide +kernel, rfl, Or.inl ⟨_, q854, Or.inl rfl⟩⟩
theorem fX11_16 : VFd "SaidSo$Page" 16 [9] 2 (.int) true := by
  intro c hc
  cases List.mem_singleton.mp hc
  exact ⟨RX11, TX11, 3, tyX11, rfl, in_X11, by decide, tyX11_ok, nmX11, by decide +kernel, rfl, Or.inl ⟨_, q856, Or.inl rfl⟩⟩
theorem fX2_15 : VFd "SaidSo$Reader" 15 [2] 0 (.int) false := by
  intro c hc
  cases List.mem_singleton.mp hc
  exact ⟨RX2, TX2, 8, tyX2, rfl, in_X2, by decide, tyX2_ok, nmX2, by decide +kernel, rfl, Or.inl ⟨_, q189, Or.inl rfl⟩⟩
theorem fX2_19 : VFd "SaidSo$Reader" 19 [2] 1 (.int) false := by
  intro c hc
  cases List.mem_singleton.mp hc
  exact ⟨RX2, TX2, 8, tyX2, rfl, in_X2, by decide, tyX2_ok, nmX2, by decide +kernel, rfl, Or.inl ⟨_, q190, Or.inl rfl⟩⟩
theorem fX2_22 : VFd "SaidSo$Reader" 22 [1] 0 (.array (.byte)) true := by
  intro c hc
  cases List.mem_singleton.mp hc
  exact ⟨RX1, TX1, 21, tyX1, rfl, in_X1, by decide, tyX1_ok, nmX1, by decide +kernel, rfl, Or.inr ⟨"SaidSo", List.mem_of_getElem? (i := 28) rfl⟩⟩
theorem fX2_30 : VFd "SaidSo$Reader" 30 [2] 2 (.int) false := by
  intro c hc
  cases List.mem_singleton.mp hc
  exact ⟨RX2, TX2, 8, tyX2, rfl, in_X2, by decide, tyX2_ok, nmX2, by decide +kernel, rfl, Or.inl ⟨_, q191, Or.inl rfl⟩⟩
theorem fX2_43 : VFd "SaidSo$Reader" 43 [2] 4 (.int) false := by
  intro c hc
  cases List.mem_singleton.mp hc
  exact ⟨RX2, TX2, 8, tyX2, rfl, in_X2, by decide, tyX2_ok, nmX2, by decide +kernel, rfl, Or.inl ⟨_, q193, Or.inl rfl⟩⟩
theorem fX2_33 : VFd "SaidSo$Reader" 33 [2] 3 (.int) false := by
  intro c hc
  cases List.mem_singleton.mp hc
  exact ⟨RX2, TX2, 8, tyX2, rfl, in_X2, by decide, tyX2_ok, nmX2, by decide +kernel, rfl, Or.inl ⟨_, q192, Or.inl rfl⟩⟩
theorem fX5_7 : VFd "SaidSo$Fault" 7 [4] 6 (.int) true := by
  intro c hc
  cases List.mem_singleton.mp hc
  exact ⟨RX5, TX5, 8, tyX5, rfl, in_X5, by decide, tyX5_ok, nmX5, by decide +kernel, rfl, Or.inl ⟨_, q569, Or.inl rfl⟩⟩
theorem fX5_13 : VFd "SaidSo$Fault" 13 [4] 7 (.int) true := by
  intro c hc
  cases List.mem_singleton.mp hc
  exact ⟨RX5, TX5, 8, tyX5, rfl, in_X5, by decide, tyX5_ok, nmX5, by decide +kernel, rfl, Or.inl ⟨_, q571, Or.inl rfl⟩⟩
theorem fX2_93 : VFd "SaidSo$Reader" 93 [2] 6 (.object "SaidSo$Case") false := by
  intro c hc
  cases List.mem_singleton.mp hc
  exact ⟨RX2, TX2, 8, tyX2, rfl, in_X2, by decide, tyX2_ok, nmX2, by decide +kernel, rfl, Or.inl ⟨_, q195, Or.inl rfl⟩⟩
theorem fX6_18 : VFd "SaidSo$Thing" 18 [5] 0 (.int) true := by
  intro c hc
  cases List.mem_singleton.mp hc
  exact ⟨RX6, TX6, 5, tyX6, rfl, in_X6, by decide, tyX6_ok, nmX6, by decide +kernel, rfl, Or.inl ⟨_, q639, Or.inl rfl⟩⟩
theorem fX6_21 : VFd "SaidSo$Thing" 21 [5] 1 (.int) true := by
  intro c hc
  cases List.mem_singleton.mp hc
  exact ⟨RX6, TX6, 5, tyX6, rfl, in_X6, by decide, tyX6_ok, nmX6, by decide +kernel, rfl, Or.inl ⟨_, q641, Or.inl rfl⟩⟩
theorem fX6_24 : VFd "SaidSo$Thing" 24 [5] 2 (.int) true := by
  intro c hc
  cases List.mem_singleton.mp hc
  exact ⟨RX6, TX6, 5, tyX6, rfl, in_X6, by decide, tyX6_ok, nmX6, by decide +kernel, rfl, Or.inl ⟨_, q644, Or.inl rfl⟩⟩
theorem fX2_100 : VFd "SaidSo$Reader" 100 [3] 0 (.object "java/util/ArrayList") true := by
  intro c hc
  cases List.mem_singleton.mp hc
  exact ⟨RX3, TX3, 7, tyX3, rfl, in_X3, by decide, tyX3_ok, nmX3, by decide +kernel, rfl, Or.inr ⟨"SaidSo", List.mem_of_getElem? (i := 21) rfl⟩⟩
theorem fX2_169 : VFd "SaidSo$Reader" 169 [5] 4 (.int) false := by
  intro c hc
  cases List.mem_singleton.mp hc
  exact ⟨RX6, TX6, 5, tyX6, rfl, in_X6, by decide, tyX6_ok, nmX6, by decide +kernel, rfl, Or.inr ⟨"SaidSo", List.mem_of_getElem? (i := 32) rfl⟩⟩
theorem fX2_166 : VFd "SaidSo$Reader" 166 [5] 3 (.int) false := by
  intro c hc
  cases List.mem_singleton.mp hc
  exact ⟨RX6, TX6, 5, tyX6, rfl, in_X6, by decide, tyX6_ok, nmX6, by decide +kernel, rfl, Or.inr ⟨"SaidSo", List.mem_of_getElem? (i := 31) rfl⟩⟩
theorem fX7_15 : VFd "SaidSo$Teller" 15 [6] 0 (.int) true := by
  intro c hc
  cases List.mem_singleton.mp hc
  exact ⟨RX7, TX7, 5, tyX7, rfl, in_X7, by decide, tyX7_ok, nmX7, by decide +kernel, rfl, Or.inl ⟨_, q736, Or.inl rfl⟩⟩
theorem fX7_18 : VFd "SaidSo$Teller" 18 [6] 1 (.int) true := by
  intro c hc
  cases List.mem_singleton.mp hc
  exact ⟨RX7, TX7, 5, tyX7, rfl, in_X7, by decide, tyX7_ok, nmX7, by decide +kernel, rfl, Or.inl ⟨_, q738, Or.inl rfl⟩⟩
theorem fX7_24 : VFd "SaidSo$Teller" 24 [6] 3 (.int) true := by
  intro c hc
  cases List.mem_singleton.mp hc
  exact ⟨RX7, TX7, 5, tyX7, rfl, in_X7, by decide, tyX7_ok, nmX7, by decide +kernel, rfl, Or.inl ⟨_, q745, Or.inl rfl⟩⟩
theorem fX2_108 : VFd "SaidSo$Reader" 108 [3] 1 (.object "java/util/ArrayList") true := by
  intro c hc
  cases List.mem_singleton.mp hc
  exact ⟨RX3, TX3, 7, tyX3, rfl, in_X3, by decide, tyX3_ok, nmX3, by decide +kernel, rfl, Or.inr ⟨"SaidSo", List.mem_of_getElem? (i := 22) rfl⟩⟩
theorem fX2_181 : VFd "SaidSo$Reader" 181 [6] 3 (.int) true := by
  intro c hc
  cases List.mem_singleton.mp hc
  exact ⟨RX7, TX7, 5, tyX7, rfl, in_X7, by decide, tyX7_ok, nmX7, by decide +kernel, rfl, Or.inr ⟨"SaidSo", List.mem_of_getElem? (i := 34) rfl⟩⟩
theorem fX2_184 : VFd "SaidSo$Reader" 184 [6] 4 (.int) false := by
  intro c hc
  cases List.mem_singleton.mp hc
  exact ⟨RX7, TX7, 5, tyX7, rfl, in_X7, by decide, tyX7_ok, nmX7, by decide +kernel, rfl, Or.inr ⟨"SaidSo", List.mem_of_getElem? (i := 35) rfl⟩⟩
theorem fX2_194 : VFd "SaidSo$Reader" 194 [6] 2 (.int) true := by
  intro c hc
  cases List.mem_singleton.mp hc
  exact ⟨RX7, TX7, 5, tyX7, rfl, in_X7, by decide, tyX7_ok, nmX7, by decide +kernel, rfl, Or.inr ⟨"SaidSo", List.mem_of_getElem? (i := 33) rfl⟩⟩
theorem fX2_200 : VFd "SaidSo$Reader" 200 [5] 1 (.int) true := by
  intro c hc
  cases List.mem_singleton.mp hc
  exact ⟨RX6, TX6, 5, tyX6, rfl, in_X6, by decide, tyX6_ok, nmX6, by decide +kernel, rfl, Or.inr ⟨"SaidSo", List.mem_of_getElem? (i := 30) rfl⟩⟩
theorem fX2_111 : VFd "SaidSo$Reader" 111 [3] 2 (.object "java/util/ArrayList") true := by
  intro c hc
  cases List.mem_singleton.mp hc
  exact ⟨RX3, TX3, 7, tyX3, rfl, in_X3, by decide, tyX3_ok, nmX3, by decide +kernel, rfl, Or.inr ⟨"SaidSo", List.mem_of_getElem? (i := 23) rfl⟩⟩
theorem fX2_114 : VFd "SaidSo$Reader" 114 [3] 3 (.object "java/util/ArrayList") true := by
  intro c hc
  cases List.mem_singleton.mp hc
  exact ⟨RX3, TX3, 7, tyX3, rfl, in_X3, by decide, tyX3_ok, nmX3, by decide +kernel, rfl, Or.inr ⟨"SaidSo", List.mem_of_getElem? (i := 24) rfl⟩⟩
theorem fX2_214 : VFd "SaidSo$Reader" 214 [3] 6 (.int) false := by
  intro c hc
  cases List.mem_singleton.mp hc
  exact ⟨RX3, TX3, 7, tyX3, rfl, in_X3, by decide, tyX3_ok, nmX3, by decide +kernel, rfl, Or.inr ⟨"SaidSo", List.mem_of_getElem? (i := 27) rfl⟩⟩
theorem fX2_87 : VFd "SaidSo$Reader" 87 [2] 5 (.int) false := by
  intro c hc
  cases List.mem_singleton.mp hc
  exact ⟨RX2, TX2, 8, tyX2, rfl, in_X2, by decide, tyX2_ok, nmX2, by decide +kernel, rfl, Or.inl ⟨_, q194, Or.inl rfl⟩⟩
theorem fX2_142 : VFd "SaidSo$Reader" 142 [3] 5 (.int) false := by
  intro c hc
  cases List.mem_singleton.mp hc
  exact ⟨RX3, TX3, 7, tyX3, rfl, in_X3, by decide, tyX3_ok, nmX3, by decide +kernel, rfl, Or.inr ⟨"SaidSo", List.mem_of_getElem? (i := 26) rfl⟩⟩
theorem fX2_117 : VFd "SaidSo$Reader" 117 [3] 4 (.array (.object "SaidSo$Part")) true := by
  intro c hc
  cases List.mem_singleton.mp hc
  exact ⟨RX3, TX3, 7, tyX3, rfl, in_X3, by decide, tyX3_ok, nmX3, by decide +kernel, rfl, Or.inr ⟨"SaidSo", List.mem_of_getElem? (i := 25) rfl⟩⟩
theorem st_SaidSo_Part : ∀ c ∈ ([10, 11, 12, 13] : List Nat), ∃ r : vw_C, vwCl[c]? = some r ∧ (r.1, "SaidSo$Part") ∈ gnC := by
  intro c hc
  simp only [List.mem_cons, List.not_mem_nil, or_false] at hc
  rcases hc with rfl | rfl | rfl | rfl
  · exact ⟨(RX13, TX13, 1), rfl, List.mem_of_getElem? (i := 8) rfl⟩
  · exact ⟨(RX14, TX14, 1), rfl, List.mem_of_getElem? (i := 10) rfl⟩
  · exact ⟨(RX15, TX15, 1), rfl, List.mem_of_getElem? (i := 12) rfl⟩
  · exact ⟨(RX16, TX16, 3), rfl, List.mem_of_getElem? (i := 14) rfl⟩
theorem fX1_93 : VFd "SaidSo" 93 [4] 6 (.int) true := by
  intro c hc
  cases List.mem_singleton.mp hc
  exact ⟨RX5, TX5, 8, tyX5, rfl, in_X5, by decide, tyX5_ok, nmX5, by decide +kernel, rfl, Or.inr ⟨"SaidSo", List.mem_of_getElem? (i := 7) rfl⟩⟩
theorem fX1_96 : VFd "SaidSo" 96 [4] 7 (.int) true := by
  intro c hc
  cases List.mem_singleton.mp hc
  exact ⟨RX5, TX5, 8, tyX5, rfl, in_X5, by decide, tyX5_ok, nmX5, by decide +kernel, rfl, Or.inr ⟨"SaidSo", List.mem_of_getElem? (i := 8) rfl⟩⟩
theorem fX1_105 : VFd "SaidSo" 105 [3] 5 (.int) false := by
  intro c hc
  cases List.mem_singleton.mp hc
  exact ⟨RX3, TX3, 7, tyX3, rfl, in_X3, by decide, tyX3_ok, nmX3, by decide +kernel, rfl, Or.inr ⟨"SaidSo", List.mem_of_getElem? (i := 5) rfl⟩⟩
theorem fX4_7 : VFd "SaidSoModel" 7 [0] 0 (.array (.int)) true := by
  intro c hc
  cases List.mem_singleton.mp hc
  exact ⟨RX4, TX4, 66, tyX4, rfl, in_X4, by decide, tyX4_ok, nmX4, by decide +kernel, rfl, Or.inl ⟨_, q1420, Or.inl rfl⟩⟩
theorem fX4_13 : VFd "SaidSoModel" 13 [0] 3 (.array (.int)) true := by
  intro c hc
  cases List.mem_singleton.mp hc
  exact ⟨RX4, TX4, 66, tyX4, rfl, in_X4, by decide, tyX4_ok, nmX4, by decide +kernel, rfl, Or.inl ⟨_, q1423, Or.inl rfl⟩⟩
theorem fX4_16 : VFd "SaidSoModel" 16 [0] 5 (.int) false := by
  intro c hc
  cases List.mem_singleton.mp hc
  exact ⟨RX4, TX4, 66, tyX4, rfl, in_X4, by decide, tyX4_ok, nmX4, by decide +kernel, rfl, Or.inl ⟨_, q1425, Or.inl rfl⟩⟩
theorem fX4_20 : VFd "SaidSoModel" 20 [0] 21 (.array (.int)) true := by
  intro c hc
  cases List.mem_singleton.mp hc
  exact ⟨RX4, TX4, 66, tyX4, rfl, in_X4, by decide, tyX4_ok, nmX4, by decide +kernel, rfl, Or.inl ⟨_, q1441, Or.inl rfl⟩⟩
theorem fX4_23 : VFd "SaidSoModel" 23 [0] 22 (.array (.int)) true := by
  intro c hc
  cases List.mem_singleton.mp hc
  exact ⟨RX4, TX4, 66, tyX4, rfl, in_X4, by decide, tyX4_ok, nmX4, by decide +kernel, rfl, Or.inl ⟨_, q1442, Or.inl rfl⟩⟩
theorem fX4_26 : VFd "SaidSoModel" 26 [0] 23 (.array (.int)) true := by
  intro c hc
  cases List.mem_singleton.mp hc
  exact ⟨RX4, TX4, 66, tyX4, rfl, in_X4, by decide, tyX4_ok, nmX4, by decide +kernel, rfl, Or.inl ⟨_, q1443, Or.inl rfl⟩⟩
theorem fX4_29 : VFd "SaidSoModel" 29 [0] 24 (.array (.int)) true := by
  intro c hc
  cases List.mem_singleton.mp hc
  exact ⟨RX4, TX4, 66, tyX4, rfl, in_X4, by decide, tyX4_ok, nmX4, by decide +kernel, rfl, Or.inl ⟨_, q1444, Or.inl rfl⟩⟩
theorem fX4_32 : VFd "SaidSoModel" 32 [0] 25 (.array (.int)) true := by
  intro c hc
  cases List.mem_singleton.mp hc
  exact ⟨RX4, TX4, 66, tyX4, rfl, in_X4, by decide, tyX4_ok, nmX4, by decide +kernel, rfl, Or.inl ⟨_, q1445, Or.inl rfl⟩⟩
theorem fX4_35 : VFd "SaidSoModel" 35 [0] 26 (.array (.int)) true := by
  intro c hc
  cases List.mem_singleton.mp hc
  exact ⟨RX4, TX4, 66, tyX4, rfl, in_X4, by decide, tyX4_ok, nmX4, by decide +kernel, rfl, Or.inl ⟨_, q1446, Or.inl rfl⟩⟩
theorem fX4_38 : VFd "SaidSoModel" 38 [0] 27 (.array (.int)) true := by
  intro c hc
  cases List.mem_singleton.mp hc
  exact ⟨RX4, TX4, 66, tyX4, rfl, in_X4, by decide, tyX4_ok, nmX4, by decide +kernel, rfl, Or.inl ⟨_, q1447, Or.inl rfl⟩⟩
theorem fX4_41 : VFd "SaidSoModel" 41 [0] 28 (.array (.int)) true := by
  intro c hc
  cases List.mem_singleton.mp hc
  exact ⟨RX4, TX4, 66, tyX4, rfl, in_X4, by decide, tyX4_ok, nmX4, by decide +kernel, rfl, Or.inl ⟨_, q1448, Or.inl rfl⟩⟩
theorem fX4_44 : VFd "SaidSoModel" 44 [0] 29 (.array (.int)) true := by
  intro c hc
  cases List.mem_singleton.mp hc
  exact ⟨RX4, TX4, 66, tyX4, rfl, in_X4, by decide, tyX4_ok, nmX4, by decide +kernel, rfl, Or.inl ⟨_, q1449, Or.inl rfl⟩⟩
theorem fX4_47 : VFd "SaidSoModel" 47 [0] 30 (.array (.int)) true := by
  intro c hc
  cases List.mem_singleton.mp hc
  exact ⟨RX4, TX4, 66, tyX4, rfl, in_X4, by decide, tyX4_ok, nmX4, by decide +kernel, rfl, Or.inl ⟨_, q1450, Or.inl rfl⟩⟩
theorem fX4_50 : VFd "SaidSoModel" 50 [0] 31 (.array (.boolean)) true := by
  intro c hc
  cases List.mem_singleton.mp hc
  exact ⟨RX4, TX4, 66, tyX4, rfl, in_X4, by decide, tyX4_ok, nmX4, by decide +kernel, rfl, Or.inl ⟨_, q1451, Or.inl rfl⟩⟩
theorem fX4_54 : VFd "SaidSoModel" 54 [0] 32 (.array (.int)) true := by
  intro c hc
  cases List.mem_singleton.mp hc
  exact ⟨RX4, TX4, 66, tyX4, rfl, in_X4, by decide, tyX4_ok, nmX4, by decide +kernel, rfl, Or.inl ⟨_, q1452, Or.inl rfl⟩⟩
theorem fX4_57 : VFd "SaidSoModel" 57 [0] 33 (.array (.int)) true := by
  intro c hc
  cases List.mem_singleton.mp hc
  exact ⟨RX4, TX4, 66, tyX4, rfl, in_X4, by decide, tyX4_ok, nmX4, by decide +kernel, rfl, Or.inl ⟨_, q1453, Or.inl rfl⟩⟩
theorem fX4_60 : VFd "SaidSoModel" 60 [0] 34 (.array (.int)) true := by
  intro c hc
  cases List.mem_singleton.mp hc
  exact ⟨RX4, TX4, 66, tyX4, rfl, in_X4, by decide, tyX4_ok, nmX4, by decide +kernel, rfl, Or.inl ⟨_, q1454, Or.inl rfl⟩⟩
theorem fX4_63 : VFd "SaidSoModel" 63 [0] 35 (.array (.int)) true := by
  intro c hc
  cases List.mem_singleton.mp hc
  exact ⟨RX4, TX4, 66, tyX4, rfl, in_X4, by decide, tyX4_ok, nmX4, by decide +kernel, rfl, Or.inl ⟨_, q1455, Or.inl rfl⟩⟩
theorem fX4_66 : VFd "SaidSoModel" 66 [0] 36 (.array (.int)) true := by
  intro c hc
  cases List.mem_singleton.mp hc
  exact ⟨RX4, TX4, 66, tyX4, rfl, in_X4, by decide, tyX4_ok, nmX4, by decide +kernel, rfl, Or.inl ⟨_, q1456, Or.inl rfl⟩⟩
theorem fX4_69 : VFd "SaidSoModel" 69 [0] 37 (.array (.int)) true := by
  intro c hc
  cases List.mem_singleton.mp hc
  exact ⟨RX4, TX4, 66, tyX4, rfl, in_X4, by decide, tyX4_ok, nmX4, by decide +kernel, rfl, Or.inl ⟨_, q1457, Or.inl rfl⟩⟩
theorem fX4_72 : VFd "SaidSoModel" 72 [0] 38 (.array (.int)) true := by
  intro c hc
  cases List.mem_singleton.mp hc
  exact ⟨RX4, TX4, 66, tyX4, rfl, in_X4, by decide, tyX4_ok, nmX4, by decide +kernel, rfl, Or.inl ⟨_, q1458, Or.inl rfl⟩⟩
theorem fX4_75 : VFd "SaidSoModel" 75 [0] 39 (.array (.int)) true := by
  intro c hc
  cases List.mem_singleton.mp hc
  exact ⟨RX4, TX4, 66, tyX4, rfl, in_X4, by decide, tyX4_ok, nmX4, by decide +kernel, rfl, Or.inl ⟨_, q1459, Or.inl rfl⟩⟩
theorem fX4_78 : VFd "SaidSoModel" 78 [0] 40 (.array (.int)) true := by
  intro c hc
  cases List.mem_singleton.mp hc
  exact ⟨RX4, TX4, 66, tyX4, rfl, in_X4, by decide, tyX4_ok, nmX4, by decide +kernel, rfl, Or.inl ⟨_, q1460, Or.inl rfl⟩⟩
theorem fX4_81 : VFd "SaidSoModel" 81 [0] 41 (.array (.int)) true := by
  intro c hc
  cases List.mem_singleton.mp hc
  exact ⟨RX4, TX4, 66, tyX4, rfl, in_X4, by decide, tyX4_ok, nmX4, by decide +kernel, rfl, Or.inl ⟨_, q1461, Or.inl rfl⟩⟩
theorem fX4_84 : VFd "SaidSoModel" 84 [0] 42 (.array (.int)) true := by
  intro c hc
  cases List.mem_singleton.mp hc
  exact ⟨RX4, TX4, 66, tyX4, rfl, in_X4, by decide, tyX4_ok, nmX4, by decide +kernel, rfl, Or.inl ⟨_, q1462, Or.inl rfl⟩⟩
theorem fX4_87 : VFd "SaidSoModel" 87 [0] 43 (.array (.int)) true := by
  intro c hc
  cases List.mem_singleton.mp hc
  exact ⟨RX4, TX4, 66, tyX4, rfl, in_X4, by decide, tyX4_ok, nmX4, by decide +kernel, rfl, Or.inl ⟨_, q1463, Or.inl rfl⟩⟩
theorem fX4_90 : VFd "SaidSoModel" 90 [0] 47 (.int) false := by
  intro c hc
  cases List.mem_singleton.mp hc
  exact ⟨RX4, TX4, 66, tyX4, rfl, in_X4, by decide, tyX4_ok, nmX4, by decide +kernel, rfl, Or.inl ⟨_, q1467, Or.inl rfl⟩⟩
theorem fX4_93 : VFd "SaidSoModel" 93 [0] 48 (.int) false := by
  intro c hc
  cases List.mem_singleton.mp hc
  exact ⟨RX4, TX4, 66, tyX4, rfl, in_X4, by decide, tyX4_ok, nmX4, by decide +kernel, rfl, Or.inl ⟨_, q1468, Or.inl rfl⟩⟩
theorem fX4_96 : VFd "SaidSoModel" 96 [0] 49 (.int) false := by
  intro c hc
  cases List.mem_singleton.mp hc
  exact ⟨RX4, TX4, 66, tyX4, rfl, in_X4, by decide, tyX4_ok, nmX4, by decide +kernel, rfl, Or.inl ⟨_, q1469, Or.inl rfl⟩⟩
theorem fX4_99 : VFd "SaidSoModel" 99 [0] 50 (.array (.int)) true := by
  intro c hc
  cases List.mem_singleton.mp hc
  exact ⟨RX4, TX4, 66, tyX4, rfl, in_X4, by decide, tyX4_ok, nmX4, by decide +kernel, rfl, Or.inl ⟨_, q1470, Or.inl rfl⟩⟩
theorem fX4_102 : VFd "SaidSoModel" 102 [0] 51 (.array (.int)) true := by
  intro c hc
  cases List.mem_singleton.mp hc
  exact ⟨RX4, TX4, 66, tyX4, rfl, in_X4, by decide, tyX4_ok, nmX4, by decide +kernel, rfl, Or.inl ⟨_, q1471, Or.inl rfl⟩⟩
theorem fX4_105 : VFd "SaidSoModel" 105 [0] 60 (.array (.int)) true := by
  intro c hc
  cases List.mem_singleton.mp hc
  exact ⟨RX4, TX4, 66, tyX4, rfl, in_X4, by decide, tyX4_ok, nmX4, by decide +kernel, rfl, Or.inl ⟨_, q1480, Or.inl rfl⟩⟩
theorem fX4_108 : VFd "SaidSoModel" 108 [0] 61 (.array (.int)) true := by
  intro c hc
  cases List.mem_singleton.mp hc
  exact ⟨RX4, TX4, 66, tyX4, rfl, in_X4, by decide, tyX4_ok, nmX4, by decide +kernel, rfl, Or.inl ⟨_, q1481, Or.inl rfl⟩⟩
theorem fX4_111 : VFd "SaidSoModel" 111 [0] 62 (.array (.long)) true := by
  intro c hc
  cases List.mem_singleton.mp hc
  exact ⟨RX4, TX4, 66, tyX4, rfl, in_X4, by decide, tyX4_ok, nmX4, by decide +kernel, rfl, Or.inl ⟨_, q1482, Or.inl rfl⟩⟩
theorem fX4_115 : VFd "SaidSoModel" 115 [0] 63 (.array (.long)) true := by
  intro c hc
  cases List.mem_singleton.mp hc
  exact ⟨RX4, TX4, 66, tyX4, rfl, in_X4, by decide, tyX4_ok, nmX4, by decide +kernel, rfl, Or.inl ⟨_, q1483, Or.inl rfl⟩⟩
def w1_in (a0 : Int32) (a1 : Int32) (a2 : Int32) (Post : Int32 → Prop) : Prop := (a0 < a1 → (Post (0 : Int32))) ∧ (¬ (a0 < a1) → ((a2 < a0 → (Post (0 : Int32))) ∧ (¬ (a2 < a0) → (Post (1 : Int32)))))
abbrev rX1_in : Room := { frames := 0, cells := 0, slots := 0, locals := 0 }
theorem cdX1_in : yX1_in.cls ≠ "java/lang/invoke/MethodHandle" ∧ yX1_in.cls ≠ "java/lang/invoke/VarHandle" ∧ (parseMethodDescriptor yX1_in.desc).map (fun d => d.parameters.length) = some 3 := by decide +kernel
set_option maxHeartbeats 4000000 in
set_option maxRecDepth 100000 in
theorem mt1_in (l : Launch) (a0 : Int32) (a1 : Int32) (a2 : Int32) (Post : Int32 → Prop) (h : w1_in a0 a1 a2 Post) : Met l yX1_in (ws_ yX1_in cX1_in 3 (some .boolean)) rX1_in (va_Pc [.int a0, .int a1, .int a2] (fun _ => True)) (vp_Si Post) 0 0 (fun _ => False) := by
  refine sst_i (own := RX1) (by decide) rfl (Nat.le_of_ble_eq_true rfl) ?_
  intro p e s m args below meth c Q ls S hl hret
  have hx := S.1
  have hb := S.2.1
  have hl : lv_has ls 3 [(0, .int a0), (1, .int a1), (2, .int a2)] := hl
  unfold w1_in at h
  refine lv_iload_n hx hb dX1_in_0 rfl (lv_at hl 0 rfl) ?_
  refine lv_iload_n hx hb dX1_in_1 rfl (lv_at hl 1 rfl) ?_
  refine lv_icmp_lt (tgt := 14) hx hb dX1_in_2 (by decide) (fun c_1 => ?_) (fun c_1 => ?_)
  · replace h := h.1 c_1
    refine lv_iconst hx hb dX1_in_14 kc_0 ?_
    exact hret _ _ _ h (vz_nar vz_0) dX1_in_15
  · replace h := h.2 c_1
    refine lv_iload_n hx hb dX1_in_5 rfl (lv_at hl 0 rfl) ?_
    refine lv_iload_n hx hb dX1_in_6 rfl (lv_at hl 2 rfl) ?_
    refine lv_icmp_gt (tgt := 14) hx hb dX1_in_7 (by decide) (fun c_2 => ?_) (fun c_2 => ?_)
    · replace h := h.1 c_2
      refine lv_iconst hx hb dX1_in_14 kc_0 ?_
      exact hret _ _ _ h (vz_nar vz_0) dX1_in_15
    · replace h := h.2 c_2
      refine lv_iconst hx hb dX1_in_10 kc_1 ?_
      refine lv_goto (tgt := 15) hx hb dX1_in_11 (by decide) ?_
      exact hret _ _ _ h (vz_nar vz_1) dX1_in_15
def w16_is (a0 : Int32) (Post : Int64 → Prop) : Prop := (a0 = 0 → (Post (0 : Int64))) ∧ (¬ (a0 = 0) → (Post (1 : Int64)))
abbrev rX16_is : Room := { frames := 0, cells := 0, slots := 0, locals := 0 }
theorem cdX16_is : yX16_is.cls ≠ "java/lang/invoke/MethodHandle" ∧ yX16_is.cls ≠ "java/lang/invoke/VarHandle" ∧ (parseMethodDescriptor yX16_is.desc).map (fun d => d.parameters.length) = some 1 := by decide +kernel
set_option maxHeartbeats 4000000 in
set_option maxRecDepth 100000 in
theorem mt16_is (l : Launch) (a0 : Int32) (Post : Int64 → Prop) (h : w16_is a0 Post) : Met l yX16_is (ws_ yX16_is cX16_is 1 (some .long)) rX16_is (va_Pc [.int a0] (fun _ => True)) (vp_Sl Post) 0 0 (fun _ => False) := by
  refine sst_l (own := RX16) (by decide) rfl (Nat.le_of_ble_eq_true rfl) ?_
  intro p e s m args below meth c Q ls S hl hret
  have hx := S.1
  have hb := S.2.1
  have hl : lv_has ls 1 [(0, .int a0)] := hl
  unfold w16_is at h
  refine lv_iload_n hx hb dX16_is_0 rfl (lv_at hl 0 rfl) ?_
  refine lv_if_eq (tgt := 8) hx hb dX16_is_1 (by decide) (fun c_1 => ?_) (fun c_1 => ?_)
  · replace h := h.1 c_1
    refine lv_lconst (v := 0) hx hb dX16_is_8 rfl ?_
    exact hret _ _ _ h dX16_is_9
  · replace h := h.2 c_1
    refine lv_lconst (v := 1) hx hb dX16_is_4 rfl ?_
    refine lv_goto (tgt := 9) hx hb dX16_is_5 (by decide) ?_
    exact hret _ _ _ h dX16_is_9
def wJ18_bitCount (a0 : Int32) (Post : Int32 → Prop) : Prop := ∀ v_1 : Int32, v_1 = a0 - (((a0.toUInt32 >>> ((1 : Int32).toUInt32 &&& Int32.toUInt32 31)).toInt32) &&& (1431655765 : Int32)) → ∀ v_2 : Int32, v_2 = (v_1 &&& (858993459 : Int32)) + (((v_1.toUInt32 >>> ((2 : Int32).toUInt32 &&& Int32.toUInt32 31)).toInt32) &&& (858993459 : Int32)) → ∀ v_3 : Int32, v_3 = (v_2 + ((v_2.toUInt32 >>> ((4 : Int32).toUInt32 &&& Int32.toUInt32 31)).toInt32)) &&& (252645135 : Int32) → ∀ v_4 : Int32, v_4 = v_3 + ((v_3.toUInt32 >>> ((8 : Int32).toUInt32 &&& Int32.toUInt32 31)).toInt32) → ∀ v_5 : Int32, v_5 = v_4 + ((v_4.toUInt32 >>> ((16 : Int32).toUInt32 &&& Int32.toUInt32 31)).toInt32) → Post (v_5 &&& (63 : Int32))
abbrev rJ18_bitCount : Room := { frames := 0, cells := 0, slots := 0, locals := 0 }
theorem cdJ18_bitCount : yJ18_bitCount.cls ≠ "java/lang/invoke/MethodHandle" ∧ yJ18_bitCount.cls ≠ "java/lang/invoke/VarHandle" ∧ (parseMethodDescriptor yJ18_bitCount.desc).map (fun d => d.parameters.length) = some 1 := by decide +kernel
set_option maxHeartbeats 4000000 in
set_option maxRecDepth 100000 in
theorem mtJ18_bitCount (l : Launch) (a0 : Int32) (Post : Int32 → Prop) (h : wJ18_bitCount a0 Post) : Met l yJ18_bitCount (ws_ yJ18_bitCount cJ18_bitCount 1 (some .int)) rJ18_bitCount (va_Pc [.int a0] (fun _ => True)) (vp_Si Post) 0 0 (fun _ => False) := by
  refine sst_i (own := RJ18) (by decide) rfl (Nat.le_of_ble_eq_true rfl) ?_
  intro p e s m args below meth c Q ls S hl hret
  have hx := S.1
  have hb := S.2.1
  have hl : lv_has ls 1 [(0, .int a0)] := hl
  unfold wJ18_bitCount at h
  refine lv_iload_n hx hb dJ18_bitCount_0 rfl (lv_at hl 0 rfl) ?_
  refine lv_iload_n hx hb dJ18_bitCount_1 rfl (lv_at hl 0 rfl) ?_
  refine lv_iconst hx hb dJ18_bitCount_2 kc_1 ?_
  refine lv_iushr hx hb dJ18_bitCount_3 rfl ?_
  refine lv_ldcw (own := RJ18) (v := 1431655765) hx hb S.2.2.2.1 (S.2.2.2.2 _ q1192) dJ18_bitCount_4 ?_
  refine lv_iand hx hb dJ18_bitCount_7 ?_
  refine lv_isub hx hb dJ18_bitCount_8 ?_
  refine lv_topi (fun v_1 e_v_1 => ?_)
  replace h := h v_1 e_v_1
  refine lv_istore_n (lv' := [(0, .int v_1)]) hx hb dJ18_bitCount_9 rfl hl (by decide) rfl (fun ls hl => ?_)
  refine lv_iload_n hx hb dJ18_bitCount_10 rfl (lv_at hl 0 rfl) ?_
  refine lv_ldcw (own := RJ18) (v := 858993459) hx hb S.2.2.2.1 (S.2.2.2.2 _ q1193) dJ18_bitCount_11 ?_
  refine lv_iand hx hb dJ18_bitCount_14 ?_
  refine lv_iload_n hx hb dJ18_bitCount_15 rfl (lv_at hl 0 rfl) ?_
  refine lv_iconst hx hb dJ18_bitCount_16 kc_2 ?_
  refine lv_iushr hx hb dJ18_bitCount_17 rfl ?_
  refine lv_ldcw (own := RJ18) (v := 858993459) hx hb S.2.2.2.1 (S.2.2.2.2 _ q1193) dJ18_bitCount_18 ?_
  refine lv_iand hx hb dJ18_bitCount_21 ?_
  refine lv_iadd hx hb dJ18_bitCount_22 ?_
  refine lv_topi (fun v_2 e_v_2 => ?_)
  replace h := h v_2 e_v_2
  refine lv_istore_n (lv' := [(0, .int v_2)]) hx hb dJ18_bitCount_23 rfl hl (by decide) rfl (fun ls hl => ?_)
  refine lv_iload_n hx hb dJ18_bitCount_24 rfl (lv_at hl 0 rfl) ?_
  refine lv_iload_n hx hb dJ18_bitCount_25 rfl (lv_at hl 0 rfl) ?_
  refine lv_iconst hx hb dJ18_bitCount_26 kc_4 ?_
  refine lv_iushr hx hb dJ18_bitCount_27 rfl ?_
  refine lv_iadd hx hb dJ18_bitCount_28 ?_
  refine lv_ldcw (own := RJ18) (v := 252645135) hx hb S.2.2.2.1 (S.2.2.2.2 _ q1194) dJ18_bitCount_29 ?_
  refine lv_iand hx hb dJ18_bitCount_32 ?_
  refine lv_topi (fun v_3 e_v_3 => ?_)
  replace h := h v_3 e_v_3
  refine lv_istore_n (lv' := [(0, .int v_3)]) hx hb dJ18_bitCount_33 rfl hl (by decide) rfl (fun ls hl => ?_)
  refine lv_iload_n hx hb dJ18_bitCount_34 rfl (lv_at hl 0 rfl) ?_
  refine lv_iload_n hx hb dJ18_bitCount_35 rfl (lv_at hl 0 rfl) ?_
  refine lv_bipush hx hb dJ18_bitCount_36 kb_8 ?_
  refine lv_iushr hx hb dJ18_bitCount_38 rfl ?_
  refine lv_iadd hx hb dJ18_bitCount_39 ?_
  refine lv_topi (fun v_4 e_v_4 => ?_)
  replace h := h v_4 e_v_4
  refine lv_istore_n (lv' := [(0, .int v_4)]) hx hb dJ18_bitCount_40 rfl hl (by decide) rfl (fun ls hl => ?_)
  refine lv_iload_n hx hb dJ18_bitCount_41 rfl (lv_at hl 0 rfl) ?_
  refine lv_iload_n hx hb dJ18_bitCount_42 rfl (lv_at hl 0 rfl) ?_
  refine lv_bipush hx hb dJ18_bitCount_43 kb_16 ?_
  refine lv_iushr hx hb dJ18_bitCount_45 rfl ?_
  refine lv_iadd hx hb dJ18_bitCount_46 ?_
  refine lv_topi (fun v_5 e_v_5 => ?_)
  replace h := h v_5 e_v_5
  refine lv_istore_n (lv' := [(0, .int v_5)]) hx hb dJ18_bitCount_47 rfl hl (by decide) rfl (fun ls hl => ?_)
  refine lv_iload_n hx hb dJ18_bitCount_48 rfl (lv_at hl 0 rfl) ?_
  refine lv_bipush hx hb dJ18_bitCount_49 kb_63 ?_
  refine lv_iand hx hb dJ18_bitCount_51 ?_
  exact hret _ _ _ h rfl dJ18_bitCount_52
def w1_common : Nat → Int64 → Int64 → (Int64 → Prop) → Prop
  | 0, _, _, _ => False
  | n + 1, a0, a2, Post => (a2 = (0 : Int64) → (Post a0)) ∧ (¬ (a2 = (0 : Int64)) → ((¬ a2 = 0 ∧ w1_common n a2 (a0 - a0 / a2 * a2) (fun r_2 => Post r_2))))
abbrev rX1_common (n : Nat) : Room := { frames := n, cells := 0, slots := 0, locals := 60 * n }
theorem cdX1_common : yX1_common.cls ≠ "java/lang/invoke/MethodHandle" ∧ yX1_common.cls ≠ "java/lang/invoke/VarHandle" ∧ (parseMethodDescriptor yX1_common.desc).map (fun d => d.parameters.length) = some 2 := by decide +kernel
set_option maxHeartbeats 4000000 in
set_option maxRecDepth 100000 in
theorem mt1_common (l : Launch) : ∀ (n : Nat) (a0 : Int64) (a2 : Int64) (Post : Int64 → Prop) (h : w1_common n a0 a2 Post), Met l yX1_common (ws_ yX1_common cX1_common 4 (some .long)) (rX1_common n) (va_Pc [.long a0, .long a2] (fun _ => True)) (vp_Sl Post) 0 0 (fun _ => False) := by
  intro n
  induction n with
  | zero => intro a0 a2 Post h; rw [w1_common] at h; exact h.elim
  | succ n ih =>
    intro a0 a2 Post h
    rw [w1_common] at h
    refine sst_l (own := RX1) (by decide) rfl (Nat.le_of_ble_eq_true rfl) ?_
    intro p e s m args below meth c Q ls S hl hret
    have hx := S.1
    have hb := S.2.1
    have hl : lv_has ls 4 [(0, .long a0), (2, .long a2)] := hl
    refine lv_lload_n hx hb dX1_common_0 rfl (lv_at hl 1 rfl) ?_
    refine lv_lconst (v := 0) hx hb dX1_common_1 rfl ?_
    refine W.lcmp hx hb dX1_common_2 ?_
    refine lv_if_ne (tgt := 10) hx hb dX1_common_3 (by decide) (fun c_1 => ?_) (fun c_1 => ?_)
    · replace h := h.2 (fun q => c_1 ((lg_cmp_eq _ _).mpr q))
      refine lv_lload_n hx hb dX1_common_10 rfl (lv_at hl 1 rfl) ?_
      refine lv_lload_n hx hb dX1_common_11 rfl (lv_at hl 0 rfl) ?_
      refine lv_lload_n hx hb dX1_common_12 rfl (lv_at hl 1 rfl) ?_
      obtain ⟨hz, h⟩ := h
      refine lv_lrem hx hb dX1_common_13 hz ?_
      refine sc_l S (As := [.long a2, .long (a0 - a0 / a2 * a2)]) (rest := []) (ih a2 (a0 - a0 / a2 * a2) _ h) (va_cwS 2 S.2.2.2.2 (lw_S q1127 q1128 q139 q1129) rfl rfl rfl cdX1_common ⟨by show n + 1 ≤ n + 1; omega, by show 8 + (4 + 11) + 60 * n ≤ 60 * (n + 1); omega⟩) rfl rfl hl.1 (Nat.le_of_ble_eq_true rfl) dX1_common_14 ⟨Nat.le_refl _, Nat.le_refl _⟩ (fun r_2 h => ?_)
      exact hret _ _ _ h dX1_common_17
    · replace h := h.1 ((lg_cmp_eq _ _).mp c_1)
      refine lv_lload_n hx hb dX1_common_6 rfl (lv_at hl 0 rfl) ?_
      refine lv_goto (tgt := 17) hx hb dX1_common_7 (by decide) ?_
      exact hret _ _ _ h dX1_common_17
def wJ5_checkIndex_c9 (a0 : Int32) (a1 : Int32) (a2 : Option Nat) (Post : Int32 → Prop) : Prop := False
def wJ5_checkIndex (a0 : Int32) (a1 : Int32) (a2 : Option Nat) (Post : Int32 → Prop) : Prop := (a0 < 0 → (wJ5_checkIndex_c9 a0 a1 a2 Post)) ∧ (¬ (a0 < 0) → ((a0 < a1 → (Post a0)) ∧ (¬ (a0 < a1) → (wJ5_checkIndex_c9 a0 a1 a2 Post))))
abbrev rJ5_checkIndex : Room := { frames := 0, cells := 0, slots := 0, locals := 0 }
theorem cdJ5_checkIndex : yJ5_checkIndex.cls ≠ "java/lang/invoke/MethodHandle" ∧ yJ5_checkIndex.cls ≠ "java/lang/invoke/VarHandle" ∧ (parseMethodDescriptor yJ5_checkIndex.desc).map (fun d => d.parameters.length) = some 3 := by decide +kernel
set_option maxHeartbeats 4000000 in
set_option maxRecDepth 100000 in
theorem mtJ5_checkIndex (l : Launch) {A : Nat → Prop} (a0 : Int32) (a1 : Int32) (a2 : Option Nat) (Post : Int32 → Prop) (h : wJ5_checkIndex a0 a1 a2 Post) : Met l yJ5_checkIndex (ws_ yJ5_checkIndex cJ5_checkIndex 3 (some (.int))) rJ5_checkIndex (kP [.int a0, .int a1, va_rf a2] A 2 0 0 (fun _ => 0)) (vp_Si Post) 0 0 (fun _ => False) := by
  refine kst_i (own := RJ5) (by decide) rfl (by cases a2 <;> exact Nat.le_of_ble_eq_true rfl) ?_
  intro p e s m args below meth c Q ls S hSK hX hl hret
  have hx := S.1
  have hb := S.2.1
  have hl : lv_has ls 3 [(0, .int a0), (1, .int a1), (2, va_rf a2)] := by cases a2 <;> exact hl
  have C9 : ∀ (ls : Array Slot), lv_has ls 3 [(0, .int a0), (1, .int a1), (2, va_rf a2)] → wJ5_checkIndex_c9 a0 a1 a2 Post → W p l e rJ5_checkIndex s m args below meth c s.heap [] 0 0 Q (F0 m 9 ls []) := by
    intro ls hl h
    unfold wJ5_checkIndex_c9 at h
    refine lv_aload_nQ hx hb dJ5_checkIndex_9 rfl (lv_at hl 2 rfl) ?_
    refine lv_iload_n hx hb dJ5_checkIndex_10 rfl (lv_at hl 0 rfl) ?_
    refine lv_iload_n hx hb dJ5_checkIndex_11 rfl (lv_at hl 1 rfl) ?_
    exact h.elim
  unfold wJ5_checkIndex at h
  refine lv_iload_n hx hb dJ5_checkIndex_0 rfl (lv_at hl 0 rfl) ?_
  refine lv_if_lt (tgt := 9) hx hb dJ5_checkIndex_1 (by decide) (fun c_1 => ?_) (fun c_1 => ?_)
  · replace h := h.1 c_1
    exact C9 _ (lv_sub hl [0, 1, 2] rfl) h
  · replace h := h.2 c_1
    refine lv_iload_n hx hb dJ5_checkIndex_4 rfl (lv_at hl 0 rfl) ?_
    refine lv_iload_n hx hb dJ5_checkIndex_5 rfl (lv_at hl 1 rfl) ?_
    refine lv_icmp_lt (tgt := 16) hx hb dJ5_checkIndex_6 (by decide) (fun c_2 => ?_) (fun c_2 => ?_)
    · replace h := h.1 c_2
      refine lv_iload_n hx hb dJ5_checkIndex_16 rfl (lv_at hl 0 rfl) ?_
      exact hret _ _ _ h rfl dJ5_checkIndex_17
    · replace h := h.2 c_2
      exact C9 _ (lv_sub hl [0, 1, 2] rfl) h
def wJ11_checkIndex (a0 : Int32) (a1 : Int32) (Post : Int32 → Prop) : Prop := wJ5_checkIndex a0 a1 none (fun r_1 => Post r_1)
abbrev rJ11_checkIndex : Room := { frames := 1, cells := 0, slots := 0, locals := 22 }
theorem cdJ11_checkIndex : yJ11_checkIndex.cls ≠ "java/lang/invoke/MethodHandle" ∧ yJ11_checkIndex.cls ≠ "java/lang/invoke/VarHandle" ∧ (parseMethodDescriptor yJ11_checkIndex.desc).map (fun d => d.parameters.length) = some 2 := by decide +kernel
set_option maxHeartbeats 4000000 in
set_option maxRecDepth 100000 in
theorem mtJ11_checkIndex (l : Launch) {A : Nat → Prop} (a0 : Int32) (a1 : Int32) (Post : Int32 → Prop) (h : wJ11_checkIndex a0 a1 Post) : Met l yJ11_checkIndex (ws_ yJ11_checkIndex cJ11_checkIndex 2 (some (.int))) rJ11_checkIndex (kP [.int a0, .int a1] A 2 0 0 (fun _ => 0)) (vp_Si Post) 0 0 (fun _ => False) := by
  refine kst_i (own := RJ11) (by decide) rfl (Nat.le_of_ble_eq_true rfl) ?_
  intro p e s m args below meth c Q ls S hSK hX hl hret
  have hx := S.1
  have hb := S.2.1
  have hl : lv_has ls 2 [(0, .int a0), (1, .int a1)] := hl
  unfold wJ11_checkIndex at h
  refine lv_iload_n hx hb dJ11_checkIndex_0 rfl (lv_at hl 0 rfl) ?_
  refine lv_iload_n hx hb dJ11_checkIndex_1 rfl (lv_at hl 1 rfl) ?_
  refine lv_null hx hb dJ11_checkIndex_2 ?_
  refine ks_i (k := 2) (As := [.int a0, .int a1, va_rf none]) (rest := []) S hSK (trivial : kX 2 A s s.heap 0 0 (fun _ => 0)) va_S.rf (mtJ5_checkIndex l (A := A)  a0 a1 none _ h) (va_cwS 3 S.2.2.2.2 (lw_S q614 q418 q148 q419) rfl rfl rfl cdJ5_checkIndex ⟨Nat.le_of_ble_eq_true rfl, Nat.le_of_ble_eq_true rfl⟩) rfl rfl hl.1 (Nat.le_of_ble_eq_true rfl) dJ11_checkIndex_3 ⟨Nat.le_refl _, Nat.le_refl _⟩ (fun r_1 h => ?_)
  exact hret _ _ _ h rfl dJ11_checkIndex_6
def wJ3_checkIndex (a0 : Int32) (a1 : Int32) (Post : Prop) : Prop := ∀ p_1 : Option Nat, wJ5_checkIndex a0 a1 p_1 (fun r_2 => Post)
abbrev rJ3_checkIndex : Room := { frames := 1, cells := 0, slots := 0, locals := 22 }
theorem cdJ3_checkIndex : yJ3_checkIndex.cls ≠ "java/lang/invoke/MethodHandle" ∧ yJ3_checkIndex.cls ≠ "java/lang/invoke/VarHandle" ∧ (parseMethodDescriptor yJ3_checkIndex.desc).map (fun d => d.parameters.length) = some 2 := by decide +kernel
set_option maxHeartbeats 4000000 in
set_option maxRecDepth 100000 in
theorem mtJ3_checkIndex (l : Launch) {A : Nat → Prop} (a0 : Int32) (a1 : Int32) (Post : Prop) (h : wJ3_checkIndex a0 a1 Post) : Met l yJ3_checkIndex (ws_ yJ3_checkIndex cJ3_checkIndex 2 none) rJ3_checkIndex (kP [.int a0, .int a1] A 2 0 0 (fun _ => 0)) (va_Sv (fun _ => Post)) 0 0 (fun _ => False) := by
  refine kst_v (own := RJ3) (by decide) rfl (Nat.le_of_ble_eq_true rfl) ?_
  intro p e s m args below meth c Q ls S hSK hX hl hret
  have hx := S.1
  have hb := S.2.1
  have hl : lv_has ls 2 [(0, .int a0), (1, .int a1)] := hl
  unfold wJ3_checkIndex at h
  refine lv_iload_n hx hb dJ3_checkIndex_0 rfl (lv_at hl 0 rfl) ?_
  refine lv_iload_n hx hb dJ3_checkIndex_1 rfl (lv_at hl 1 rfl) ?_
  refine kgs_q hx hb hSK.2 S.2.2.2.1 (S.2.2.2.2 _ q415) (fun _ h => h) dJ3_checkIndex_2 (fun p_1 => ?_)
  replace h := h p_1
  refine ks_i (k := 2) (As := [.int a0, .int a1, va_rf p_1]) (rest := []) S hSK (trivial : kX 2 A s s.heap 0 0 (fun _ => 0)) va_S.rf (mtJ5_checkIndex l (A := A)  a0 a1 p_1 _ h) (va_cwS 3 S.2.2.2.2 (lw_S q417 q418 q148 q419) rfl rfl rfl cdJ5_checkIndex ⟨Nat.le_of_ble_eq_true rfl, Nat.le_of_ble_eq_true rfl⟩) rfl rfl hl.1 (Nat.le_of_ble_eq_true rfl) dJ3_checkIndex_5 ⟨Nat.le_refl _, Nat.le_refl _⟩ (fun r_2 h => ?_)
  refine lv_pop hx hb dJ3_checkIndex_8 rfl ?_
  exact hret _ _ h dJ3_checkIndex_9
def wJ3_coder (n0 : Nat) (f0 : Nat → Int32) (Post : Int32 → Prop) : Prop := (narrow .byte (.int (0 : Int32)) = .int (0 : Int32) ∧ Post (0 : Int32))
abbrev rJ3_coder : Room := { frames := 0, cells := 0, slots := 0, locals := 0 }
theorem cdJ3_coder : yJ3_coder.cls = RJ3 ∧ yJ3_coder.cls ≠ "java/lang/invoke/MethodHandle" ∧ yJ3_coder.cls ≠ "java/lang/invoke/VarHandle" ∧ (parseMethodDescriptor yJ3_coder.desc).map (fun d => d.parameters.length) = some 0 := by decide +kernel
set_option maxHeartbeats 4000000 in
set_option maxRecDepth 100000 in
theorem mtJ3_coder (l : Launch) {A : Nat → Prop} (b0 : Nat) (n0 : Nat) (f0 : Nat → Int32) (Post : Int32 → Prop) (h : wJ3_coder n0 f0 Post) : Met l yJ3_coder (ws_ yJ3_coder cJ3_coder 1 (some (.byte))) rJ3_coder (kP [.ref b0] A 0 b0 n0 f0) (vp_Si Post) 0 0 (fun _ => False) := by
  refine kst_i (own := RJ3) (by decide) rfl (Nat.le_of_ble_eq_true rfl) ?_
  intro p e s m args below meth c Q ls S hSK hX hl hret
  have hX : SC A s s.heap b0 n0 f0 := hX
  obtain ⟨bv, hX3, hX4⟩ := hX.2.2
  have hx := S.1
  have hb := S.2.1
  have hl : lv_has ls 1 [(0, .ref b0)] := hl
  unfold wJ3_coder at h
  refine va_gets hx hb hSK.1 va_S.rf S.2.2.2.1 (S.2.2.2.2 _ q399) (fun _ h => h) dJ3_coder_0 ?_
  refine lv_if_eq (tgt := 13) hx hb dJ3_coder_3 (by decide) (fun c_1 => ?_) (fun c_1 => ?_)
  · exact absurd c_1 (by decide)
  · refine lv_aload_n hx hb dJ3_coder_6 rfl (lv_at hl 0 rfl) ?_
    refine vk_getf hx hb hX.2.1 va_S.rf S.2.2.2.1 (S.2.2.2.2 _ q2113) (fun _ h => h) dJ3_coder_7 ?_
    refine lv_goto (tgt := 14) hx hb dJ3_coder_10 (by decide) ?_
    exact hret _ _ _ h.2 h.1 dJ3_coder_14
def wJ3_isLatin1 (n0 : Nat) (f0 : Nat → Int32) (Post : Int32 → Prop) : Prop := Post (1 : Int32)
abbrev rJ3_isLatin1 : Room := { frames := 0, cells := 0, slots := 0, locals := 0 }
theorem cdJ3_isLatin1 : yJ3_isLatin1.cls = RJ3 ∧ yJ3_isLatin1.cls ≠ "java/lang/invoke/MethodHandle" ∧ yJ3_isLatin1.cls ≠ "java/lang/invoke/VarHandle" ∧ (parseMethodDescriptor yJ3_isLatin1.desc).map (fun d => d.parameters.length) = some 0 := by decide +kernel
set_option maxHeartbeats 4000000 in
set_option maxRecDepth 100000 in
theorem mtJ3_isLatin1 (l : Launch) {A : Nat → Prop} (b0 : Nat) (n0 : Nat) (f0 : Nat → Int32) (Post : Int32 → Prop) (h : wJ3_isLatin1 n0 f0 Post) : Met l yJ3_isLatin1 (ws_ yJ3_isLatin1 cJ3_isLatin1 1 (some (.boolean))) rJ3_isLatin1 (kP [.ref b0] A 0 b0 n0 f0) (vp_Si Post) 0 0 (fun _ => False) := by
  refine kst_i (own := RJ3) (by decide) rfl (Nat.le_of_ble_eq_true rfl) ?_
  intro p e s m args below meth c Q ls S hSK hX hl hret
  have hX : SC A s s.heap b0 n0 f0 := hX
  obtain ⟨bv, hX3, hX4⟩ := hX.2.2
  have hx := S.1
  have hb := S.2.1
  have hl : lv_has ls 1 [(0, .ref b0)] := hl
  unfold wJ3_isLatin1 at h
  refine va_gets hx hb hSK.1 va_S.rf S.2.2.2.1 (S.2.2.2.2 _ q399) (fun _ h => h) dJ3_isLatin1_0 ?_
  refine lv_if_eq (tgt := 17) hx hb dJ3_isLatin1_3 (by decide) (fun c_1 => ?_) (fun c_1 => ?_)
  · exact absurd c_1 (by decide)
  · refine lv_aload_n hx hb dJ3_isLatin1_6 rfl (lv_at hl 0 rfl) ?_
    refine vk_getf hx hb hX.2.1 va_S.rf S.2.2.2.1 (S.2.2.2.2 _ q2113) (fun _ h => h) dJ3_isLatin1_7 ?_
    refine lv_if_ne (tgt := 17) hx hb dJ3_isLatin1_10 (by decide) (fun c_2 => ?_) (fun c_2 => ?_)
    · exact absurd c_2 (by decide)
    · refine lv_iconst hx hb dJ3_isLatin1_13 kc_1 ?_
      refine lv_goto (tgt := 18) hx hb dJ3_isLatin1_14 (by decide) ?_
      exact hret _ _ _ h (vz_nar vz_1) dJ3_isLatin1_18
def wJ3_length (n0 : Nat) (f0 : Nat → Int32) (Post : Int32 → Prop) : Prop := wJ3_coder n0 f0 (fun r_1 => Post ((nI n0) >>> (r_1 &&& (31 : Int32))))
abbrev rJ3_length : Room := { frames := 1, cells := 0, slots := 0, locals := 20 }
theorem cdJ3_length : yJ3_length.cls = RJ3 ∧ yJ3_length.cls ≠ "java/lang/invoke/MethodHandle" ∧ yJ3_length.cls ≠ "java/lang/invoke/VarHandle" ∧ (parseMethodDescriptor yJ3_length.desc).map (fun d => d.parameters.length) = some 0 := by decide +kernel
set_option maxHeartbeats 4000000 in
set_option maxRecDepth 100000 in
theorem mtJ3_length (l : Launch) {A : Nat → Prop} (b0 : Nat) (n0 : Nat) (f0 : Nat → Int32) (Post : Int32 → Prop) (h : wJ3_length n0 f0 Post) : Met l yJ3_length (ws_ yJ3_length cJ3_length 1 (some (.int))) rJ3_length (kP [.ref b0] A 0 b0 n0 f0) (vp_Si Post) 0 0 (fun _ => False) := by
  refine kst_i (own := RJ3) (by decide) rfl (Nat.le_of_ble_eq_true rfl) ?_
  intro p e s m args below meth c Q ls S hSK hX hl hret
  have hX : SC A s s.heap b0 n0 f0 := hX
  obtain ⟨bv, hX3, hX4⟩ := hX.2.2
  have hx := S.1
  have hb := S.2.1
  have hl : lv_has ls 1 [(0, .ref b0)] := hl
  unfold wJ3_length at h
  refine lv_aload_n hx hb dJ3_length_0 rfl (lv_at hl 0 rfl) ?_
  refine vk_getf hx hb hX3 va_S.rf S.2.2.2.1 (S.2.2.2.2 _ q2112) (fun _ h => h) dJ3_length_1 ?_
  refine va_tlen (v := nI n0) hx hb hX4 va_S.rf rfl dJ3_length_4 ?_
  refine lv_aload_n hx hb dJ3_length_5 rfl (lv_at hl 0 rfl) ?_
  refine kc_i (As := []) (rest := [.int (nI n0)]) S hSK hX va_S.rf (mtJ3_coder l (A := A) b0  n0 f0 _ h) (cwV 0 S.2.2.2.2 (lw_V q395 q396 q397 q146 q398) rfl rfl rfl cdJ3_coder ⟨Nat.le_of_ble_eq_true rfl, Nat.le_of_ble_eq_true rfl⟩) rfl rfl hl.1 (Nat.le_of_ble_eq_true rfl) dJ3_length_6 ⟨Nat.le_refl _, Nat.le_refl _⟩ (fun r_1 h => ?_)
  refine lv_ishr hx hb dJ3_length_9 ?_
  exact hret _ _ _ h rfl dJ3_length_10
def wJ4_charAt (n0 : Nat) (f0 : Nat → Int32) (a1 : Int32) (Post : Int32 → Prop) : Prop := wJ3_checkIndex a1 (nI n0) ((vp_in a1 n0 ∧ (narrow .char (.int ((((f0 (Int32.toNatClampNeg a1)) &&& (255 : Int32)).toUInt32 % 65536).toInt32)) = .int ((((f0 (Int32.toNatClampNeg a1)) &&& (255 : Int32)).toUInt32 % 65536).toInt32) ∧ Post ((((f0 (Int32.toNatClampNeg a1)) &&& (255 : Int32)).toUInt32 % 65536).toInt32))))
abbrev rJ4_charAt : Room := { frames := 2, cells := 0, slots := 0, locals := 43 }
theorem cdJ4_charAt : yJ4_charAt.cls ≠ "java/lang/invoke/MethodHandle" ∧ yJ4_charAt.cls ≠ "java/lang/invoke/VarHandle" ∧ (parseMethodDescriptor yJ4_charAt.desc).map (fun d => d.parameters.length) = some 2 := by decide +kernel
set_option maxHeartbeats 4000000 in
set_option maxRecDepth 100000 in
theorem mtJ4_charAt (l : Launch) {A : Nat → Prop} (b0 : Nat) (n0 : Nat) (f0 : Nat → Int32) (a1 : Int32) (Post : Int32 → Prop) (h : wJ4_charAt n0 f0 a1 Post) : Met l yJ4_charAt (ws_ yJ4_charAt cJ4_charAt 2 (some (.char))) rJ4_charAt (kP [.ref b0, .int a1] A 1 b0 n0 f0) (vp_Si Post) 0 0 (fun _ => False) := by
  refine kst_i (own := RJ4) (by decide) rfl (Nat.le_of_ble_eq_true rfl) ?_
  intro p e s m args below meth c Q ls S hSK hX hl hret
  have hX4 : va_T .byte b0 n0 (fun j => .int (f0 j)) A s s.heap := hX
  have hx := S.1
  have hb := S.2.1
  have hl : lv_has ls 2 [(0, .ref b0), (1, .int a1)] := hl
  unfold wJ4_charAt at h
  refine lv_iload_n hx hb dJ4_charAt_0 rfl (lv_at hl 1 rfl) ?_
  refine lv_aload_n hx hb dJ4_charAt_1 rfl (lv_at hl 0 rfl) ?_
  refine va_tlen (v := nI n0) hx hb hX4 va_S.rf rfl dJ4_charAt_2 ?_
  refine ks_v (k := 2) (As := [.int a1, .int (nI n0)]) (rest := []) S hSK (trivial : kX 2 A s s.heap 0 0 (fun _ => 0)) va_S.rf (mtJ3_checkIndex l (A := A)  a1 (nI n0) _ h) (va_cwS 2 S.2.2.2.2 (lw_S q412 q413 q146 q414) rfl rfl rfl cdJ3_checkIndex ⟨Nat.le_of_ble_eq_true rfl, Nat.le_of_ble_eq_true rfl⟩) rfl rfl hl.1 (Nat.le_of_ble_eq_true rfl) dJ4_charAt_3 ⟨Nat.le_refl _, Nat.le_refl _⟩ (fun h => ?_)
  refine lv_aload_n hx hb dJ4_charAt_6 rfl (lv_at hl 0 rfl) ?_
  refine lv_iload_n hx hb dJ4_charAt_7 rfl (lv_at hl 1 rfl) ?_
  obtain ⟨hi, h⟩ := h
  refine va_tb (v := .int (f0 (Int32.toNatClampNeg a1))) hx hb hX4 va_S.rf hi rfl dJ4_charAt_8 ?_
  refine lv_sipush hx hb dJ4_charAt_9 ks_255 ?_
  refine lv_iand hx hb dJ4_charAt_12 ?_
  refine lv_i2c hx hb dJ4_charAt_13 rfl ?_
  exact hret _ _ _ h.2 h.1 dJ4_charAt_14
def wJ3_charAt (n0 : Nat) (f0 : Nat → Int32) (a1 : Int32) (Post : Int32 → Prop) : Prop := wJ3_isLatin1 n0 f0 (fun r_1 => (r_1 = 0 → (False)) ∧ (¬ (r_1 = 0) → (wJ4_charAt n0 f0 a1 (fun r_3 => (narrow .char (.int r_3) = .int r_3 ∧ Post r_3)))))
abbrev rJ3_charAt : Room := { frames := 3, cells := 0, slots := 0, locals := 64 }
theorem cdJ3_charAt : yJ3_charAt.cls = RJ3 ∧ yJ3_charAt.cls ≠ "java/lang/invoke/MethodHandle" ∧ yJ3_charAt.cls ≠ "java/lang/invoke/VarHandle" ∧ (parseMethodDescriptor yJ3_charAt.desc).map (fun d => d.parameters.length) = some 1 := by decide +kernel
set_option maxHeartbeats 4000000 in
set_option maxRecDepth 100000 in
theorem mtJ3_charAt (l : Launch) {A : Nat → Prop} (b0 : Nat) (n0 : Nat) (f0 : Nat → Int32) (a1 : Int32) (Post : Int32 → Prop) (h : wJ3_charAt n0 f0 a1 Post) : Met l yJ3_charAt (ws_ yJ3_charAt cJ3_charAt 2 (some (.char))) rJ3_charAt (kP [.ref b0, .int a1] A 0 b0 n0 f0) (vp_Si Post) 0 0 (fun _ => False) := by
  refine kst_i (own := RJ3) (by decide) rfl (Nat.le_of_ble_eq_true rfl) ?_
  intro p e s m args below meth c Q ls S hSK hX hl hret
  have hX : SC A s s.heap b0 n0 f0 := hX
  obtain ⟨bv, hX3, hX4⟩ := hX.2.2
  have hx := S.1
  have hb := S.2.1
  have hl : lv_has ls 2 [(0, .ref b0), (1, .int a1)] := hl
  unfold wJ3_charAt at h
  refine lv_aload_n hx hb dJ3_charAt_0 rfl (lv_at hl 0 rfl) ?_
  refine kc_i (As := []) (rest := []) S hSK hX va_S.rf (mtJ3_isLatin1 l (A := A) b0  n0 f0 _ h) (cwV 0 S.2.2.2.2 (lw_V q405 q406 q407 q146 q408) rfl rfl rfl cdJ3_isLatin1 ⟨Nat.le_of_ble_eq_true rfl, Nat.le_of_ble_eq_true rfl⟩) rfl rfl hl.1 (Nat.le_of_ble_eq_true rfl) dJ3_charAt_1 ⟨Nat.le_refl _, Nat.le_refl _⟩ (fun r_1 h => ?_)
  refine lv_if_eq (tgt := 16) hx hb dJ3_charAt_4 (by decide) (fun c_2 => ?_) (fun c_2 => ?_)
  · replace h := h.1 c_2
    refine lv_aload_n hx hb dJ3_charAt_16 rfl (lv_at hl 0 rfl) ?_
    refine vk_getf hx hb hX3 va_S.rf S.2.2.2.1 (S.2.2.2.2 _ q2112) (fun _ h => h) dJ3_charAt_17 ?_
    refine lv_iload_n hx hb dJ3_charAt_20 rfl (lv_at hl 1 rfl) ?_
    exact h.elim
  · replace h := h.2 c_2
    refine lv_aload_n hx hb dJ3_charAt_7 rfl (lv_at hl 0 rfl) ?_
    refine vk_getf hx hb hX3 va_S.rf S.2.2.2.1 (S.2.2.2.2 _ q2112) (fun _ h => h) dJ3_charAt_8 ?_
    refine lv_iload_n hx hb dJ3_charAt_11 rfl (lv_at hl 1 rfl) ?_
    refine ks_i (k := 1) (As := [.ref bv, .int a1]) (rest := []) S hSK (hX4 : kX 1 A s s.heap bv n0 f0) va_S.rf (mtJ4_charAt l (A := A) bv  n0 f0 a1 _ h) (va_cwS 2 S.2.2.2.2 (lw_S q409 q410 q147 q411) rfl rfl rfl cdJ4_charAt ⟨Nat.le_of_ble_eq_true rfl, Nat.le_of_ble_eq_true rfl⟩) rfl rfl hl.1 (Nat.le_of_ble_eq_true rfl) dJ3_charAt_12 ⟨Nat.le_refl _, Nat.le_refl _⟩ (fun r_3 h => ?_)
    exact hret _ _ _ h.2 h.1 dJ3_charAt_15
def wJ4_canEncode (a0 : Int32) (Post : Int32 → Prop) : Prop := (a0 < 0 → (Post (0 : Int32))) ∧ (¬ (a0 < 0) → (((255 : Int32) < a0 → (Post (0 : Int32))) ∧ (¬ ((255 : Int32) < a0) → (Post (1 : Int32)))))
abbrev rJ4_canEncode : Room := { frames := 0, cells := 0, slots := 0, locals := 0 }
theorem cdJ4_canEncode : yJ4_canEncode.cls ≠ "java/lang/invoke/MethodHandle" ∧ yJ4_canEncode.cls ≠ "java/lang/invoke/VarHandle" ∧ (parseMethodDescriptor yJ4_canEncode.desc).map (fun d => d.parameters.length) = some 1 := by decide +kernel
set_option maxHeartbeats 4000000 in
set_option maxRecDepth 100000 in
theorem mtJ4_canEncode (l : Launch) {A : Nat → Prop} (a0 : Int32) (Post : Int32 → Prop) (h : wJ4_canEncode a0 Post) : Met l yJ4_canEncode (ws_ yJ4_canEncode cJ4_canEncode 1 (some (.boolean))) rJ4_canEncode (kP [.int a0] A 2 0 0 (fun _ => 0)) (vp_Si Post) 0 0 (fun _ => False) := by
  refine kst_i (own := RJ4) (by decide) rfl (Nat.le_of_ble_eq_true rfl) ?_
  intro p e s m args below meth c Q ls S hSK hX hl hret
  have hx := S.1
  have hb := S.2.1
  have hl : lv_has ls 1 [(0, .int a0)] := hl
  unfold wJ4_canEncode at h
  refine lv_iload_n hx hb dJ4_canEncode_0 rfl (lv_at hl 0 rfl) ?_
  refine lv_if_lt (tgt := 15) hx hb dJ4_canEncode_1 (by decide) (fun c_1 => ?_) (fun c_1 => ?_)
  · replace h := h.1 c_1
    refine lv_iconst hx hb dJ4_canEncode_15 kc_0 ?_
    exact hret _ _ _ h (vz_nar vz_0) dJ4_canEncode_16
  · replace h := h.2 c_1
    refine lv_iload_n hx hb dJ4_canEncode_4 rfl (lv_at hl 0 rfl) ?_
    refine lv_sipush hx hb dJ4_canEncode_5 ks_255 ?_
    refine lv_icmp_gt (tgt := 15) hx hb dJ4_canEncode_8 (by decide) (fun c_2 => ?_) (fun c_2 => ?_)
    · replace h := h.1 c_2
      refine lv_iconst hx hb dJ4_canEncode_15 kc_0 ?_
      exact hret _ _ _ h (vz_nar vz_0) dJ4_canEncode_16
    · replace h := h.2 c_2
      refine lv_iconst hx hb dJ4_canEncode_11 kc_1 ?_
      refine lv_goto (tgt := 16) hx hb dJ4_canEncode_12 (by decide) ?_
      exact hret _ _ _ h (vz_nar vz_1) dJ4_canEncode_16
def wJ4_indexOfChar_l7 (n0 : Nat) (f0 : Nat → Int32) (a1 : Int32) (a2 : Int32) (a3 : Int32) (Post : Int32 → Prop) : Nat → Int32 → Int32 → Prop
  | 0, _, _ => False
  | n + 1, x4, x5 => (a3 ≤ x5 → (Post (-1 : Int32))) ∧ (¬ (a3 ≤ x5) → ((vp_in x5 n0 ∧ ((f0 (Int32.toNatClampNeg x5)) = x4 → (Post x5)) ∧ (¬ ((f0 (Int32.toNatClampNeg x5)) = x4) → (∀ v_4 : Int32, v_4 = x5 + (1 : Int32) → wJ4_indexOfChar_l7 n0 f0 a1 a2 a3 Post n x4 v_4)))))
def wJ4_indexOfChar (n0 : Nat) (f0 : Nat → Int32) (a1 : Int32) (a2 : Int32) (a3 : Int32) (Post : Int32 → Prop) : Prop := ∀ v_1 : Int32, v_1 = a1.toInt8.toInt32 → ∃ f, wJ4_indexOfChar_l7 n0 f0 a1 a2 a3 Post f v_1 a2
abbrev rJ4_indexOfChar : Room := { frames := 0, cells := 0, slots := 0, locals := 0 }
theorem cdJ4_indexOfChar : yJ4_indexOfChar.cls ≠ "java/lang/invoke/MethodHandle" ∧ yJ4_indexOfChar.cls ≠ "java/lang/invoke/VarHandle" ∧ (parseMethodDescriptor yJ4_indexOfChar.desc).map (fun d => d.parameters.length) = some 4 := by decide +kernel
set_option maxHeartbeats 4000000 in
set_option maxRecDepth 100000 in
theorem mtJ4_indexOfChar (l : Launch) {A : Nat → Prop} (b0 : Nat) (n0 : Nat) (f0 : Nat → Int32) (a1 : Int32) (a2 : Int32) (a3 : Int32) (Post : Int32 → Prop) (h : wJ4_indexOfChar n0 f0 a1 a2 a3 Post) : Met l yJ4_indexOfChar (ws_ yJ4_indexOfChar cJ4_indexOfChar 6 (some (.int))) rJ4_indexOfChar (kP [.ref b0, .int a1, .int a2, .int a3] A 1 b0 n0 f0) (vp_Si Post) 0 0 (fun _ => False) := by
  refine kst_i (own := RJ4) (by decide) rfl (Nat.le_of_ble_eq_true rfl) ?_
  intro p e s m args below meth c Q ls S hSK hX hl hret
  have hX4 : va_T .byte b0 n0 (fun j => .int (f0 j)) A s s.heap := hX
  have hx := S.1
  have hb := S.2.1
  have hl : lv_has ls 6 [(0, .ref b0), (1, .int a1), (2, .int a2), (3, .int a3)] := hl
  have L7 : ∀ (n : Nat) (x4 : Int32) (x5 : Int32) (ls : Array Slot), lv_has ls 6 [(0, .ref b0), (3, .int a3), (4, .int x4), (5, .int x5)] → wJ4_indexOfChar_l7 n0 f0 a1 a2 a3 Post n x4 x5 → W p l e rJ4_indexOfChar s m args below meth c s.heap [] 0 0 Q (F0 m 7 ls []) := by
    intro n
    induction n with
    | zero => intro x4 x5 ls hl h; rw [wJ4_indexOfChar_l7] at h; exact h.elim
    | succ n ih =>
      intro x4 x5 ls hl h
      rw [wJ4_indexOfChar_l7] at h
      refine lv_iload hx hb dJ4_indexOfChar_7 (lv_at hl 3 rfl) ?_
      refine lv_iload_n hx hb dJ4_indexOfChar_9 rfl (lv_at hl 1 rfl) ?_
      refine lv_icmp_ge (tgt := 31) hx hb dJ4_indexOfChar_10 (by decide) (fun c_2 => ?_) (fun c_2 => ?_)
      · replace h := h.1 c_2
        refine lv_iconst hx hb dJ4_indexOfChar_31 kc_m1 ?_
        exact hret _ _ _ h rfl dJ4_indexOfChar_32
      · replace h := h.2 c_2
        refine lv_aload_n hx hb dJ4_indexOfChar_13 rfl (lv_at hl 0 rfl) ?_
        refine lv_iload hx hb dJ4_indexOfChar_14 (lv_at hl 3 rfl) ?_
        obtain ⟨hi, h⟩ := h
        refine va_tb (v := .int (f0 (Int32.toNatClampNeg x5))) hx hb hX4 va_S.rf hi rfl dJ4_indexOfChar_16 ?_
        refine lv_iload hx hb dJ4_indexOfChar_17 (lv_at hl 2 rfl) ?_
        refine lv_icmp_ne (tgt := 25) hx hb dJ4_indexOfChar_19 (by decide) (fun c_3 => ?_) (fun c_3 => ?_)
        · replace h := h.2 c_3
          obtain ⟨v_4, e_v_4⟩ : ∃ y : Int32, y = x5 + (1 : Int32) := ⟨_, rfl⟩
          replace h := h v_4 e_v_4
          refine lv_iinc (v := v_4) (lv' := [(5, .int v_4), (0, .ref b0), (3, .int a3), (4, .int x4)]) hx hb dJ4_indexOfChar_25 hl (k := 3) rfl (by rw [kc_1, e_v_4]) (by decide) rfl (fun ls hl => ?_)
          refine lv_goto (tgt := 7) hx hb dJ4_indexOfChar_28 (by decide) ?_
          exact ih _ _ _ (lv_sub hl [1, 2, 3, 0] rfl) h
        · replace h := h.1 c_3
          refine lv_iload hx hb dJ4_indexOfChar_22 (lv_at hl 3 rfl) ?_
          exact hret _ _ _ h rfl dJ4_indexOfChar_24
  unfold wJ4_indexOfChar at h
  refine lv_iload_n hx hb dJ4_indexOfChar_0 rfl (lv_at hl 1 rfl) ?_
  refine lv_i2b hx hb dJ4_indexOfChar_1 rfl ?_
  refine lv_topi (fun v_1 e_v_1 => ?_)
  replace h := h v_1 e_v_1
  refine lv_istore (lv' := [(4, .int v_1), (0, .ref b0), (1, .int a1), (2, .int a2), (3, .int a3)]) hx hb dJ4_indexOfChar_2 hl (by decide) rfl (fun ls hl => ?_)
  refine lv_iload_n hx hb dJ4_indexOfChar_4 rfl (lv_at hl 3 rfl) ?_
  refine lv_istore (lv' := [(5, .int a2), (4, .int v_1), (0, .ref b0), (1, .int a1), (2, .int a2), (3, .int a3)]) hx hb dJ4_indexOfChar_5 hl (by decide) rfl (fun ls hl => ?_)
  obtain ⟨f, h⟩ := h
  exact L7 f _ _ _ (lv_sub hl [2, 5, 1, 0] rfl) h
def wJ4_indexOf (n0 : Nat) (f0 : Nat → Int32) (a1 : Int32) (a2 : Int32) (a3 : Int32) (Post : Int32 → Prop) : Prop := wJ4_canEncode a1 (fun r_1 => (r_1 = 0 → (Post (-1 : Int32))) ∧ (¬ (r_1 = 0) → (∀ v_3 : Int32, v_3 = (if a2 < (0 : Int32) then (0 : Int32) else a2) → ∀ v_4 : Int32, v_4 = (if (nI n0) < a3 then (nI n0) else a3) → (v_3 < v_4 → (wJ4_indexOfChar n0 f0 a1 v_3 v_4 (fun r_6 => Post r_6))) ∧ (¬ (v_3 < v_4) → (Post (-1 : Int32))))))
abbrev rJ4_indexOf : Room := { frames := 1, cells := 0, slots := 0, locals := 25 }
theorem cdJ4_indexOf : yJ4_indexOf.cls ≠ "java/lang/invoke/MethodHandle" ∧ yJ4_indexOf.cls ≠ "java/lang/invoke/VarHandle" ∧ (parseMethodDescriptor yJ4_indexOf.desc).map (fun d => d.parameters.length) = some 4 := by decide +kernel
set_option maxHeartbeats 4000000 in
set_option maxRecDepth 100000 in
theorem mtJ4_indexOf (l : Launch) {A : Nat → Prop} (b0 : Nat) (n0 : Nat) (f0 : Nat → Int32) (a1 : Int32) (a2 : Int32) (a3 : Int32) (Post : Int32 → Prop) (h : wJ4_indexOf n0 f0 a1 a2 a3 Post) : Met l yJ4_indexOf (ws_ yJ4_indexOf cJ4_indexOf 4 (some (.int))) rJ4_indexOf (kP [.ref b0, .int a1, .int a2, .int a3] A 1 b0 n0 f0) (vp_Si Post) 0 0 (fun _ => False) := by
  refine kst_i (own := RJ4) (by decide) rfl (Nat.le_of_ble_eq_true rfl) ?_
  intro p e s m args below meth c Q ls S hSK hX hl hret
  have hX4 : va_T .byte b0 n0 (fun j => .int (f0 j)) A s s.heap := hX
  have hx := S.1
  have hb := S.2.1
  have hl : lv_has ls 4 [(0, .ref b0), (1, .int a1), (2, .int a2), (3, .int a3)] := hl
  unfold wJ4_indexOf at h
  refine lv_iload_n hx hb dJ4_indexOf_0 rfl (lv_at hl 1 rfl) ?_
  refine ks_i (k := 2) (As := [.int a1]) (rest := []) S hSK (trivial : kX 2 A s s.heap 0 0 (fun _ => 0)) va_S.rf (mtJ4_canEncode l (A := A)  a1 _ h) (va_cwS 1 S.2.2.2.2 (lw_S q460 q461 q147 q462) rfl rfl rfl cdJ4_canEncode ⟨Nat.le_of_ble_eq_true rfl, Nat.le_of_ble_eq_true rfl⟩) rfl rfl hl.1 (Nat.le_of_ble_eq_true rfl) dJ4_indexOf_1 ⟨Nat.le_refl _, Nat.le_refl _⟩ (fun r_1 h => ?_)
  refine lv_if_ne (tgt := 9) hx hb dJ4_indexOf_4 (by decide) (fun c_2 => ?_) (fun c_2 => ?_)
  · replace h := h.2 c_2
    refine lv_iload_n hx hb dJ4_indexOf_9 rfl (lv_at hl 2 rfl) ?_
    refine lv_iconst hx hb dJ4_indexOf_10 kc_0 ?_
    refine va_mmax hx hb (S.2.2.1.trans hl.1.symm) S.2.2.2.1 (S.2.2.2.2 _ q463) (S.2.2.2.2 _ q464) (S.2.2.2.2 _ q150) (S.2.2.2.2 _ q465) (Nat.le_of_ble_eq_true rfl) (Nat.le_of_ble_eq_true rfl) (Nat.le_refl _) (Nat.le_refl _) dJ4_indexOf_11 ?_
    refine lv_topi (fun v_3 e_v_3 => ?_)
    replace h := h v_3 e_v_3
    refine lv_istore_n (lv' := [(2, .int v_3), (0, .ref b0), (1, .int a1), (3, .int a3)]) hx hb dJ4_indexOf_14 rfl hl (by decide) rfl (fun ls hl => ?_)
    refine lv_iload_n hx hb dJ4_indexOf_15 rfl (lv_at hl 3 rfl) ?_
    refine lv_aload_n hx hb dJ4_indexOf_16 rfl (lv_at hl 1 rfl) ?_
    refine va_tlen (v := nI n0) hx hb hX4 va_S.rf rfl dJ4_indexOf_17 ?_
    refine va_mmin hx hb (S.2.2.1.trans hl.1.symm) S.2.2.2.1 (S.2.2.2.2 _ q466) (S.2.2.2.2 _ q467) (S.2.2.2.2 _ q150) (S.2.2.2.2 _ q468) (Nat.le_of_ble_eq_true rfl) (Nat.le_of_ble_eq_true rfl) (Nat.le_refl _) (Nat.le_refl _) dJ4_indexOf_18 ?_
    refine lv_topi (fun v_4 e_v_4 => ?_)
    replace h := h v_4 e_v_4
    refine lv_istore_n (lv' := [(3, .int v_4), (2, .int v_3), (0, .ref b0), (1, .int a1)]) hx hb dJ4_indexOf_21 rfl hl (by decide) rfl (fun ls hl => ?_)
    refine lv_iload_n hx hb dJ4_indexOf_22 rfl (lv_at hl 1 rfl) ?_
    refine lv_iload_n hx hb dJ4_indexOf_23 rfl (lv_at hl 0 rfl) ?_
    refine lv_icmp_lt (tgt := 29) hx hb dJ4_indexOf_24 (by decide) (fun c_5 => ?_) (fun c_5 => ?_)
    · replace h := h.1 c_5
      refine lv_aload_n hx hb dJ4_indexOf_29 rfl (lv_at hl 2 rfl) ?_
      refine lv_iload_n hx hb dJ4_indexOf_30 rfl (lv_at hl 3 rfl) ?_
      refine lv_iload_n hx hb dJ4_indexOf_31 rfl (lv_at hl 1 rfl) ?_
      refine lv_iload_n hx hb dJ4_indexOf_32 rfl (lv_at hl 0 rfl) ?_
      refine ks_i (k := 1) (As := [.ref b0, .int a1, .int v_3, .int v_4]) (rest := []) S hSK (hX4 : kX 1 A s s.heap b0 n0 f0) va_S.rf (mtJ4_indexOfChar l (A := A) b0  n0 f0 a1 v_3 v_4 _ h) (va_cwS 4 S.2.2.2.2 (lw_S q469 q470 q147 q471) rfl rfl rfl cdJ4_indexOfChar ⟨Nat.le_of_ble_eq_true rfl, Nat.le_of_ble_eq_true rfl⟩) rfl rfl hl.1 (Nat.le_of_ble_eq_true rfl) dJ4_indexOf_33 ⟨Nat.le_refl _, Nat.le_refl _⟩ (fun r_6 h => ?_)
      exact hret _ _ _ h rfl dJ4_indexOf_36
    · replace h := h.2 c_5
      refine lv_iconst hx hb dJ4_indexOf_27 kc_m1 ?_
      exact hret _ _ _ h rfl dJ4_indexOf_28
  · replace h := h.1 c_2
    refine lv_iconst hx hb dJ4_indexOf_7 kc_m1 ?_
    exact hret _ _ _ h rfl dJ4_indexOf_8
def wJ3_indexOf_2 (n0 : Nat) (f0 : Nat → Int32) (a1 : Int32) (a2 : Int32) (Post : Int32 → Prop) : Prop := wJ3_isLatin1 n0 f0 (fun r_1 => (r_1 = 0 → (wJ3_length n0 f0 (fun r_3 => False))) ∧ (¬ (r_1 = 0) → (wJ3_length n0 f0 (fun r_4 => wJ4_indexOf n0 f0 a1 a2 r_4 (fun r_5 => Post r_5)))))
abbrev rJ3_indexOf_2 : Room := { frames := 2, cells := 0, slots := 0, locals := 48 }
theorem cdJ3_indexOf_2 : yJ3_indexOf_2.cls = RJ3 ∧ yJ3_indexOf_2.cls ≠ "java/lang/invoke/MethodHandle" ∧ yJ3_indexOf_2.cls ≠ "java/lang/invoke/VarHandle" ∧ (parseMethodDescriptor yJ3_indexOf_2.desc).map (fun d => d.parameters.length) = some 2 := by decide +kernel
set_option maxHeartbeats 4000000 in
set_option maxRecDepth 100000 in
theorem mtJ3_indexOf_2 (l : Launch) {A : Nat → Prop} (b0 : Nat) (n0 : Nat) (f0 : Nat → Int32) (a1 : Int32) (a2 : Int32) (Post : Int32 → Prop) (h : wJ3_indexOf_2 n0 f0 a1 a2 Post) : Met l yJ3_indexOf_2 (ws_ yJ3_indexOf_2 cJ3_indexOf_2 3 (some (.int))) rJ3_indexOf_2 (kP [.ref b0, .int a1, .int a2] A 0 b0 n0 f0) (vp_Si Post) 0 0 (fun _ => False) := by
  refine kst_i (own := RJ3) (by decide) rfl (Nat.le_of_ble_eq_true rfl) ?_
  intro p e s m args below meth c Q ls S hSK hX hl hret
  have hX : SC A s s.heap b0 n0 f0 := hX
  obtain ⟨bv, hX3, hX4⟩ := hX.2.2
  have hx := S.1
  have hb := S.2.1
  have hl : lv_has ls 3 [(0, .ref b0), (1, .int a1), (2, .int a2)] := hl
  unfold wJ3_indexOf_2 at h
  refine lv_aload_n hx hb dJ3_indexOf_2_0 rfl (lv_at hl 0 rfl) ?_
  refine kc_i (As := []) (rest := []) S hSK hX va_S.rf (mtJ3_isLatin1 l (A := A) b0  n0 f0 _ h) (cwV 0 S.2.2.2.2 (lw_V q405 q406 q407 q146 q408) rfl rfl rfl cdJ3_isLatin1 ⟨Nat.le_of_ble_eq_true rfl, Nat.le_of_ble_eq_true rfl⟩) rfl rfl hl.1 (Nat.le_of_ble_eq_true rfl) dJ3_indexOf_2_1 ⟨Nat.le_refl _, Nat.le_refl _⟩ (fun r_1 h => ?_)
  refine lv_if_eq (tgt := 23) hx hb dJ3_indexOf_2_4 (by decide) (fun c_2 => ?_) (fun c_2 => ?_)
  · replace h := h.1 c_2
    refine lv_aload_n hx hb dJ3_indexOf_2_23 rfl (lv_at hl 0 rfl) ?_
    refine vk_getf hx hb hX3 va_S.rf S.2.2.2.1 (S.2.2.2.2 _ q2112) (fun _ h => h) dJ3_indexOf_2_24 ?_
    refine lv_iload_n hx hb dJ3_indexOf_2_27 rfl (lv_at hl 1 rfl) ?_
    refine lv_iload_n hx hb dJ3_indexOf_2_28 rfl (lv_at hl 2 rfl) ?_
    refine lv_aload_n hx hb dJ3_indexOf_2_29 rfl (lv_at hl 0 rfl) ?_
    refine kc_i (As := []) (rest := [.int a2, .int a1, .ref bv]) S hSK hX va_S.rf (mtJ3_length l (A := A) b0  n0 f0 _ h) (cwV 0 S.2.2.2.2 (lw_V q456 q392 q393 q146 q394) rfl rfl rfl cdJ3_length ⟨Nat.le_of_ble_eq_true rfl, Nat.le_of_ble_eq_true rfl⟩) rfl rfl hl.1 (Nat.le_of_ble_eq_true rfl) dJ3_indexOf_2_30 ⟨Nat.le_refl _, Nat.le_refl _⟩ (fun r_3 h => ?_)
    exact h.elim
  · replace h := h.2 c_2
    refine lv_aload_n hx hb dJ3_indexOf_2_7 rfl (lv_at hl 0 rfl) ?_
    refine vk_getf hx hb hX3 va_S.rf S.2.2.2.1 (S.2.2.2.2 _ q2112) (fun _ h => h) dJ3_indexOf_2_8 ?_
    refine lv_iload_n hx hb dJ3_indexOf_2_11 rfl (lv_at hl 1 rfl) ?_
    refine lv_iload_n hx hb dJ3_indexOf_2_12 rfl (lv_at hl 2 rfl) ?_
    refine lv_aload_n hx hb dJ3_indexOf_2_13 rfl (lv_at hl 0 rfl) ?_
    refine kc_i (As := []) (rest := [.int a2, .int a1, .ref bv]) S hSK hX va_S.rf (mtJ3_length l (A := A) b0  n0 f0 _ h) (cwV 0 S.2.2.2.2 (lw_V q456 q392 q393 q146 q394) rfl rfl rfl cdJ3_length ⟨Nat.le_of_ble_eq_true rfl, Nat.le_of_ble_eq_true rfl⟩) rfl rfl hl.1 (Nat.le_of_ble_eq_true rfl) dJ3_indexOf_2_14 ⟨Nat.le_refl _, Nat.le_refl _⟩ (fun r_4 h => ?_)
    refine ks_i (k := 1) (As := [.ref bv, .int a1, .int a2, .int r_4]) (rest := []) S hSK (hX4 : kX 1 A s s.heap bv n0 f0) va_S.rf (mtJ4_indexOf l (A := A) bv  n0 f0 a1 a2 r_4 _ h) (va_cwS 4 S.2.2.2.2 (lw_S q457 q458 q147 q459) rfl rfl rfl cdJ4_indexOf ⟨Nat.le_of_ble_eq_true rfl, Nat.le_of_ble_eq_true rfl⟩) rfl rfl hl.1 (Nat.le_of_ble_eq_true rfl) dJ3_indexOf_2_17 ⟨Nat.le_refl _, Nat.le_refl _⟩ (fun r_5 h => ?_)
    refine lv_goto (tgt := 36) hx hb dJ3_indexOf_2_20 (by decide) ?_
    exact hret _ _ _ h rfl dJ3_indexOf_2_36
def wJ3_indexOf (n0 : Nat) (f0 : Nat → Int32) (a1 : Int32) (Post : Int32 → Prop) : Prop := wJ3_indexOf_2 n0 f0 a1 (0 : Int32) (fun r_1 => Post r_1)
abbrev rJ3_indexOf : Room := { frames := 3, cells := 0, slots := 0, locals := 70 }
theorem cdJ3_indexOf : yJ3_indexOf.cls = RJ3 ∧ yJ3_indexOf.cls ≠ "java/lang/invoke/MethodHandle" ∧ yJ3_indexOf.cls ≠ "java/lang/invoke/VarHandle" ∧ (parseMethodDescriptor yJ3_indexOf.desc).map (fun d => d.parameters.length) = some 1 := by decide +kernel
set_option maxHeartbeats 4000000 in
set_option maxRecDepth 100000 in
theorem mtJ3_indexOf (l : Launch) {A : Nat → Prop} (b0 : Nat) (n0 : Nat) (f0 : Nat → Int32) (a1 : Int32) (Post : Int32 → Prop) (h : wJ3_indexOf n0 f0 a1 Post) : Met l yJ3_indexOf (ws_ yJ3_indexOf cJ3_indexOf 2 (some (.int))) rJ3_indexOf (kP [.ref b0, .int a1] A 0 b0 n0 f0) (vp_Si Post) 0 0 (fun _ => False) := by
  refine kst_i (own := RJ3) (by decide) rfl (Nat.le_of_ble_eq_true rfl) ?_
  intro p e s m args below meth c Q ls S hSK hX hl hret
  have hX : SC A s s.heap b0 n0 f0 := hX
  obtain ⟨bv, hX3, hX4⟩ := hX.2.2
  have hx := S.1
  have hb := S.2.1
  have hl : lv_has ls 2 [(0, .ref b0), (1, .int a1)] := hl
  unfold wJ3_indexOf at h
  refine lv_aload_n hx hb dJ3_indexOf_0 rfl (lv_at hl 0 rfl) ?_
  refine lv_iload_n hx hb dJ3_indexOf_1 rfl (lv_at hl 1 rfl) ?_
  refine lv_iconst hx hb dJ3_indexOf_2 kc_0 ?_
  refine kc_i (As := [.int a1, .int (0 : Int32)]) (rest := []) S hSK hX va_S.rf (mtJ3_indexOf_2 l (A := A) b0  n0 f0 a1 (0 : Int32) _ h) (cwV 2 S.2.2.2.2 (lw_V q452 q453 q454 q146 q455) rfl rfl rfl cdJ3_indexOf_2 ⟨Nat.le_of_ble_eq_true rfl, Nat.le_of_ble_eq_true rfl⟩) rfl rfl hl.1 (Nat.le_of_ble_eq_true rfl) dJ3_indexOf_3 ⟨Nat.le_refl _, Nat.le_refl _⟩ (fun r_1 h => ?_)
  exact hret _ _ _ h rfl dJ3_indexOf_6
