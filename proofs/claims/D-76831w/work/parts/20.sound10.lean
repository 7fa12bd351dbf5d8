/-! SOUNDNESS: the walk -/
set_option maxRecDepth 100000
theorem hv_his {y : MethodName} {m : Nat} {rm : Room} (hy : y = hv_yn m) : ∀ (args : Array Value) (s : State) (mi : MethodId), (headSpec (hv_ws m) rm).pre.before args s = true → s.methodNamed? y = some mi → ∃ meth c, s.vm.method? mi = some meth ∧ meth.code = some c ∧ c.code = hv_bc m ∧ c.maxLocals = hv_mL m ∧ meth.sig.returnType = hv_rt m ∧ meth.locks = false ∧ c.exceptionTable.toList = tableOf (hv_hh m) := by
  intro args s mi h hn
  subst hy
  have hw := atoms_spec (ws := hv_ws m) h _ List.mem_cons_self
  cases hnh : hv_nh m with
  | true =>
    rw [hv_cw_n hnh] at hw
    obtain ⟨meth, c, h1, h2, h3, h4, h5, h6, h7, -⟩ := Cond.code_spec hn hw
    refine ⟨meth, c, h1, h2, h3, h4, h5, h6, ?_⟩
    rw [Array.isEmpty_iff.mp h7]
    have : hv_hh m = [] := by
      unfold hv_hh
      unfold hv_nh at hnh
      simp only [Bool.not_eq_true', Bool.or_eq_false_iff, beq_eq_false_iff_ne, ne_eq] at hnh
      rw [if_neg hnh.1, if_neg hnh.2]
    rw [this]
    rfl
  | false =>
    rw [hv_cw_w hnh] at hw
    obtain ⟨m9, meth, c, hn9, h1, h2, h3, h4, h6, h5, h7, -⟩ := Cond.codeWith_spec hw
    cases hn.symm.trans hn9
    exact ⟨meth, c, h1, h2, h3, h4, h5, h7, by rw [← h6, table_eq]⟩
theorem hv_ini_name {m : Nat} (hm : m < 349) (h : hv_ini m = true) : (hv_yn m).name = "<init>" := by
  have z := List.all_eq_true.mp hv_pfks m (List.mem_range.mpr hm)
  unfold hv_pfk at z
  rw [h] at z
  simp only [Bool.and_eq_true, beq_iff_eq] at z
  exact of_decide_eq_true z.1.symm
theorem hv_pfk_of {m : Nat} (hm : m < 349) {pc len : Nat} {I : Instr} (hmem : (pc, I, len) ∈ hv_cd m) : ∀ i, I = .putfield i → ∀ k cs ty, hv_fr (hv_ow m) i = some (k, cs, ty, true) → ∀ c ∈ cs, (hv_T c k).1 = hv_on (hv_ow m) := by
  intro i hI k cs ty hf c hc
  have z := List.all_eq_true.mp hv_pfks m (List.mem_range.mpr hm)
  unfold hv_pfk at z
  simp only [Bool.and_eq_true] at z
  have y := List.all_eq_true.mp z.2 _ hmem
  subst hI
  simp only [hf] at y
  exact of_decide_eq_true (List.all_eq_true.mp y c hc)
theorem hv_code_of {m : Nat} (hm : m < 349) {pc len : Nat} {I : Instr} (hmem : (pc, I, len) ∈ hv_cd m) : decode (hv_bc m) pc = .ok (I, len) ∧ hv_lok I len = true := by
  have z := List.all_eq_true.mp (show (hv_cd m).all _ = true from hv_dks m hm) _ hmem
  simp only [Bool.and_eq_true, decide_eq_true_eq] at z
  exact z
theorem hv_hd_none {m pc : Nat} (h : hv_hd m pc = none) : ∀ x ∈ tableOf (hv_hh m), covers x pc = false := by
  intro x hx
  unfold hv_hh at hx
  by_cases h30 : m = 30
  · subst h30
    rw [if_pos rfl] at hx
    simp only [tableOf, List.map_cons, List.map_nil, List.mem_singleton] at hx
    subst hx
    by_cases z : pc < 9
    · have : hv_hd 30 pc = some 10 := by
        match pc, z with
        | 0, _ => rfl
        | 1, _ => rfl
        | 2, _ => rfl
        | 3, _ => rfl
        | 4, _ => rfl
        | 5, _ => rfl
        | 6, _ => rfl
        | 7, _ => rfl
        | 8, _ => rfl
      rw [this] at h; cases h
    · simp [covers]; omega
  · rw [if_neg h30] at hx
    by_cases h314 : m = 314
    · subst h314
      rw [if_pos rfl] at hx
      simp only [tableOf, List.map_cons, List.map_nil, List.mem_singleton] at hx
      subst hx
      by_cases z : pc < 27
      · exfalso
        have : (hv_hd 314 pc).isSome = true := by
          have hall : (List.range 27).all (fun pc => (hv_hd 314 pc).isSome) = true := by decide +kernel
          exact List.all_eq_true.mp hall pc (List.mem_range.mpr z)
        rw [h] at this; cases this
      · simp [covers]; omega
    · rw [if_neg h314] at hx
      cases hx
theorem hv_hd_some {m pc t : Nat} (h : hv_hd m pc = some t) : ∃ x, tableOf (hv_hh m) = [x] ∧ covers x pc = true ∧ x.catchType = 419 ∧ x.handlerPc = t ∧ hv_on (hv_ow m) = "HallOfClaims" := by
  by_cases h30 : m = 30
  · subst h30
    refine ⟨_, rfl, ?_, rfl, ?_, by decide +kernel⟩
    · by_cases z : pc < 9
      · simp [covers]; exact z
      · have : hv_hd 30 pc = none := by
          unfold hv_hd
          rw [show (hv_hhs.lookup 30).getD [] = [(0, 9, 10)] from rfl]
          simp; omega
        rw [this] at h; cases h
    · by_cases z : pc < 9
      · have : hv_hd 30 pc = some 10 := by
          unfold hv_hd
          rw [show (hv_hhs.lookup 30).getD [] = [(0, 9, 10)] from rfl]
          simp [z]
        rw [this] at h; exact Option.some.inj h
      · have : hv_hd 30 pc = none := by
          unfold hv_hd
          rw [show (hv_hhs.lookup 30).getD [] = [(0, 9, 10)] from rfl]
          simp; omega
        rw [this] at h; cases h
  · by_cases h314 : m = 314
    · subst h314
      refine ⟨_, rfl, ?_, rfl, ?_, by decide +kernel⟩
      · by_cases z : pc < 27
        · simp [covers]; exact z
        · have : hv_hd 314 pc = none := by
            unfold hv_hd
            rw [show (hv_hhs.lookup 314).getD [] = [(0, 27, 28)] from rfl]
            simp; omega
          rw [this] at h; cases h
      · by_cases z : pc < 27
        · have : hv_hd 314 pc = some 28 := by
            unfold hv_hd
            rw [show (hv_hhs.lookup 314).getD [] = [(0, 27, 28)] from rfl]
            simp [z]
          rw [this] at h; exact Option.some.inj h
        · have : hv_hd 314 pc = none := by
            unfold hv_hd
            rw [show (hv_hhs.lookup 314).getD [] = [(0, 27, 28)] from rfl]
            simp; omega
          rw [this] at h; cases h
    · have : hv_hd m pc = none := by
        unfold hv_hd
        have : hv_hhs.lookup m = none := by
          simp [hv_hhs, List.lookup, h30, h314]
          have e1 : (m == 30) = false := by simpa using h30
          have e2 : (m == 314) = false := by simpa using h314
          simp [e1, e2]
        rw [this]
        rfl
      rw [this] at h; cases h
theorem hv_xc_cls {q : Nat} {h : hv_H} (hx : hv_xc q h = true) : hv_cls (h.2.2 q) = 19 ∨ hv_cls (h.2.2 q) = 21 := by
  unfold hv_xc at hx
  simpa using hx
theorem hv_xcast {a0 : Array Value} {s s0 : State} {args : Array Value} (hz : hv_Z s0 a0) (hW : s0.WarmedH s.vm) {q : Nat} {h : hv_H} (hx : hv_xc q h = true) : (Cond.castable (hv_cn (hv_cls (h.2.2 q))) "HallOfClaims$Refusal").before args s = true := by
  rcases hv_xc_cls hx with e | e <;> rw [e]
  · exact va_Nw.use rfl (va_Nw.warmC hW (va_Nw.of rfl (hz.1 (Cond.castable "HallOfClaims$Refused" "HallOfClaims$Refusal") (lw_at lw_m10 126 rfl))))
  · exact va_Nw.use rfl (va_Nw.warmC hW (va_Nw.of rfl (hz.1 (Cond.castable "HallOfClaims$Fault" "HallOfClaims$Refusal") (lw_at lw_m10 125 rfl))))
theorem hv_clk419 : Cond.classLink "HallOfClaims" 419 "HallOfClaims$Refusal" ∈ lw_all := lw_g (lw_at lw_m2 236 rfl) rfl
