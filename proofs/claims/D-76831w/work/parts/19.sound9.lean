/-! SOUNDNESS: calls of the abstract machine, the walk -/
set_option maxRecDepth 100000
section
variable (s0 : State) (D : va_G) (aC : Nat → ClassId) (rho : Nat → Nat) (B : Nat) (H0 : Heap) (fx : Nat → va_E)
def hv_Pc (as : List Value) (h : hv_H) : Array Value → State → Prop := fun a st => a = (as.map (hv_cv rho)).toArray ∧ s0.WarmedH st.vm ∧ hv_HR D aC rho B H0 fx h st.heap
def hv_Qc (r : hv_R) : Array Value → State → Outcome → State → Prop := fun _ _ o t => ∃ v, r.1 = .inl v ∧ o = .returned (v.map (hv_cv rho)) ∧ hv_HR D aC rho B H0 fx r.2 t.heap
def hv_XC (r : hv_R) : String → Addr → State → State → Prop := fun E q _ t => ∃ qa, r.1 = .inr qa ∧ q = rho qa ∧ hv_xc qa r.2 = true ∧ hv_HR D aC rho B H0 fx r.2 t.heap ∧ E = hv_cn (hv_cls (r.2.2.2 qa))
end
/-- tables of calls: tags and kinds agree; targets and receivers are known -/
theorem hv_tgk : (List.range 44).all (fun o => (hv_mls.getD o []).all (fun e => (e.2.1 != 0 || decide (hv_lop o e.1 ≤ 1)) && (e.2.1 != 1 || decide (2 ≤ hv_lop o e.1)))) = true := by decide +kernel
theorem hv_llk : (List.range 44).all (fun o => (hv_ll o).all (fun q => decide (0 < q.2.2) && decide (q.2.2 < 349) && decide (q.2.1 < 34))) = true := by decide +kernel
theorem hv_mls44 {o : Nat} (h : ¬ o < 44) : hv_mls.getD o [] = [] := by
  have : hv_mls.length = 44 := by decide +kernel
  rw [List.getD_eq_getElem?_getD, List.getElem?_eq_none (by omega)]
  rfl
theorem hv_tg {o i tag : Nat} {ts : List (Nat × Nat)} (h : hv_ml o i = some (tag, ts)) : (tag = 0 → hv_lop o i ≤ 1) ∧ (tag = 1 → 2 ≤ hv_lop o i) := by
  have hm : (i, (tag, ts)) ∈ hv_mls.getD o [] := hv_lookup_mem h
  by_cases ho : o < 44
  · have z := List.all_eq_true.mp (List.all_eq_true.mp hv_tgk o (List.mem_range.mpr ho)) _ hm
    simp only [Bool.and_eq_true, Bool.or_eq_true, bne_iff_ne, ne_eq, decide_eq_true_eq] at z
    exact ⟨fun e => z.1.resolve_left (fun y => y e), fun e => z.2.resolve_left (fun y => y e)⟩
  · rw [hv_mls44 ho] at hm; cases hm
theorem hv_ll_mem {o i tag : Nat} {ts : List (Nat × Nat)} {c t : Nat} (h : hv_ml o i = some (tag, ts)) (hct : (c, t) ∈ ts) : (i, c, t) ∈ hv_ll o := by
  have hm : (i, (tag, ts)) ∈ hv_mls.getD o [] := hv_lookup_mem h
  unfold hv_ll
  exact List.mem_flatMap.mpr ⟨_, hm, List.mem_map.mpr ⟨(c, t), hct, rfl⟩⟩
theorem hv_ll_ok {o : Nat} {q : Nat × Nat × Nat} (h : q ∈ hv_ll o) : 0 < q.2.2 ∧ q.2.2 < 349 ∧ q.2.1 < 34 := by
  by_cases ho : o < 44
  · have z := List.all_eq_true.mp (List.all_eq_true.mp hv_llk o (List.mem_range.mpr ho)) _ h
    simp only [Bool.and_eq_true, decide_eq_true_eq] at z
    exact ⟨z.1.1, z.1.2, z.2⟩
  · unfold hv_ll at h
    rw [hv_mls44 ho] at h
    cases h
theorem hv_pop_inv {n : Nat} {st as r : List Value} (h : hv_pop n st = some (as, r)) : st = as.reverse ++ r ∧ as.length = n := by
  unfold hv_pop at h
  split at h
  · rename_i hn
    cases h
    refine ⟨by simp, by simp [hn]⟩
  · cases h
/-- a call, by its entry -/
theorem hv_call_inv {d m len pc : Nat} {I : Instr} {L : hv_L} {st : List Value} {h h' : hv_H} {m' pc' : Nat} {as st' : List Value} (hopk : (match I with
    | .invokestatic i => (hv_ml (hv_ow m) i).isNone || hv_lop (hv_ow m) i == 0
    | .invokespecial i => (hv_ml (hv_ow m) i).isNone || hv_lop (hv_ow m) i == 1 || hv_lop (hv_ow m) i == 2
    | .invokevirtual i => (hv_ml (hv_ow m) i).isNone || hv_lop (hv_ow m) i == 3
    | .invokeinterface i _ => (hv_ml (hv_ow m) i).isNone || hv_lop (hv_ow m) i == 4
    | _ => true) = true) (hlk : hv_lok I len = true) (hh : hv_heap d m I len pc L st h = some (.inr (.inr (.inl (m', as, pc', st', h'))))) :
    h' = h ∧ pc' = pc + len ∧ hv_fit8 st' = true ∧ st = as.reverse ++ st' ∧ as.length = hv_np m' ∧ ∃ i n c, I = hv_opI (hv_lop (hv_ow m) i) i n ∧ len = hv_opL (hv_lop (hv_ow m) i) ∧ (i, c, m') ∈ hv_ll (hv_ow m) ∧ (match hv_lop (hv_ow m) i with
      | 0 => True
      | 1 => ∃ (b : Nat) (Bs : List Value), as = .ref b :: Bs
      | _ => ∃ (b : Nat) (Bs : List Value), as = .ref b :: Bs ∧ hv_cls (h.2.2 b) = c) := by
  unfold hv_heap at hh
  split at hh
  case h_24 i =>
    cases (eq_of_beq hlk : len = 3)
    unfold hv_cl0 at hh
    split at hh
    · rename_i x m1 ts hfq
      unfold hv_cal at hh
      split at hh
      · cases hh
      · rename_i as1 r1 hp
        split at hh
        · rename_i hf
          cases hh
          obtain ⟨e1, e2⟩ := hv_pop_inv hp
          have hop : hv_lop (hv_ow m) i = 0 := by
            simp only [hfq, Option.isNone_some, Bool.false_or, beq_iff_eq] at hopk
            exact hopk
          refine ⟨rfl, rfl, hf, e1, e2, i, 0, x, ?_, ?_, hv_ll_mem hfq List.mem_cons_self, ?_⟩
          · rw [hop]; rfl
          · rw [hop]; rfl
          · rw [hop]; trivial
        · cases hh
    · unfold hv_cpy hv_go at hh
      split at hh
      · split at hh <;> cases hh
      · cases hh
    · cases hh
  case h_25 i =>
    cases (eq_of_beq hlk : len = 3)
    unfold hv_cl2 at hh
    split at hh
    · rename_i x m1 ts hfq
      split at hh
      · rename_i a as1 r1 hp
        split at hh
        · rename_i hf
          cases hh
          obtain ⟨e1, e2⟩ := hv_pop_inv hp
          have hop : hv_lop (hv_ow m) i = 1 := by
            simp only [hfq, Option.isNone_some, Bool.false_or, Bool.or_eq_true, beq_iff_eq] at hopk
            have := (hv_tg hfq).1 rfl
            omega
          refine ⟨rfl, rfl, hf, e1, e2, i, 0, x, ?_, ?_, hv_ll_mem hfq List.mem_cons_self, ?_⟩
          · rw [hop]; rfl
          · rw [hop]; rfl
          · rw [hop]; exact ⟨_, _, rfl⟩
        · cases hh
      · cases hh
    · rename_i ts hfq
      unfold hv_dis at hh
      split at hh
      · rename_i a as1 r1 hp
        split at hh
        · rename_i m1 hl
          split at hh
          · rename_i hnp
            split at hh
            · rename_i hf
              cases hh
              obtain ⟨e1, e2⟩ := hv_pop_inv hp
              have hop : hv_lop (hv_ow m) i = 2 := by
                simp only [hfq, Option.isNone_some, Bool.false_or, Bool.or_eq_true, beq_iff_eq] at hopk
                have := (hv_tg hfq).2 rfl
                omega
              refine ⟨rfl, rfl, hf, e1, e2.trans hnp.symm, i, 0, _, ?_, ?_, hv_ll_mem hfq (hv_lookup_mem hl), ?_⟩
              · rw [hop]; rfl
              · rw [hop]; rfl
              · rw [hop]; exact ⟨_, _, rfl, rfl⟩
            · cases hh
          · cases hh
        · cases hh
      · cases hh
    · split at hh
      · split at hh <;> cases hh
      · cases hh
    · split at hh
      · split at hh <;> cases hh
      · cases hh
    · cases hh
  case h_26 i =>
    cases (eq_of_beq hlk : len = 3)
    unfold hv_cl1 at hh
    split at hh
    · rename_i ts hfq
      unfold hv_dis at hh
      split at hh
      · rename_i a as1 r1 hp
        split at hh
        · rename_i m1 hl
          split at hh
          · rename_i hnp
            split at hh
            · rename_i hf
              cases hh
              obtain ⟨e1, e2⟩ := hv_pop_inv hp
              have hop : hv_lop (hv_ow m) i = 3 := by
                simp only [hfq, Option.isNone_some, Bool.false_or, beq_iff_eq] at hopk
                exact hopk
              refine ⟨rfl, rfl, hf, e1, e2.trans hnp.symm, i, 0, _, ?_, ?_, hv_ll_mem hfq (hv_lookup_mem hl), ?_⟩
              · rw [hop]; rfl
              · rw [hop]; rfl
              · rw [hop]; exact ⟨_, _, rfl, rfl⟩
            · cases hh
          · cases hh
        · cases hh
      · cases hh
    · cases hh
  case h_27 i n =>
    cases (eq_of_beq hlk : len = 5)
    unfold hv_cl1 at hh
    split at hh
    · rename_i ts hfq
      unfold hv_dis at hh
      split at hh
      · rename_i a as1 r1 hp
        split at hh
        · rename_i m1 hl
          split at hh
          · rename_i hnp
            split at hh
            · rename_i hf
              cases hh
              obtain ⟨e1, e2⟩ := hv_pop_inv hp
              have hop : hv_lop (hv_ow m) i = 4 := by
                simp only [hfq, Option.isNone_some, Bool.false_or, beq_iff_eq] at hopk
                exact hopk
              refine ⟨rfl, rfl, hf, e1, e2.trans hnp.symm, i, n, _, ?_, ?_, hv_ll_mem hfq (hv_lookup_mem hl), ?_⟩
              · rw [hop]; rfl
              · rw [hop]; rfl
              · rw [hop]; exact ⟨_, _, rfl, rfl⟩
            · cases hh
          · cases hh
        · cases hh
      · cases hh
    · cases hh
  all_goals (try unfold hv_gf hv_go at hh); (try unfold hv_pfd hv_go at hh); (try unfold hv_ldI hv_go at hh); (try unfold hv_ldJ hv_go at hh); (try unfold hv_ldA hv_go at hh); (try unfold hv_stI hv_go at hh); (try unfold hv_stC hv_go at hh); (try unfold hv_stB hv_go at hh); (try unfold hv_stJ hv_go at hh); (try unfold hv_stA hv_go at hh); (try unfold hv_alen hv_go at hh); (try unfold hv_new hv_go at hh); (try unfold hv_newa hv_go at hh); (try unfold hv_cast hv_go at hh); (try unfold hv_inst hv_go at hh); (try unfold hv_kst hv_go at hh); (try unfold hv_acm hv_go at hh)
  all_goals (repeat' (split at hh))
  all_goals cases hh
