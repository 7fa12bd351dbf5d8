/-! SOUNDNESS of the instructions that touch neither heap nor calls -/
set_option maxRecDepth 100000
def hv_cv (rho : Nat → Nat) (v : Value) : Value := match v with
  | .ref a => .ref (rho a)
  | v => v
theorem hv_cv_cat (rho : Nat → Nat) (v : Value) : (hv_cv rho v).category = v.category := by cases v <;> rfl
def hv_ps (L : hv_L) (i : Nat) : Option Value := match L[i]? with
  | some (some v) => if v.category = 1 ∨ L[i + 1]? = some none then some v else none
  | _ => none
def hv_li (rho : Nat → Nat) (L : hv_L) : List (Nat × Value) := (List.range L.length).filterMap (fun i => (hv_ps L i).map (fun v => (i, hv_cv rho v)))
def hv_LS (rho : Nat → Nat) (L : hv_L) (ls : Array Slot) : Prop := lv_has ls L.length (hv_li rho L)
theorem hv_ps_some {L : hv_L} {i : Nat} {v : Value} (h : hv_ps L i = some v) : L[i]? = some (some v) ∧ (v.category = 1 ∨ L[i + 1]? = some none) := by
  unfold hv_ps at h
  split at h
  · rename_i w hw
    split at h
    · rename_i hc
      cases h
      exact ⟨hw, hc⟩
    · cases h
  · cases h
theorem hv_ps_of {L : hv_L} {i : Nat} {v : Value} (h : L[i]? = some (some v)) (hc : v.category = 1 ∨ L[i + 1]? = some none) : hv_ps L i = some v := by
  unfold hv_ps
  rw [h]
  simp only [hc, if_true]
theorem hv_li_mem {rho : Nat → Nat} {L : hv_L} {i : Nat} {v : Value} (h : hv_ps L i = some v) : (i, hv_cv rho v) ∈ hv_li rho L := by
  refine List.mem_filterMap.mpr ⟨i, List.mem_range.mpr ?_, by rw [h]; rfl⟩
  exact (List.getElem?_eq_some_iff.mp (hv_ps_some h).1).1
theorem hv_li_inv {rho : Nat → Nat} {L : hv_L} {q : Nat × Value} (h : q ∈ hv_li rho L) : ∃ v, hv_ps L q.1 = some v ∧ q.2 = hv_cv rho v := by
  obtain ⟨i, -, hi⟩ := List.mem_filterMap.mp h
  cases hp : hv_ps L i with
  | none => rw [hp] at hi; cases hi
  | some v =>
    rw [hp] at hi
    cases hi
    exact ⟨v, hp, rfl⟩
theorem hv_LS.get {rho : Nat → Nat} {L : hv_L} {ls : Array Slot} (h : hv_LS rho L ls) {i : Nat} {v : Value} (hi : L[i]? = some (some v)) (hc : v.category = 1 ∨ L[i + 1]? = some none) : ls[i]? = some (.val (hv_cv rho v)) := h.2.2 _ (hv_li_mem (hv_ps_of hi hc))
theorem hv_LS.st1 {rho : Nat → Nat} {L : hv_L} {ls' : Array Slot} {i : Nat} {v : Value} (hi : i < L.length) (hv : v.category = 1)
    (h : lv_has ls' L.length ((i, hv_cv rho v) :: (hv_li rho L).filter (fun q => !(q.1 == i) && !(q.1 + 1 == i && q.2.category == 2)))) : hv_LS rho (L.set i (some v)) ls' := by
  refine ⟨by rw [List.length_set]; exact h.1, h.2.1, fun q hq => ?_⟩
  obtain ⟨w, hw, e⟩ := hv_li_inv hq
  rw [e]
  obtain ⟨h1, h2⟩ := hv_ps_some hw
  by_cases hqi : q.1 = i
  · rw [hqi, List.getElem?_set_self hi] at h1
    cases h1
    rw [hqi]
    exact h.2.2 _ List.mem_cons_self
  · rw [List.getElem?_set_ne (Ne.symm hqi)] at h1
    have key : ∀ (hps : hv_ps L q.1 = some w) (hne : ¬ (q.1 + 1 = i ∧ w.category = 2)), ls'[q.1]? = some (.val (hv_cv rho w)) := by
      intro hps hne
      refine h.2.2 (q.1, hv_cv rho w) (List.mem_cons_of_mem _ (List.mem_filter.mpr ⟨hv_li_mem hps, ?_⟩))
      have a1 : (q.1 == i) = false := by simpa using hqi
      have a2 : (q.1 + 1 == i && (hv_cv rho w).category == 2) = false := by
        rw [hv_cv_cat]
        by_cases z : q.1 + 1 = i
        · have : ¬ w.category = 2 := fun y => hne ⟨z, y⟩
          simp [this]
        · simp [z]
      simp only [a1, a2]
      rfl
    rcases h2 with h2 | h2
    · exact key (hv_ps_of h1 (Or.inl h2)) (fun z => by omega)
    · by_cases z : q.1 + 1 = i
      · rw [z, List.getElem?_set_self hi] at h2
        cases h2
      · rw [List.getElem?_set_ne (Ne.symm z)] at h2
        exact key (hv_ps_of h1 (Or.inr h2)) (fun y => z y.1)
theorem hv_LS.st2 {rho : Nat → Nat} {L : hv_L} {ls' : Array Slot} {i : Nat} {v : Value} (hi : i + 1 < L.length)
    (h : lv_has ls' L.length ((i, hv_cv rho v) :: (hv_li rho L).filter (fun q => !(q.1 == i) && (!(q.1 == i + 1) && !(q.1 + 1 == i && q.2.category == 2))))) : hv_LS rho ((L.set i (some v)).set (i + 1) none) ls' := by
  have hi0 : i < L.length := by omega
  refine ⟨by rw [List.length_set, List.length_set]; exact h.1, h.2.1, fun q hq => ?_⟩
  obtain ⟨w, hw, e⟩ := hv_li_inv hq
  rw [e]
  obtain ⟨h1, h2⟩ := hv_ps_some hw
  by_cases hq1 : q.1 = i + 1
  · rw [hq1, List.getElem?_set_self (by rw [List.length_set]; exact hi)] at h1
    cases h1
  · rw [List.getElem?_set_ne (Ne.symm hq1)] at h1
    by_cases hqi : q.1 = i
    · rw [hqi, List.getElem?_set_self hi0] at h1
      cases h1
      rw [hqi]
      exact h.2.2 _ List.mem_cons_self
    · rw [List.getElem?_set_ne (Ne.symm hqi)] at h1
      have key : ∀ (hps : hv_ps L q.1 = some w) (hne : ¬ (q.1 + 1 = i ∧ w.category = 2)), ls'[q.1]? = some (.val (hv_cv rho w)) := by
        intro hps hne
        refine h.2.2 (q.1, hv_cv rho w) (List.mem_cons_of_mem _ (List.mem_filter.mpr ⟨hv_li_mem hps, ?_⟩))
        have a1 : (q.1 == i) = false := by simpa using hqi
        have a3 : (q.1 == i + 1) = false := by simpa using hq1
        have a2 : (q.1 + 1 == i && (hv_cv rho w).category == 2) = false := by
          rw [hv_cv_cat]
          by_cases z : q.1 + 1 = i
          · have : ¬ w.category = 2 := fun y => hne ⟨z, y⟩
            simp [this]
          · simp [z]
        simp only [a1, a2, a3]
        rfl
      rcases h2 with h2 | h2
      · exact key (hv_ps_of h1 (Or.inl h2)) (fun z => by omega)
      · rw [List.getElem?_set_ne (by omega)] at h2
        by_cases z : q.1 + 1 = i
        · rw [z, List.getElem?_set_self hi0] at h2
          cases h2
        · rw [List.getElem?_set_ne (Ne.symm z)] at h2
          exact key (hv_ps_of h1 (Or.inr h2)) (fun y => z y.1)
/-- the length of an instruction, as its row has it -/
def hv_lok (I : Instr) (len : Nat) : Bool := match I with
  | .bipush _ | .iload _ | .lload _ | .aload _ | .istore _ | .lstore _ | .astore _ | .ldc _ | .newarray _ => len == 2
  | .sipush _ | .iinc _ _ | .ifCond _ _ | .if_icmp _ _ | .if_acmp _ _ | .ifnull _ | .ifnonnull _ | .goto _ | .ldc_w _ | .ldc2_w _ | .getfield _ | .putfield _ | .getstatic _ | .new _ | .anewarray _ | .checkcast _ | .instanceof _ | .invokestatic _ | .invokevirtual _ | .invokespecial _ => len == 3
  | .invokeinterface _ _ => len == 5
  | .tableswitch _ _ _ _ | .lookupswitch _ _ => true
  | _ => len == 1
theorem hv_i2_inv {g : Int32 → Int32 → Int32} {pc : Nat} {L : hv_L} {st : List Value} {S : hv_S} (h : hv_i2 g pc L st = some S) : ∃ x y r, st = .int y :: .int x :: r ∧ S = (pc, L, .int (g x y) :: r) := by
  unfold hv_i2 at h
  split at h
  · cases h; exact ⟨_, _, _, rfl, rfl⟩
  · cases h
theorem hv_i1_inv {g : Int32 → Value} {pc : Nat} {L : hv_L} {st : List Value} {S : hv_S} (h : hv_i1 g pc L st = some S) : ∃ x r, st = .int x :: r ∧ S = (pc, L, g x :: r) := by
  unfold hv_i1 at h
  split at h
  · cases h; exact ⟨_, _, rfl, rfl⟩
  · cases h
theorem hv_l2_inv {g : Int64 → Int64 → Value} {pc : Nat} {L : hv_L} {st : List Value} {S : hv_S} (h : hv_l2 g pc L st = some S) : ∃ x y r, st = .long y :: .long x :: r ∧ S = (pc, L, g x y :: r) := by
  unfold hv_l2 at h
  split at h
  · cases h; exact ⟨_, _, _, rfl, rfl⟩
  · cases h
theorem hv_ldi_inv {i pc : Nat} {L : hv_L} {st : List Value} {S : hv_S} (h : hv_ldi i pc L st = some S) : ∃ x, L[i]? = some (some (.int x)) ∧ S = (pc, L, .int x :: st) := by
  unfold hv_ldi at h
  split at h
  · rename_i x hx
    cases h; exact ⟨x, hx, rfl⟩
  · cases h
theorem hv_ldj_inv {i pc : Nat} {L : hv_L} {st : List Value} {S : hv_S} (h : hv_ldj i pc L st = some S) : ∃ x, L[i]? = some (some (.long x)) ∧ L[i + 1]? = some none ∧ S = (pc, L, .long x :: st) := by
  unfold hv_ldj at h
  split at h
  · rename_i x hx
    split at h
    · rename_i hn
      cases h; exact ⟨x, hx, hn, rfl⟩
    · cases h
  · cases h
theorem hv_isR_cases {v : Value} (h : hv_isR v = true) : v = .null ∨ ∃ a, v = .ref a := by
  cases v <;> first | exact Or.inl rfl | exact Or.inr ⟨_, rfl⟩ | cases h
theorem hv_lda_inv {i pc : Nat} {L : hv_L} {st : List Value} {S : hv_S} (h : hv_lda i pc L st = some S) : ∃ v, L[i]? = some (some v) ∧ (v = .null ∨ ∃ a, v = .ref a) ∧ S = (pc, L, v :: st) := by
  unfold hv_lda at h
  split at h
  · rename_i v hv
    split at h
    · rename_i hr
      cases h; exact ⟨v, hv, hv_isR_cases hr, rfl⟩
    · cases h
  · cases h
theorem hv_sti_inv {i pc : Nat} {L : hv_L} {st : List Value} {S : hv_S} (h : hv_sti i pc L st = some S) : ∃ x r, st = .int x :: r ∧ i < L.length ∧ S = (pc, L.set i (some (.int x)), r) := by
  unfold hv_sti at h
  split at h
  · split at h
    · rename_i hl
      cases h; exact ⟨_, _, rfl, hl, rfl⟩
    · cases h
  · cases h
theorem hv_stj_inv {i pc : Nat} {L : hv_L} {st : List Value} {S : hv_S} (h : hv_stj i pc L st = some S) : ∃ x r, st = .long x :: r ∧ i + 1 < L.length ∧ S = (pc, (L.set i (some (.long x))).set (i + 1) none, r) := by
  unfold hv_stj at h
  split at h
  · split at h
    · rename_i hl
      cases h; exact ⟨_, _, rfl, hl, rfl⟩
    · cases h
  · cases h
theorem hv_sta_inv {i pc : Nat} {L : hv_L} {st : List Value} {S : hv_S} (h : hv_sta i pc L st = some S) : ∃ v r, st = v :: r ∧ (v = .null ∨ ∃ a, v = .ref a) ∧ i < L.length ∧ S = (pc, L.set i (some v), r) := by
  unfold hv_sta at h
  split at h
  · split at h
    · rename_i hr
      split at h
      · rename_i hl
        cases h; exact ⟨_, _, rfl, hv_isR_cases hr, hl, rfl⟩
      · cases h
    · cases h
  · cases h
theorem hv_inc_inv {i : Nat} {n : Int} {pc : Nat} {L : hv_L} {st : List Value} {S : hv_S} (h : hv_inc i n pc L st = some S) : ∃ x, L[i]? = some (some (.int x)) ∧ S = (pc, L.set i (some (.int (x + Int32.ofInt n))), st) := by
  unfold hv_inc at h
  split at h
  · rename_i x hx
    cases h; exact ⟨x, hx, rfl⟩
  · cases h
theorem hv_tgt_eq {pc : Nat} {off : Int} (h : hv_tok pc off = true) : (pc : Int) + off = ((hv_tgt pc off : Nat) : Int) := by
  unfold hv_tok at h
  unfold hv_tgt
  have := of_decide_eq_true h
  omega
section
variable {p : Program} {l : Launch} {e : Env} {R : Room} {s : State} {m : MethodId} {args : Array Value} {below : List Frame} {meth : Method} {c : Code} {H : Heap} {locs : List Loc} {cells slots : Nat} {Q : State → Prop}
variable {cc : ByteArray} {pc len : Nat} {ls : Array Slot} {rho : Nat → Nat} {L : hv_L} {st : List Value} {S : hv_S} {I : Instr}
set_option maxHeartbeats 4000000 in
theorem hv_pure_ok (hx : p.tables.exec = Jvm.exec) (hb : c.code = cc) (hd : decode cc pc = .ok (I, len)) (hlen : hv_lok I len = true) (hp : hv_pure I len pc L st = some S) (hl : hv_LS rho L ls)
    (k : ∀ ls', hv_LS rho S.2.1 ls' → W p l e R s m args below meth c H locs cells slots Q (F0 m S.1 ls' (S.2.2.map (hv_cv rho)))) : W p l e R s m args below meth c H locs cells slots Q (F0 m pc ls (st.map (hv_cv rho))) := by
  cases I with
  | iconst n =>
    cases hp; cases (eq_of_beq hlen : len = 1)
    exact lv_iconst hx hb hd rfl (k ls hl)
  | bipush n =>
    cases hp; cases (eq_of_beq hlen : len = 2)
    exact lv_bipush hx hb hd rfl (k ls hl)
  | sipush n =>
    cases hp; cases (eq_of_beq hlen : len = 3)
    exact lv_sipush hx hb hd rfl (k ls hl)
  | lconst n =>
    cases hp; cases (eq_of_beq hlen : len = 1)
    exact lv_lconst hx hb hd rfl (k ls hl)
  | aconst_null =>
    cases hp; cases (eq_of_beq hlen : len = 1)
    exact lv_null hx hb hd (k ls hl)
  | iload i =>
    obtain ⟨x, h1, rfl⟩ := hv_ldi_inv hp
    cases (eq_of_beq hlen : len = 2)
    exact lv_iload hx hb hd (hl.get h1 (Or.inl rfl)) (k ls hl)
  | iload_n i =>
    obtain ⟨x, h1, rfl⟩ := hv_ldi_inv hp
    cases (eq_of_beq hlen : len = 1)
    exact lv_iload_n hx hb hd rfl (hl.get h1 (Or.inl rfl)) (k ls hl)
  | lload i =>
    obtain ⟨x, h1, h2, rfl⟩ := hv_ldj_inv hp
    cases (eq_of_beq hlen : len = 2)
    exact lv_lload hx hb hd (hl.get h1 (Or.inr h2)) (k ls hl)
  | lload_n i =>
    obtain ⟨x, h1, h2, rfl⟩ := hv_ldj_inv hp
    cases (eq_of_beq hlen : len = 1)
    exact lv_lload_n hx hb hd rfl (hl.get h1 (Or.inr h2)) (k ls hl)
  | aload i =>
    obtain ⟨v, h1, h2, rfl⟩ := hv_lda_inv hp
    cases (eq_of_beq hlen : len = 2)
    rcases h2 with rfl | ⟨a, rfl⟩
    · exact lv_aloadN hx hb hd (hl.get h1 (Or.inl rfl)) (k ls hl)
    · exact lv_aload hx hb hd (hl.get h1 (Or.inl rfl)) (k ls hl)
  | aload_n i =>
    obtain ⟨v, h1, h2, rfl⟩ := hv_lda_inv hp
    cases (eq_of_beq hlen : len = 1)
    rcases h2 with rfl | ⟨a, rfl⟩
    · exact lv_aload_nN hx hb hd rfl (hl.get h1 (Or.inl rfl)) (k ls hl)
    · exact lv_aload_n hx hb hd rfl (hl.get h1 (Or.inl rfl)) (k ls hl)
  | istore i =>
    obtain ⟨x, r, rfl, h1, rfl⟩ := hv_sti_inv hp
    cases (eq_of_beq hlen : len = 2)
    exact lv_istore hx hb hd hl h1 rfl (fun ls' h' => k ls' (hv_LS.st1 (v := .int x) h1 rfl h'))
  | istore_n i =>
    obtain ⟨x, r, rfl, h1, rfl⟩ := hv_sti_inv hp
    cases (eq_of_beq hlen : len = 1)
    exact lv_istore_n hx hb hd rfl hl h1 rfl (fun ls' h' => k ls' (hv_LS.st1 (v := .int x) h1 rfl h'))
  | lstore i =>
    obtain ⟨x, r, rfl, h1, rfl⟩ := hv_stj_inv hp
    cases (eq_of_beq hlen : len = 2)
    exact lv_lstore hx hb hd hl h1 rfl (fun ls' h' => k ls' (hv_LS.st2 (v := .long x) h1 h'))
  | lstore_n i =>
    obtain ⟨x, r, rfl, h1, rfl⟩ := hv_stj_inv hp
    cases (eq_of_beq hlen : len = 1)
    exact lv_lstore_n hx hb hd rfl hl h1 rfl (fun ls' h' => k ls' (hv_LS.st2 (v := .long x) h1 h'))
  | astore i =>
    obtain ⟨v, r, rfl, h2, h1, rfl⟩ := hv_sta_inv hp
    cases (eq_of_beq hlen : len = 2)
    rcases h2 with rfl | ⟨a, rfl⟩
    · exact lv_astoreN hx hb hd hl h1 rfl (fun ls' h' => k ls' (hv_LS.st1 (v := .null) h1 rfl h'))
    · exact lv_astore hx hb hd hl h1 rfl (fun ls' h' => k ls' (hv_LS.st1 (v := .ref a) h1 rfl h'))
  | astore_n i =>
    obtain ⟨v, r, rfl, h2, h1, rfl⟩ := hv_sta_inv hp
    cases (eq_of_beq hlen : len = 1)
    rcases h2 with rfl | ⟨a, rfl⟩
    · exact lv_astore_nN hx hb hd rfl hl h1 rfl (fun ls' h' => k ls' (hv_LS.st1 (v := .null) h1 rfl h'))
    · exact lv_astore_n hx hb hd rfl hl h1 rfl (fun ls' h' => k ls' (hv_LS.st1 (v := .ref a) h1 rfl h'))
  | iinc i n =>
    obtain ⟨x, h1, rfl⟩ := hv_inc_inv hp
    cases (eq_of_beq hlen : len = 3)
    have hi : i < L.length := (List.getElem?_eq_some_iff.mp h1).1
    obtain ⟨q, hq⟩ := List.getElem?_of_mem (hv_li_mem (rho := rho) (hv_ps_of h1 (Or.inl rfl)))
    exact lv_iinc hx hb hd hl hq rfl hi rfl (fun ls' h' => k ls' (hv_LS.st1 (v := .int (x + Int32.ofInt n)) hi rfl h'))
  | iadd =>
    obtain ⟨x, y, r, rfl, rfl⟩ := hv_i2_inv hp
    cases (eq_of_beq hlen : len = 1)
    exact lv_iadd hx hb hd (k ls hl)
  | isub =>
    obtain ⟨x, y, r, rfl, rfl⟩ := hv_i2_inv hp
    cases (eq_of_beq hlen : len = 1)
    exact lv_isub hx hb hd (k ls hl)
  | imul =>
    obtain ⟨x, y, r, rfl, rfl⟩ := hv_i2_inv hp
    cases (eq_of_beq hlen : len = 1)
    exact lv_imul hx hb hd (k ls hl)
  | iand =>
    obtain ⟨x, y, r, rfl, rfl⟩ := hv_i2_inv hp
    cases (eq_of_beq hlen : len = 1)
    exact lv_iand hx hb hd (k ls hl)
  | ior =>
    obtain ⟨x, y, r, rfl, rfl⟩ := hv_i2_inv hp
    cases (eq_of_beq hlen : len = 1)
    exact lv_ior hx hb hd (k ls hl)
  | ixor =>
    obtain ⟨x, y, r, rfl, rfl⟩ := hv_i2_inv hp
    cases (eq_of_beq hlen : len = 1)
    exact lv_ixor hx hb hd (k ls hl)
  | ishl =>
    obtain ⟨x, y, r, rfl, rfl⟩ := hv_i2_inv hp
    cases (eq_of_beq hlen : len = 1)
    exact lv_ishl hx hb hd (k ls hl)
  | ishr =>
    obtain ⟨x, y, r, rfl, rfl⟩ := hv_i2_inv hp
    cases (eq_of_beq hlen : len = 1)
    exact lv_ishr hx hb hd (k ls hl)
  | iushr =>
    obtain ⟨x, y, r, rfl, rfl⟩ := hv_i2_inv hp
    cases (eq_of_beq hlen : len = 1)
    exact lv_iushr hx hb hd rfl (k ls hl)
  | idiv =>
    cases (eq_of_beq hlen : len = 1)
    unfold hv_pure hv_dv at hp
    dsimp only at hp
    split at hp
    · split at hp
      · cases hp
      · rename_i hne
        cases hp
        exact lv_idiv hx hb hd hne (k ls hl)
    · cases hp
  | irem =>
    cases (eq_of_beq hlen : len = 1)
    unfold hv_pure hv_rm at hp
    dsimp only at hp
    split at hp
    · split at hp
      · cases hp
      · rename_i hne
        cases hp
        exact lv_irem hx hb hd hne (k ls hl)
    · cases hp
  | ineg =>
    obtain ⟨x, r, rfl, rfl⟩ := hv_i1_inv hp
    cases (eq_of_beq hlen : len = 1)
    exact lv_ineg hx hb hd (k ls hl)
  | i2l =>
    obtain ⟨x, r, rfl, rfl⟩ := hv_i1_inv hp
    cases (eq_of_beq hlen : len = 1)
    exact lv_i2l hx hb hd rfl (k ls hl)
  | i2b =>
    obtain ⟨x, r, rfl, rfl⟩ := hv_i1_inv hp
    cases (eq_of_beq hlen : len = 1)
    exact lv_i2b hx hb hd rfl (k ls hl)
  | i2c =>
    obtain ⟨x, r, rfl, rfl⟩ := hv_i1_inv hp
    cases (eq_of_beq hlen : len = 1)
    exact lv_i2c hx hb hd rfl (k ls hl)
  | l2i =>
    cases (eq_of_beq hlen : len = 1)
    unfold hv_pure at hp
    dsimp only at hp
    split at hp
    · cases hp
      exact lv_l2i hx hb hd rfl (k ls hl)
    · cases hp
  | ladd =>
    obtain ⟨x, y, r, rfl, rfl⟩ := hv_l2_inv hp
    cases (eq_of_beq hlen : len = 1)
    exact lv_ladd hx hb hd (k ls hl)
  | lsub =>
    obtain ⟨x, y, r, rfl, rfl⟩ := hv_l2_inv hp
    cases (eq_of_beq hlen : len = 1)
    exact lv_lsub hx hb hd (k ls hl)
  | lmul =>
    obtain ⟨x, y, r, rfl, rfl⟩ := hv_l2_inv hp
    cases (eq_of_beq hlen : len = 1)
    exact lv_lmul hx hb hd (k ls hl)
  | lcmp =>
    obtain ⟨x, y, r, rfl, rfl⟩ := hv_l2_inv hp
    cases (eq_of_beq hlen : len = 1)
    exact W.lcmp hx hb hd (k ls hl)
  | ldiv =>
    cases (eq_of_beq hlen : len = 1)
    unfold hv_pure hv_ldv at hp
    dsimp only at hp
    split at hp
    · split at hp
      · cases hp
      · rename_i hne
        cases hp
        exact lv_ldiv hx hb hd hne (k ls hl)
    · cases hp
  | lrem =>
    cases (eq_of_beq hlen : len = 1)
    unfold hv_pure hv_lrm at hp
    dsimp only at hp
    split at hp
    · split at hp
      · cases hp
      · rename_i hne
        cases hp
        exact lv_lrem hx hb hd hne (k ls hl)
    · cases hp
  | dup =>
    cases (eq_of_beq hlen : len = 1)
    unfold hv_pure hv_dup at hp
    dsimp only at hp
    split at hp
    · split at hp
      · rename_i hc
        cases hp
        exact lv_dup hx hb hd (by rw [hv_cv_cat]; exact hc) (k ls hl)
      · cases hp
    · cases hp
  | pop =>
    cases (eq_of_beq hlen : len = 1)
    unfold hv_pure hv_pp at hp
    dsimp only at hp
    split at hp
    · split at hp
      · rename_i hc
        cases hp
        exact lv_pop hx hb hd (by rw [hv_cv_cat]; exact hc) (k ls hl)
      · cases hp
    · cases hp
  | dup_x1 =>
    cases (eq_of_beq hlen : len = 1)
    unfold hv_pure hv_dx1 at hp
    dsimp only at hp
    split at hp
    · split at hp
      · rename_i hc
        cases hp
        exact lv_dup_x1 hx hb hd (by rw [hv_cv_cat]; exact hc.1) (by rw [hv_cv_cat]; exact hc.2) (k ls hl)
      · cases hp
    · cases hp
  | dup2 =>
    cases (eq_of_beq hlen : len = 1)
    unfold hv_pure hv_d2 at hp
    dsimp only at hp
    split at hp
    · split at hp
      · rename_i hc
        cases hp
        exact lv_dup2_11 hx hb hd (by rw [hv_cv_cat]; exact hc.1) (by rw [hv_cv_cat]; exact hc.2) (k ls hl)
      · cases hp
    · cases hp
  | ifCond cd off =>
    cases (eq_of_beq hlen : len = 3)
    unfold hv_pure at hp
    dsimp only at hp
    split at hp
    · rename_i ht
      have ht := hv_tgt_eq ht
      unfold hv_if1 at hp
      split at hp
      · cases cd
        · refine lv_if_eq hx hb hd ht (fun z => ?_) (fun z => ?_) <;> (simp only [z, if_true, if_false, not_true_eq_false, not_false_eq_true] at hp; cases hp; exact k ls hl)
        · refine lv_if_ne hx hb hd ht (fun z => ?_) (fun z => ?_)
          · rw [if_pos z] at hp; cases hp; exact k ls hl
          · rw [if_neg (not_not_intro z)] at hp; cases hp; exact k ls hl
        · refine lv_if_lt hx hb hd ht (fun z => ?_) (fun z => ?_)
          · rw [if_pos z] at hp; cases hp; exact k ls hl
          · rw [if_neg z] at hp; cases hp; exact k ls hl
        · refine lv_if_ge hx hb hd ht (fun z => ?_) (fun z => ?_)
          · rw [if_pos z] at hp; cases hp; exact k ls hl
          · rw [if_neg z] at hp; cases hp; exact k ls hl
        · refine lv_if_gt hx hb hd ht (fun z => ?_) (fun z => ?_)
          · rw [if_pos z] at hp; cases hp; exact k ls hl
          · rw [if_neg z] at hp; cases hp; exact k ls hl
        · refine lv_if_le hx hb hd ht (fun z => ?_) (fun z => ?_)
          · rw [if_pos z] at hp; cases hp; exact k ls hl
          · rw [if_neg z] at hp; cases hp; exact k ls hl
      · cases hp
    · cases hp
  | if_icmp cd off =>
    cases (eq_of_beq hlen : len = 3)
    unfold hv_pure at hp
    dsimp only at hp
    split at hp
    · rename_i ht
      have ht := hv_tgt_eq ht
      unfold hv_if2 at hp
      split at hp
      · cases cd
        · refine lv_icmp_eq hx hb hd ht (fun z => ?_) (fun z => ?_)
          · dsimp only at hp; rw [if_pos z] at hp; cases hp; exact k ls hl
          · dsimp only at hp; rw [if_neg z] at hp; cases hp; exact k ls hl
        · refine lv_icmp_ne hx hb hd ht (fun z => ?_) (fun z => ?_)
          · dsimp only at hp; rw [if_pos z] at hp; cases hp; exact k ls hl
          · dsimp only at hp; rw [if_neg (not_not_intro z)] at hp; cases hp; exact k ls hl
        · refine lv_icmp_lt hx hb hd ht (fun z => ?_) (fun z => ?_)
          · dsimp only at hp; rw [if_pos z] at hp; cases hp; exact k ls hl
          · dsimp only at hp; rw [if_neg z] at hp; cases hp; exact k ls hl
        · refine lv_icmp_ge hx hb hd ht (fun z => ?_) (fun z => ?_)
          · dsimp only at hp; rw [if_pos z] at hp; cases hp; exact k ls hl
          · dsimp only at hp; rw [if_neg z] at hp; cases hp; exact k ls hl
        · refine lv_icmp_gt hx hb hd ht (fun z => ?_) (fun z => ?_)
          · dsimp only at hp; rw [if_pos z] at hp; cases hp; exact k ls hl
          · dsimp only at hp; rw [if_neg z] at hp; cases hp; exact k ls hl
        · refine lv_icmp_le hx hb hd ht (fun z => ?_) (fun z => ?_)
          · dsimp only at hp; rw [if_pos z] at hp; cases hp; exact k ls hl
          · dsimp only at hp; rw [if_neg z] at hp; cases hp; exact k ls hl
      · cases hp
    · cases hp
  | ifnull off =>
    cases (eq_of_beq hlen : len = 3)
    unfold hv_pure at hp
    dsimp only at hp
    split at hp
    · rename_i ht
      have ht := hv_tgt_eq ht
      unfold hv_ifn at hp
      split at hp
      · cases hp; exact lv_ifnullN hx hb hd ht (k ls hl)
      · cases hp; exact lv_ifnull hx hb hd (k ls hl)
      · cases hp
    · cases hp
  | ifnonnull off =>
    cases (eq_of_beq hlen : len = 3)
    unfold hv_pure at hp
    dsimp only at hp
    split at hp
    · rename_i ht
      have ht := hv_tgt_eq ht
      unfold hv_ifn at hp
      split at hp
      · cases hp; exact lv_ifnonnullN hx hb hd (k ls hl)
      · cases hp; exact lv_ifnonnull hx hb hd ht (k ls hl)
      · cases hp
    · cases hp
  | goto off =>
    cases (eq_of_beq hlen : len = 3)
    unfold hv_pure at hp
    dsimp only at hp
    split at hp
    · rename_i ht
      cases hp
      exact lv_goto hx hb hd (hv_tgt_eq ht) (k ls hl)
    · cases hp
  | tableswitch dflt lo hi offs =>
    unfold hv_pure hv_tsw at hp
    dsimp only at hp
    split at hp
    · split at hp
      · rename_i ho
        split at hp
        · rename_i ht
          cases hp
          exact lv_tableOut hx hb hd ho (hv_tgt_eq ht) (k ls hl)
        · cases hp
      · rename_i ho
        split at hp
        · rename_i o hoff
          split at hp
          · rename_i ht
            cases hp
            exact lv_tableIn hx hb hd (fun z => ho (Or.inl z)) (fun z => ho (Or.inr z)) hoff (hv_tgt_eq ht) (k ls hl)
          · cases hp
        · cases hp
    · cases hp
  | lookupswitch dflt ps =>
    unfold hv_pure hv_lsw at hp
    dsimp only at hp
    split at hp
    · split at hp
      · rename_i hs
        split at hp
        · rename_i ht
          cases hp
          exact lv_lookup hx hb hd hs rfl (hv_tgt_eq ht) (k ls hl)
        · cases hp
      · cases hp
    · cases hp
  | _ => cases hp
end
