/-! SOUNDNESS: one instruction of the heap -/
set_option maxRecDepth 100000
def hv_Bd (s0 : State) (D : va_G) (aC : Nat → ClassId) (rho : Nat → Nat) (B : Nat) (H0 : Heap) (fx : Nat → va_E) (p : Program) (s : State) (mi : MethodId) (meth : Method) (c : Code) (m : Nat) : Prop :=
  p.tables.exec = Jvm.exec ∧ c.code = hv_bc m ∧ c.maxLocals = hv_mL m ∧ meth.sig.returnType = hv_rt m ∧ s.vm.findClass (hv_on (hv_ow m)) = some mi.cls ∧ meth.locks = false ∧ (m ≠ 0 → c.exceptionTable.toList = tableOf (hv_hh m)) ∧ (hv_ini m = true → meth.name = "<init>") ∧ s0.WarmedH s.vm ∧ ∃ h0, hv_HR D aC rho B H0 fx h0 s.heap
theorem hv_cls_o {e : va_E} {q : vw_C} (h : hv_cl[hv_cls e]? = some q) : ∃ vs, e = .inr (hv_cls e, vs) := by
  match e with
  | .inr (c, vs) => exact ⟨vs, rfl⟩
  | .inl x =>
    have : hv_cl[(1000001 : Nat)]? = none := by decide +kernel
    change hv_cl[(1000001 : Nat)]? = some q at h
    rw [this] at h
    cases h
theorem hv_isI_o {e : va_E} (h : hv_isI e = true) : ∃ t n g, e = .inl (t, n, .inl g) := by
  unfold hv_isI at h
  split at h
  · exact ⟨_, _, _, rfl⟩
  · cases h
theorem hv_isJ_o {e : va_E} (h : hv_isJ e = true) : ∃ t n g, e = .inl (t, n, .inr (.inl g)) := by
  unfold hv_isJ at h
  split at h
  · exact ⟨_, _, _, rfl⟩
  · cases h
theorem hv_isA_o {e : va_E} (h : hv_isA e = true) : ∃ t n g, e = .inl (t, n, .inr (.inr (.inr (.inr g)))) := by
  unfold hv_isA at h
  split at h
  · exact ⟨_, _, _, rfl⟩
  · cases h
theorem hv_isB_o {e : va_E} (h : hv_isB e = true) : ∃ t n x, e = .inl (t, n, x) := by
  match e with
  | .inl (t, n, x) => exact ⟨_, _, _, rfl⟩
  | .inr _ => cases h
theorem hv_objty {t : Nat} (h5 : 5 ≤ t) (h : t < 11) : ∃ C, hv_tys[t]? = some (.object C) := by
  match t, h5, h with
  | 5, _, _ => exact ⟨_, rfl⟩
  | 6, _, _ => exact ⟨_, rfl⟩
  | 7, _, _ => exact ⟨_, rfl⟩
  | 8, _, _ => exact ⟨_, rfl⟩
  | 9, _, _ => exact ⟨_, rfl⟩
  | 10, _, _ => exact ⟨_, rfl⟩
theorem hv_fr_fit {r : List Value} (h : hv_fit8 r = true) (rho : Nat → Nat) : ((r.map (hv_cv rho)).map fun v => v.category).sum ≤ 8 := by
  have e : ((r.map (hv_cv rho)).map fun v => v.category) = r.map fun v => v.category := by
    rw [List.map_map]
    apply List.map_congr_left
    intro v _
    exact hv_cv_cat rho v
  rw [e]
  have k2 : ∀ r : List Value, (r.map fun v => v.category).sum ≤ 2 * r.length := by
    intro r
    induction r with
    | nil => simp
    | cons v r ih =>
      have : v.category ≤ 2 := by cases v <;> simp [Value.category]
      simp only [List.map_cons, List.sum_cons, List.length_cons]
      omega
  unfold hv_fit8 at h
  simp only [Bool.or_eq_true, decide_eq_true_eq, Bool.and_eq_true] at h
  rcases h with h | ⟨h, h1⟩
  · have := k2 r
    omega
  · have k1 : ∀ r : List Value, r.all (fun v => match v with
        | .long _ => false
        | .double _ => false
        | _ => true) = true → (r.map fun v => v.category).sum ≤ r.length := by
      intro r
      induction r with
      | nil => intro _; simp
      | cons v r ih =>
        intro h
        simp only [List.all_cons, Bool.and_eq_true] at h
        have hv : v.category ≤ 1 := by
          cases v <;> first | (simp [Value.category]; done) | exact absurd h.1 (by simp)
        have := ih h.2
        simp only [List.map_cons, List.sum_cons, List.length_cons]
        omega
    have := k1 r h1
    omega
/-- which classes an array of references takes -/
theorem hv_aokT : ∀ t, 5 ≤ t → t < 11 → ∀ c, hv_aok t c = true → ∃ q C, hv_cl[c]? = some q ∧ hv_tys[t]? = some (.object C) ∧ (q.1 = C ∨ Cond.castable q.1 C ∈ lw_tbl) := by
  intro t h5 h11 c hc
  unfold hv_aok at hc
  have hcc := List.contains_iff_mem.mp hc
  match t, h5, h11, hcc with
  | 5, _, _, hcc =>
    replace hcc : c ∈ [1, 2, 3, 4, 5, 6] := hcc
    simp only [List.mem_cons, List.not_mem_nil, or_false] at hcc
    rcases hcc with rfl | rfl | rfl | rfl | rfl | rfl
    · exact ⟨_, _, rfl, rfl, Or.inr (lw_at lw_m10 163 rfl)⟩
    · exact ⟨_, _, rfl, rfl, Or.inr (lw_at lw_m10 164 rfl)⟩
    · exact ⟨_, _, rfl, rfl, Or.inr (lw_at lw_m10 165 rfl)⟩
    · exact ⟨_, _, rfl, rfl, Or.inr (lw_at lw_m10 166 rfl)⟩
    · exact ⟨_, _, rfl, rfl, Or.inr (lw_at lw_m10 167 rfl)⟩
    · exact ⟨_, _, rfl, rfl, Or.inl rfl⟩
  | 6, _, _, hcc =>
    replace hcc : c ∈ [10] := hcc
    rw [List.mem_singleton.mp hcc]
    exact ⟨_, _, rfl, rfl, Or.inl rfl⟩
  | 7, _, _, hcc =>
    replace hcc : c ∈ [10] := hcc
    rw [List.mem_singleton.mp hcc]
    exact ⟨_, _, rfl, rfl, Or.inr (lw_at lw_m10 128 rfl)⟩
  | 8, _, _, hcc =>
    replace hcc : c ∈ [16] := hcc
    rw [List.mem_singleton.mp hcc]
    exact ⟨_, _, rfl, rfl, Or.inl rfl⟩
  | 9, _, _, hcc =>
    replace hcc : c ∈ [18] := hcc
    rw [List.mem_singleton.mp hcc]
    exact ⟨_, _, rfl, rfl, Or.inl rfl⟩
  | 10, _, _, hcc =>
    replace hcc : c ∈ [22, 23, 24, 25, 26] := hcc
    simp only [List.mem_cons, List.not_mem_nil, or_false] at hcc
    rcases hcc with rfl | rfl | rfl | rfl | rfl
    · exact ⟨_, _, rfl, rfl, Or.inr (lw_at lw_m10 168 rfl)⟩
    · exact ⟨_, _, rfl, rfl, Or.inr (lw_at lw_m10 169 rfl)⟩
    · exact ⟨_, _, rfl, rfl, Or.inr (lw_at lw_m10 170 rfl)⟩
    · exact ⟨_, _, rfl, rfl, Or.inr (lw_at lw_m10 171 rfl)⟩
    · exact ⟨_, _, rfl, rfl, Or.inr (lw_at lw_m10 172 rfl)⟩

/-- constants are loaded by instructions of their size -/
def hv_ldk (m : Nat) (I : Instr) : Bool := match I with
  | .ldc i => match hv_ks (hv_ow m) i with
    | some (.long _) => false
    | _ => true
  | .ldc_w i => match hv_ks (hv_ow m) i with
    | some (.long _) => false
    | _ => true
  | .ldc2_w i => match hv_ks (hv_ow m) i with
    | some (.int _) => false
    | _ => true
  | _ => true
theorem hv_ldks : (List.range 349).all (fun m => (hv_cd m).all (fun e => hv_ldk m e.2.1)) = true := by decide +kernel
theorem hv_no30T : hv_frs.all (fun r => r.all (fun e => e.2.2.1.all (fun c => c != 30) || (e.2.2.2.2 && e.2.1 == 0))) = true := by decide +kernel
theorem hv_no30I : (List.range 349).all (fun m => !hv_ini m || decide (hv_on (hv_ow m) ≠ "java/lang/Integer")) = true := by decide +kernel
theorem hv_no30 {m i k : Nat} {cs : List Nat} {ty : FieldType} {fin : Bool} (hm : m < 349) (hfq : hv_fr (hv_ow m) i = some (k, cs, ty, fin)) {cn : Nat} (hmem : cn ∈ cs) (hfi : (!fin || hv_ini m) = true) (ho : fin = true → (hv_T cn k).1 = hv_on (hv_ow m)) : cn ≠ 30 := by
  rintro rfl
  have hm1 : (i, (k, cs, ty, fin)) ∈ hv_frs.getD (hv_ow m) [] := hv_lookup_mem hfq
  have hrow : hv_frs.getD (hv_ow m) [] ∈ hv_frs := by
    rw [List.getD_eq_getElem?_getD] at hm1 ⊢
    cases hg : hv_frs[hv_ow m]? with
    | none => rw [hg] at hm1; cases hm1
    | some r => exact List.mem_of_getElem? hg
  have z := List.all_eq_true.mp (List.all_eq_true.mp hv_no30T _ hrow) _ hm1
  simp only [Bool.or_eq_true, Bool.and_eq_true, beq_iff_eq] at z
  rcases z with z | ⟨z1, z2⟩
  · have := List.all_eq_true.mp z 30 hmem
    exact absurd this (by decide)
  · have z1' : fin = true := z1
    have z2' : k = 0 := z2
    subst z1' z2'
    have hi : hv_ini m = true := by simpa using hfi
    have y := List.all_eq_true.mp hv_no30I m (List.mem_range.mpr hm)
    rw [hi] at y
    simp only [Bool.not_true, Bool.false_or, decide_eq_true_eq] at y
    apply y
    rw [← ho rfl]
    decide +kernel
section
variable {p : Program} {l : Launch} {e : Env} {R : Room} {s s0 : State} {mi : MethodId} {args a0 : Array Value} {below : List Frame} {meth : Method} {c : Code} {H : Heap} {locs : List Loc} {Q : State → Prop}
variable {pc m d len n0 z0 : Nat} {I : Instr} {ls : Array Slot} {st : List Value} {L : hv_L} {D : va_G} {aC : Nat → ClassId} {rho : Nat → Nat} {B : Nat} {H0 : Heap} {fx : Nat → va_E} {h h' : hv_H} {S : hv_S}
theorem hv_cast_in (hz : hv_Z s0 a0) (hW : s0.WarmedH s.vm) {C T : String} (h : C = T ∨ Cond.castable C T ∈ lw_tbl) : C = T ∨ va_Nw (.castable C T) s := by
  rcases h with h | h
  · exact Or.inl h
  · exact Or.inr (va_Nw.warmC hW (va_Nw.of rfl (hz.1 _ h)))
set_option maxHeartbeats 4000000 in
theorem hv_heap_ok (hC : hv_Cx l s0 a0 D aC rho B H0 fx) (hB : hv_Bd s0 D aC rho B H0 fx p s mi meth c m) (hm : m < 349) (hdec : decode (hv_bc m) pc = .ok (I, len)) (hlk : hv_lok I len = true) (hldk : hv_ldk m I = true) (hh : hv_heap d m I len pc L st h = some (.inl (S, h')))
    (hpfk : ∀ i, I = .putfield i → ∀ k cs ty, hv_fr (hv_ow m) i = some (k, cs, ty, true) → ∀ c ∈ cs, (hv_T c k).1 = hv_on (hv_ow m)) (hH : hv_HR D aC rho B H0 fx h H) (hlo : hv_lo B locs) (hLS : hv_LS rho L ls) (hLl : L.length = hv_mL m) (hfr : d ≤ R.frames) (hloc : 40 * d ≤ R.locals) (hcells : h'.1 - n0 ≤ R.cells) (hslots : h'.2.1 - z0 ≤ R.slots) (hn0 : n0 ≤ h.1) (hz0 : z0 ≤ h.2.1)
    (kk : S.2.1 = L → ∀ (H1 : Heap) (locs1 : List Loc), hv_HR D aC rho B H0 fx h' H1 → hv_lo B locs1 → W p l e R s mi args below meth c H1 locs1 (h'.1 - n0) (h'.2.1 - z0) Q (F0 mi S.1 ls (S.2.2.map (hv_cv rho)))) : W p l e R s mi args below meth c H locs (h.1 - n0) (h.2.1 - z0) Q (F0 mi pc ls (st.map (hv_cv rho))) := by
  obtain ⟨hz, hE0, hSc, hst⟩ := hC
  obtain ⟨hx, hb, hml, hret, hown, hlocks, htab, hini, hW, h0, hH0⟩ := hB
  have hE := hE0.moved hW.alike
  have ht := hv_ht (args := args) hz hW
  unfold hv_heap at hh
  split at hh
  case h_1 i =>
    cases (eq_of_beq hlk : len = 3)
    unfold hv_gf at hh
    split at hh
    · cases hh
    · rename_i k cs ty fin hfq
      split at hh
      · rename_i a r
        split at hh
        · rename_i hcs
          cases hh
          have hmem := List.contains_iff_mem.mp hcs
          obtain ⟨q, hq, hk, -, -, -, hl, -⟩ := hv_ffs _ _ _ hfq _ hmem
          obtain ⟨vs, hvs⟩ := hv_cls_o hq
          have hlink : hv_lk args s (hv_on (hv_ow m)) i (hv_T (hv_cls (h.2.2 a)) k) := by
            rcases hl with hl | ⟨host, hl⟩
            · exact Or.inl (ht _ hl)
            · exact Or.inr ⟨host, va_Nw.use rfl (va_Nw.warmF hW (va_Nw.of rfl (hz.1 _ hl)))⟩
          have e1 : hv_fv (h.2.2 a) k = vs.getD k .null := by rw [hvs]; rfl
          have := kk rfl H locs hH hlo
          rw [e1] at this
          exact hv_get_ok hx hb ht hown hE hH hvs hq hk hlink hdec this
        · cases hh
      · cases hh
  case h_2 i =>
    cases (eq_of_beq hlk : len = 3)
    unfold hv_pfd at hh
    split at hh
    · cases hh
    · rename_i k cs ty fin hfq
      split at hh
      · rename_i v a r
        split at hh
        · rename_i hfi
          split at hh
          · rename_i hcs
            cases hh
            have hmem := List.contains_iff_mem.mp hcs.1
            obtain ⟨q, hq, hk, hty, hfin, htk, hl, hl2⟩ := hv_ffs _ _ _ hfq _ hmem
            obtain ⟨vs, hvs⟩ := hv_cls_o hq
            have hlink : hv_lk args s (hv_on (hv_ow m)) i (hv_T (hv_cls (h.2.2 a)) k) := by
              rcases hl with hl | ⟨host, hl⟩
              · exact Or.inl (ht _ hl)
              · exact Or.inr ⟨host, va_Nw.use rfl (va_Nw.warmF hW (va_Nw.of rfl (hz.1 _ hl)))⟩
            have h30 : hv_cls (h.2.2 a) ≠ 30 := hv_no30 hm hfq hmem hfi (fun z => by subst z; exact hpfk i rfl k cs ty hfq _ hmem)
            have e1 : hv_pf (h.2.2 a) k v = .inr (hv_cls (h.2.2 a), vs.set k v) := by
              conv => lhs; rw [hvs]
              rfl
            have kk' := kk rfl
            rw [e1] at kk'
            refine hv_put_ok hx hb ht hown hE hH hlo hvs hq h30 hk hlink hdec ?_ htk (by rw [← hty]; exact hcs.2) kk'
            cases fin with
            | false => exact Or.inl hfin.symm
            | true =>
              have ho := hpfk i rfl k cs ty hfq _ hmem
              rcases hl2 with hl2 | hl2
              · exact Or.inr ⟨ht _ hl2, ho, hini (by simpa using hfi)⟩
              · exact absurd ho hl2
          · cases hh
        · cases hh
      · cases hh
  case h_3 =>
    cases (eq_of_beq hlk : len = 1)
    unfold hv_ldI at hh
    split at hh
    · rename_i i a r
      split at hh
      · rename_i hc
        cases hh
        obtain ⟨t, n, g, hg⟩ := hv_isI_o hc.1
        rw [hg] at hc kk
        exact hv_iald hx hb hE hH hg hc.2.1 hc.2.2 hdec (kk rfl H locs hH hlo)
      · cases hh
    · cases hh
  case h_4 =>
    cases (eq_of_beq hlk : len = 1)
    unfold hv_ldI at hh
    split at hh
    · rename_i i a r
      split at hh
      · rename_i hc
        cases hh
        obtain ⟨t, n, g, hg⟩ := hv_isI_o hc.1
        rw [hg] at hc kk
        exact hv_bald hx hb hE hH hg hc.2.1 hc.2.2 hdec (kk rfl H locs hH hlo)
      · cases hh
    · cases hh
  case h_5 =>
    cases (eq_of_beq hlk : len = 1)
    unfold hv_ldI at hh
    split at hh
    · rename_i i a r
      split at hh
      · rename_i hc
        cases hh
        obtain ⟨t, n, g, hg⟩ := hv_isI_o hc.1
        rw [hg] at hc kk
        obtain ⟨-, hc1, hc2⟩ := hc
        have ht3 : t = 3 := hc1.elim id id
        subst ht3
        exact hv_cald hx hb hE hH hg hc2 hdec (kk rfl H locs hH hlo)
      · cases hh
    · cases hh
  case h_6 =>
    cases (eq_of_beq hlk : len = 1)
    unfold hv_ldJ at hh
    split at hh
    · rename_i i a r
      split at hh
      · rename_i hc
        cases hh
        obtain ⟨t, n, g, hg⟩ := hv_isJ_o hc.1
        rw [hg] at hc kk
        obtain ⟨-, hc1, hc2⟩ := hc
        have ht3 : t = 1 := hc1
        subst ht3
        exact hv_lald hx hb hE hH hg hc2 hdec (kk rfl H locs hH hlo)
      · cases hh
    · cases hh
  case h_7 =>
    cases (eq_of_beq hlk : len = 1)
    unfold hv_ldA at hh
    split at hh
    · rename_i i a r
      split at hh
      · rename_i hc
        cases hh
        obtain ⟨t, n, g, hg⟩ := hv_isA_o hc.1
        rw [hg] at hc kk
        exact hv_aald hx hb hE hH hg hc.2.1 hc.2.2 hdec (kk rfl H locs hH hlo)
      · cases hh
    · cases hh
  case h_8 =>
    cases (eq_of_beq hlk : len = 1)
    unfold hv_stI at hh
    split at hh
    · rename_i x i a r
      split at hh
      · rename_i hc
        cases hh
        obtain ⟨t, n, g, hg⟩ := hv_isI_o hc.1
        rw [hg] at hc
        obtain ⟨-, hc1, hc2⟩ := hc
        have ht3 : t = 0 := hc1
        subst ht3
        exact hv_iast hx hb hE hH hlo hg hc2 hdec (kk rfl)
      · cases hh
    · cases hh
  case h_9 =>
    cases (eq_of_beq hlk : len = 1)
    unfold hv_stB at hh
    split at hh
    · rename_i x i a r
      split at hh
      · rename_i hc
        cases hh
        obtain ⟨t, n, g, hg⟩ := hv_isI_o hc.1
        have et : hv_tag (h.2.2 a) = t := by rw [hg]; rfl
        rw [et] at kk hc
        rw [hg] at hc
        exact hv_bast hx hb hE hH hlo hg hc.2.1 hc.2.2 hdec (kk rfl)
      · cases hh
    · cases hh
  case h_10 =>
    cases (eq_of_beq hlk : len = 1)
    unfold hv_stC at hh
    split at hh
    · rename_i x i a r
      split at hh
      · rename_i hc
        cases hh
        obtain ⟨t, n, g, hg⟩ := hv_isI_o hc.1
        rw [hg] at hc
        obtain ⟨-, hc1, hc2⟩ := hc
        have ht3 : t = 3 := hc1
        subst ht3
        exact hv_castr hx hb hE hH hlo hg hc2 hdec (kk rfl)
      · cases hh
    · cases hh
  case h_11 =>
    cases (eq_of_beq hlk : len = 1)
    unfold hv_stJ at hh
    split at hh
    · rename_i x i a r
      split at hh
      · rename_i hc
        cases hh
        obtain ⟨t, n, g, hg⟩ := hv_isJ_o hc.1
        rw [hg] at hc
        obtain ⟨-, hc1, hc2⟩ := hc
        have ht3 : t = 1 := hc1
        subst ht3
        exact hv_last hx hb hE hH hlo hg hc2 hdec (kk rfl)
      · cases hh
    · cases hh
  case h_12 =>
    cases (eq_of_beq hlk : len = 1)
    unfold hv_stA at hh
    split at hh
    · rename_i v i a r
      split at hh
      · rename_i hc
        obtain ⟨t, n, g, hg⟩ := hv_isA_o hc.1
        have et : hv_tag (h.2.2 a) = t := by rw [hg]; rfl
        rw [et] at hh hc
        rw [hg] at hc
        obtain ⟨C, hCt⟩ := hv_objty hc.2.1.1 hc.2.1.2
        split at hh
        · cases hh
          exact hv_aastN hx hb hE hH hlo hg hCt hc.2.2 hdec (kk rfl)
        · rename_i b
          split at hh
          · rename_i hok
            cases hh
            obtain ⟨q, C', hq, hC', hca⟩ := hv_aokT t hc.2.1.1 hc.2.1.2 _ hok
            cases hCt.symm.trans hC'
            obtain ⟨vs, hvs⟩ := hv_cls_o hq
            exact hv_aast hx hb hE hH hlo hg hCt hc.2.2 hdec hvs hq (hv_cast_in hz hW hca) (kk rfl)
          · cases hh
        · cases hh
      · cases hh
    · cases hh
  case h_13 =>
    cases (eq_of_beq hlk : len = 1)
    unfold hv_alen at hh
    split at hh
    · rename_i a r
      split at hh
      · rename_i hc
        cases hh
        obtain ⟨t, n, x, hg⟩ := hv_isB_o hc
        have e1 : hv_len (h.2.2 a) = n := by rw [hg]; rfl
        rw [e1] at kk
        exact hv_alen_ok hx hb hE hH hg hdec (kk rfl H locs hH hlo)
      · cases hh
    · cases hh
  case h_14 i =>
    cases (eq_of_beq hlk : len = 3)
    unfold hv_new at hh
    split at hh
    · cases hh
    · rename_i cn hfq
      cases hh
      obtain ⟨q, hq, h30, hl⟩ := hv_fNS _ _ _ hfq
      have c1 : (hv_alloc h (.inr (cn, hv_df cn)) (hv_sz cn)).1 - n0 = h.1 - n0 + 1 := by show h.1 + 1 - n0 = _; omega
      have c2 : (hv_alloc h (.inr (cn, hv_df cn)) (hv_sz cn)).2.1 - z0 = h.2.1 - z0 + hv_sz cn := by show h.2.1 + hv_sz cn - z0 = _; omega
      rw [c1] at kk hcells
      rw [c2] at kk hslots
      exact hv_new_ok hx hb ht hown hE hH hq h30 (ht _ hl) hdec hcells hslots (fun H1 hH1 => kk rfl H1 locs hH1 hlo)
  case h_15 ty =>
    cases (eq_of_beq hlk : len = 2)
    unfold hv_newa at hh
    split at hh
    · rename_i x r
      split at hh
      · rename_i hc
        cases hh
        obtain ⟨hc1, hc2, hc3⟩ := hc
        have c1 : (hv_alloc h (hv_zero (hv_ato ty) x.toNatClampNeg) x.toNatClampNeg).1 - n0 = h.1 - n0 + 1 := by show h.1 + 1 - n0 = _; omega
        have c2 : (hv_alloc h (hv_zero (hv_ato ty) x.toNatClampNeg) x.toNatClampNeg).2.1 - z0 = h.2.1 - z0 + x.toNatClampNeg := by show h.2.1 + x.toNatClampNeg - z0 = _; omega
        rw [c1] at kk hcells
        rw [c2] at kk hslots
        have key : hv_tys[hv_ato ty]? = some (newarray.typeOf ty) ∧ (∀ cA, va_RA s cA (newarray.typeOf ty) → s.vm.findClass ("[" ++ (newarray.typeOf ty).toString) = some cA) ∧ (Cond.arrayClass (newarray.typeOf ty)).before args s = true := by
          cases ty with
          | int => exact ⟨rfl, fun _ z => z, ht _ hv_ac_int⟩
          | long => exact ⟨rfl, fun _ z => z, ht _ hv_ac_long⟩
          | byte => exact ⟨rfl, fun _ z => z, ht _ hv_ac_byte⟩
          | char => exact ⟨rfl, fun _ z => z, ht _ hv_ac_char⟩
          | boolean => exact ⟨rfl, fun _ z => z, ht _ hv_ac_boolean⟩
          | _ => exact absurd hc1 (by decide)
        exact hv_newarr_ok hx hb hE hH key.1 key.2.1 key.2.2 hc2 hc3 hdec hcells hslots (fun H1 hH1 => kk rfl H1 locs hH1 hlo)
      · cases hh
    · cases hh
  case h_16 i =>
    cases (eq_of_beq hlk : len = 3)
    split at hh
    · rename_i t hfq
      unfold hv_newa at hh
      split at hh
      · rename_i x r
        split at hh
        · rename_i hc
          cases hh
          obtain ⟨hc1, hc2, hc3⟩ := hc
          obtain ⟨C, hCt, hl, hao⟩ := hv_fAS _ _ _ hfq
          have c1 : (hv_alloc h (hv_zero t x.toNatClampNeg) x.toNatClampNeg).1 - n0 = h.1 - n0 + 1 := by show h.1 + 1 - n0 = _; omega
          have c2 : (hv_alloc h (hv_zero t x.toNatClampNeg) x.toNatClampNeg).2.1 - z0 = h.2.1 - z0 + x.toNatClampNeg := by show h.2.1 + x.toNatClampNeg - z0 = _; omega
          rw [c1] at kk hcells
          rw [c2] at kk hslots
          exact hv_anew_ok hx hb hown hE hH hCt (ht _ hl) (va_AO.moved hW.alike (va_AO.of (hz.1 _ hao))) hc2 hc3 hdec hcells hslots (fun H1 hH1 => kk rfl H1 locs hH1 hlo)
        · cases hh
      · cases hh
    · cases hh
  case h_17 i =>
    cases (eq_of_beq hlk : len = 3)
    unfold hv_cast at hh
    split at hh
    · cases hh
    · rename_i cs hfq
      obtain ⟨C, hl, hcs9⟩ := hv_fCS _ _ _ hfq
      split at hh
      · rename_i r
        cases hh
        exact lv_castN hx hb hdec (kk rfl H locs hH hlo)
      · rename_i a r
        split at hh
        · rename_i hcs
          cases hh
          obtain ⟨q, hq, hca⟩ := hcs9 _ (List.contains_iff_mem.mp hcs)
          obtain ⟨vs, hvs⟩ := hv_cls_o hq
          exact hv_cast_ok hx hb hown (ht _ hl) hE hH hvs hq (hv_cast_in hz hW hca) hdec (kk rfl H locs hH hlo)
        · cases hh
      · cases hh
  case h_18 i =>
    cases (eq_of_beq hlk : len = 3)
    unfold hv_inst at hh
    split at hh
    · cases hh
    · rename_i ys ns hfq
      obtain ⟨C, hl, hys, hns⟩ := hv_fOS _ _ _ hfq
      split at hh
      · rename_i a r
        split at hh
        · rename_i hcs
          cases hh
          obtain ⟨q, hq, hca⟩ := hys _ (List.contains_iff_mem.mp hcs)
          obtain ⟨vs, hvs⟩ := hv_cls_o hq
          exact hv_instY_ok hx hb hown (ht _ hl) hE hH hvs hq (hv_cast_in hz hW hca) hdec (kk rfl H locs hH hlo)
        · split at hh
          · rename_i hcs
            cases hh
            obtain ⟨q, hq, hca⟩ := hns _ (List.contains_iff_mem.mp hcs)
            obtain ⟨vs, hvs⟩ := hv_cls_o hq
            exact hv_instN_ok hx hb hown (ht _ hl) hE hH hvs hq (va_Nc.moved hW.alike (va_Nc.of (flat_of_before _ hz.2 _ hca))) hdec (kk rfl H locs hH hlo)
          · cases hh
      · cases hh
  case h_19 i =>
    cases (eq_of_beq hlk : len = 3)
    unfold hv_kst at hh
    split at hh
    · cases hh
    · rename_i v hfq
      cases hh
      obtain ⟨C, n, dd, hl, hv⟩ := hv_fGS _ _ _ hfq
      rcases hv with ⟨rfl, rfl, rfl, rfl⟩ | ⟨rfl, rfl, rfl, rfl⟩ | ⟨rfl, rfl, rfl, rfl⟩
      · exact hv_gets_ok hx hb hown hE.2.2.1 hH (va_Z.moved hW.alike hSc.1) (ht _ hl) hdec (kk rfl H locs hH hlo)
      · exact hv_gets_ok hx hb hown hE.2.2.1 hH (va_Z.moved hW.alike hSc.2.1) (ht _ hl) hdec (kk rfl H locs hH hlo)
      · exact hv_gets_ok hx hb hown hE.2.2.1 hH (va_Z.moved hW.alike hSc.2.2.1) (ht _ hl) hdec (kk rfl H locs hH hlo)
  case h_20 i =>
    cases (eq_of_beq hlk : len = 2)
    unfold hv_kst at hh
    split at hh
    · cases hh
    · rename_i v hfq
      cases hh
      rcases hv_fKS _ _ _ hfq with ⟨n, rfl, hl⟩ | ⟨n, rfl, hl⟩
      · exact lv_ldc hx hb hown (ht _ hl) hdec (kk rfl H locs hH hlo)
      · simp [hv_ldk, hfq] at hldk
  case h_21 i =>
    cases (eq_of_beq hlk : len = 3)
    unfold hv_kst at hh
    split at hh
    · cases hh
    · rename_i v hfq
      cases hh
      rcases hv_fKS _ _ _ hfq with ⟨n, rfl, hl⟩ | ⟨n, rfl, hl⟩
      · exact lv_ldcw hx hb hown (ht _ hl) hdec (kk rfl H locs hH hlo)
      · simp [hv_ldk, hfq] at hldk
  case h_22 i =>
    cases (eq_of_beq hlk : len = 3)
    unfold hv_kst at hh
    split at hh
    · cases hh
    · rename_i v hfq
      cases hh
      rcases hv_fKS _ _ _ hfq with ⟨n, rfl, hl⟩ | ⟨n, rfl, hl⟩
      · simp [hv_ldk, hfq] at hldk
      · exact lv_ldc2 hx hb hown (ht _ hl) hdec (kk rfl H locs hH hlo)
  case h_23 cd off =>
    cases (eq_of_beq hlk : len = 3)
    split at hh
    · rename_i htok
      unfold hv_acm at hh
      split at hh
      · rename_i w v r
        split at hh
        · rename_i hvw
          have htg := hv_tgt_eq htok
          cases cd with
          | eq =>
            dsimp only at hh
            refine hv_acmp_ok hx hb hE hH hvw.1 hvw.2 hdec htg (fun z => ?_) (fun z => ?_)
            · have z' : v = w := z
              rw [if_pos z'] at hh
              cases hh
              exact kk rfl H locs hH hlo
            · have z' : ¬ v = w := z
              rw [if_neg z'] at hh
              cases hh
              exact kk rfl H locs hH hlo
          | ne =>
            dsimp only at hh
            refine hv_acmp_ok hx hb hE hH hvw.1 hvw.2 hdec htg (fun z => ?_) (fun z => ?_)
            · have z' : ¬ v = w := z
              rw [if_pos z'] at hh
              cases hh
              exact kk rfl H locs hH hlo
            · have z' : ¬ ¬ v = w := z
              rw [if_neg z'] at hh
              cases hh
              exact kk rfl H locs hH hlo
        · cases hh
      · cases hh
    · cases hh
  case h_24 i =>
    cases (eq_of_beq hlk : len = 3)
    unfold hv_cl0 at hh
    split at hh
    · rename_i x m' ts hfq
      unfold hv_cal at hh
      split at hh
      · cases hh
      · split at hh <;> cases hh
    · rename_i ts hfq
      unfold hv_cpy at hh
      split at hh
      · rename_i n dp b sp a
        split at hh
        · rename_i hc
          cases hh
          obtain ⟨⟨rfl, rfl, hd1⟩, h3, h4, h5, htt, hcase⟩ := hc
          have hlinkw := (hv_fMS _ _ _ hfq).2.2 rfl
          have hmls : c.maxLocals = ls.size := by rw [hml, hLS.1, hLl]
          rcases hcase with ⟨ha, hb1, ht0⟩ | ⟨ha, hb1, ht0, hel⟩
          · obtain ⟨t1, n1, g1, hg1⟩ := hv_isI_o ha
            obtain ⟨t2, n2, g2, hg2⟩ := hv_isI_o hb1
            have e1 : t1 = 0 := by rw [hg1] at ht0; exact ht0
            have e2 : t2 = 0 := by rw [hg1, hg2] at htt; exact htt.symm.trans e1
            subst e1 e2
            rw [hg1] at h4
            rw [hg2] at h5
            exact hv_copyI_ok hx hb hmls hown (ht _ hlinkw) (ht _ hv_acN) (ht _ hv_acS) (ht _ hv_acI) hE hH hlo hg1 hg2 h3 h4 h5 (by omega) (by omega) hdec (kk rfl)
          · obtain ⟨t1, n1, g1, hg1⟩ := hv_isA_o ha
            obtain ⟨t2, n2, g2, hg2⟩ := hv_isA_o hb1
            have e1 : t1 = 5 := by rw [hg1] at ht0; exact ht0
            have e2 : t2 = 5 := by rw [hg1, hg2] at htt; exact htt.symm.trans e1
            subst e1 e2
            rw [hg1] at h4
            rw [hg2] at h5
            refine hv_copyA_ok hx hb hmls hown (ht _ hlinkw) (ht _ hv_acN) (ht _ hv_acS) (ht _ hv_acI) hE hH hlo (C := "HallOfClaims$Plain") rfl hg1 hg2 h3 h4 h5 (fun i hi y hy => ?_) (by omega) (by omega) hdec (kk rfl)
            unfold hv_els at hel
            have z := List.all_eq_true.mp hel i (List.mem_range.mpr hi)
            have ea : hv_aa (h.2.2 a) i = some y := by rw [hg1]; exact hy
            rw [ea] at z
            obtain ⟨q, C', hq, hC', hca⟩ := hv_aokT 5 (by decide) (by decide) _ z
            cases hC'
            obtain ⟨vs, hvs⟩ := hv_cls_o hq
            exact ⟨_, vs, q, hvs, hq, hv_cast_in hz hW hca⟩
        · cases hh
      · cases hh
    · cases hh
  case h_25 i =>
    cases (eq_of_beq hlk : len = 3)
    unfold hv_cl2 at hh
    have hmls : c.maxLocals = ls.size := by rw [hml, hLS.1, hLl]
    split at hh
    · split at hh
      · split at hh <;> cases hh
      · cases hh
    · unfold hv_dis at hh
      split at hh
      · split at hh
        · split at hh
          · split at hh <;> cases hh
          · cases hh
        · cases hh
      · cases hh
    · rename_i ts hfq
      split at hh
      · rename_i a r
        split at hh
        · rename_i hc
          cases hh
          have hlinkw := (hv_fMS _ _ _ hfq).1 rfl
          have hfit := hv_fr_fit hc.2 rho
          exact W.objInit hx hb hown (ht _ hlinkw) (ht _ hv_oiI) (ht _ hv_oiC) rfl (show ls.size = c.maxLocals from hmls.symm) rfl hdec (by omega) (by show 2 * 0 + _ + 12 ≤ _; omega) (kk rfl H locs hH hlo)
        · cases hh
      · cases hh
    · rename_i ts hfq
      split at hh
      · rename_i a
        split at hh
        · rename_i hc
          cases hh
          obtain ⟨ho, rfl⟩ := (hv_fMS _ _ _ hfq).2.1 rfl
          rw [ho] at hown
          have hq : ∃ q, hv_cl[hv_cls (h.2.2 a)]? = some q := by
            rcases hc.2.1 with z | z <;> rw [z] <;> exact ⟨_, rfl⟩
          obtain ⟨q, hq⟩ := hq
          obtain ⟨vs, hvs⟩ := hv_cls_o hq
          have hnull : vs.getD 0 .null = .null := by
            have := hc.2.2
            rw [hvs] at this
            exact this
          exact hv_rte_ok hx hb hmls hst hz hW hE hSc hH0 hH hlo hown hc.2.1 hvs hnull hdec (by omega) (by omega) (kk rfl)
        · cases hh
      · cases hh
    · cases hh
  case h_26 i =>
    unfold hv_cl1 at hh
    split at hh
    · unfold hv_dis at hh
      repeat' (split at hh)
      all_goals cases hh
    · cases hh
  case h_27 i n =>
    unfold hv_cl1 at hh
    split at hh
    · unfold hv_dis at hh
      repeat' (split at hh)
      all_goals cases hh
    · cases hh
  all_goals first | (cases hh; done) | (repeat' (split at hh)) <;> cases hh
end
