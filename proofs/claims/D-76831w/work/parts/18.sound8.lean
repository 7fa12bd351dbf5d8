/-! SOUNDNESS: growth of the heap, a method's entry -/
set_option maxRecDepth 100000
def hv_oh (o : hv_O) : hv_H := match o with
  | .inl (_, h) => h
  | .inr (.inl (_, h)) => h
  | .inr (.inr (.inl (_, _, _, _, h))) => h
  | .inr (.inr (.inr (_, h))) => h
def hv_le (h h' : hv_H) : Prop := h.1 ≤ h'.1 ∧ h.2.1 ≤ h'.2.1
theorem hv_le.refl (h : hv_H) : hv_le h h := ⟨Nat.le_refl _, Nat.le_refl _⟩
theorem hv_le.trans {a b c : hv_H} (h1 : hv_le a b) (h2 : hv_le b c) : hv_le a c := ⟨Nat.le_trans h1.1 h2.1, Nat.le_trans h1.2 h2.2⟩
theorem hv_le.put (h : hv_H) (a : Nat) (e : va_E) : hv_le h (hv_put h a e) := ⟨Nat.le_refl _, Nat.le_refl _⟩
theorem hv_le.alloc (h : hv_H) (e : va_E) (n : Nat) : hv_le h (hv_alloc h e n) := ⟨Nat.le_succ _, Nat.le_add_right _ _⟩
set_option maxHeartbeats 2000000 in
theorem hv_heap_le {d m len pc : Nat} {I : Instr} {L : hv_L} {st : List Value} {h : hv_H} {o : hv_O} (hh : hv_heap d m I len pc L st h = some o) : hv_le h (hv_oh o) := by
  unfold hv_heap at hh
  split at hh
  all_goals (try unfold hv_gf at hh); (try unfold hv_pfd at hh); (try unfold hv_ldI at hh); (try unfold hv_ldJ at hh); (try unfold hv_ldA at hh); (try unfold hv_stI at hh); (try unfold hv_stC at hh); (try unfold hv_stB at hh); (try unfold hv_stJ at hh); (try unfold hv_stA at hh); (try unfold hv_alen at hh); (try unfold hv_new at hh); (try unfold hv_newa at hh); (try unfold hv_cast at hh); (try unfold hv_inst at hh); (try unfold hv_kst at hh); (try unfold hv_acm at hh); (try unfold hv_cl0 at hh); (try unfold hv_cal at hh); (try unfold hv_cpy at hh); (try unfold hv_cl1 at hh); (try unfold hv_cl2 at hh); (try unfold hv_dis at hh); (try unfold hv_go at hh)
  all_goals (repeat' (split at hh))
  all_goals first | (cases hh; done) | (cases hh; first | exact hv_le.refl _ | exact hv_le.put _ _ _ | exact hv_le.alloc _ _ _)
theorem hv_at_le {d m pc : Nat} {L : hv_L} {st : List Value} {h : hv_H} {o : hv_O} (hh : hv_at d m pc L st h = some o) : hv_le h (hv_oh o) := by
  unfold hv_at at hh
  split at hh
  · split at hh
    · unfold hv_step hv_sel at hh
      split at hh
      · cases hh; exact hv_le.refl _
      · exact hv_heap_le hh
    · cases hh
  · cases hh
theorem hv_exec_grow : ∀ (k d m pc : Nat) (L : hv_L) (st : List Value) (h : hv_H) (r : hv_R), hv_exec k d m pc L st h = some r → hv_le h r.2 := by
  intro k
  induction k with
  | zero => intro d m pc L st h r e; cases e
  | succ k ih =>
    intro d m pc L st h r e
    rw [hv_exec] at e
    cases ha : hv_at d m pc L st h with
    | none => rw [ha] at e; cases e
    | some o =>
      rw [ha] at e
      have hle := hv_at_le ha
      match o, e, hle with
      | .inl ((pc', L', st'), h'), e, hle => exact hle.trans (ih _ _ _ _ _ _ _ e)
      | .inr (.inl (v, h')), e, hle => cases e; exact hle
      | .inr (.inr (.inl (m', as, pc', st', h'))), e, hle =>
        dsimp only at e
        cases d with
        | zero => cases e
        | succ d' =>
          dsimp only at e
          cases hc : hv_exec k d' m' 0 (hv_ent (hv_mL m') as) [] h' with
          | none => rw [hc] at e; cases e
          | some r1 =>
            rw [hc] at e
            have h1 := ih _ _ _ _ _ _ _ hc
            match r1, e, h1 with
            | (.inl v, h2), e, h1 => exact (hle.trans h1).trans (ih _ _ _ _ _ _ _ e)
            | (.inr q, h2), e, h1 =>
              dsimp only at e
              split at e
              · cases hh : hv_hd m pc with
                | none => rw [hh] at e; cases e; exact hle.trans h1
                | some t => rw [hh] at e; exact (hle.trans h1).trans (ih _ _ _ _ _ _ _ e)
              · cases e
      | .inr (.inr (.inr (q, h'))), e, hle =>
        dsimp only at e
        split at e
        · cases hh : hv_hd m pc with
          | none => rw [hh] at e; cases e; exact hle
          | some t => rw [hh] at e; exact hle.trans (ih _ _ _ _ _ _ _ e)
        · cases e
theorem hv_exp_len (rho : Nat → Nat) (as : List Value) : (lg_sl (as.map (hv_cv rho))).length = (hv_exp as).length := by
  induction as with
  | nil => rfl
  | cons v r ih =>
    unfold lg_sl at ih ⊢
    rw [List.map_cons, List.flatMap_cons, List.length_append, ih, hv_cv_cat]
    cases v <;> simp [hv_exp, Value.category] <;> omega
theorem hv_exp_at (rho : Nat → Nat) (as : List Value) : ∀ (i : Nat) (v : Value), (hv_exp as)[i]? = some (some v) → (lg_sl (as.map (hv_cv rho)))[i]? = some (.val (hv_cv rho v)) := by
  induction as with
  | nil => intro i v h; simp [hv_exp] at h
  | cons w r ih =>
    intro i v h
    unfold lg_sl at ih ⊢
    rw [List.map_cons, List.flatMap_cons, hv_cv_cat]
    cases w with
    | long x =>
      match i, h with
      | 0, h => simp [hv_exp] at h; subst h; simp [Value.category]
      | 1, h => simp [hv_exp] at h
      | i + 2, h =>
        have h' : (hv_exp r)[i]? = some (some v) := by simpa [hv_exp] using h
        simpa [Value.category] using ih i v h'
    | double x =>
      match i, h with
      | 0, h => simp [hv_exp] at h; subst h; simp [Value.category]
      | 1, h => simp [hv_exp] at h
      | i + 2, h =>
        have h' : (hv_exp r)[i]? = some (some v) := by simpa [hv_exp] using h
        simpa [Value.category] using ih i v h'
    | _ =>
      match i, h with
      | 0, h => simp [hv_exp] at h; subst h; simp [Value.category]
      | i + 1, h =>
        have h' : (hv_exp r)[i]? = some (some v) := by simpa [hv_exp] using h
        simpa [Value.category] using ih i v h'
theorem hv_entry {rho : Nat → Nat} {as : List Value} {n : Nat} (hn : (hv_ent n as).length = n) : hv_LS rho (hv_ent n as) ((lg_sl (as.map (hv_cv rho)) ++ List.replicate (n - (lg_sl (as.map (hv_cv rho))).length) Slot.unset).toArray) := by
  have hle : (lg_sl (as.map (hv_cv rho))).length ≤ n := by
    rw [hv_exp_len]
    unfold hv_ent at hn
    rw [List.length_append, List.length_replicate] at hn
    omega
  obtain ⟨h1, h2, -⟩ := lv_entry (as.map (hv_cv rho)) hle
  refine ⟨by rw [hn]; exact h1, h2, fun q hq => ?_⟩
  obtain ⟨v, hv, e⟩ := hv_li_inv hq
  obtain ⟨hv1, -⟩ := hv_ps_some hv
  rw [e, List.getElem?_toArray]
  unfold hv_ent at hv1
  by_cases hlt : q.1 < (hv_exp as).length
  · rw [List.getElem?_append_left hlt] at hv1
    rw [List.getElem?_append_left (by rw [hv_exp_len]; exact hlt)]
    exact hv_exp_at rho as _ _ hv1
  · rw [List.getElem?_append_right (by omega), List.getElem?_replicate] at hv1
    split at hv1 <;> cases hv1
