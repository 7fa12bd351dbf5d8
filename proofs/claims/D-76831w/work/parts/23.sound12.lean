/-! THE START: the context out of the law's entry, and whole_start out of a run of the abstract machine -/
set_option maxRecDepth 100000
def hv_fx (L : Nat) (xs : Nat → Int32) : Nat → va_E := fun k => if k = 0 then .inl (20, L, .inl xs) else if k < 257 then .inr (30, [.int (vb_c (k - 1))]) else if k = 258 then .inl (21, 256, .inr (.inr (.inr (.inr (fun j => if j < 256 then some (j + 1) else none))))) else hv_none
def hv_h0 (L : Nat) (xs : Nat → Int32) : hv_H := (300, 0, hv_fx L xs)
section
variable {s : State} {args : Array Value}
theorem hv_classes (hts : ∀ w ∈ lw_all, w.before args s = true) : ∃ D : va_G, ∀ (c : Nat) (q : vw_C), hv_cl[c]? = some q → u_Kn s q.1 q.2.1 q.2.2 (D.1 c) (D.2 c) := by
  have h : ∀ c : Nat, ∃ x : ClassId × (Nat → Nat), ∀ q, hv_cl[c]? = some q → u_Kn s q.1 q.2.1 q.2.2 x.1 x.2 := by
    intro c
    cases hq : hv_cl[c]? with
    | none => exact ⟨((0 : Nat), fun _ => 0), fun q h => by cases h⟩
    | some q =>
      obtain ⟨hT, hin, -, -, hins, -⟩ := hv_known c q hq
      obtain ⟨cC, iS, hk⟩ := u_known hts hin (hts _ hins)
      refine ⟨(cC, iS), fun q' h' => ?_⟩
      cases h'
      rw [hT]
      exact hk
  obtain ⟨f, hf⟩ := Classical.axiomOfChoice h
  exact ⟨(fun c => (f c).1, fun c => (f c).2), fun c q hq => hf c q hq⟩
theorem hv_arrP {ty : FieldType} (hw : (Cond.arrayClass ty).before args s = true) (hty : ∀ C, ty ≠ .object C) : ∃ cA : ClassId, ArrOfT s cA ty ∧ va_RA s cA ty := by
  obtain ⟨c, k, comp, h1, h2, h3⟩ := Cond.arrayClass_spec hw
  refine ⟨c, fun n z => ⟨(fun _ h => by cases h), k, h2, comp, h3⟩, ?_⟩
  cases ty with
  | object C => exact absurd rfl (hty C)
  | _ => exact h1
theorem hv_arrO {C : String} (hw : (Cond.arrayOver (.object C)).before args s = true) : ∃ cA : ClassId, ArrOfT s cA (.object C) ∧ va_RA s cA (.object C) := by
  obtain ⟨comp, c, k, h1, -, h2, h3, h4⟩ := Cond.arrayOver_spec hw
  exact ⟨c, fun n z => ⟨(fun _ h => by cases h), k, h2, comp, h3⟩, k, comp, h2, h3, h1, h4⟩
theorem hv_arrays (hts : ∀ w ∈ lw_tbl, w.before args s = true) : ∃ aC : Nat → ClassId, ∀ (k : Nat) (q : ClassId × FieldType), (hv_tyl aC)[k]? = some q → ArrOfT s q.1 q.2 ∧ va_RA s q.1 q.2 := by
  obtain ⟨c0, h0⟩ := hv_arrP (hts _ (lw_all_tbl hv_ac_int)) (fun C h => by cases h)
  obtain ⟨c1, h1⟩ := hv_arrP (hts _ (lw_all_tbl hv_ac_long)) (fun C h => by cases h)
  obtain ⟨c2, h2⟩ := hv_arrP (hts _ (lw_all_tbl hv_ac_byte)) (fun C h => by cases h)
  obtain ⟨c3, h3⟩ := hv_arrP (hts _ (lw_all_tbl hv_ac_char)) (fun C h => by cases h)
  obtain ⟨c4, h4⟩ := hv_arrP (hts _ (lw_all_tbl hv_ac_boolean)) (fun C h => by cases h)
  obtain ⟨c5, h5⟩ := hv_arrO (C := "HallOfClaims$Plain") (hts _ (lw_at lw_m1 61 rfl))
  obtain ⟨c6, h6⟩ := hv_arrO (C := "HallOfClaims$Waiting") (hts _ (lw_at lw_m1 169 rfl))
  obtain ⟨c7, h7⟩ := hv_arrO (C := "java/lang/Object") (hts _ (lw_at lw_m1 186 rfl))
  obtain ⟨c8, h8⟩ := hv_arrO (C := "HallOfClaims$Found") (hts _ (lw_at lw_m2 52 rfl))
  obtain ⟨c9, h9⟩ := hv_arrO (C := "HallOfClaims$Tally") (hts _ (lw_at lw_m2 150 rfl))
  obtain ⟨c10, h10⟩ := hv_arrO (C := "HallOfClaims$Told") (hts _ (lw_at lw_m3 108 rfl))
  refine ⟨fun t => [c0, c1, c2, c3, c4, c5, c6, c7, c8, c9, c10].getD t c0, fun k q hq => ?_⟩
  match k, hq with
  | 0, hq => cases hq; exact h0
  | 1, hq => cases hq; exact h1
  | 2, hq => cases hq; exact h2
  | 3, hq => cases hq; exact h3
  | 4, hq => cases hq; exact h4
  | 5, hq => cases hq; exact h5
  | 6, hq => cases hq; exact h6
  | 7, hq => cases hq; exact h7
  | 8, hq => cases hq; exact h8
  | 9, hq => cases hq; exact h9
  | 10, hq => cases hq; exact h10
  | k + 11, hq => simp [hv_tyl] at hq
end
abbrev hv_cT : Term := .static "java/lang/Integer$IntegerCache" "cache" "[Ljava/lang/Integer;"
theorem hv_fx_ge {L : Nat} {xs : Nat → Int32} {k : Nat} (h : 300 ≤ k) : hv_fx L xs k = hv_none := by
  unfold hv_fx
  rw [if_neg (by omega), if_neg (by omega), if_neg (by omega)]
set_option maxHeartbeats 2000000 in
theorem hv_context {p : Program} {s : State} {m : MethodId} {meth : Method} {c : Code} (l : Launch) (hflags : l.flags = flags0) {b L : Nat} {xs : Nat → Int32} (C0 : lw_At p s m meth c b L xs) : ∃ (D : va_G) (aC : Nat → ClassId) (rho : Nat → Nat), hv_Cx l s #[Value.ref b] D aC rho s.heap.size s.heap (hv_fx L xs) ∧ rho 0 = b := by
  obtain ⟨hx, hcode, hret, hml, hown, hts, hX, hbl, hlocks, hgv⟩ := C0
  have hz : hv_Z s #[Value.ref b] := ⟨hts, hgv⟩
  have hal : ∀ w ∈ lw_all, w.before #[Value.ref b] s = true := fun w hw => hts w (lw_all_tbl hw)
  have hfl := flat_of_before _ hgv
  obtain ⟨D, hD⟩ := hv_classes hal
  obtain ⟨aC, hA⟩ := hv_arrays hts
  have hnB : ∀ a : Nat, a < s.heap.size → ¬ (s.heap.size ≤ a) := fun a h => by omega
  -- the cache
  have hlenw : (Cond.eq (.length hv_cT) (.int 256)).before #[Value.ref b] s = true := hfl _ (by decide +kernel)
  have hallw : (Cond.all hv_cT (.and (.exactly (.elem hv_cT (.index 0)) "java/lang/Integer") (.eq (.field (.elem hv_cT (.index 0)) "java/lang/Integer" "value" "I") (.sub (.index 0) (.int 128))))).before #[Value.ref b] s = true := hfl _ (by decide +kernel)
  have harrw : (Cond.arrayOf hv_cT (.object "java/lang/Integer")).before #[Value.ref b] s = true := hfl _ (by decide +kernel)
  have hlen : (Term.length hv_cT).eval #[Value.ref b] s none [] s = some (.int (Int32.ofNat 256)) := va_eqI (u := .int 256) (by simpa [Cond.before, Cond.holds] using hlenw) rfl
  obtain ⟨ad, hC, hel⟩ := vb_Cof (A := fun q => s.heap.size ≤ q) rfl hlen hallw hnB
  obtain ⟨ca, ccell, hcev, hcat, hcv⟩ := Term.length_spec hlen
  obtain ⟨hcc, hckn, -, -⟩ := State.arrayAt?_spec hcat
  obtain ⟨hcof, -⟩ := Cond.arrayOf_spec harrw hcev hcc
  have hclt : ca < s.heap.size := (Array.getElem?_eq_some_iff.mp hcc).1
  -- PRESENT
  have hpw : (Cond.exactly (.static "java/util/TreeSet" "PRESENT" "Ljava/lang/Object;") "java/lang/Object").before #[Value.ref b] s = true := hfl _ (by decide +kernel)
  obtain ⟨pa, pc9, pcell, pk, hpev, -, hpc, -⟩ := Cond.exactly_spec hpw
  have hplt : pa < s.heap.size := (Array.getElem?_eq_some_iff.mp hpc).1
  have hadlt : ∀ k, k < 256 → ad k < s.heap.size := fun k hk => by
    obtain ⟨cell, g1, -⟩ := hC.1 k hk
    exact (Array.getElem?_eq_some_iff.mp g1).1
  let rho : Nat → Nat := fun k => if k < 300 then (if k = 0 then b else if k < 257 then ad (k - 1) else if k = 257 then pa else if k = 258 then ca else b) else s.heap.size + (k - 300)
  have hr0 : rho 0 = b := rfl
  have hra : ∀ j, j < 256 → rho (j + 1) = ad j := fun j hj => by
    show (if j + 1 < 300 then _ else _) = _
    rw [if_pos (by omega), if_neg (by omega), if_pos (by omega)]
    rfl
  have hrp : rho 257 = pa := rfl
  have hrc : rho 258 = ca := rfl
  have hRh : hv_Rh rho s.heap.size := by
    refine ⟨fun k hk => ?_, fun k hk => ?_⟩
    · show (if k < 300 then _ else _) = _
      rw [if_neg (by have : 300 ≤ k := hk; omega)]
    · have hk' : k < 300 := hk
      show (if k < 300 then _ else _) < _
      rw [if_pos hk']
      by_cases z0 : k = 0
      · rw [if_pos z0]; exact hbl
      · rw [if_neg z0]
        by_cases z1 : k < 257
        · rw [if_pos z1]; exact hadlt _ (by omega)
        · rw [if_neg z1]
          by_cases z2 : k = 257
          · rw [if_pos z2]; exact hplt
          · rw [if_neg z2]
            by_cases z3 : k = 258
            · rw [if_pos z3]; exact hclt
            · rw [if_neg z3]; exact hbl
  have hXo : hv_Xo D rho s.heap (hv_fx L xs) := by
    intro k hk c' vs hf
    unfold hv_fx at hf ⊢
    by_cases z0 : k = 0
    · rw [if_pos z0] at hf; cases hf
    · rw [if_neg z0] at hf ⊢
      by_cases z1 : k < 257
      · rw [if_pos z1] at hf
        cases hf
        right
        obtain ⟨j, rfl⟩ : ∃ j, k = j + 1 := ⟨k - 1, by omega⟩
        have hj : j < 256 := by omega
        obtain ⟨cell, g1, g2, g3, -⟩ := hC.1 j hj
        obtain ⟨cf, kf, fi, f, cell2, q1, q2, q3, q4, q5, -⟩ := hC.2 j hj
        cases g1.symm.trans q3
        obtain ⟨hS, hfc, -⟩ := hD 30 _ rfl
        obtain ⟨cf', kf', fi', f', hi', hsl⟩ := hS 0 (by decide)
        have hi2 : s.fieldFound? "java/lang/Integer" "value" "I" = some (cf', kf', fi', f') := hi'
        cases q1.symm.trans hi2
        refine ⟨rfl, cell, by rw [hra j hj]; exact g1, q4, g2, Option.some.inj (g3.symm.trans hfc), ?_⟩
        rw [← hsl]
        exact q5
      · rw [if_neg z1] at hf ⊢
        by_cases z2 : k = 258
        · rw [if_pos z2] at hf; cases hf
        · rw [if_neg z2] at hf ⊢
          exact Or.inl rfl
  have hXa : hv_Xa rho s.heap (hv_fx L xs) s := by
    intro k hk t n x hf
    unfold hv_fx at hf
    by_cases z0 : k = 0
    · rw [if_pos z0] at hf
      cases hf
      subst z0
      obtain ⟨scr, g1, g2, g3, g4, g5⟩ := hX
      exact ⟨scr, g1, g3, ⟨Nat.le_of_eq g4.symm, by rw [g4]⟩, Or.inl ⟨rfl, g2, _, rfl, g5⟩⟩
    · rw [if_neg z0] at hf
      by_cases z1 : k < 257
      · rw [if_pos z1] at hf; cases hf
      · rw [if_neg z1] at hf
        by_cases z2 : k = 258
        · rw [if_pos z2] at hf
          cases hf
          subst z2
          have hj : ∀ j, j < 256 → (Int32.ofNat j).toNatClampNeg = j := fun j h => Int32.toNatClampNeg_ofNat_of_lt (by omega)
          have hat : ∀ j, j < 256 → ccell.slots[j]? = some (.ref (ad j)) ∧ j < ccell.slots.size := by
            intro j h
            obtain ⟨a', j', cell', e1, e2, e3, e4, e5⟩ := Term.elem_spec (hel j h)
            cases hcev.symm.trans e1
            cases hcat.symm.trans e3
            have ej : j' = Int32.ofNat j := by
              have : (Term.int (Int32.ofNat j)).eval #[Value.ref b] s none [] s = some (.int (Int32.ofNat j)) := rfl
              cases this.symm.trans e2
              rfl
            subst ej
            rw [hj j h] at e5
            exact ⟨e5, (Array.getElem?_eq_some_iff.mp e5).1⟩
          refine ⟨ccell, hcc, hckn, ⟨?_, ?_⟩, Or.inr ⟨rfl, hcof, _, rfl, fun j h => ?_⟩⟩
          · have := (hat 255 (by decide)).2
            omega
          · exact (Value.int.inj hcv).symm
          · rw [(hat j h).1, if_pos h, Option.map_some, hra j h]
            rfl
        · rw [if_neg z2] at hf
          unfold hv_none at hf
          cases hf
  refine ⟨D, aC, rho, ⟨hz, ⟨⟨hD, hA⟩, hRh, rfl, hXo, hXa⟩, ⟨?_, ?_, ?_, ?_, ?_⟩, ?_⟩, hr0⟩
  · rw [hrp]; exact va_Zof (hts _ (lw_at lw_m5 206 rfl)) (hts _ (lw_at lw_m1 17 rfl)) hpev hnB
  · exact va_Zof (hts _ (lw_at lw_m7 130 rfl)) (hts _ (lw_at lw_m1 50 rfl)) (va_eqi (hfl _ (by decide +kernel))) hnB
  · rw [hrc]; exact va_Zof (hts _ (lw_at lw_m7 132 rfl)) (hts _ (lw_at lw_m1 50 rfl)) hcev hnB
  · exact vx_Zqof (hts _ (lw_at lw_m3 44 rfl)) (hts _ (lw_at lw_m1 25 rfl)) (hfl _ (by decide +kernel)) hnB
  · exact vx_Zqof (hts _ (lw_at lw_m3 46 rfl)) (hts _ (lw_at lw_m1 25 rfl)) (hfl _ (by decide +kernel)) hnB
  · unfold Launch.stackTraces
    rw [hflags]
    decide +kernel
theorem hv_start {p : Program} {e : Env} {s : State} {m : MethodId} {below : List Frame} {meth : Method} {c : Code} (l : Launch) (hflags : l.flags = flags0) {b L : Nat} {xs : Nat → Int32} (C0 : lw_At p s m meth c b L xs) {d : Nat} {h' : hv_H} (hd : d ≤ 2048) (hrun : hv_run d 0 0 [some (.ref 0), none, none, none] [] (hv_h0 L xs) = some (.inl (some (.int 1)), h')) (hn : h'.1 ≤ 601324) (hz : h'.2.1 ≤ 7293034) :
    W p l e room_1 s m #[Value.ref b] below meth c s.heap [] 0 0 (lw_Z below #[Value.ref b] s) (entryFrame m ([Value.ref b] : List Value).toArray 4) := by
  obtain ⟨D, aC, rho, hC, hr0⟩ := hv_context l hflags C0
  obtain ⟨k, hex⟩ := hv_run_iff.mp hrun
  obtain ⟨hx, hcode, hret, hml, hown, hts, hX, hbl, hlocks, hgv⟩ := C0
  have hHR : hv_HR D aC rho s.heap.size s.heap (hv_fx L xs) (hv_h0 L xs) s.heap := ⟨Nat.le_refl _, rfl, fun _ _ => rfl, fun _ _ => rfl, fun k h1 h2 => absurd h2 (by show ¬ k < 300; have : 300 ≤ k := h1; omega), fun k hk => hv_fx_ge hk⟩
  have hB : hv_Bd s D aC rho s.heap.size s.heap (hv_fx L xs) p s m meth c 0 := ⟨hx, hcode, hml, hret, hown, hlocks, fun z => absurd rfl z, fun z => absurd z (by decide +kernel), State.WarmedH.refl s, _, hHR⟩
  have hLS : hv_LS rho [some (.ref 0), none, none, none] ((lg_sl (([.ref 0] : List Value).map (hv_cv rho)) ++ List.replicate (4 - (lg_sl (([.ref 0] : List Value).map (hv_cv rho))).length) Slot.unset).toArray) := hv_entry (rho := rho) (as := [.ref 0]) (n := 4) rfl
  have key := hv_walk hC k d 0 0 _ _ _ _ hex (by decide) (fun _ => ⟨_, rfl⟩) p e room_1 s m #[Value.ref b] below meth c s.heap [] _ 300 0 hB hHR (fun q hq => by cases hq) hLS hd (by show 40 * d ≤ 84000; omega) (by show h'.1 - 300 ≤ 601024; omega) (by show h'.2.1 - 0 ≤ 7293034; omega) (Nat.le_refl _) (Nat.le_refl _)
  have hef : entryFrame m ([Value.ref b] : List Value).toArray 4 = F0 m 0 ((lg_sl (([.ref 0] : List Value).map (hv_cv rho)) ++ List.replicate (4 - (lg_sl (([.ref 0] : List Value).map (hv_cv rho))).length) Slot.unset).toArray) [] := by
    have e1 : ([.ref 0] : List Value).map (hv_cv rho) = [.ref b] := by show [Value.ref (rho 0)] = _; rw [hr0]
    rw [e1]
    exact lg_entry_eq m [.ref b] 4
  rw [hef]
  intro T hT X
  obtain ⟨t, a1, o, b1, b2, b3⟩ := key T hT X
  refine ⟨t, a1, o, b1, b2, ?_⟩
  rcases b3 with ⟨⟨v, hv1, hv2, -⟩, Lx, ⟨hf1, hf2, hf3⟩, hLx⟩ | ⟨q, hq, E, ce, Lx, ⟨qa, hqa, -⟩, -⟩
  · cases hv1
    refine ⟨hv2, hf1, hf2, ?_⟩
    have := State.sameButNew.drop_fresh (L := []) (J := Lx) hf3 hLx
    exact this.mono (by show h'.1 - 300 ≤ 601024; omega) (by show h'.2.1 - 0 ≤ 7293034; omega)
  · cases hqa
