/-! SOUNDNESS: RuntimeException.<init> on a Refused or a Fault (follows vx_ctorMade0) -/
set_option maxRecDepth 100000
def hv_rw (C : String) : List Cond := [.selects C Bundle.tFill0 Bundle.tFill0, .selects C Bundle.tFill Bundle.tFill, .lays C Bundle.tN "cause" "Ljava/lang/Throwable;", .lays C Bundle.tN "stackTrace" Bundle.steD, .lays C Bundle.tN "suppressedExceptions" Bundle.listD, .lays C Bundle.tN "backtrace" "Ljava/lang/Object;"]
theorem hv_rw19 : ∀ w ∈ hv_rw "HallOfClaims$Refused", w ∈ lw_all := lw_in _ [632, 633, 634, 636, 638, 642] (by decide +kernel) (by decide +kernel)
theorem hv_rw21 : ∀ w ∈ hv_rw "HallOfClaims$Fault", w ∈ lw_all := lw_in _ [743, 656, 744, 745, 746, 748] (by decide +kernel) (by decide +kernel)
theorem hv_rwo : ∀ w ∈ ([.methodLink "HallOfClaims$Refusal" 1 (Bundle.init0 "java/lang/RuntimeException"), .fieldLink Bundle.tN 198 Bundle.tN "backtrace" "Ljava/lang/Object;", .lays Bundle.tN Bundle.tN "backtrace" "Ljava/lang/Object;"] : List Cond), w ∈ lw_all := lw_in _ [669, 644, 643] (by decide +kernel) (by decide +kernel)
section
variable {p : Program} {l : Launch} {e : Env} {R : Room} {s s0 : State} {m : MethodId} {args a0 : Array Value} {below : List Frame} {meth : Method} {c : Code} {H : Heap} {locs : List Loc} {cells slots : Nat} {Q : State → Prop}
variable {cc : ByteArray} {pc : Nat} {ls : Array Slot} {rest : List Value} {D : va_G} {aC : Nat → ClassId} {rho : Nat → Nat} {B : Nat} {H0 : Heap} {fx : Nat → va_E} {h h0 : hv_H}
set_option maxHeartbeats 2000000 in
theorem hv_rte_ok (hexec : p.tables.exec = Jvm.exec) (hb : c.code = cc) (hml : c.maxLocals = ls.size) (hl : l.stackTraces = false) (hz : hv_Z s0 a0) (hW : s0.WarmedH s.vm) (hE : hv_Ev D aC rho B H0 fx s) (hSc : hv_Sc s0 H0 rho B) (hH0 : hv_HR D aC rho B H0 fx h0 s.heap) (hH : hv_HR D aC rho B H0 fx h H) (hlo : hv_lo B locs)
    (hown : s.vm.findClass "HallOfClaims$Refusal" = some m.cls) {a n : Nat} {vs : List Value} (hn : n = 19 ∨ n = 21) (hc : h.2.2 a = .inr (n, vs)) (hnull : vs.getD 0 .null = .null) (hdg : decode cc pc = .ok (.invokespecial 1, 3)) (hfr : 8 ≤ R.frames) (hloc : 320 ≤ R.locals)
    (kk : ∀ (H1 : Heap) (locs1 : List Loc), hv_HR D aC rho B H0 fx h H1 → hv_lo B locs1 → W p l e R s m args below meth c H1 locs1 cells slots Q (F0 m (pc + 3) ls [])) : W p l e R s m args below meth c H locs cells slots Q (F0 m pc ls [.ref (rho a)]) := by
  intro T hT X
  have htr : e.platform.stackTraces = false := (show e.platform.stackTraces = l.stackTraces by rw [X.admits.platform]).trans hl
  have howns : e.platform.frameOwnsMonitors = true := by rw [X.admits.platform]
  have hfin : e.platform.finalization = false := by rw [X.admits.platform]
  have hpl : e.platform.magicAccessors = ({} : Platform).magicAccessors := by rw [X.admits.platform]
  have ht := hv_ht (args := args) hz hW
  have hB := hE.2.2.1
  have hqs : ∀ q : Nat, q < H0.size → ¬ (B ≤ q) → s.heap[q]? = H0[q]? := fun q _ hq => hH0.2.2.1 q (Nat.not_le.mp hq)
  have hU : vx_Zq Bundle.tN "UNASSIGNED_STACK" Bundle.steD (fun q => B ≤ q) s s.heap := (vx_Zq.moved hW.alike hSc.2.2.2.1).kept hqs
  have hN : vx_Zq Bundle.tN "SUPPRESSED_SENTINEL" Bundle.listD (fun q => B ≤ q) s s.heap := (vx_Zq.moved hW.alike hSc.2.2.2.2).kept hqs
  have hthr : ∀ w ∈ Bundle.throwableAtoms, w.before args s = true := vx_hat (B := [.laysStatic Bundle.tN "UNASSIGNED_STACK" Bundle.steD, .laysStatic Bundle.tN "SUPPRESSED_SENTINEL" Bundle.listD]) (fun w hw => ht w (hv_tA_in w hw)) (by decide +kernel) (vx_c hU.2.word (vx_c hN.2.word vx_n))
  have hd : ∀ {x : MethodName}, Cond.declares x ∈ lw_tbl → (Cond.declares x).before args s = true := fun hx => va_Nw.use rfl (va_Nw.warmD hW (va_Nw.of rfl (hz.1 _ hx)))
  have hch : ∀ w ∈ Bundle.chain0Atoms "java/lang/RuntimeException" ["java/lang/Exception"], w.before args s = true := vx_hat (B := [.declares (Bundle.init0 "java/lang/Exception"), .declares (Bundle.init0 Bundle.tN)]) (fun w hw => ht w (hv_cA_in w hw)) (by decide +kernel) (vx_c (hd (lw_at lw_m3 22 rfl)) (vx_c (hd (lw_at lw_m3 24 rfl)) vx_n))
  obtain ⟨Th, Z, L, LZ, Y⟩ := ThrowableC.of_atoms (args := args) howns hfin hpl hthr
  obtain ⟨P1, Ps, hlen, L1, hL, hP1m, hlink1, hlink⟩ := Bundle.chain0 (args := args) hpl Y.init0 ["java/lang/Exception"] "java/lang/RuntimeException" (by decide +kernel) (by decide +kernel) hch
  have hq : ∃ q : vw_C, hv_cl[n]? = some q ∧ (∀ w ∈ hv_rw q.1, w ∈ lw_all) ∧ (hv_T n 0) = ("java/lang/Throwable", "backtrace", "Ljava/lang/Object;", false) ∧ q.2.2 = 2 ∧ (hv_T n 1).2.1 ≠ "cause" ∧ (hv_T n 1).2.1 ≠ "stackTrace" ∧ (hv_T n 1).2.1 ≠ "suppressedExceptions" := by
    rcases hn with rfl | rfl
    · exact ⟨_, rfl, hv_rw19, by decide +kernel, rfl, by decide +kernel, by decide +kernel, by decide +kernel⟩
    · exact ⟨_, rfl, hv_rw21, by decide +kernel, rfl, by decide +kernel, by decide +kernel, by decide +kernel⟩
  obtain ⟨q, hq, hrw, hT0, hq2, hm1, hm2, hm3⟩ := hq
  have h30 : n ≠ 30 := by rcases hn with rfl | rfl <;> decide
  obtain ⟨ha, han, hvl, cell, q1, q2, q3, q6, q7, q8, q5⟩ := hH.objW hE hc hq h30
  obtain ⟨hTT, hin, hty, hnm, hins, -⟩ := hv_known n q hq
  obtain ⟨hS, hfc, kC, hkC, hkind⟩ := hE.1.1 n q hq
  rw [hTT] at hS
  have hw : ∀ w ∈ hv_rw q.1, w.before args s = true := fun w hw => ht w (hrw w hw)
  have hsel : ∀ {y : MethodName} {my : MethodId}, (Cond.selects q.1 y y).before args s = true → s.methodNamed? y = some my → (y.cls ≠ "java/lang/invoke/MethodHandle" ∧ y.cls ≠ "java/lang/invoke/VarHandle") → selectMethod e.platform s.vm cell.cls my = .method my := by
    intro y my hs hny hyo
    obtain ⟨c2, r2, m2, z1, z2, z3, z4, -⟩ := Cond.selects_spec hs
    cases Option.some.inj (z1.symm.trans hfc)
    cases Option.some.inj (z2.symm.trans (State.methodFound?_of_named hny hyo))
    cases Option.some.inj (z3.symm.trans hny)
    rw [Launch.admits_selectMethod X.admits, q2]; exact z4
  have hsel0 := hsel (hw _ (by simp [hv_rw])) Y.fill0 (by decide)
  have hselF := hsel (hw _ (by simp [hv_rw])) Y.fill (by decide)
  obtain ⟨cellS0, hcS0, hiss⟩ := Y.statics
  obtain ⟨u0, hu0⟩ := Cond.staticRefV Y.unassigned L.unassignedStatic L.statics hcS0 hiss (vx_isRefq (args := args) hU.1)
  obtain ⟨sen, hsen⟩ := Cond.staticRefV Y.sentinel L.sentinelStatic L.statics hcS0 hiss (vx_isRefq (args := args) hN.1)
  obtain ⟨ci198, i198, fB, hk198, hg198, ha198, hsB, -, hnB, htB, hffB⟩ := Cond.ownField (t := .object "java/lang/Object") Y.found L.cls (by decide +kernel) (ht _ (hv_rwo (.fieldLink Bundle.tN 198 Bundle.tN "backtrace" "Ljava/lang/Object;") (by simp))) (ht _ (hv_rwo (.lays Bundle.tN Bundle.tN "backtrace" "Ljava/lang/Object;") (by simp))) e.platform hpl
  have haS : Th.aS < B := by
    apply Nat.not_le.mp
    intro hge
    have := hH0.novm hE.2.1 hge hcS0
    rw [this] at hiss
    cases hiss
  have hcellS : T.heap[Th.aS]? = some cellS0 := by rw [hT, hH.2.2.1 _ haS, ← hH0.2.2.1 _ haS]; exact hcS0
  have hknownS : cellS0.vm ≠ .unknown := fun hu => by rw [hu] at hiss; cases hiss
  have hra : B ≤ rho a := hv_rho_ge hE.2.1 ha
  have hneS : Th.aS ≠ rho a := Nat.ne_of_lt (Nat.lt_of_lt_of_le haS hra)
  have lC := hw (.lays q.1 Bundle.tN "cause" "Ljava/lang/Throwable;") (by simp [hv_rw])
  have lS := hw (.lays q.1 Bundle.tN "stackTrace" Bundle.steD) (by simp [hv_rw])
  have lP := hw (.lays q.1 Bundle.tN "suppressedExceptions" Bundle.listD) (by simp [hv_rw])
  have lB := hw (.lays q.1 Bundle.tN "backtrace" "Ljava/lang/Object;") (by simp [hv_rw])
  obtain ⟨tyC, dC, hdC, hdnC⟩ := Cond.laysAt hfc hkC Y.cause lC
  obtain ⟨tyS, dS, hdS, hdnS⟩ := Cond.laysAt hfc hkC Y.stack lS
  obtain ⟨tyP, dP, hdP, hdnP⟩ := Cond.laysAt hfc hkC Y.supp lP
  obtain ⟨tyB, dB, hdB, hdnB⟩ := Cond.laysAt hfc hkC hffB lB
  have bC := Cond.laysApart hdB hdC hdnB hdnC (by rw [hnB, Y.causeName]; decide)
  have bS := Cond.laysApart hdB hdS hdnB hdnS (by rw [hnB, Y.stackName]; decide)
  have bP := Cond.laysApart hdB hdP hdnB hdnP (by rw [hnB, Y.suppName]; decide)
  obtain ⟨c1, kX', hc1, hk1, -, -, -, hn6⟩ := Cond.instantiable_spec (ht _ hins)
  cases hc1.symm.trans hfc
  cases hkC.symm.trans hk1
  have hslot : ∀ {f : Field}, kC.instanceTypes[f.slot]? = some f.type → f.slot < cell.slots.size := by
    intro f hf
    have := (Array.getElem?_eq_some_iff.mp hf).1
    rw [q8]; omega
  have htk : ∀ {f : Field} {v : Value}, kC.instanceTypes[f.slot]? = some f.type → fits f.type v = true → Takes s cell f v := by
    intro f v hf hv
    refine ⟨hslot hf, ?_⟩
    simp [State.fitsSlot, State.slotType?, q2, q3, hkC, hkind, hf, hv]
  obtain ⟨cf0, kf0, fi0, f0, hi0, hsl0⟩ := hS 0 (by rw [hq2]; decide)
  obtain ⟨cf1, kf1, fi1, f1, hi1, hsl1⟩ := hS 1 (by rw [hq2]; decide)
  have hf0 : f0 = fB := by
    rw [hT0] at hi0
    have := hi0.symm.trans hffB
    cases this
    rfl
  have l1 := u_lays ht hin (k := 1) (by rw [hq2]; decide)
  have hnm1 : f1.name = (hv_T n 1).2.1 := (State.fieldFound?_type hi1 (hty 1 (by rw [hq2]; decide))).1
  have oC : f1.slot ≠ Th.fCause.slot := u_apart l1 (Or.inl lC) hi1 Y.cause (by rw [hnm1, Y.causeName]; exact hm1)
  have oS : f1.slot ≠ Th.fStack.slot := u_apart l1 (Or.inl lS) hi1 Y.stack (by rw [hnm1, Y.stackName]; exact hm2)
  have oP : f1.slot ≠ Th.fSupp.slot := u_apart l1 (Or.inl lP) hi1 Y.supp (by rw [hnm1, Y.suppName]; exact hm3)
  have hback : cell.slots[fB.slot]? = some .null := by
    have := q5 0 (by rw [hq2]; decide)
    rw [← hsl0, hf0, hnull] at this
    exact this
  have hskip : SkipFacts Th e.platform s (fun u => u) u0 ((preparedCellV Th.toThrowableT cell (rho a) u0 sen).withEntry T.cur) :=
    ⟨{ ci198 := ci198, i198 := i198, fBack := fB }, ⟨hk198, hg198, ha198, hsB⟩, by
      simpa [preparedCellV, Cell.setSlot, Cell.withEntry, Array.getElem?_setIfInBounds, bC, bS, bP, bC.symm, bS.symm, bP.symm, defaultValue] using hback, fun _ _ => rfl⟩
  obtain ⟨tm, methC, cdC, kC9, vm₁, hnC, -, -, -, -, -, -, -, hW₁, st1⟩ := Steps.initCold (tb := p.tables) (e := e) (below := below) (s := s) (U := T) X.here hexec X.warmed hpl hown (t := Bundle.init0 "java/lang/RuntimeException") rfl rfl (by decide +kernel)
    (ht _ (hv_rwo (.methodLink "HallOfClaims$Refusal" 1 (Bundle.init0 "java/lang/RuntimeException")) (by simp))) (hch (.instanceMethod (Bundle.init0 "java/lang/RuntimeException")) (by simp [Bundle.chain0Atoms, Bundle.passAtoms])) (bytes := Bundle.five) (maxL := 1) (hch (.code (Bundle.init0 "java/lang/RuntimeException") Bundle.five 1 none) (by simp [Bundle.chain0Atoms, Bundle.passAtoms]))
    (f := F0 m pc ls [.ref (rho a)]) rfl (a := rho a) (rest := []) rfl (by rw [hb]; exact hdg)
  cases Option.some.inj (hnC.symm.trans hP1m)
  have X₁ := X.noted hW₁
  have hcell : T.heap[rho a]? = some cell := by rw [hT]; exact q1
  obtain ⟨vm₂, X₂, st2⟩ := X₁.ctorPlainOffV hexec (g := { F0 m pc ls [.ref (rho a)] with stack := [] }) rfl (show ls.size = c.maxLocals from hml.symm) Th L Z LZ (P1 :: Ps)
    (fun P hP => by rcases List.mem_cons.mp hP with rfl | hP; exact L1; exact hL P hP) ⟨hlink1, hlink⟩ (u0 := u0) (sen := sen) (self := rho a) (cell := cell) (cellS := cellS0)
    hcell (fun _ hv => by rw [q3] at hv; cases hv) (by rw [q3]; exact fun hv => by cases hv) q6 q7 hsel0 hselF hcellS hneS hknownS hu0 hsen
    (htk tyC (by rw [Y.causeType]; rfl)) (htk tyS (by rw [Y.stackType]; exact fits_refV_array _ u0)) (htk tyP (by rw [Y.suppType]; exact fits_refV_object _ sen)) Y.objLocals hskip htr [] (by rw [hb]; exact hdg)
    (by simp only [List.length_cons, hlen, List.length_nil]; omega) (by simp only [List.length_cons, hlen, List.length_nil]; show 2 * 0 + 0 + _ ≤ _; omega)
  have hlt : rho a < H.size := (Array.getElem?_eq_some_iff.mp q1).1
  have hheap : (((T.setVm vm₁).setVm vm₂).setCell (rho a) ((preparedCellV Th.toThrowableT cell (rho a) u0 sen).setSlot Th.fStack.slot u0.v)).heap = H.setIfInBounds (rho a) ((preparedCellV Th.toThrowableT cell (rho a) u0 sen).setSlot Th.fStack.slot u0.v) := by rw [← hT]; rfl
  have hH1 := hH.put (H' := H.setIfInBounds (rho a) ((preparedCellV Th.toThrowableT cell (rho a) u0 sen).setSlot Th.fStack.slot u0.v)) (e := h.2.2 a) hE.2.1 ha han (by
      rw [hc]
      refine ⟨q, hq, h30, hvl, (preparedCellV Th.toThrowableT cell (rho a) u0 sen).setSlot Th.fStack.slot u0.v, by rw [Array.getElem?_setIfInBounds, if_pos rfl, if_pos hlt], q2, q3, q6, q7, by simp [preparedCellV, Cell.setSlot, q8], fun k hk => ?_⟩
      have hk2 : k = 0 ∨ k = 1 := by rw [hq2] at hk; omega
      rcases hk2 with rfl | rfl
      · rw [← q5 0 hk, ← hsl0, hf0]
        simp [preparedCellV, Cell.setSlot, Array.getElem?_setIfInBounds, bC.symm, bS.symm, bP.symm]
      · rw [← q5 1 hk, ← hsl1]
        simp [preparedCellV, Cell.setSlot, Array.getElem?_setIfInBounds, oC.symm, oS.symm, oP.symm]) (by simp) (fun q hq => by simp [Array.getElem?_setIfInBounds, Ne.symm hq])
  rw [hv_put_same] at hH1
  obtain ⟨t, a1, b1⟩ := kk _ _ hH1 (hlo.app (fun y hy => by
      simp only [List.mem_cons, List.not_mem_nil, or_false] at hy
      rcases hy with rfl | rfl | rfl | rfl <;> exact hra)) _ hheap X₂
  exact ⟨t, st1 _ (fun acts => by rw [doInvoke_state]; exact st2 _ a1), b1⟩
end
