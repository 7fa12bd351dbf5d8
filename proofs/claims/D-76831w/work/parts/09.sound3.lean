/-! SOUNDNESS, the heap: new cells, casts, constants, comparisons, copies -/
set_option maxRecDepth 100000
theorem hv_dfk0 : (List.range 34).all (fun c => match hv_cl[c]? with
    | some q => (hv_df c).length == q.2.2 && (List.range q.2.2).all (fun k => decide ((hv_df c).getD k .null = defaultValue (hv_Y c k)))
    | none => false) = true := by decide +kernel
theorem hv_dfk {c : Nat} {q : vw_C} (hq : hv_cl[c]? = some q) : (hv_df c).length = q.2.2 ∧ ∀ k, k < q.2.2 → (hv_df c).getD k .null = defaultValue (hv_Y c k) := by
  have hc : c < 34 := (List.getElem?_eq_some_iff.mp hq).1
  have h := List.all_eq_true.mp hv_dfk0 c (List.mem_range.mpr hc)
  rw [hq] at h
  simp only [Bool.and_eq_true, beq_iff_eq] at h
  refine ⟨h.1, fun k hk => ?_⟩
  exact of_decide_eq_true (List.all_eq_true.mp h.2 k (List.mem_range.mpr hk))
theorem hv_cv_def (rho : Nat → Nat) (ty : FieldType) : hv_cv rho (defaultValue ty) = defaultValue ty := by cases ty <;> rfl
section
variable {p : Program} {l : Launch} {e : Env} {R : Room} {s : State} {m : MethodId} {args : Array Value} {below : List Frame} {meth : Method} {c : Code} {H : Heap} {locs : List Loc} {cells slots : Nat} {Q : State → Prop}
variable {cc : ByteArray} {pc : Nat} {ls : Array Slot} {rest : List Value} {D : va_G} {aC : Nat → ClassId} {rho : Nat → Nat} {B : Nat} {H0 : Heap} {fx : Nat → va_E} {h : hv_H}
theorem hv_new_ok (hx : p.tables.exec = Jvm.exec) (hb : c.code = cc) (hts : ∀ w ∈ lw_all, w.before args s = true) {own : String} {index : Nat} (hown : s.vm.findClass own = some m.cls) (hE : hv_Ev D aC rho B H0 fx s) (hH : hv_HR D aC rho B H0 fx h H)
    {n : Nat} {q : vw_C} (hq : hv_cl[n]? = some q) (h30 : n ≠ 30) (hlink : (Cond.classLink own index q.1).before args s = true) (hdg : decode cc pc = .ok (.new index, 3)) (hcells : cells + 1 ≤ R.cells) (hslots : slots + hv_sz n ≤ R.slots)
    (kk : ∀ (H1 : Heap), hv_HR D aC rho B H0 fx (hv_alloc h (.inr (n, hv_df n)) (hv_sz n)) H1 → W p l e R s m args below meth c H1 locs (cells + 1) (slots + hv_sz n) Q (F0 m (pc + 3) ls (.ref (rho h.1) :: rest))) : W p l e R s m args below meth c H locs cells slots Q (F0 m pc ls rest) := by
  obtain ⟨hT, hin, hty, hnm, hins, hini⟩ := hv_known n q hq
  have hKn := hE.1.1 n q hq
  rw [hT] at hKn
  obtain ⟨hdl, hdf⟩ := hv_dfk hq
  refine W.newcK hx hb hown hlink (hts _ hins) (hts _ hini) rfl hdg hcells hslots hKn.2.1 rfl fun H1 kC hkC e1 z1 o1 => ?_
  have hb' := u_born (hv_Y n) hts hin hKn hkC e1 hty
  have hot : hv_ot D aC rho H.size (.inr (n, hv_df n)) H1 := by
    obtain ⟨cell, g1, g2, g3, g4⟩ := hb'
    have hce : cell = blank (D.1 n) kC := Option.some.inj (g1.symm.trans e1)
    have hsz9 : cell.slots.size = hv_sz n := by
      obtain ⟨c1, kX', hc1, hk1, -, -, -, hn6⟩ := Cond.instantiable_spec (hts _ hins)
      cases hc1.symm.trans hKn.2.1
      cases hkC.symm.trans hk1
      rw [hce, ← hn6]
      simp [blank]
    refine ⟨q, hq, h30, hdl, cell, g1, g2, g3, by rw [hce]; rfl, by rw [hce]; rfl, hsz9, fun k hk => ?_⟩
    rw [g4 k hk, hdf k hk, hv_cv_def]
  obtain ⟨hH1, hr⟩ := hH.alloc (sz := hv_sz n) hE.2.1 hot z1 o1
  have := kk H1 hH1
  rw [hr] at this
  exact this
theorem hv_zero_cell {t n : Nat} {ty : FieldType} (ht : hv_tys[t]? = some ty) {cA : ClassId} : ∃ x, hv_zero t n = .inl (t, x) ∧ vp_cell cA (hv_ca rho x) = arrV cA n (fun _ => defaultValue ty) := by
  have h11 : t < 11 := (List.getElem?_eq_some_iff.mp ht).1
  match t, ht, h11 with
  | 0, ht, _ => cases ht; exact ⟨_, rfl, rfl⟩
  | 1, ht, _ => cases ht; exact ⟨_, rfl, rfl⟩
  | 2, ht, _ => cases ht; exact ⟨_, rfl, rfl⟩
  | 3, ht, _ => cases ht; exact ⟨_, rfl, rfl⟩
  | 4, ht, _ => cases ht; exact ⟨_, rfl, rfl⟩
  | 5, ht, _ => cases ht; exact ⟨_, rfl, rfl⟩
  | 6, ht, _ => cases ht; exact ⟨_, rfl, rfl⟩
  | 7, ht, _ => cases ht; exact ⟨_, rfl, rfl⟩
  | 8, ht, _ => cases ht; exact ⟨_, rfl, rfl⟩
  | 9, ht, _ => cases ht; exact ⟨_, rfl, rfl⟩
  | 10, ht, _ => cases ht; exact ⟨_, rfl, rfl⟩
theorem hv_newarr_ok (hx : p.tables.exec = Jvm.exec) (hb : c.code = cc) (hE : hv_Ev D aC rho B H0 fx s) (hH : hv_HR D aC rho B H0 fx h H) {ty : ArrayType} (hty : hv_tys[hv_ato ty]? = some (newarray.typeOf ty)) (hra : ∀ cA, va_RA s cA (newarray.typeOf ty) → s.vm.findClass ("[" ++ (newarray.typeOf ty).toString) = some cA) (harr : (Cond.arrayClass (newarray.typeOf ty)).before args s = true)
    {n : Int32} (hn : ¬ n < 0) (hm : n.toNatClampNeg ≤ 65536) (hdg : decode cc pc = .ok (.newarray ty, 2)) (hcells : cells + 1 ≤ R.cells) (hslots : slots + n.toNatClampNeg ≤ R.slots)
    (kk : ∀ (H1 : Heap), hv_HR D aC rho B H0 fx (hv_alloc h (hv_zero (hv_ato ty) n.toNatClampNeg) n.toNatClampNeg) H1 → W p l e R s m args below meth c H1 locs (cells + 1) (slots + n.toNatClampNeg) Q (F0 m (pc + 2) ls (.ref (rho h.1) :: rest))) : W p l e R s m args below meth c H locs cells slots Q (F0 m pc ls (.int n :: rest)) := by
  have hbytes : n.toNatClampNeg * componentBytes (newarray.typeOf ty) ≤ 536870912 := by
    have : componentBytes (newarray.typeOf ty) ≤ 8 := by cases ty <;> decide
    calc n.toNatClampNeg * componentBytes (newarray.typeOf ty) ≤ 65536 * 8 := Nat.mul_le_mul hm this
      _ ≤ 536870912 := by decide
  refine va_newaK hx hb harr rfl hdg rfl hn rfl hbytes hcells hslots rfl fun H1 cA e1 z1 o1 hAr hNm => ?_
  have hcA : cA = aC (hv_ato ty) := by
    have := hra _ (hE.1.2 _ _ (hv_tyl_at aC _ _ hty)).2
    exact Option.some.inj (hNm.symm.trans this)
  subst hcA
  obtain ⟨x, hz, hcell⟩ := hv_zero_cell (rho := rho) (n := n.toNatClampNeg) hty (cA := aC (hv_ato ty))
  have hot : hv_ot D aC rho H.size (hv_zero (hv_ato ty) n.toNatClampNeg) H1 := by
    rw [hz]
    exact ⟨(List.getElem?_eq_some_iff.mp hty).1, by rw [e1, hcell]⟩
  obtain ⟨hH1, hr⟩ := hH.alloc (sz := n.toNatClampNeg) hE.2.1 hot z1 o1
  have := kk H1 hH1
  rw [hr] at this
  exact this
theorem hv_anew_ok (hx : p.tables.exec = Jvm.exec) (hb : c.code = cc) {own C : String} {index : Nat} (hown : s.vm.findClass own = some m.cls) (hE : hv_Ev D aC rho B H0 fx s) (hH : hv_HR D aC rho B H0 fx h H) {t : Nat} (hty : hv_tys[t]? = some (.object C)) (hlink : (Cond.classLink own index C).before args s = true) (hov : va_AO C s)
    {n : Int32} (hn : ¬ n < 0) (hm : n.toNatClampNeg ≤ 65536) (hdg : decode cc pc = .ok (.anewarray index, 3)) (hcells : cells + 1 ≤ R.cells) (hslots : slots + n.toNatClampNeg ≤ R.slots)
    (kk : ∀ (H1 : Heap), hv_HR D aC rho B H0 fx (hv_alloc h (hv_zero t n.toNatClampNeg) n.toNatClampNeg) H1 → W p l e R s m args below meth c H1 locs (cells + 1) (slots + n.toNatClampNeg) Q (F0 m (pc + 3) ls (.ref (rho h.1) :: rest))) : W p l e R s m args below meth c H locs cells slots Q (F0 m pc ls (.int n :: rest)) := by
  refine W.anew hx hb hown hlink hov.use rfl hdg rfl hn (by omega) hcells hslots fun cA kA comp h1 h2 h3 h4 => ?_
  obtain ⟨kA', comp', -, -, -, h9⟩ := (hE.1.2 _ _ (hv_tyl_at aC t _ hty)).2
  have hcA : cA = aC t := Option.some.inj (h1.symm.trans h9)
  subst hcA
  obtain ⟨x, hz, hcell⟩ := hv_zero_cell (rho := rho) (n := n.toNatClampNeg) hty (cA := aC t)
  have hot : hv_ot D aC rho H.size (hv_zero t n.toNatClampNeg) (H.push { cls := aC t, slots := Array.replicate n.toNatClampNeg .null, vm := .none }) := by
    rw [hz]
    refine ⟨(List.getElem?_eq_some_iff.mp hty).1, ?_⟩
    rw [hcell, arrV_new]
    simp [defaultValue]
  obtain ⟨hH1, hr⟩ := hH.alloc (sz := n.toNatClampNeg) hE.2.1 hot (by simp) (fun q hq => by rw [Array.getElem?_push, if_neg (Nat.ne_of_lt hq)])
  have := kk _ hH1
  rw [hr] at this
  exact this
theorem hv_alen_ok (hx : p.tables.exec = Jvm.exec) (hb : c.code = cc) (hE : hv_Ev D aC rho B H0 fx s) (hH : hv_HR D aC rho B H0 fx h H) {a t n : Nat} {x} (hc : h.2.2 a = .inl (t, n, x)) (hdg : decode cc pc = .ok (.arraylength, 1))
    (kk : W p l e R s m args below meth c H locs cells slots Q (F0 m (pc + 1) ls (.int (Int32.ofNat n) :: rest))) : W p l e R s m args below meth c H locs cells slots Q (F0 m pc ls (.ref (rho a) :: rest)) := by
  have key : ∃ (cell : Cell) (ty : FieldType), H[rho a]? = some cell ∧ s.isArrayOf cell ty ∧ cell.slots.size.toInt32 = Int32.ofNat n := by
    obtain ⟨h1, h2, h3, h4, h5, h6⟩ := hH
    obtain ⟨hK, hR, hB, hXo, hXa⟩ := hE
    by_cases ha : a < hv_E
    · have e := h4 a ha
      rw [hc] at e
      obtain ⟨cell, g1, g2, g3, z | z⟩ := hXa a ha t n x e.symm
      · exact ⟨cell, _, by rw [h3 _ (hR.2 a ha)]; exact g1, z.2.1, g3.2⟩
      · exact ⟨cell, _, by rw [h3 _ (hR.2 a ha)]; exact g1, z.2.1, g3.2⟩
    · by_cases hn : a < h.1
      · have z := h5 a (by omega) hn
        rw [hc] at z
        obtain ⟨ty, hty, htl⟩ := hv_ty_at aC z.1
        have ho := (hK.2 t _ htl).1
        match x, z with
        | .inl g, z => exact ⟨_, ty, z.2, ho n (fun j => .int (g j)), congrArg (fun k : Nat => k.toInt32) (arrV_size _ _ _)⟩
        | .inr (.inl g), z => exact ⟨_, ty, z.2, ho n (fun j => .long (g j)), congrArg (fun k : Nat => k.toInt32) (arrV_size _ _ _)⟩
        | .inr (.inr (.inl g)), z => exact ⟨_, ty, z.2, ho n (fun j => .float (g j)), congrArg (fun k : Nat => k.toInt32) (arrV_size _ _ _)⟩
        | .inr (.inr (.inr (.inl g))), z => exact ⟨_, ty, z.2, ho n (fun j => .double (g j)), congrArg (fun k : Nat => k.toInt32) (arrV_size _ _ _)⟩
        | .inr (.inr (.inr (.inr g))), z => exact ⟨_, ty, z.2, ho n (fun j => va_rf ((g j).map rho)), congrArg (fun k : Nat => k.toInt32) (arrV_size _ _ _)⟩
      · have z := h6 a (by omega)
        rw [hc] at z
        unfold hv_none at z
        cases z
  obtain ⟨cell, ty, q1, q2, q3⟩ := key
  exact W.alen hx hb q1 q2 q3 rfl rfl hdg kk
/-- a cell made here, by its kind -/
theorem hv_isN_ge (hE : hv_Ev D aC rho B H0 fx s) (hH : hv_HR D aC rho B H0 fx h H) {a : Nat} (hn : hv_isN (h.2.2 a) = true) : hv_E ≤ a := by
  obtain ⟨h1, h2, h3, h4, h5, h6⟩ := hH
  obtain ⟨hK, hR, hB, hXo, hXa⟩ := hE
  apply Nat.not_lt.mp
  intro ha
  have e := h4 a ha
  rw [e] at hn
  cases hf : fx a with
  | inl x =>
    obtain ⟨t, n, x⟩ := x
    rw [hf] at hn
    obtain ⟨cell, -, -, -, z | z⟩ := hXa a ha t n x hf
    · have z1 : t = 20 := z.1
      subst z1
      cases hn
    · have z1 : t = 21 := z.1
      subst z1
      cases hn
  | inr o =>
    obtain ⟨cn, vs⟩ := o
    rcases hXo a ha cn vs hf with z | ⟨rfl, -⟩
    · rw [z] at hn
      cases hn
    · rw [hf] at hn
      cases hn
theorem hv_vN_opt (hE : hv_Ev D aC rho B H0 fx s) (hH : hv_HR D aC rho B H0 fx h H) {v : Value} (hv : hv_vN h.2.2 v = true) : ∃ o : Option Nat, v = va_rf o ∧ ∀ a, o = some a → hv_E ≤ a := by
  cases v with
  | null => exact ⟨none, rfl, fun a z => by cases z⟩
  | ref a => exact ⟨some a, rfl, fun b z => by cases z; exact hv_isN_ge hE hH hv⟩
  | _ => cases hv
theorem hv_map_inj (hR : hv_Rh rho B) {x y : Option Nat} (hx : ∀ a, x = some a → hv_E ≤ a) (hy : ∀ a, y = some a → hv_E ≤ a) : x.map rho = y.map rho ↔ va_rf x = va_rf y := by
  cases x with
  | none =>
    cases y with
    | none => exact ⟨fun _ => rfl, fun _ => rfl⟩
    | some b => exact ⟨fun z => (by cases z), fun z => (by cases z)⟩
  | some a =>
    cases y with
    | none => exact ⟨fun z => (by cases z), fun z => (by cases z)⟩
    | some b =>
      constructor
      · intro z
        rw [hv_rho_inj hR (hx a rfl) (hy b rfl) (Option.some.inj z)]
      · intro z
        cases z
        rfl
theorem hv_acmp_ok (hx : p.tables.exec = Jvm.exec) (hb : c.code = cc) (hE : hv_Ev D aC rho B H0 fx s) (hH : hv_HR D aC rho B H0 fx h H) {v w : Value} (hv : hv_vN h.2.2 v = true) (hw : hv_vN h.2.2 w = true) {cd : ACond} {off : Int} {tgt : Nat} (hdg : decode cc pc = .ok (.if_acmp cd off, 3)) (ht : (pc : Int) + off = (tgt : Int))
    (kt : (match cd with | .eq => v = w | .ne => ¬ v = w) → W p l e R s m args below meth c H locs cells slots Q (F0 m tgt ls rest)) (kf : ¬ (match cd with | .eq => v = w | .ne => ¬ v = w) → W p l e R s m args below meth c H locs cells slots Q (F0 m (pc + 3) ls rest)) : W p l e R s m args below meth c H locs cells slots Q (F0 m pc ls (hv_cv rho w :: hv_cv rho v :: rest)) := by
  obtain ⟨x, rfl, gx⟩ := hv_vN_opt hE hH hv
  obtain ⟨y, rfl, gy⟩ := hv_vN_opt hE hH hw
  have key := hv_map_inj hE.2.1 gx gy
  rw [← hv_rfm, ← hv_rfm]
  cases cd with
  | eq => exact lv_acmp_eq hx hb hdg ht (fun z => kt (key.mp z)) (fun z => kf (fun q => z (key.mpr q)))
  | ne => exact lv_acmp_ne hx hb hdg ht (fun z => kt (fun q => z (key.mpr q))) (fun z => kf (fun q => q (key.mp z)))
theorem hv_cast_ok (hx : p.tables.exec = Jvm.exec) (hb : c.code = cc) {own C : String} {index : Nat} (hown : s.vm.findClass own = some m.cls) (hlink : (Cond.classLink own index C).before args s = true) (hE : hv_Ev D aC rho B H0 fx s) (hH : hv_HR D aC rho B H0 fx h H) {a n : Nat} {vs : List Value} {q : vw_C} (hc : h.2.2 a = .inr (n, vs)) (hq : hv_cl[n]? = some q) (hca : q.1 = C ∨ va_Nw (.castable q.1 C) s) (hdg : decode cc pc = .ok (.checkcast index, 3))
    (kk : W p l e R s m args below meth c H locs cells slots Q (F0 m (pc + 3) ls (.ref (rho a) :: rest))) : W p l e R s m args below meth c H locs cells slots Q (F0 m pc ls (.ref (rho a) :: rest)) := by
  obtain ⟨cell, q1, q2, q3, q4, q5⟩ := hH.obj hE hc hq
  have hcl := (hE.1.1 n q hq).2
  have hr : ∃ cell : Cell, H[rho a]? = some cell ∧ cell.vm.isStatics = false ∧ s.vm.findClass q.1 = some cell.cls := ⟨cell, q1, q3, by rw [q4]; exact hcl.1⟩
  rcases hca with e | hca
  · rw [e] at hr hcl
    exact va_castS hx hb hown hlink hcl hr hdg kk
  · exact va_castY hx hb hown hlink hca hr hdg kk
theorem hv_instY_ok (hx : p.tables.exec = Jvm.exec) (hb : c.code = cc) {own C : String} {index : Nat} (hown : s.vm.findClass own = some m.cls) (hlink : (Cond.classLink own index C).before args s = true) (hE : hv_Ev D aC rho B H0 fx s) (hH : hv_HR D aC rho B H0 fx h H) {a n : Nat} {vs : List Value} {q : vw_C} (hc : h.2.2 a = .inr (n, vs)) (hq : hv_cl[n]? = some q) (hca : q.1 = C ∨ va_Nw (.castable q.1 C) s) (hdg : decode cc pc = .ok (.instanceof index, 3))
    (kk : W p l e R s m args below meth c H locs cells slots Q (F0 m (pc + 3) ls (.int 1 :: rest))) : W p l e R s m args below meth c H locs cells slots Q (F0 m pc ls (.ref (rho a) :: rest)) := by
  obtain ⟨cell, q1, q2, q3, q4, q5⟩ := hH.obj hE hc hq
  have hcl := (hE.1.1 n q hq).2
  have hr : ∃ cell : Cell, H[rho a]? = some cell ∧ cell.vm.isStatics = false ∧ s.vm.findClass q.1 = some cell.cls := ⟨cell, q1, q3, by rw [q4]; exact hcl.1⟩
  rcases hca with e | hca
  · rw [e] at hr hcl
    exact va_instS hx hb hown hlink hcl hr hdg kk
  · exact va_instY hx hb hown hlink hca hr hdg kk
theorem hv_instN_ok (hx : p.tables.exec = Jvm.exec) (hb : c.code = cc) {own C : String} {index : Nat} (hown : s.vm.findClass own = some m.cls) (hlink : (Cond.classLink own index C).before args s = true) (hE : hv_Ev D aC rho B H0 fx s) (hH : hv_HR D aC rho B H0 fx h H) {a n : Nat} {vs : List Value} {q : vw_C} (hc : h.2.2 a = .inr (n, vs)) (hq : hv_cl[n]? = some q) (hca : va_Nc q.1 C s) (hdg : decode cc pc = .ok (.instanceof index, 3))
    (kk : W p l e R s m args below meth c H locs cells slots Q (F0 m (pc + 3) ls (.int 0 :: rest))) : W p l e R s m args below meth c H locs cells slots Q (F0 m pc ls (.ref (rho a) :: rest)) := by
  obtain ⟨cell, q1, q2, q3, q4, q5⟩ := hH.obj hE hc hq
  have hcl := (hE.1.1 n q hq).2
  exact va_instNo hx hb hown hlink hca ⟨cell, q1, q3, by rw [q4]; exact hcl.1⟩ hdg kk
theorem hv_nn (z : Int32) (hz : ¬ z < 0) : z.toInt = (z.toNatClampNeg : Int) := by
  have hz0 : (0 : Int) ≤ z.toInt := by
    have := Int32.not_lt.mp hz
    simpa using Int32.le_iff_toInt_le.mp this
  show z.toInt = ((z.toInt.toNat : Nat) : Int)
  omega
theorem hv_copyI_ok (hx : p.tables.exec = Jvm.exec) (hb : c.code = cc) (hml : c.maxLocals = ls.size) {own : String} {index : Nat} (hown : s.vm.findClass own = some m.cls) (hlink : (Cond.methodLink own index arraycopyName).before args s = true) (hnat : (Cond.native arraycopyName).before args s = true) (hstat : (Cond.static arraycopyName).before args s = true) (hini : (Cond.initialized "java/lang/System").before args s = true)
    (hE : hv_Ev D aC rho B H0 fx s) (hH : hv_HR D aC rho B H0 fx h H) (hlo : hv_lo B locs) {a b n0 n1 : Nat} {f g : Nat → Int32} (ha : h.2.2 a = .inl (0, n0, .inl f)) (hb1 : h.2.2 b = .inl (0, n1, .inl g)) {n : Int32} (h3 : ¬ n < 0) (h4 : n.toNatClampNeg ≤ n0) (h5 : n.toNatClampNeg ≤ n1)
    (hframes : 1 ≤ R.frames) (hlocals : 40 ≤ R.locals) (hdg : decode cc pc = .ok (.invokestatic index, 3))
    (kk : ∀ (H1 : Heap) (locs1 : List Loc), hv_HR D aC rho B H0 fx (hv_put h b (hv_cp (h.2.2 a) (h.2.2 b) n.toNatClampNeg)) H1 → hv_lo B locs1 → W p l e R s m args below meth c H1 locs1 cells slots Q (F0 m (pc + 3) ls [])) : W p l e R s m args below meth c H locs cells slots Q (F0 m pc ls [.int n, .int 0, .ref (rho b), .int 0, .ref (rho a)]) := by
  obtain ⟨-, -, hc0⟩ := hH.arrW hE ha (by decide)
  obtain ⟨hbe, hbn, hc1⟩ := hH.arrW hE hb1 (by decide)
  have htyp := (hE.1.2 0 _ (hv_tyl_at aC 0 .int rfl)).1
  intro T hT X
  obtain ⟨-, k0, hk0, cm0, hkk0⟩ := htyp n0 (fun j => .int (f j))
  obtain ⟨-, k1, hk1, cm1, hkk1⟩ := htyp n1 (fun j => .int (g j))
  have z0 : (0 : Int32).toInt = 0 := rfl
  have z1 : (0 : Int32).toNatClampNeg = 0 := rfl
  obtain ⟨vm', X', step⟩ := X.arraycopy hx hown hlink hnat hstat hini (src := rho a) (dst := rho b) (cs := vp_cell (aC 0) (n0, .inl f)) (cd := vp_cell (aC 0) (n1, .inl g)) (srcPos := 0) (destPos := 0) (n := n) (by rw [hT]; exact hc0) (by rw [hT]; exact hc1)
    (fun _ h => by cases h) (fun _ h => by cases h) (fun h => by cases h) (fun h => by cases h) hk0 hk1 hkk0 hkk1 (by simp [refKind]) (by decide) (by decide) h3
    (by rw [z0, hv_nn n h3]; show ¬ _ > ((arrV (aC 0) n0 (fun j => .int (f j))).slots.size : Int); rw [arrV_size]; omega)
    (by rw [z0, hv_nn n h3]; show ¬ _ > ((arrV (aC 0) n1 (fun j => .int (g j))).slots.size : Int); rw [arrV_size]; omega)
    (fun vm₁ _ i hi => by
      have e : (vp_cell (aC 0) (n0, .inl f)).slots.getD ((0 : Int32).toNatClampNeg + i) .null = .int (f ((0 : Int32).toNatClampNeg + i)) := by
        show (arrV (aC 0) n0 (fun j => .int (f j))).slots.getD _ _ = _
        rw [Array.getD_eq_getD_getElem?, arrV_read _ _ (by rw [z1]; omega)]
        rfl
      refine ⟨?_, ?_⟩
      · rw [e]; rfl
      · rw [e]; exact trivial)
    (g := F0 m pc ls [.int n, .int 0, .ref (rho b), .int 0, .ref (rho a)]) rfl (by rw [hml]) (rest := []) rfl (by rw [hb]; exact hdg) hframes (by
      have e9 : nativeFrameWords "java/lang/System" "arraycopy" 5 = 7 := by decide +kernel
      show 2 * 0 + 0 + (nativeFrameWords "java/lang/System" "arraycopy" 5 + 11) ≤ _
      rw [e9]; omega)
  have e1 : copied (vp_cell (aC 0) (n0, .inl f)) (vp_cell (aC 0) (n1, .inl g)) 0 0 n = vp_cell (aC 0) (n1, .inl (va_cpy f g 0 0 n.toNatClampNeg)) := va_copied (fun z => .int z) (aC 0) (aC 0) f g (sp := 0) (dp := 0) (by omega)
  rw [e1] at X' step
  have hl : rho b < H.size := (Array.getElem?_eq_some_iff.mp hc1).1
  have hheap : ((T.setVm vm').setCell (rho b) (vp_cell (aC 0) (n1, .inl (va_cpy f g 0 0 n.toNatClampNeg)))).heap = H.setIfInBounds (rho b) (vp_cell (aC 0) (n1, .inl (va_cpy f g 0 0 n.toNatClampNeg))) := by rw [← hT]; rfl
  obtain ⟨t, a1, b1⟩ := kk _ _ (hH.put hE.2.1 hbe hbn (by
      rw [ha, hb1]
      exact ⟨by decide, by simp [hl]; rfl⟩) (by simp) (fun q hq => by simp [Array.getElem?_setIfInBounds, Ne.symm hq])) (hlo.app (fun q hq => by
      obtain ⟨z, -, hz⟩ := List.mem_map.mp hq
      rw [← hz]
      exact hv_rho_ge hE.2.1 hbe)) _ hheap X'
  exact ⟨t, step t a1, b1⟩
theorem hv_copyA_ok (hx : p.tables.exec = Jvm.exec) (hb : c.code = cc) (hml : c.maxLocals = ls.size) {own : String} {index : Nat} (hown : s.vm.findClass own = some m.cls) (hlink : (Cond.methodLink own index arraycopyName).before args s = true) (hnat : (Cond.native arraycopyName).before args s = true) (hstat : (Cond.static arraycopyName).before args s = true) (hini : (Cond.initialized "java/lang/System").before args s = true)
    (hE : hv_Ev D aC rho B H0 fx s) (hH : hv_HR D aC rho B H0 fx h H) (hlo : hv_lo B locs) {a b t n0 n1 : Nat} {C : String} (hC : hv_tys[t]? = some (.object C)) {f g : Nat → Option Nat} (ha : h.2.2 a = .inl (t, n0, .inr (.inr (.inr (.inr f))))) (hb1 : h.2.2 b = .inl (t, n1, .inr (.inr (.inr (.inr g))))) {n : Int32} (h3 : ¬ n < 0) (h4 : n.toNatClampNeg ≤ n0) (h5 : n.toNatClampNeg ≤ n1)
    (hel : ∀ i, i < n.toNatClampNeg → ∀ y, f i = some y → ∃ v vs q, h.2.2 y = .inr (v, vs) ∧ hv_cl[v]? = some q ∧ (q.1 = C ∨ va_Nw (.castable q.1 C) s))
    (hframes : 1 ≤ R.frames) (hlocals : 40 ≤ R.locals) (hdg : decode cc pc = .ok (.invokestatic index, 3))
    (kk : ∀ (H1 : Heap) (locs1 : List Loc), hv_HR D aC rho B H0 fx (hv_put h b (hv_cp (h.2.2 a) (h.2.2 b) n.toNatClampNeg)) H1 → hv_lo B locs1 → W p l e R s m args below meth c H1 locs1 cells slots Q (F0 m (pc + 3) ls [])) : W p l e R s m args below meth c H locs cells slots Q (F0 m pc ls [.int n, .int 0, .ref (rho b), .int 0, .ref (rho a)]) := by
  have htl : t < 11 := (List.getElem?_eq_some_iff.mp hC).1
  obtain ⟨-, -, hc0⟩ := hH.arrW hE ha htl
  obtain ⟨hbe, hbn, hc1⟩ := hH.arrW hE hb1 htl
  rw [hv_vpA] at hc0 hc1
  have htyp := (hE.1.2 t _ (hv_tyl_at aC t _ hC))
  intro T hT X
  obtain ⟨-, k0, hk0, cm0, hkk0⟩ := htyp.1 n0 (fun j => va_rf ((f j).map rho))
  obtain ⟨-, k1, hk1, cm1, hkk1⟩ := htyp.1 n1 (fun j => va_rf ((g j).map rho))
  have z0 : (0 : Int32).toInt = 0 := rfl
  have z1 : (0 : Int32).toNatClampNeg = 0 := rfl
  obtain ⟨vm', X', step⟩ := X.arraycopy hx hown hlink hnat hstat hini (src := rho a) (dst := rho b) (cs := arrV (aC t) n0 (fun j => va_rf ((f j).map rho))) (cd := arrV (aC t) n1 (fun j => va_rf ((g j).map rho))) (srcPos := 0) (destPos := 0) (n := n) (by rw [hT]; exact hc0) (by rw [hT]; exact hc1)
    (fun _ h => by cases h) (fun _ h => by cases h) (fun h => by cases h) (fun h => by cases h) hk0 hk1 hkk0 hkk1 rfl (by decide) (by decide) h3
    (by rw [z0, hv_nn n h3, arrV_size]; omega)
    (by rw [z0, hv_nn n h3, arrV_size]; omega)
    (fun vm₁ hal i hi => by
      have e : (arrV (aC t) n0 (fun j => va_rf ((f j).map rho))).slots.getD ((0 : Int32).toNatClampNeg + i) .null = va_rf ((f i).map rho) := by
        rw [Array.getD_eq_getD_getElem?, z1, Nat.zero_add, arrV_read _ _ (by omega)]
        rfl
      rw [e]
      cases hy : f i with
      | none => exact ⟨rfl, trivial⟩
      | some y =>
        obtain ⟨v, vs, q, hv, hq, hca⟩ := hel i hi y hy
        obtain ⟨cellV, g1, g2, g3, g4, -⟩ := hH.obj hE hv hq
        have hcls := (hE.1.1 v q hq).2
        obtain ⟨kA, comp, r1, r2, r3, -⟩ := htyp.2
        cases hk1.symm.trans r1
        cases hkk1.symm.trans r2
        obtain ⟨kE, hkE, -⟩ := Vm.findClass_spec r3
        obtain ⟨kC, hkC, -⟩ := hcls.2
        have hasg : s.vm.assignable (D.1 v) cm1 = true := by
          rcases hca with e | hca
          · rw [e] at hcls
            have : cm1 = D.1 v := Option.some.inj (r3.symm.trans hcls.1)
            rw [this]
            exact va_assign hcls
          · exact vb_asgC hca cm1 (D.1 v) r3 hcls.1
        obtain ⟨kC', hkC', -⟩ := hal.2.2 _ _ hkC
        obtain ⟨kE', hkE', -⟩ := hal.2.2 _ _ hkE
        refine ⟨rfl, cellV, (show T.heap[rho y]? = some cellV by rw [hT]; exact g1), (fun q h => by rw [h] at g3; cases g3), ⟨kC', by rw [g4]; exact hkC'⟩, ⟨kE', hkE'⟩, ?_⟩
        show vm₁.assignable _ _ = true
        rw [hal.assignable, g4]
        exact hasg)
    (g := F0 m pc ls [.int n, .int 0, .ref (rho b), .int 0, .ref (rho a)]) rfl (by rw [hml]) (rest := []) rfl (by rw [hb]; exact hdg) hframes (by
      have e9 : nativeFrameWords "java/lang/System" "arraycopy" 5 = 7 := by decide +kernel
      show 2 * 0 + 0 + (nativeFrameWords "java/lang/System" "arraycopy" 5 + 11) ≤ _
      rw [e9]; omega)
  have e1 : copied (arrV (aC t) n0 (fun j => va_rf ((f j).map rho))) (arrV (aC t) n1 (fun j => va_rf ((g j).map rho))) 0 0 n = arrV (aC t) n1 (fun j => va_rf ((va_cpy f g 0 0 n.toNatClampNeg j).map rho)) := va_copied (fun z => va_rf (z.map rho)) (aC t) (aC t) f g (sp := 0) (dp := 0) (by omega)
  rw [e1] at X' step
  have hl : rho b < H.size := (Array.getElem?_eq_some_iff.mp hc1).1
  have hheap : ((T.setVm vm').setCell (rho b) (arrV (aC t) n1 (fun j => va_rf ((va_cpy f g 0 0 n.toNatClampNeg j).map rho)))).heap = H.setIfInBounds (rho b) (arrV (aC t) n1 (fun j => va_rf ((va_cpy f g 0 0 n.toNatClampNeg j).map rho))) := by rw [← hT]; rfl
  obtain ⟨t', a1, b1⟩ := kk _ _ (hH.put hE.2.1 hbe hbn (by
      rw [ha, hb1]
      exact ⟨htl, by simp [hl]; rfl⟩) (by simp) (fun q hq => by simp [Array.getElem?_setIfInBounds, Ne.symm hq])) (hlo.app (fun q hq => by
      obtain ⟨z, -, hz⟩ := List.mem_map.mp hq
      rw [← hz]
      exact hv_rho_ge hE.2.1 hbe)) _ hheap X'
  exact ⟨t', step t' a1, b1⟩
end
