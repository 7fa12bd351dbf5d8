/-! SOUNDNESS, the heap: the relation of the abstract heap to the machine's, and a row an instruction -/
set_option maxRecDepth 100000
abbrev hv_E : Nat := 300
def hv_ca (rho : Nat → Nat) (x : vp_A) : vp_A := match x with
  | (n, .inr (.inr (.inr (.inr g)))) => (n, .inr (.inr (.inr (.inr (fun i => (g i).map rho)))))
  | x => x
/-- a cell that was made here -/
def hv_ot (D : va_G) (aC : Nat → ClassId) (rho : Nat → Nat) (a : Nat) (e : va_E) (H : Heap) : Prop := match e with
  | .inl (t, x) => t < 11 ∧ H[a]? = some (vp_cell (aC t) (hv_ca rho x))
  | .inr (c, vs) => ∃ q, hv_cl[c]? = some q ∧ c ≠ 30 ∧ vs.length = q.2.2 ∧ ∃ cell : Cell, H[a]? = some cell ∧ cell.cls = D.1 c ∧ cell.vm = .none ∧ cell.monitor.owner = none ∧ cell.monitor.count = 0 ∧ cell.slots.size = hv_sz c ∧ ∀ k, k < q.2.2 → cell.slots[D.2 c k]? = some (hv_cv rho (vs.getD k .null))
def hv_HR (D : va_G) (aC : Nat → ClassId) (rho : Nat → Nat) (B : Nat) (H0 : Heap) (fx : Nat → va_E) (h : hv_H) (H : Heap) : Prop :=
  hv_E ≤ h.1 ∧ H.size = B + (h.1 - hv_E) ∧ (∀ q, q < B → H[q]? = H0[q]?) ∧ (∀ k, k < hv_E → h.2.2 k = fx k) ∧ (∀ k, hv_E ≤ k → k < h.1 → hv_ot D aC rho (rho k) (h.2.2 k) H) ∧ ∀ k, h.1 ≤ k → h.2.2 k = hv_none
/-- names and addresses -/
def hv_Rh (rho : Nat → Nat) (B : Nat) : Prop := (∀ k, hv_E ≤ k → rho k = B + (k - hv_E)) ∧ ∀ k, k < hv_E → rho k < B
/-- the start's own cells: Integers, the script, the cache -/
def hv_Xo (D : va_G) (rho : Nat → Nat) (H0 : Heap) (fx : Nat → va_E) : Prop := ∀ k, k < hv_E → ∀ (c : Nat) vs, fx k = .inr (c, vs) → fx k = hv_none ∨ (c = 30 ∧ ∃ cell : Cell, H0[rho k]? = some cell ∧ cell.vm ≠ .unknown ∧ cell.vm.isStatics = false ∧ cell.cls = D.1 30 ∧ cell.slots[D.2 30 0]? = some (hv_cv rho (vs.getD 0 .null)))
def hv_Xa (rho : Nat → Nat) (H0 : Heap) (fx : Nat → va_E) (s : State) : Prop := ∀ k, k < hv_E → ∀ (t n : Nat) x, fx k = .inl (t, n, x) → ∃ cell : Cell, H0[rho k]? = some cell ∧ cell.vm ≠ .unknown ∧ (n ≤ cell.slots.size ∧ cell.slots.size.toInt32 = Int32.ofNat n) ∧
  ((t = 20 ∧ s.isArrayOf cell .int ∧ ∃ g, x = .inl g ∧ ∀ j, j < n → cell.slots[j]? = some (.int (g j))) ∨ (t = 21 ∧ s.isArrayOf cell (.object "java/lang/Integer") ∧ ∃ g, x = .inr (.inr (.inr (.inr g))) ∧ ∀ j, j < n → cell.slots[j]? = some (va_rf ((g j).map rho))))
def hv_Ev (D : va_G) (aC : Nat → ClassId) (rho : Nat → Nat) (B : Nat) (H0 : Heap) (fx : Nat → va_E) (s : State) : Prop :=
  va_K D hv_cl (hv_tyl aC) s ∧ hv_Rh rho B ∧ H0.size = B ∧ hv_Xo D rho H0 fx ∧ hv_Xa rho H0 fx s
def hv_lo (B : Nat) (locs : List Loc) : Prop := ∀ q ∈ locs, B ≤ q.base
theorem hv_lo.app {B : Nat} {locs L : List Loc} (h : hv_lo B locs) (hL : hv_lo B L) : hv_lo B (locs ++ L) := fun q hq => (List.mem_append.mp hq).elim (h q) (hL q)
theorem hv_lo.one {B a k : Nat} (h : B ≤ a) : hv_lo B [⟨a, k⟩] := fun q hq => by rw [List.mem_singleton.mp hq]; exact h
theorem hv_ot.kept {D : va_G} {aC : Nat → ClassId} {rho : Nat → Nat} {a : Nat} {e : va_E} {H H1 : Heap} (h : hv_ot D aC rho a e H) (hq : H1[a]? = H[a]?) : hv_ot D aC rho a e H1 := by
  unfold hv_ot at h ⊢
  cases e with
  | inl x => exact ⟨h.1, by rw [hq]; exact h.2⟩
  | inr o =>
    obtain ⟨q, h1, h2, h3, cell, h4, h5⟩ := h
    exact ⟨q, h1, h2, h3, cell, by rw [hq]; exact h4, h5⟩
section
variable {D : va_G} {aC : Nat → ClassId} {rho : Nat → Nat} {B : Nat} {H0 : Heap} {fx : Nat → va_E}
theorem hv_rho_inj (hR : hv_Rh rho B) {a b : Nat} (ha : hv_E ≤ a) (hb : hv_E ≤ b) (e : rho a = rho b) : a = b := by
  rw [hR.1 a ha, hR.1 b hb] at e
  omega
theorem hv_rho_ge (hR : hv_Rh rho B) {a : Nat} (ha : hv_E ≤ a) : B ≤ rho a := by rw [hR.1 a ha]; omega
theorem hv_HR.put {h : hv_H} {H H' : Heap} {a : Nat} {e : va_E} (hH : hv_HR D aC rho B H0 fx h H) (hR : hv_Rh rho B) (ha : hv_E ≤ a) (hn : a < h.1) (he : hv_ot D aC rho (rho a) e H') (hz : H'.size = H.size) (ho : ∀ q, q ≠ rho a → H'[q]? = H[q]?) : hv_HR D aC rho B H0 fx (hv_put h a e) H' := by
  obtain ⟨h1, h2, h3, h4, h5, h6⟩ := hH
  refine ⟨h1, hz.trans h2, fun q hq => ?_, fun k hk => ?_, fun k hk hkn => ?_, fun k hk => ?_⟩
  · rw [ho q (by have := hv_rho_ge hR ha; omega)]
    exact h3 q hq
  · show va_up h.2.2 a e k = fx k
    unfold va_up
    rw [if_neg (by omega)]
    exact h4 k hk
  · show hv_ot D aC rho (rho k) (va_up h.2.2 a e k) H'
    unfold va_up
    by_cases z : k = a
    · rw [if_pos z, z]; exact he
    · rw [if_neg z]
      exact (h5 k hk hkn).kept (ho _ (fun y => z (hv_rho_inj hR hk ha y)))
  · show va_up h.2.2 a e k = hv_none
    have hk' : h.1 ≤ k := hk
    unfold va_up
    rw [if_neg (by omega)]
    exact h6 k hk
theorem hv_HR.alloc {h : hv_H} {H H' : Heap} {e : va_E} {sz : Nat} (hH : hv_HR D aC rho B H0 fx h H) (hR : hv_Rh rho B) (he : hv_ot D aC rho H.size e H') (hz : H'.size = H.size + 1) (ho : ∀ q, q < H.size → H'[q]? = H[q]?) : hv_HR D aC rho B H0 fx (hv_alloc h e sz) H' ∧ rho h.1 = H.size := by
  obtain ⟨h1, h2, h3, h4, h5, h6⟩ := hH
  have hr : rho h.1 = H.size := by rw [hR.1 _ h1, h2]
  refine ⟨⟨?_, ?_, fun q hq => ?_, fun k hk => ?_, fun k hk hkn => ?_, fun k hk => ?_⟩, hr⟩
  · show hv_E ≤ h.1 + 1
    omega
  · show H'.size = B + (h.1 + 1 - hv_E)
    rw [hz, h2]
    omega
  · rw [ho q (by omega)]
    exact h3 q hq
  · show va_up h.2.2 h.1 e k = fx k
    unfold va_up
    rw [if_neg (by omega)]
    exact h4 k hk
  · show hv_ot D aC rho (rho k) (va_up h.2.2 h.1 e k) H'
    have hkn' : k < h.1 + 1 := hkn
    unfold va_up
    by_cases z : k = h.1
    · rw [if_pos z, z, hr]; exact he
    · rw [if_neg z]
      refine (h5 k hk (by omega)).kept (ho _ ?_)
      rw [hR.1 k hk, h2]
      omega
  · show va_up h.2.2 h.1 e k = hv_none
    have hk' : h.1 + 1 ≤ k := hk
    unfold va_up
    rw [if_neg (by omega)]
    exact h6 k (by omega)
theorem hv_none_cl (q : vw_C) (vs : List Value) (c : Nat) (h : (.inr (c, vs) : va_E) = hv_none) (hq : hv_cl[c]? = some q) : False := by
  unfold hv_none at h
  injection h with h
  injection h with h1 h2
  subst h1
  have e : hv_cl[1000000]? = none := by decide +kernel
  rw [e] at hq
  cases hq
/-- an object that can be read -/
theorem hv_HR.obj {h : hv_H} {H : Heap} {s : State} (hE : hv_Ev D aC rho B H0 fx s) (hH : hv_HR D aC rho B H0 fx h H) {a c : Nat} {vs : List Value} {q : vw_C} (hc : h.2.2 a = .inr (c, vs)) (hq : hv_cl[c]? = some q) :
    ∃ cell : Cell, H[rho a]? = some cell ∧ cell.vm ≠ .unknown ∧ cell.vm.isStatics = false ∧ cell.cls = D.1 c ∧ ∀ k, k < q.2.2 → cell.slots[D.2 c k]? = some (hv_cv rho (vs.getD k .null)) := by
  obtain ⟨h1, h2, h3, h4, h5, h6⟩ := hH
  obtain ⟨hK, hR, hB, hXo, hXa⟩ := hE
  by_cases ha : a < hv_E
  · have e := h4 a ha
    rw [hc] at e
    rcases hXo a ha c vs e.symm with z | ⟨rfl, cell, g1, g2, g3, g4, g5⟩
    · rw [z] at e
      exact absurd hq (fun hq => hv_none_cl q vs c e hq)
    · have hqe : q.2.2 = 1 := by
        have : hv_cl[30]? = some ("java/lang/Integer", hv_T 30, 1) := rfl
        rw [this] at hq
        cases hq
        rfl
      refine ⟨cell, by rw [h3 _ (hR.2 a ha)]; exact g1, g2, g3, g4, fun k hk => ?_⟩
      rw [hqe] at hk
      rw [show k = 0 by omega]
      exact g5
  · by_cases hn : a < h.1
    · have z := h5 a (by omega) hn
      rw [hc] at z
      obtain ⟨q', g1, g2, g3, cell, g4, g5, g6, g7, g8, g10, g9⟩ := z
      cases g1.symm.trans hq
      exact ⟨cell, g4, by rw [g6]; exact fun y => (by cases y), by rw [g6]; rfl, g5, g9⟩
    · have z := h6 a (by omega)
      rw [hc] at z
      exact absurd hq (fun hq => hv_none_cl q vs c z hq)
/-- an object that can be written -/
theorem hv_HR.objW {h : hv_H} {H : Heap} {s : State} (hE : hv_Ev D aC rho B H0 fx s) (hH : hv_HR D aC rho B H0 fx h H) {a c : Nat} {vs : List Value} {q : vw_C} (hc : h.2.2 a = .inr (c, vs)) (hq : hv_cl[c]? = some q) (h30 : c ≠ 30) :
    hv_E ≤ a ∧ a < h.1 ∧ vs.length = q.2.2 ∧ ∃ cell : Cell, H[rho a]? = some cell ∧ cell.cls = D.1 c ∧ cell.vm = .none ∧ cell.monitor.owner = none ∧ cell.monitor.count = 0 ∧ cell.slots.size = hv_sz c ∧ ∀ k, k < q.2.2 → cell.slots[D.2 c k]? = some (hv_cv rho (vs.getD k .null)) := by
  obtain ⟨h1, h2, h3, h4, h5, h6⟩ := hH
  obtain ⟨hK, hR, hB, hXo, hXa⟩ := hE
  by_cases ha : a < hv_E
  · have e := h4 a ha
    rw [hc] at e
    rcases hXo a ha c vs e.symm with z | ⟨z, -⟩
    · rw [z] at e
      exact absurd hq (fun hq => hv_none_cl q vs c e hq)
    · exact absurd z h30
  · by_cases hn : a < h.1
    · have z := h5 a (by omega) hn
      rw [hc] at z
      obtain ⟨q', g1, g2, g3, cell, g4⟩ := z
      cases g1.symm.trans hq
      exact ⟨by omega, hn, g3, cell, g4⟩
    · have z := h6 a (by omega)
      rw [hc] at z
      exact absurd hq (fun hq => hv_none_cl q vs c z hq)
/-- an array that was made here -/
theorem hv_HR.arrW {h : hv_H} {H : Heap} {s : State} (hE : hv_Ev D aC rho B H0 fx s) (hH : hv_HR D aC rho B H0 fx h H) {a t n : Nat} {x} (hc : h.2.2 a = .inl (t, n, x)) (ht : t < 11) : hv_E ≤ a ∧ a < h.1 ∧ H[rho a]? = some (vp_cell (aC t) (hv_ca rho (n, x))) := by
  obtain ⟨h1, h2, h3, h4, h5, h6⟩ := hH
  obtain ⟨hK, hR, hB, hXo, hXa⟩ := hE
  by_cases ha : a < hv_E
  · have e := h4 a ha
    rw [hc] at e
    obtain ⟨cell, -, -, -, z | z⟩ := hXa a ha t n x e.symm
    · have z1 : t = 20 := z.1
      omega
    · have z1 : t = 21 := z.1
      omega
  · by_cases hn : a < h.1
    · have z := h5 a (by omega) hn
      rw [hc] at z
      exact ⟨by omega, hn, z.2⟩
    · have z := h6 a (by omega)
      rw [hc] at z
      unfold hv_none at z
      cases z
theorem hv_ty_at (aC : Nat → ClassId) {t : Nat} (ht : t < 11) : ∃ ty, hv_tys[t]? = some ty ∧ (hv_tyl aC)[t]? = some (aC t, ty) := by
  have hl : t < hv_tys.length := ht
  exact ⟨hv_tys[t], List.getElem?_eq_getElem hl, hv_tyl_at aC t _ (List.getElem?_eq_getElem hl)⟩
theorem hv_fits_cv {rho : Nat → Nat} {ty : FieldType} {v : Value} : fits ty (hv_cv rho v) = fits ty v := by
  cases v <;> cases ty <;> rfl
def hv_tyk (ty : FieldType) : Bool := match ty with
  | .byte | .char | .short => false
  | _ => true
theorem hv_fits_nar {ty : FieldType} {v : Value} (hk : hv_tyk ty = true) (h : fits ty v = true) : narrow ty v = v := by
  cases ty <;> cases v <;> first | rfl | cases h | cases hk | skip
  rename_i x
  simp only [fits, Bool.or_eq_true, beq_iff_eq] at h
  rcases h with rfl | rfl <;> rfl
end
section
variable {p : Program} {l : Launch} {e : Env} {R : Room} {s : State} {m : MethodId} {args : Array Value} {below : List Frame} {meth : Method} {c : Code} {H : Heap} {locs : List Loc} {cells slots : Nat} {Q : State → Prop}
variable {cc : ByteArray} {pc : Nat} {ls : Array Slot} {rest : List Value} {D : va_G} {aC : Nat → ClassId} {rho : Nat → Nat} {B : Nat} {H0 : Heap} {fx : Nat → va_E} {h : hv_H}
/-- the link of a field: its own, or a nest mate's -/
def hv_lk (args : Array Value) (s : State) (own : String) (index : Nat) (T : String × String × String × Bool) : Prop := (Cond.fieldLink own index T.1 T.2.1 T.2.2.1).before args s = true ∨ ∃ host, (Cond.fieldLinkNest own index T.1 T.2.1 T.2.2.1 host).before args s = true
theorem hv_get_ok (hx : p.tables.exec = Jvm.exec) (hb : c.code = cc) (hts : ∀ w ∈ lw_all, w.before args s = true) {own : String} {index : Nat} (hown : s.vm.findClass own = some m.cls) (hE : hv_Ev D aC rho B H0 fx s) (hH : hv_HR D aC rho B H0 fx h H)
    {a k n : Nat} {vs : List Value} {q : vw_C} (hc : h.2.2 a = .inr (n, vs)) (hq : hv_cl[n]? = some q) (hk : k < q.2.2) (hlink : hv_lk args s own index (hv_T n k)) (hdg : decode cc pc = .ok (.getfield index, 3))
    (kk : W p l e R s m args below meth c H locs cells slots Q (F0 m (pc + 3) ls (hv_cv rho (vs.getD k .null) :: rest))) : W p l e R s m args below meth c H locs cells slots Q (F0 m pc ls (.ref (rho a) :: rest)) := by
  obtain ⟨cell, q1, q2, q3, q4, q5⟩ := hH.obj hE hc hq
  obtain ⟨hT, hin, hty, hnm, -⟩ := hv_known n q hq
  obtain ⟨hS, hfc, kC, hkC, hkind⟩ := hE.1.1 n q hq
  rw [hT] at hS
  obtain ⟨cf, kf, fi, f, hi, hsl⟩ := hS k hk
  have hst := (u_facts hfc hkC (u_lays hts hin hk) hi).1
  have hv : cell.slots[f.slot]? = some (hv_cv rho (vs.getD k .null)) := by rw [hsl]; exact q5 k hk
  rcases hlink with hlink | ⟨host, hlink⟩
  · exact W.getf hx hb hown hlink hi hst q1 q2 hv rfl rfl hdg kk
  · exact va_Wgetf hx hb hown hlink hi hst q1 q2 hv rfl rfl hdg kk
theorem hv_getD_set {vs : List Value} {k j : Nat} {v : Value} (hk : k < vs.length) : (vs.set k v).getD j .null = if j = k then v else vs.getD j .null := by
  simp only [List.getD_eq_getElem?_getD, List.getElem?_set]
  by_cases z : k = j
  · subst z
    simp [hk]
  · rw [if_neg z, if_neg (fun y => z y.symm)]
theorem hv_put_ok (hx : p.tables.exec = Jvm.exec) (hb : c.code = cc) (hts : ∀ w ∈ lw_all, w.before args s = true) {own : String} {index : Nat} (hown : s.vm.findClass own = some m.cls) (hE : hv_Ev D aC rho B H0 fx s) (hH : hv_HR D aC rho B H0 fx h H) (hlo : hv_lo B locs)
    {a k n : Nat} {vs : List Value} {v : Value} {q : vw_C} (hc : h.2.2 a = .inr (n, vs)) (hq : hv_cl[n]? = some q) (h30 : n ≠ 30) (hk : k < q.2.2) (hlink : hv_lk args s own index (hv_T n k)) (hdg : decode cc pc = .ok (.putfield index, 3))
    (hfin : (hv_T n k).2.2.2 = false ∨ ((Cond.fieldLink own index (hv_T n k).1 (hv_T n k).2.1 (hv_T n k).2.2.1).before args s = true ∧ (hv_T n k).1 = own ∧ meth.name = "<init>")) (htk : hv_tyk (hv_Y n k) = true) (hfit : fits (hv_Y n k) v = true)
    (kk : ∀ (H1 : Heap) (locs1 : List Loc), hv_HR D aC rho B H0 fx (hv_put h a (.inr (n, vs.set k v))) H1 → hv_lo B locs1 → W p l e R s m args below meth c H1 locs1 cells slots Q (F0 m (pc + 3) ls rest)) : W p l e R s m args below meth c H locs cells slots Q (F0 m pc ls (hv_cv rho v :: .ref (rho a) :: rest)) := by
  obtain ⟨ha, han, hlen, cell, q1, q2, q3, q6, q7, q8, q5⟩ := hH.objW hE hc hq h30
  obtain ⟨hT, hin, hty, hnm, -⟩ := hv_known n q hq
  obtain ⟨hS, hfc, kC, hkC, hkind⟩ := hE.1.1 n q hq
  have hap : ∀ x y, x < q.2.2 → y < q.2.2 → x ≠ y → (D.2 n) x ≠ (D.2 n) y := va_apart (own := own) (tys := hv_tyl aC) (cl := hv_cl) (D := D) hts hin (hv_Y n) hty hnm hE.1 (by rw [hq, ← hT])
  rw [hT] at hS
  obtain ⟨cf, kf, fi, f, hi, hsl⟩ := hS k hk
  have hst := (u_facts hfc hkC (u_lays hts hin hk) hi).1
  have hd := hty k hk
  have hn : narrow (hv_Y n k) (hv_cv rho v) = hv_cv rho v := hv_fits_nar htk (by rw [hv_fits_cv]; exact hfit)
  have hf' : fits (hv_Y n k) (hv_cv rho v) = true := by rw [hv_fits_cv]; exact hfit
  have hlt : f.slot < cell.slots.size := by rw [hsl]; exact k2_hasslot (q5 k hk)
  have fin : ∀ H' : Heap, H'[rho a]? = some (cell.setSlot f.slot (hv_cv rho v)) → H'.size = H.size → (∀ q, q ≠ rho a → H'[q]? = H[q]?) → W p l e R s m args below meth c H' (locs ++ [⟨rho a, f.slot⟩]) cells slots Q (F0 m (pc + 3) ls rest) := by
    intro H' e1 e2 e3
    rw [hsl] at e1
    refine kk H' _ (hH.put hE.2.1 ha han ?_ e2 e3) (hlo.app (hv_lo.one (hv_rho_ge hE.2.1 ha)))
    refine ⟨q, hq, h30, by rw [List.length_set]; exact hlen, _, e1, q2, q3, q6, q7, by rw [← q8]; exact Array.size_setIfInBounds .., fun j hj => ?_⟩
    rw [t_set q5 hap hk (hv_cv rho v) j hj, hv_getD_set (by rw [hlen]; exact hk)]
    unfold updV
    split <;> rfl
  have hlay := hts _ (hin _ (u_in_lay hk))
  unfold u_lay at hlay
  rcases hfin with hf | ⟨hlink, hdecl, hini⟩
  · rw [if_neg (by rw [hf]; decide)] at hlay
    have h6 := u_store hfc hkC hkind hlay hi hd hn hf'
    rcases hlink with hlink | ⟨host, hlink⟩
    · exact W.putK hx hb (f := f) ⟨hown, hlink, ⟨_, _, _, hi⟩, hst⟩ (by rw [q2]; exact h6) q1 q3 hlt rfl rfl hdg fin
    · exact va_WputK hx hb (f := f) hown hlink hi hst (by rw [q2]; exact h6) q1 q3 hlt rfl rfl hdg fin
  · by_cases hf : (hv_T n k).2.2.2 = true
    · rw [if_pos hf] at hlay
      have hcf : m.cls = cf := by
        obtain ⟨_, _, c', _, _, _, -, -, hf', -, -, -, hown2, -⟩ := Cond.laysFinal_spec hlay
        have e1 : c' = cf := by have := hi.symm.trans hf'; simp at this; exact this.1.symm
        rw [hdecl] at hown2
        rw [← e1]; exact Option.some.inj (hown.symm.trans hown2)
      have h6 := u_fits hfc hkC hkind (Or.inr hlay) hi hd hn hf'
      exact W.putFinK hx hb hown hlink hi hst hcf hini (by rw [q2]; exact h6) q1 q3 hlt rfl rfl hdg fin
    · rw [if_neg hf] at hlay
      have h6 := u_store hfc hkC hkind hlay hi hd hn hf'
      exact W.putK hx hb (f := f) ⟨hown, hlink, ⟨_, _, _, hi⟩, hst⟩ (by rw [q2]; exact h6) q1 q3 hlt rfl rfl hdg fin
/-! arrays -/
theorem hv_vpI {cA : ClassId} {n : Nat} {g : Nat → Int32} : vp_cell cA (hv_ca rho (n, .inl g)) = arrV cA n (fun j => .int (g j)) := rfl
theorem hv_vpJ {cA : ClassId} {n : Nat} {g : Nat → Int64} : vp_cell cA (hv_ca rho (n, .inr (.inl g))) = arrV cA n (fun j => .long (g j)) := rfl
theorem hv_vpA {cA : ClassId} {n : Nat} {g : Nat → Option Nat} : vp_cell cA (hv_ca rho (n, .inr (.inr (.inr (.inr g))))) = arrV cA n (fun j => va_rf ((g j).map rho)) := rfl
theorem hv_rfm (rho : Nat → Nat) (o : Option Nat) : va_rf (o.map rho) = hv_cv rho (va_rf o) := by cases o <;> rfl
/-- an array of ints of a kind (int, byte, char, boolean, the script's), read -/
theorem hv_rdI (hE : hv_Ev D aC rho B H0 fx s) (hH : hv_HR D aC rho B H0 fx h H) {a t n : Nat} {g : Nat → Int32} (hc : h.2.2 a = .inl (t, n, .inl g)) {ty : FieldType} (ht : hv_tys[t]? = some ty ∨ (t = 20 ∧ ty = .int)) :
    ∃ cell : Cell, H[rho a]? = some cell ∧ s.isArrayOf cell ty ∧ cell.vm ≠ .unknown ∧ n ≤ cell.slots.size ∧ ∀ j, j < n → cell.slots[j]? = some (.int (g j)) := by
  rcases ht with ht | ⟨rfl, rfl⟩
  · have htl : t < 11 := (List.getElem?_eq_some_iff.mp ht).1
    obtain ⟨-, -, q1⟩ := hH.arrW hE hc htl
    rw [hv_vpI] at q1
    exact ⟨_, q1, (hE.1.2 t _ (hv_tyl_at aC t ty ht)).1 n _, fun z => (by cases z), Nat.le_of_eq (arrV_size _ _ _).symm, fun j hj => arrV_read _ _ hj⟩
  · obtain ⟨h1, h2, h3, h4, h5, h6⟩ := hH
    obtain ⟨hK, hR, hB, hXo, hXa⟩ := hE
    by_cases ha : a < hv_E
    · have e := h4 a ha
      rw [hc] at e
      obtain ⟨cell, g1, g2, g3, z | z⟩ := hXa a ha 20 n _ e.symm
      · obtain ⟨-, g4, g', e', g5⟩ := z
        cases e'
        exact ⟨cell, by rw [h3 _ (hR.2 a ha)]; exact g1, g4, g2, g3.1, g5⟩
      · exact absurd z.1 (by decide)
    · by_cases hn : a < h.1
      · have z := h5 a (by omega) hn
        rw [hc] at z
        exact absurd z.1 (by decide)
      · have z := h6 a (by omega)
        rw [hc] at z
        unfold hv_none at z
        cases z
theorem hv_rdA (hE : hv_Ev D aC rho B H0 fx s) (hH : hv_HR D aC rho B H0 fx h H) {a t n : Nat} {g : Nat → Option Nat} (hc : h.2.2 a = .inl (t, n, .inr (.inr (.inr (.inr g))))) (ht : (5 ≤ t ∧ t < 11) ∨ t = 21) :
    ∃ (cell : Cell) (C : String), H[rho a]? = some cell ∧ s.isArrayOf cell (.object C) ∧ cell.vm ≠ .unknown ∧ n ≤ cell.slots.size ∧ ∀ j, j < n → cell.slots[j]? = some (va_rf ((g j).map rho)) := by
  rcases ht with ⟨ht5, ht⟩ | rfl
  · obtain ⟨-, -, q1⟩ := hH.arrW hE hc ht
    rw [hv_vpA] at q1
    have hC : ∃ C, hv_tys[t]? = some (.object C) := by
      match t, ht5, ht with
      | 5, _, _ => exact ⟨_, rfl⟩
      | 6, _, _ => exact ⟨_, rfl⟩
      | 7, _, _ => exact ⟨_, rfl⟩
      | 8, _, _ => exact ⟨_, rfl⟩
      | 9, _, _ => exact ⟨_, rfl⟩
      | 10, _, _ => exact ⟨_, rfl⟩
    obtain ⟨C, hC⟩ := hC
    exact ⟨_, C, q1, (hE.1.2 t _ (hv_tyl_at aC t _ hC)).1 n _, fun z => (by cases z), Nat.le_of_eq (arrV_size _ _ _).symm, fun j hj => arrV_read _ _ hj⟩
  · obtain ⟨h1, h2, h3, h4, h5, h6⟩ := hH
    obtain ⟨hK, hR, hB, hXo, hXa⟩ := hE
    by_cases ha : a < hv_E
    · have e := h4 a ha
      rw [hc] at e
      obtain ⟨cell, g1, g2, g3, z | z⟩ := hXa a ha 21 n _ e.symm
      · exact absurd z.1 (by decide)
      · obtain ⟨-, g4, g', e', g5⟩ := z
        cases e'
        exact ⟨cell, _, by rw [h3 _ (hR.2 a ha)]; exact g1, g4, g2, g3.1, g5⟩
    · by_cases hn : a < h.1
      · have z := h5 a (by omega) hn
        rw [hc] at z
        exact absurd z.1 (by decide)
      · have z := h6 a (by omega)
        rw [hc] at z
        unfold hv_none at z
        cases z
end
section
variable {p : Program} {l : Launch} {e : Env} {R : Room} {s : State} {m : MethodId} {args : Array Value} {below : List Frame} {meth : Method} {c : Code} {H : Heap} {locs : List Loc} {cells slots : Nat} {Q : State → Prop}
variable {cc : ByteArray} {pc : Nat} {ls : Array Slot} {rest : List Value} {D : va_G} {aC : Nat → ClassId} {rho : Nat → Nat} {B : Nat} {H0 : Heap} {fx : Nat → va_E} {h : hv_H}
variable {a n : Nat} {i x : Int32} {y : Int64} {g : Nat → Int32}
theorem hv_in_up {i : Int32} {n m : Nat} (h : ¬ (i < 0 ∨ n ≤ i.toNatClampNeg)) (hm : n ≤ m) : ¬ (i < 0 ∨ m ≤ i.toNatClampNeg) := fun z => h (z.elim Or.inl (fun y => Or.inr (Nat.le_trans hm y)))
theorem hv_in_lt {i : Int32} {n : Nat} (h : ¬ (i < 0 ∨ n ≤ i.toNatClampNeg)) : i.toNatClampNeg < n := Nat.not_le.mp fun q => h (Or.inr q)
theorem hv_iald (hx : p.tables.exec = Jvm.exec) (hb : c.code = cc) (hE : hv_Ev D aC rho B H0 fx s) (hH : hv_HR D aC rho B H0 fx h H) {t : Nat} (hc : h.2.2 a = .inl (t, n, .inl g)) (ht : t = 0 ∨ t = 20) (hin : ¬ (i < 0 ∨ n ≤ i.toNatClampNeg)) (hdg : decode cc pc = .ok (.iaload, 1))
    (kk : W p l e R s m args below meth c H locs cells slots Q (F0 m (pc + 1) ls (.int (g i.toNatClampNeg) :: rest))) : W p l e R s m args below meth c H locs cells slots Q (F0 m pc ls (.int i :: .ref (rho a) :: rest)) := by
  obtain ⟨cell, q1, q2, q3, q4, q5⟩ := hv_rdI hE hH hc (ty := .int) (by rcases ht with rfl | rfl; exact Or.inl rfl; exact Or.inr ⟨rfl, rfl⟩)
  exact W.iald (v := .int (g i.toNatClampNeg)) hx hb q1 q2 q3 (hv_in_up hin q4) (q5 _ (hv_in_lt hin)) rfl rfl hdg kk
theorem hv_bald (hx : p.tables.exec = Jvm.exec) (hb : c.code = cc) (hE : hv_Ev D aC rho B H0 fx s) (hH : hv_HR D aC rho B H0 fx h H) {t : Nat} (hc : h.2.2 a = .inl (t, n, .inl g)) (ht : t = 2 ∨ t = 4) (hin : ¬ (i < 0 ∨ n ≤ i.toNatClampNeg)) (hdg : decode cc pc = .ok (.baload, 1))
    (kk : W p l e R s m args below meth c H locs cells slots Q (F0 m (pc + 1) ls (.int (g i.toNatClampNeg) :: rest))) : W p l e R s m args below meth c H locs cells slots Q (F0 m pc ls (.int i :: .ref (rho a) :: rest)) := by
  rcases ht with rfl | rfl
  · obtain ⟨cell, q1, q2, q3, q4, q5⟩ := hv_rdI hE hH hc (ty := .byte) (Or.inl rfl)
    exact W.bald (v := .int (g i.toNatClampNeg)) hx hb q1 q2 q3 (hv_in_up hin q4) (q5 _ (hv_in_lt hin)) rfl rfl hdg kk
  · obtain ⟨cell, q1, q2, q3, q4, q5⟩ := hv_rdI hE hH hc (ty := .boolean) (Or.inl rfl)
    exact W.zald (v := .int (g i.toNatClampNeg)) hx hb q1 q2 q3 (hv_in_up hin q4) (q5 _ (hv_in_lt hin)) rfl rfl hdg kk
theorem hv_cald (hx : p.tables.exec = Jvm.exec) (hb : c.code = cc) (hE : hv_Ev D aC rho B H0 fx s) (hH : hv_HR D aC rho B H0 fx h H) (hc : h.2.2 a = .inl (3, n, .inl g)) (hin : ¬ (i < 0 ∨ n ≤ i.toNatClampNeg)) (hdg : decode cc pc = .ok (.caload, 1))
    (kk : W p l e R s m args below meth c H locs cells slots Q (F0 m (pc + 1) ls (.int (g i.toNatClampNeg) :: rest))) : W p l e R s m args below meth c H locs cells slots Q (F0 m pc ls (.int i :: .ref (rho a) :: rest)) := by
  obtain ⟨cell, q1, q2, q3, q4, q5⟩ := hv_rdI hE hH hc (ty := .char) (Or.inl rfl)
  exact W.cald (v := .int (g i.toNatClampNeg)) hx hb q1 q2 q3 (hv_in_up hin q4) (q5 _ (hv_in_lt hin)) rfl rfl hdg kk
theorem hv_lald (hx : p.tables.exec = Jvm.exec) (hb : c.code = cc) (hE : hv_Ev D aC rho B H0 fx s) (hH : hv_HR D aC rho B H0 fx h H) {g : Nat → Int64} (hc : h.2.2 a = .inl (1, n, .inr (.inl g))) (hin : ¬ (i < 0 ∨ n ≤ i.toNatClampNeg)) (hdg : decode cc pc = .ok (.laload, 1))
    (kk : W p l e R s m args below meth c H locs cells slots Q (F0 m (pc + 1) ls (.long (g i.toNatClampNeg) :: rest))) : W p l e R s m args below meth c H locs cells slots Q (F0 m pc ls (.int i :: .ref (rho a) :: rest)) := by
  obtain ⟨-, -, q1⟩ := hH.arrW hE hc (by decide)
  rw [hv_vpJ] at q1
  exact W.lald (v := .long (g i.toNatClampNeg)) hx hb q1 ((hE.1.2 1 _ (hv_tyl_at aC 1 .long rfl)).1 n _) (fun z => by cases z) (by rw [arrV_size]; exact hin) (arrV_read _ _ (hv_in_lt hin)) rfl rfl hdg kk
theorem hv_aald (hx : p.tables.exec = Jvm.exec) (hb : c.code = cc) (hE : hv_Ev D aC rho B H0 fx s) (hH : hv_HR D aC rho B H0 fx h H) {t : Nat} {g : Nat → Option Nat} (hc : h.2.2 a = .inl (t, n, .inr (.inr (.inr (.inr g))))) (ht : (5 ≤ t ∧ t < 11) ∨ t = 21) (hin : ¬ (i < 0 ∨ n ≤ i.toNatClampNeg)) (hdg : decode cc pc = .ok (.aaload, 1))
    (kk : W p l e R s m args below meth c H locs cells slots Q (F0 m (pc + 1) ls (hv_cv rho (va_rf (g i.toNatClampNeg)) :: rest))) : W p l e R s m args below meth c H locs cells slots Q (F0 m pc ls (.int i :: .ref (rho a) :: rest)) := by
  obtain ⟨cell, C, q1, q2, q3, q4, q5⟩ := hv_rdA hE hH hc ht
  exact W.aald (v := hv_cv rho (va_rf (g i.toNatClampNeg))) hx hb q1 q2 rfl q3 (hv_in_up hin q4) (by rw [q5 _ (hv_in_lt hin), hv_rfm]) rfl rfl hdg kk
theorem hv_setI {t : Nat} {H' : Heap} {v : Int32} (hH : hv_HR D aC rho B H0 fx h H) (hE : hv_Ev D aC rho B H0 fx s) (hc : h.2.2 a = .inl (t, n, .inl g)) (ht : t < 11) (k : Nat)
    (e1 : H'[rho a]? = some ((arrV (aC t) n (fun j => .int (g j))).setSlot k (.int v))) (e2 : H'.size = H.size) (e3 : ∀ q, q ≠ rho a → H'[q]? = H[q]?) : hv_HR D aC rho B H0 fx (hv_put h a (hv_si (h.2.2 a) k v)) H' := by
  obtain ⟨ha, han, q1⟩ := hH.arrW hE hc ht
  refine hH.put hE.2.1 ha han ?_ e2 e3
  rw [hc]
  refine ⟨ht, ?_⟩
  rw [e1, arrV_store, hv_vpI]
  congr 2
  funext j
  by_cases z : j = k <;> simp [updV, upd, z]
theorem hv_iast (hx : p.tables.exec = Jvm.exec) (hb : c.code = cc) (hE : hv_Ev D aC rho B H0 fx s) (hH : hv_HR D aC rho B H0 fx h H) (hlo : hv_lo B locs) (hc : h.2.2 a = .inl (0, n, .inl g)) (hin : ¬ (i < 0 ∨ n ≤ i.toNatClampNeg)) (hdg : decode cc pc = .ok (.iastore, 1))
    (kk : ∀ (H1 : Heap) (locs1 : List Loc), hv_HR D aC rho B H0 fx (hv_put h a (hv_si (h.2.2 a) i.toNatClampNeg x)) H1 → hv_lo B locs1 → W p l e R s m args below meth c H1 locs1 cells slots Q (F0 m (pc + 1) ls rest)) : W p l e R s m args below meth c H locs cells slots Q (F0 m pc ls (.int x :: .int i :: .ref (rho a) :: rest)) := by
  obtain ⟨ha, han, q1⟩ := hH.arrW hE hc (by decide)
  rw [hv_vpI] at q1
  exact W.iast hx hb q1 ((hE.1.2 0 _ (hv_tyl_at aC 0 .int rfl)).1 n _) (fun z => by cases z) (by rw [arrV_size]; exact hin) rfl rfl hdg fun H1 e1 e2 e3 => kk H1 _ (hv_setI hH hE hc (by decide) _ e1 e2 e3) (hlo.app (hv_lo.one (hv_rho_ge hE.2.1 ha)))
theorem hv_nar_eq (ty : FieldType) (x : Int32) (h : ∃ v, narrow ty (.int x) = .int v) : narrow ty (.int x) = .int (vp_nar ty x) := by
  obtain ⟨v, e⟩ := h
  unfold vp_nar
  rw [e]
theorem hv_castr (hx : p.tables.exec = Jvm.exec) (hb : c.code = cc) (hE : hv_Ev D aC rho B H0 fx s) (hH : hv_HR D aC rho B H0 fx h H) (hlo : hv_lo B locs) (hc : h.2.2 a = .inl (3, n, .inl g)) (hin : ¬ (i < 0 ∨ n ≤ i.toNatClampNeg)) (hdg : decode cc pc = .ok (.castore, 1))
    (kk : ∀ (H1 : Heap) (locs1 : List Loc), hv_HR D aC rho B H0 fx (hv_put h a (hv_si (h.2.2 a) i.toNatClampNeg (vp_nar .char x))) H1 → hv_lo B locs1 → W p l e R s m args below meth c H1 locs1 cells slots Q (F0 m (pc + 1) ls rest)) : W p l e R s m args below meth c H locs cells slots Q (F0 m pc ls (.int x :: .int i :: .ref (rho a) :: rest)) := by
  obtain ⟨ha, han, q1⟩ := hH.arrW hE hc (by decide)
  rw [hv_vpI] at q1
  exact W.cast hx hb q1 ((hE.1.2 3 _ (hv_tyl_at aC 3 .char rfl)).1 n _) (fun z => by cases z) (by rw [arrV_size]; exact hin) rfl rfl hdg fun H1 e1 e2 e3 => kk H1 _ (hv_setI hH hE hc (by decide) _ e1 e2 e3) (hlo.app (hv_lo.one (hv_rho_ge hE.2.1 ha)))
theorem hv_bast (hx : p.tables.exec = Jvm.exec) (hb : c.code = cc) (hE : hv_Ev D aC rho B H0 fx s) (hH : hv_HR D aC rho B H0 fx h H) (hlo : hv_lo B locs) {t : Nat} (hc : h.2.2 a = .inl (t, n, .inl g)) (ht : t = 2 ∨ t = 4) (hin : ¬ (i < 0 ∨ n ≤ i.toNatClampNeg)) (hdg : decode cc pc = .ok (.bastore, 1))
    (kk : ∀ (H1 : Heap) (locs1 : List Loc), hv_HR D aC rho B H0 fx (hv_put h a (hv_si (h.2.2 a) i.toNatClampNeg (vp_nar (if t = 2 then .byte else .boolean) x))) H1 → hv_lo B locs1 → W p l e R s m args below meth c H1 locs1 cells slots Q (F0 m (pc + 1) ls rest)) : W p l e R s m args below meth c H locs cells slots Q (F0 m pc ls (.int x :: .int i :: .ref (rho a) :: rest)) := by
  rcases ht with rfl | rfl
  · obtain ⟨ha, han, q1⟩ := hH.arrW hE hc (by decide)
    rw [hv_vpI] at q1
    exact W.bast hx hb q1 ((hE.1.2 2 _ (hv_tyl_at aC 2 .byte rfl)).1 n _) (fun z => by cases z) (by rw [arrV_size]; exact hin) rfl rfl hdg fun H1 e1 e2 e3 => kk H1 _ (hv_setI hH hE hc (by decide) _ e1 e2 e3) (hlo.app (hv_lo.one (hv_rho_ge hE.2.1 ha)))
  · obtain ⟨ha, han, q1⟩ := hH.arrW hE hc (by decide)
    rw [hv_vpI] at q1
    exact W.zast hx hb q1 ((hE.1.2 4 _ (hv_tyl_at aC 4 .boolean rfl)).1 n _) (fun z => by cases z) (by rw [arrV_size]; exact hin) rfl rfl hdg fun H1 e1 e2 e3 => kk H1 _ (hv_setI hH hE hc (by decide) _ e1 e2 e3) (hlo.app (hv_lo.one (hv_rho_ge hE.2.1 ha)))
theorem hv_last (hx : p.tables.exec = Jvm.exec) (hb : c.code = cc) (hE : hv_Ev D aC rho B H0 fx s) (hH : hv_HR D aC rho B H0 fx h H) (hlo : hv_lo B locs) {g : Nat → Int64} (hc : h.2.2 a = .inl (1, n, .inr (.inl g))) (hin : ¬ (i < 0 ∨ n ≤ i.toNatClampNeg)) (hdg : decode cc pc = .ok (.lastore, 1))
    (kk : ∀ (H1 : Heap) (locs1 : List Loc), hv_HR D aC rho B H0 fx (hv_put h a (hv_sj (h.2.2 a) i.toNatClampNeg y)) H1 → hv_lo B locs1 → W p l e R s m args below meth c H1 locs1 cells slots Q (F0 m (pc + 1) ls rest)) : W p l e R s m args below meth c H locs cells slots Q (F0 m pc ls (.long y :: .int i :: .ref (rho a) :: rest)) := by
  obtain ⟨ha, han, q1⟩ := hH.arrW hE hc (by decide)
  rw [hv_vpJ] at q1
  refine W.last hx hb q1 ((hE.1.2 1 _ (hv_tyl_at aC 1 .long rfl)).1 n _) (fun z => by cases z) (by rw [arrV_size]; exact hin) rfl rfl hdg fun H1 e1 e2 e3 => kk H1 _ (hH.put hE.2.1 ha han ?_ e2 e3) (hlo.app (hv_lo.one (hv_rho_ge hE.2.1 ha)))
  rw [hc]
  refine ⟨by decide, ?_⟩
  rw [e1, arrV_store, hv_vpJ]
  congr 2
  funext j
  by_cases z : j = i.toNatClampNeg <;> simp [updV, vp_updL, z]
theorem hv_setA {t : Nat} {g : Nat → Option Nat} {H' : Heap} {o : Option Nat} (hH : hv_HR D aC rho B H0 fx h H) (hE : hv_Ev D aC rho B H0 fx s) (hc : h.2.2 a = .inl (t, n, .inr (.inr (.inr (.inr g))))) (ht : t < 11) (k : Nat)
    (e1 : H'[rho a]? = some ((arrV (aC t) n (fun j => va_rf ((g j).map rho))).setSlot k (va_rf (o.map rho)))) (e2 : H'.size = H.size) (e3 : ∀ q, q ≠ rho a → H'[q]? = H[q]?) : hv_HR D aC rho B H0 fx (hv_put h a (hv_sa (h.2.2 a) k o)) H' := by
  obtain ⟨ha, han, q1⟩ := hH.arrW hE hc ht
  refine hH.put hE.2.1 ha han ?_ e2 e3
  rw [hc]
  refine ⟨ht, ?_⟩
  rw [e1, arrV_store]
  show _ = some (vp_cell (aC t) (hv_ca rho (n, .inr (.inr (.inr (.inr (va_up g k o)))))))
  rw [hv_vpA]
  congr 2
  funext j
  by_cases z : j = k <;> simp [updV, va_up, z]
theorem hv_aastN (hx : p.tables.exec = Jvm.exec) (hb : c.code = cc) (hE : hv_Ev D aC rho B H0 fx s) (hH : hv_HR D aC rho B H0 fx h H) (hlo : hv_lo B locs) {t : Nat} {g : Nat → Option Nat} (hc : h.2.2 a = .inl (t, n, .inr (.inr (.inr (.inr g))))) {C : String} (hC : hv_tys[t]? = some (.object C)) (hin : ¬ (i < 0 ∨ n ≤ i.toNatClampNeg)) (hdg : decode cc pc = .ok (.aastore, 1))
    (kk : ∀ (H1 : Heap) (locs1 : List Loc), hv_HR D aC rho B H0 fx (hv_put h a (hv_sa (h.2.2 a) i.toNatClampNeg none)) H1 → hv_lo B locs1 → W p l e R s m args below meth c H1 locs1 cells slots Q (F0 m (pc + 1) ls rest)) : W p l e R s m args below meth c H locs cells slots Q (F0 m pc ls (.null :: .int i :: .ref (rho a) :: rest)) := by
  have ht : t < 11 := (List.getElem?_eq_some_iff.mp hC).1
  obtain ⟨ha, han, q1⟩ := hH.arrW hE hc ht
  rw [hv_vpA] at q1
  exact va_WaastN (C := C) hx hb q1 ((hE.1.2 t _ (hv_tyl_at aC t _ hC)).1 n _) (fun z => by cases z) (by rw [arrV_size]; exact hin) rfl rfl hdg fun H1 e1 e2 e3 => kk H1 _ (hv_setA (o := none) hH hE hc ht _ e1 e2 e3) (hlo.app (hv_lo.one (hv_rho_ge hE.2.1 ha)))
theorem hv_aast (hx : p.tables.exec = Jvm.exec) (hb : c.code = cc) (hE : hv_Ev D aC rho B H0 fx s) (hH : hv_HR D aC rho B H0 fx h H) (hlo : hv_lo B locs) {t : Nat} {g : Nat → Option Nat} (hc : h.2.2 a = .inl (t, n, .inr (.inr (.inr (.inr g))))) {C : String} (hC : hv_tys[t]? = some (.object C)) (hin : ¬ (i < 0 ∨ n ≤ i.toNatClampNeg)) (hdg : decode cc pc = .ok (.aastore, 1))
    {b v : Nat} {vs : List Value} {q : vw_C} (hv : h.2.2 b = .inr (v, vs)) (hq : hv_cl[v]? = some q) (hca : q.1 = C ∨ va_Nw (.castable q.1 C) s)
    (kk : ∀ (H1 : Heap) (locs1 : List Loc), hv_HR D aC rho B H0 fx (hv_put h a (hv_sa (h.2.2 a) i.toNatClampNeg (some b))) H1 → hv_lo B locs1 → W p l e R s m args below meth c H1 locs1 cells slots Q (F0 m (pc + 1) ls rest)) : W p l e R s m args below meth c H locs cells slots Q (F0 m pc ls (.ref (rho b) :: .int i :: .ref (rho a) :: rest)) := by
  have ht : t < 11 := (List.getElem?_eq_some_iff.mp hC).1
  obtain ⟨ha, han, q1⟩ := hH.arrW hE hc ht
  rw [hv_vpA] at q1
  obtain ⟨cellV, g1, g2, g3, g4, -⟩ := hH.obj hE hv hq
  have hcls := (hE.1.1 v q hq).2
  obtain ⟨kA, comp, k1, k2, k3, -⟩ := (hE.1.2 t _ (hv_tyl_at aC t _ hC)).2
  obtain ⟨kC, hkC, -⟩ := hcls.2
  have hasg : s.vm.assignable (D.1 v) comp = true := by
    rcases hca with e | hca
    · rw [e] at hcls
      have : comp = D.1 v := Option.some.inj (k3.symm.trans hcls.1)
      rw [this]
      exact va_assign hcls
    · exact vb_asgC hca comp (D.1 v) k3 hcls.1
  have hkcomp : ∃ kc, s.vm.classes[comp]? = some kc := by
    rcases hca with e | hca
    · rw [e] at hcls
      have : comp = D.1 v := Option.some.inj (k3.symm.trans hcls.1)
      rw [this]
      exact ⟨kC, hkC⟩
    · obtain ⟨kE, hkE, -⟩ := Vm.findClass_spec k3
      exact ⟨kE, hkE⟩
  obtain ⟨kc, hkc⟩ := hkcomp
  exact W.aast hx hb q1 (fun q h => by cases h) (fun h => by cases h) k1 k2 rfl hkc ⟨fun z => hin (Or.inl z), by rw [arrV_size]; exact hv_in_lt hin⟩ g1 (fun q h => by rw [h] at g3; cases g3) (by rw [g4]; exact hkC) (by rw [g4]; exact hasg) rfl rfl hdg fun H1 e1 e2 e3 => kk H1 _ (hv_setA (o := some b) hH hE hc ht _ e1 e2 e3) (hlo.app (hv_lo.one (hv_rho_ge hE.2.1 ha)))
end
