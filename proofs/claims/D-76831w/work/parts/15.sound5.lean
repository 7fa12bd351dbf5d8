/-! SOUNDNESS: the start's context; static fields, Object.<init>, RuntimeException.<init> -/
set_option maxRecDepth 100000
/-- static fields of the start -/
def hv_Sc (s0 : State) (H0 : Heap) (rho : Nat → Nat) (B : Nat) : Prop :=
  va_Z "java/util/TreeSet" "PRESENT" "Ljava/lang/Object;" (.ref (rho 257)) (fun q => B ≤ q) s0 H0 ∧ va_Z "java/lang/Integer$IntegerCache" "high" "I" (.int 127) (fun q => B ≤ q) s0 H0 ∧ va_Z "java/lang/Integer$IntegerCache" "cache" "[Ljava/lang/Integer;" (.ref (rho 258)) (fun q => B ≤ q) s0 H0 ∧
  vx_Zq Bundle.tN "UNASSIGNED_STACK" Bundle.steD (fun q => B ≤ q) s0 H0 ∧ vx_Zq Bundle.tN "SUPPRESSED_SENTINEL" Bundle.listD (fun q => B ≤ q) s0 H0
/-- the context: what is known of the start -/
def hv_Cx (l : Launch) (s0 : State) (a0 : Array Value) (D : va_G) (aC : Nat → ClassId) (rho : Nat → Nat) (B : Nat) (H0 : Heap) (fx : Nat → va_E) : Prop :=
  hv_Z s0 a0 ∧ hv_Ev D aC rho B H0 fx s0 ∧ hv_Sc s0 H0 rho B ∧ l.stackTraces = false
theorem hv_Ev.moved {D : va_G} {aC : Nat → ClassId} {rho : Nat → Nat} {B : Nat} {H0 : Heap} {fx : Nat → va_E} {u U : State} (hvm : u.vm.Alike U.vm) (h : hv_Ev D aC rho B H0 fx u) : hv_Ev D aC rho B H0 fx U := by
  obtain ⟨h1, h2, h3, h4, h5⟩ := h
  refine ⟨h1.moved hvm, h2, h3, h4, fun k hk t n x e => ?_⟩
  obtain ⟨cell, g1, g2, g3, g4⟩ := h5 k hk t n x e
  refine ⟨cell, g1, g2, g3, ?_⟩
  rcases g4 with ⟨e1, e2, e3⟩ | ⟨e1, e2, e3⟩
  · exact Or.inl ⟨e1, State.isArrayOf_alike hvm e2, e3⟩
  · exact Or.inr ⟨e1, State.isArrayOf_alike hvm e2, e3⟩
section
variable {p : Program} {l : Launch} {e : Env} {R : Room} {s s0 : State} {m : MethodId} {args a0 : Array Value} {below : List Frame} {meth : Method} {c : Code} {H : Heap} {locs : List Loc} {cells slots : Nat} {Q : State → Prop}
variable {cc : ByteArray} {pc : Nat} {ls : Array Slot} {rest : List Value} {D : va_G} {aC : Nat → ClassId} {rho : Nat → Nat} {B : Nat} {H0 : Heap} {fx : Nat → va_E} {h : hv_H}
theorem hv_gets_ok (hx : p.tables.exec = Jvm.exec) (hb : c.code = cc) {C n d own : String} {v : Value} {index : Nat} (hown : s.vm.findClass own = some m.cls) (hB : H0.size = B) (hH : hv_HR D aC rho B H0 fx h H) (hZ : va_Z C n d v (fun q => B ≤ q) s H0) (hlink : (Cond.fieldLink own index C n d).before args s = true) (hdg : decode cc pc = .ok (.getstatic index, 3))
    (kk : W p l e R s m args below meth c H locs cells slots Q (F0 m (pc + 3) ls (v :: rest))) : W p l e R s m args below meth c H locs cells slots Q (F0 m pc ls rest) := by
  obtain ⟨cf, kf, fi, f, a, cell, h1, h2, h3, h4, h5, h6, h7, h8⟩ := hZ
  exact W.gets hx hb hown hlink h1 h2 h3 h4 (by rw [hH.2.2.1 a (Nat.not_le.mp h8)]; exact h5) (fun e => by rw [e] at h6; cases h6) h7 rfl hdg kk
/-- a cell behind the start's is no statics' cell -/
theorem hv_HR.novm (hE : hv_Rh rho B) (hH : hv_HR D aC rho B H0 fx h H) {q : Nat} {cell : Cell} (hq : B ≤ q) (hc : H[q]? = some cell) : cell.vm = .none := by
  obtain ⟨h1, h2, h3, h4, h5, h6⟩ := hH
  have hlt : q < H.size := (Array.getElem?_eq_some_iff.mp hc).1
  have e : rho (q - B + hv_E) = q := by rw [hE.1 _ (by omega)]; omega
  have z := h5 (q - B + hv_E) (by omega) (by omega)
  rw [e] at z
  unfold hv_ot at z
  split at z
  · rename_i t x hx
    obtain ⟨-, z⟩ := z
    cases hc.symm.trans z
    match x with
    | (n, .inl g) => rfl
    | (n, .inr (.inl g)) => rfl
    | (n, .inr (.inr (.inl g))) => rfl
    | (n, .inr (.inr (.inr (.inl g)))) => rfl
    | (n, .inr (.inr (.inr (.inr g)))) => rfl
  · obtain ⟨-, -, -, -, cell', g1, -, g2, -⟩ := z
    cases hc.symm.trans g1
    exact g2
theorem hv_put_same (h : hv_H) (a : Nat) : hv_put h a (h.2.2 a) = h := by
  obtain ⟨n, z, f⟩ := h
  unfold hv_put
  simp only [Prod.mk.injEq, true_and]
  funext k
  unfold va_up
  split
  · rename_i z; rw [z]
  · rfl
def hv_tA : List Cond := Bundle.throwableAtoms.filter goodWord
def hv_cA : List Cond := (Bundle.chain0Atoms "java/lang/RuntimeException" ["java/lang/Exception"]).filter goodWord
theorem hv_tA_in : ∀ w ∈ hv_tA, w ∈ lw_all := lw_in _ [151, 645, 654, 657, 660, 662, 646, 647, 184, 185, 648, 653, 658, 678, 635, 679, 637, 680, 639, 649, 651, 641] (by decide +kernel) (by decide +kernel)
theorem hv_cA_in : ∀ w ∈ hv_cA, w ∈ lw_all := lw_in _ [670, 671, 672, 673, 673, 674, 675, 646] (by decide +kernel) (by decide +kernel)
end
