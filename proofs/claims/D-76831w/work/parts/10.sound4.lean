/-! SOUNDNESS, calls: what is known of the start, and a call by its kind -/
set_option maxRecDepth 100000
/-- what the start gives -/
def hv_Z (s0 : State) (a0 : Array Value) : Prop := (∀ w ∈ lw_tbl, w.before a0 s0 = true) ∧ (Jvm.Cond.and given_1 narrow_1).before a0 s0 = true
def hv_hh (m : Nat) : List (Nat × Nat × Nat × Nat) := if m = 30 then [(0, 9, 10, 419)] else if m = 314 then [(0, 27, 28, 419)] else []
def hv_nh (m : Nat) : Bool := !(m == 30 || m == 314)
def hv_cw (m : Nat) : Cond := if hv_nh m = true then .code (hv_yn m) (hv_bc m) (hv_mL m) (hv_rt m) else .codeWith (hv_yn m) (hv_bc m) (hv_mL m) (hv_rt m) (hv_hh m)
abbrev hv_ws (m : Nat) : List Cond := hv_cw m :: lw_all
theorem hv_cw_n {m : Nat} (h : hv_nh m = true) : hv_cw m = .code (hv_yn m) (hv_bc m) (hv_mL m) (hv_rt m) := by unfold hv_cw; rw [if_pos h]
theorem hv_cw_w {m : Nat} (h : hv_nh m = false) : hv_cw m = .codeWith (hv_yn m) (hv_bc m) (hv_mL m) (hv_rt m) (hv_hh m) := by unfold hv_cw; rw [if_neg (by rw [h]; decide)]
/-- what is known of a method (n: its parameters) -/
def hv_mf (m n : Nat) : Prop := hv_cw m ∈ lw_all ∧ Cond.initialized (hv_yn m).cls ∈ lw_all ∧ ((hv_yn m).cls ≠ "java/lang/invoke/MethodHandle" ∧ (hv_yn m).cls ≠ "java/lang/invoke/VarHandle" ∧ (parseMethodDescriptor (hv_yn m).desc).map (fun d => d.parameters.length) = some n)
def hv_RunL (len : Nat) (p : Program) (l : Launch) (e : Env) (R : Room) (s : State) (m : MethodId) (args : Array Value) (below : List Frame) (meth : Method) (c : Code) (H : Heap) (locs : List Loc) (cells slots mc ms : Nat) (g : JFrame) (rest : List Value) (Qa : State → Outcome → State → Prop) (XC : String → Addr → State → State → Prop) (free : Addr → Prop) : Prop :=
  ∀ T : State, T.heap = H → Stand p l e R s m args below meth c T locs cells slots →
    (∃ (v : Option Value) (st₀ t T' : State) (L : List Loc), st₀.heap = H ∧ Stand p l e R s m args below meth c T' (locs ++ L) (cells + mc) (slots + ms) ∧ (∀ q ∈ L, free q.base) ∧ T'.heap = t.heap ∧ T'.vm = t.vm ∧ Qa st₀ (.returned v) t ∧
      Goes p e below T g T' { g with pc := g.pc + len, stack := v.toList ++ rest }) ∨
    (∃ (q : Addr) (st₀ t T' : State) (L : List Loc) (E : String) (ce : Cell), st₀.heap = H ∧ Stand p l e R s m args below meth c T' (locs ++ L) (cells + mc) (slots + ms) ∧ (∀ z ∈ L, free z.base) ∧ T'.heap = t.heap ∧ T'.vm = t.vm ∧ XC E q st₀ t ∧ t.heap[q]? = some ce ∧ ce.vm = .none ∧ s.vm.findClass E = some ce.cls ∧
      Steps p.tables e below (T.setTop g) ((T'.setTop { g with stack := rest }).pushFrame (.throwing q)))
/-- the kinds of calls: 0 static, 1 a constructor, 2 a superclass's, 3 virtual, 4 of an interface -/
def hv_opI (op i n : Nat) : Instr := match op with
  | 0 => .invokestatic i
  | 1 => .invokespecial i
  | 2 => .invokespecial i
  | 3 => .invokevirtual i
  | _ => .invokeinterface i n
def hv_opL (op : Nat) : Nat := if op = 4 then 5 else 3
/-- what a call asks of its arguments: C the receiver's class -/
def hv_rcv (s : State) (H : Heap) (op : Nat) (C : String) (As : List Value) : Prop := match op with
  | 0 => True
  | 1 => ∃ (b : Addr) (Bs : List Value), As = .ref b :: Bs
  | _ => ∃ (b : Addr) (Bs : List Value) (cellB : Cell), As = .ref b :: Bs ∧ H[b]? = some cellB ∧ cellB.vm.isStatics = false ∧ s.vm.findClass C = some cellB.cls ∧ ∃ kB, s.vm.classes[cellB.cls]? = some kB ∧ ClassAt s C cellB.cls
def hv_Link (l : Launch) (s : State) (args : Array Value) (own : String) (op idx t : Nat) (C : String) : Prop :=
  ∀ (p : Program) (e : Env) (R : Room) (m : MethodId) (below : List Frame) (meth : Method) (c : Code) (H : Heap) (locs : List Loc) (cells slots : Nat) (cc : ByteArray) (nL : Nat) (rm : Room) (Pc : Array Value → State → Prop) (Qc : Array Value → State → Outcome → State → Prop) (XC : String → Addr → State → State → Prop) (mc ms : Nat) (free : Addr → Prop) (As rest : List Value) (g : JFrame) (n : Nat),
    p.tables.exec = Jvm.exec → c.code = cc → c.maxLocals = nL → s.vm.findClass own = some m.cls → vx_Met l (hv_yn t) (hv_ws t) rm Pc Qc XC mc ms free → rm.cells = mc → rm.slots = ms → rm.frames + 1 ≤ R.frames → 8 + (hv_mL t + 11) + rm.locals ≤ R.locals →
    FrameBlind Pc → (∀ U : State, U.heap = H → s.WarmedH U.vm → Pc As.toArray U) → hv_rcv s H op C As →
    g.method = m → As.length = hv_np t → g.locals.size = nL → g.stack = As.reverse ++ rest → 2 * g.monitorRoom + (rest.map fun v => v.category).sum ≤ 8 → decode cc g.pc = .ok (hv_opI op idx n, hv_opL op) → (cells + mc ≤ R.cells ∧ slots + ms ≤ R.slots) →
    hv_RunL (hv_opL op) p l e R s m args below meth c H locs cells slots mc ms g rest (Qc As.toArray) XC free
section
variable {l : Launch} {s s0 : State} {args a0 : Array Value} {own C : String} {idx t n : Nat}
theorem hv_ht (hz : hv_Z s0 a0) (hW : s0.WarmedH s.vm) : ∀ w ∈ lw_all, w.before args s = true := fun w hw => by
  have h0 := hz.1 w (lw_all_tbl hw)
  exact word_at hW (good_of_word (List.mem_filter.mp hw).2) h0
theorem hv_wsk (hz : hv_Z s0 a0) (hW : s0.WarmedH s.vm) (mf : hv_mf t n) : ∀ w ∈ hv_ws t, ∀ (a' : Array Value) (U : State), s.WarmedH U.vm → w.before a' U = true := by
  intro w hw a' U hU
  have hm : w ∈ lw_all := by
    rcases List.mem_cons.mp hw with e | e
    · rw [e]; exact mf.1
    · exact e
  exact hv_ht hz (State.WarmedH.trans hW hU) w hm
theorem hv_prm (mf : hv_mf t n) : ∀ sig, parseMethodDescriptor (hv_yn t).desc = some sig → n = sig.parameters.length := by
  intro sig h
  have h2 := mf.2.2.2.2
  rw [h] at h2
  exact (Option.some.inj h2).symm
theorem hv_st1 {b : Addr} {Bs rest : List Value} : (Value.ref b :: Bs).reverse ++ rest = Bs.reverse ++ .ref b :: rest := by simp
/-- static calls -/
theorem hv_kS (hz : hv_Z s0 a0) (hW : s0.WarmedH s.vm) (mf : hv_mf t n) (hnh : hv_nh t = true) (hnp : hv_np t = n) (h1 : Cond.methodLink own idx (hv_yn t) ∈ lw_all) (h2 : Cond.static (hv_yn t) ∈ lw_all) : hv_Link l s args own 0 idx t C := by
  intro p e R m below meth c H locs cells slots cc nL rm Pc Qc XC mc ms free As rest g n' hx hb hml hown hM hrc hrs hfr hlo hbl hP hrcv hg hlen hsz hst hW8 hdg hf
  have ht := hv_ht (args := args) hz hW
  have hc : Cond.code (hv_yn t) (hv_bc t) (hv_mL t) (hv_rt t) ∈ lw_all := by rw [← hv_cw_n hnh]; exact mf.1
  exact vx_runS (Ts := lw_all) ⟨hx, hb, hml, hown, ht⟩ hM ⟨⟨hrc, hrs, hfr, hlo, hv_wsk hz hW mf, List.mem_cons_of_mem _ hc, ht _ hc, ht _ mf.2.1, ⟨mf.2.2.1, mf.2.2.2.1⟩, hv_prm mf, ht _ h1⟩, ht _ h2⟩ ⟨hbl, hP⟩ hg (hlen.trans hnp) hsz hst hW8 hdg hf
theorem hv_kSN {host : String} (hz : hv_Z s0 a0) (hW : s0.WarmedH s.vm) (mf : hv_mf t n) (hnh : hv_nh t = true) (hnp : hv_np t = n) (h1 : Cond.methodLinkNest own idx (hv_yn t) host ∈ lw_tbl) (h2 : Cond.static (hv_yn t) ∈ lw_all) : hv_Link l s args own 0 idx t C := by
  intro p e R m below meth c H locs cells slots cc nL rm Pc Qc XC mc ms free As rest g n' hx hb hml hown hM hrc hrs hfr hlo hbl hP hrcv hg hlen hsz hst hW8 hdg hf
  have ht := hv_ht (args := args) hz hW
  have hc : Cond.code (hv_yn t) (hv_bc t) (hv_mL t) (hv_rt t) ∈ lw_all := by rw [← hv_cw_n hnh]; exact mf.1
  have hl : va_Nw (.methodLinkNest own idx (hv_yn t) host) s := va_Nw.warmM hW (va_Nw.of rfl (hz.1 _ h1))
  exact vx_runSN (Ts := lw_all) ⟨hx, hb, hml, hown, ht⟩ hM ⟨⟨⟨hrc, hrs, hfr, hlo, hv_wsk hz hW mf, List.mem_cons_of_mem _ hc⟩, ht _ hc, ht _ mf.2.1, ⟨mf.2.2.1, mf.2.2.2.1⟩, hv_prm mf, va_Nw.use rfl hl⟩, ht _ h2, trivial⟩ ⟨hbl, hP⟩ hg (hlen.trans hnp) hsz hst hW8 hdg hf
/-- constructors -/
theorem hv_kI (hz : hv_Z s0 a0) (hW : s0.WarmedH s.vm) (mf : hv_mf t n) (hnh : hv_nh t = true) (hnp : hv_np t = n + 1) (hrt : hv_rt t = none) (hnm : (hv_yn t).name = "<init>") (h1 : Cond.methodLink own idx (hv_yn t) ∈ lw_all) (h2 : Cond.instanceMethod (hv_yn t) ∈ lw_all) : hv_Link l s args own 1 idx t C := by
  intro p e R m below meth c H locs cells slots cc nL rm Pc Qc XC mc ms free As rest g n' hx hb hml hown hM hrc hrs hfr hlo hbl hP hrcv hg hlen hsz hst hW8 hdg hf
  have ht := hv_ht (args := args) hz hW
  have hc : Cond.code (hv_yn t) (hv_bc t) (hv_mL t) none ∈ lw_all := by rw [← hrt, ← hv_cw_n hnh]; exact mf.1
  obtain ⟨b, Bs, rfl⟩ := hrcv
  exact vx_runI (bytes := hv_bc t) (maxL := hv_mL t) (Ts := lw_all) ⟨hx, hb, hml, hown, ht⟩ hM ⟨⟨hrc, hrs, hfr, hlo, hv_wsk hz hW mf, List.mem_cons_of_mem _ hc, ht _ hc, ht _ mf.2.1, ⟨mf.2.2.1, mf.2.2.2.1⟩, hv_prm mf, ht _ h1⟩, hnm, ht _ h2⟩ ⟨hbl, hP⟩ hg (Nat.succ.inj (hlen.trans hnp)) hsz (hst.trans hv_st1) hW8 hdg hf
theorem hv_kIN {host : String} (hz : hv_Z s0 a0) (hW : s0.WarmedH s.vm) (mf : hv_mf t n) (hnh : hv_nh t = true) (hnp : hv_np t = n + 1) (hrt : hv_rt t = none) (hnm : (hv_yn t).name = "<init>") (h1 : Cond.methodLinkNest own idx (hv_yn t) host ∈ lw_tbl) (h2 : Cond.instanceMethod (hv_yn t) ∈ lw_all) : hv_Link l s args own 1 idx t C := by
  intro p e R m below meth c H locs cells slots cc nL rm Pc Qc XC mc ms free As rest g n' hx hb hml hown hM hrc hrs hfr hlo hbl hP hrcv hg hlen hsz hst hW8 hdg hf
  have ht := hv_ht (args := args) hz hW
  have hc : Cond.code (hv_yn t) (hv_bc t) (hv_mL t) none ∈ lw_all := by rw [← hrt, ← hv_cw_n hnh]; exact mf.1
  have hl : va_Nw (.methodLinkNest own idx (hv_yn t) host) s := va_Nw.warmM hW (va_Nw.of rfl (hz.1 _ h1))
  obtain ⟨b, Bs, rfl⟩ := hrcv
  exact vx_runIN (bytes := hv_bc t) (maxL := hv_mL t) (Ts := lw_all) ⟨hx, hb, hml, hown, ht⟩ hM ⟨⟨⟨hrc, hrs, hfr, hlo, hv_wsk hz hW mf, List.mem_cons_of_mem _ hc⟩, ht _ hc, ht _ mf.2.1, ⟨mf.2.2.1, mf.2.2.2.1⟩, hv_prm mf, va_Nw.use rfl hl⟩, hnm, ht _ h2⟩ ⟨hbl, hP⟩ hg (Nat.succ.inj (hlen.trans hnp)) hsz (hst.trans hv_st1) hW8 hdg hf
/-- by an object -/
theorem hv_kV (hz : hv_Z s0 a0) (hW : s0.WarmedH s.vm) (mf : hv_mf t n) (hnh : hv_nh t = true) (hnp : hv_np t = n + 1) (h1 : Cond.methodLink own idx (hv_yn t) ∈ lw_all) (h2 : Cond.instanceMethod (hv_yn t) ∈ lw_all) (h3 : Cond.selects C (hv_yn t) (hv_yn t) ∈ lw_all) : hv_Link l s args own 3 idx t C := by
  intro p e R m below meth c H locs cells slots cc nL rm Pc Qc XC mc ms free As rest g n' hx hb hml hown hM hrc hrs hfr hlo hbl hP hrcv hg hlen hsz hst hW8 hdg hf
  have ht := hv_ht (args := args) hz hW
  have hc : Cond.code (hv_yn t) (hv_bc t) (hv_mL t) (hv_rt t) ∈ lw_all := by rw [← hv_cw_n hnh]; exact mf.1
  obtain ⟨b, Bs, cellB, rfl, q1, q2, q3, -⟩ := hrcv
  exact vx_runV (Ts := lw_all) ⟨hx, hb, hml, hown, ht⟩ hM ⟨⟨hrc, hrs, hfr, hlo, hv_wsk hz hW mf, List.mem_cons_of_mem _ hc, ht _ hc, ht _ mf.2.1, ⟨mf.2.2.1, mf.2.2.2.1⟩, hv_prm mf, ht _ h1⟩, ht _ h2, ht _ h3⟩ ⟨hbl, ⟨cellB, q1, q2, q3⟩, hP⟩ hg (Nat.succ.inj (hlen.trans hnp)) hsz (hst.trans hv_st1) hW8 hdg hf
theorem hv_kVW (hz : hv_Z s0 a0) (hW : s0.WarmedH s.vm) (mf : hv_mf t n) (hnh : hv_nh t = false) (hnp : hv_np t = n + 1) (h1 : Cond.methodLink own idx (hv_yn t) ∈ lw_all) (h2 : Cond.instanceMethod (hv_yn t) ∈ lw_all) (h3 : Cond.selects C (hv_yn t) (hv_yn t) ∈ lw_all) : hv_Link l s args own 3 idx t C := by
  intro p e R m below meth c H locs cells slots cc nL rm Pc Qc XC mc ms free As rest g n' hx hb hml hown hM hrc hrs hfr hlo hbl hP hrcv hg hlen hsz hst hW8 hdg hf
  have ht := hv_ht (args := args) hz hW
  have hc : Cond.codeWith (hv_yn t) (hv_bc t) (hv_mL t) (hv_rt t) (hv_hh t) ∈ lw_all := by rw [← hv_cw_w hnh]; exact mf.1
  obtain ⟨b, Bs, cellB, rfl, q1, q2, q3, -⟩ := hrcv
  exact vx_runVX (Ts := lw_all) ⟨hx, hb, hml, hown, ht⟩ hM ⟨⟨hrc, hrs, hfr, hlo, hv_wsk hz hW mf, List.mem_cons_of_mem _ hc⟩, ht _ hc, ht _ mf.2.1, ⟨mf.2.2.1, mf.2.2.2.1⟩, hv_prm mf, ht _ h1, ht _ h2, ht _ h3⟩ ⟨hbl, ⟨cellB, q1, q2, q3⟩, hP⟩ hg (Nat.succ.inj (hlen.trans hnp)) hsz (hst.trans hv_st1) hW8 hdg hf
/-- inherited, overridden -/
theorem hv_kU {owner : String} {x : MethodName} (hz : hv_Z s0 a0) (hW : s0.WarmedH s.vm) (mf : hv_mf t n) (hnh : hv_nh t = true) (hnp : hv_np t = n + 1) (hxd : x.desc = (hv_yn t).desc) (ho : owner ≠ "java/lang/invoke/MethodHandle" ∧ owner ≠ "java/lang/invoke/VarHandle") (h1 : Cond.methodLink own idx x ∈ lw_all) (h2 : Cond.sameMethod x.cls owner x.name x.desc ∈ lw_all) (hdc : va_Decl s ⟨owner, x.name, x.desc⟩) (h3 : Cond.selects C x (hv_yn t) ∈ lw_all) (h4 : Cond.instanceMethod (hv_yn t) ∈ lw_all) : hv_Link l s args own 3 idx t C := by
  intro p e R m below meth c H locs cells slots cc nL rm Pc Qc XC mc ms free As rest g n' hx hb hml hown hM hrc hrs hfr hlo hbl hP hrcv hg hlen hsz hst hW8 hdg hf
  have ht := hv_ht (args := args) hz hW
  have hc : Cond.code (hv_yn t) (hv_bc t) (hv_mL t) (hv_rt t) ∈ lw_all := by rw [← hv_cw_n hnh]; exact mf.1
  obtain ⟨b, Bs, cellB, rfl, q1, q2, q3, -⟩ := hrcv
  exact vx_runU (owner := owner) (x := x) (Ts := lw_all) ⟨hx, hb, hml, hown, ht⟩ hM ⟨⟨hrc, hrs, hfr, hlo, hv_wsk hz hW mf, List.mem_cons_of_mem _ hc⟩, ht _ hc, ht _ mf.2.1, ho, by rw [hxd]; exact hv_prm mf, ht _ h1, ht _ h2, hdc, ht _ h3, ht _ h4⟩ ⟨hbl, ⟨cellB, q1, q2, q3⟩, hP⟩ hg (Nat.succ.inj (hlen.trans hnp)) hsz (hst.trans hv_st1) hW8 hdg hf
/-- of the superclass -/
theorem hv_kSU (hz : hv_Z s0 a0) (hW : s0.WarmedH s.vm) (mf : hv_mf t n) (hnh : hv_nh t = true) (hnp : hv_np t = n + 1) (hnm : (hv_yn t).name ≠ "<init>") (h1 : Cond.methodLink own idx (hv_yn t) ∈ lw_all) (h2 : Cond.sameMethod (hv_yn t).cls (hv_yn t).cls (hv_yn t).name (hv_yn t).desc ∈ lw_all) (h3 : Cond.superclass own (hv_yn t).cls ∈ lw_all) (h4 : Cond.instanceMethod (hv_yn t) ∈ lw_all) : hv_Link l s args own 2 idx t C := by
  intro p e R m below meth c H locs cells slots cc nL rm Pc Qc XC mc ms free As rest g n' hx hb hml hown hM hrc hrs hfr hlo hbl hP hrcv hg hlen hsz hst hW8 hdg hf
  have ht := hv_ht (args := args) hz hW
  have hc : Cond.code (hv_yn t) (hv_bc t) (hv_mL t) (hv_rt t) ∈ lw_all := by rw [← hv_cw_n hnh]; exact mf.1
  obtain ⟨b, Bs, cellB, rfl, q1, q2, q3, kB, -, q4⟩ := hrcv
  exact vx_runSU (Ts := lw_all) q4 ⟨hx, hb, hml, hown, ht⟩ hM ⟨⟨hrc, hrs, hfr, hlo, hv_wsk hz hW mf, List.mem_cons_of_mem _ hc⟩, ht _ h1, ht _ h2, ht _ h3, ht _ h4, ht _ mf.2.1, ht _ hc, hnm, hv_prm mf⟩ ⟨hbl, ⟨cellB, q1, q2, q3⟩, hP⟩ hg (Nat.succ.inj (hlen.trans hnp)) hsz (hst.trans hv_st1) hW8 hdg hf
/-- of an interface that declares it -/
theorem hv_kF {x : MethodName} (hz : hv_Z s0 a0) (hW : s0.WarmedH s.vm) (mf : hv_mf t n) (hnh : hv_nh t = true) (hnp : hv_np t = n + 1) (hxd : x.desc = (hv_yn t).desc) (ho : x.cls ≠ "java/lang/invoke/MethodHandle" ∧ x.cls ≠ "java/lang/invoke/VarHandle") (h1 : Cond.methodLink own idx x ∈ lw_all) (h3 : Cond.selects C x (hv_yn t) ∈ lw_all) (h4 : Cond.instanceMethod (hv_yn t) ∈ lw_all)
    (f1 : Cond.declares x ∈ lw_tbl) (f2 : Cond.interfaceMethod x.cls x.cls x.name x.desc ∈ lw_tbl) (f3 : Cond.publicMethod (hv_yn t) ∈ lw_tbl) (f4 : Cond.unhidden C x.name x.desc ∈ lw_tbl) (f5 : Cond.castable C x.cls ∈ lw_tbl) : hv_Link l s args own 4 idx t C := by
  intro p e R m below meth c H locs cells slots cc nL rm Pc Qc XC mc ms free As rest g n' hx hb hml hown hM hrc hrs hfr hlo hbl hP hrcv hg hlen hsz hst hW8 hdg hf
  have ht := hv_ht (args := args) hz hW
  have hc : Cond.code (hv_yn t) (hv_bc t) (hv_mL t) (hv_rt t) ∈ lw_all := by rw [← hv_cw_n hnh]; exact mf.1
  have hF : va_Fw C x (hv_yn t) s := va_Fw.moved ho hW.alike (va_Fw.of (hz.1 _ f1) (hz.1 _ f2) (hz.1 _ f3) (hz.1 _ f4) (hz.1 _ f5))
  obtain ⟨b, Bs, cellB, rfl, q1, q2, q3, kB, -, q4⟩ := hrcv
  exact vx_runF (x := x) (Ts := lw_all) q4 ⟨hx, hb, hml, hown, ht⟩ hM ⟨⟨hrc, hrs, hfr, hlo, hv_wsk hz hW mf, List.mem_cons_of_mem _ hc⟩, ht _ h1, va_any rfl hF.1, va_any rfl hF.2.1, ht _ h3, ht _ h4, va_any rfl hF.2.2.1, va_any rfl hF.2.2.2.1, va_any rfl hF.2.2.2.2, ht _ mf.2.1, ht _ hc, ho, by rw [hxd]; exact hv_prm mf⟩ ⟨hbl, ⟨cellB, q1, q2, q3⟩, hP⟩ hg (Nat.succ.inj (hlen.trans hnp)) hsz (hst.trans hv_st1) hW8 hdg hf
end
theorem hv_lookup_mem {α : Type} {i : Nat} {v : α} : ∀ {L : List (Nat × α)}, L.lookup i = some v → (i, v) ∈ L
  | [], h => by cases h
  | (j, w) :: L, h => by
    rw [List.lookup] at h
    by_cases z : i = j
    · subst z
      simp only [beq_self_eq_true] at h
      cases h
      exact List.mem_cons_self
    · have zz : (i == j) = false := by simpa using z
      rw [zz] at h
      exact List.mem_cons_of_mem _ (hv_lookup_mem h)
