/-! SOUNDNESS, calls of an interface's method that a superinterface declares (follows Cond.methodLink_specFF and Stand.invokeinterfaceUp of the library, by any plain road of access) -/
set_option maxRecDepth 100000
theorem hv_specFF {args : Array Value} {s : State} {cls : String} {x : MethodName} {index d c : Nat} {ck ok : Class} {meth : Method} {mf : MethodId}
    (hd : s.vm.findClass cls = some d) (hc : s.vm.findClass x.cls = some c) (hck : s.vm.classes[c]? = some ck) (hvi : ck.isInterface = true) (hnone : ck.findMethod x.name x.desc = none)
    (hf : s.methodFound? x.cls x.name x.desc = some mf) (hok : s.vm.classes[mf.cls]? = some ok) (hm : ok.methods[mf.idx]? = some meth)
    (hcl : x.name ≠ "clone") (hx : x.cls ≠ "java/lang/invoke/MethodHandle" ∧ x.cls ≠ "java/lang/invoke/VarHandle")
    (h : (Cond.methodLink cls index x).before args s = true) (pl : Platform) (hpl : pl.magicAccessors = ({} : Platform).magicAccessors) :
    ∃ ci, s.vm.MethodLinksFF pl d index ci c mf ∧ s.rightAt d index (.method mf) = true := by
  obtain ⟨k₀, hk₀, hname⟩ := Vm.findClass_spec hc
  cases hck.symm.trans hk₀
  have hpoly : ∀ y, signaturePolymorphic ck y = false := fun y => by simp [signaturePolymorphic, hname, hx.1, hx.2]
  have hmeth : s.vm.method? mf = some meth := by simp [Vm.method?, hok, hm]
  have hff := State.faceFind_of_found hc hck hvi hpoly hnone hf
  simp only [Cond.before, Cond.holds, Cond.value, hd, hc] at h
  cases hme : s.memberEntry? cls index with
  | none => simp [hme] at h
  | some me =>
    obtain ⟨ci, via⟩ := me
    cases hcl9 : s.classLinks cls ci x.cls with
    | none => simp [hme, hcl9, hf] at h
    | some linked =>
      cases hdk : s.vm.classes[d]? with
      | none => simp [hme, hcl9, hdk, hf] at h
      | some dk =>
        simp only [hme, hcl9, hdk, hck, hok, hmeth, hf, Option.bind_eq_bind, Option.bind_some, Option.pure_def, beq_iff_eq, bne_iff_ne, ne_eq, Option.some.injEq, Bool.and_eq_true, Option.isNone_iff_eq_none] at h
        obtain ⟨⟨⟨⟨⟨⟨⟨rfl, hnm⟩, hopen⟩, hvia⟩, -⟩, -⟩, hml⟩, hacc⟩ := h
        have hpla : s.vm.Plain meth.accessFlags mf.cls ok c d dk := by
          simp only [Bool.or_eq_true, Bool.and_eq_true, beq_iff_eq, bne_iff_ne, ne_eq, hcl, and_false, false_and, or_false] at hacc
          unfold plainAccess at hacc
          simp only [Bool.or_eq_true, Bool.and_eq_true, beq_iff_eq, Bool.not_eq_true'] at hacc
          unfold Vm.Plain
          rcases hacc with ((h1 | h1) | h1) | h1
          · exact Or.inl h1
          · exact Or.inr (Or.inl h1)
          · exact Or.inr (Or.inr (Or.inl h1))
          · obtain ⟨⟨⟨g1, g2⟩, g3⟩, g4⟩ := h1
            exact Or.inr (Or.inr (Or.inr ⟨g1, g2, g3, (or_assoc).mp g4⟩))
        rw [hvi] at hvia
        subst hvia
        obtain ⟨cr, hcr, hlinks⟩ := State.classLinks_spec hd hcl9 pl hpl
        cases hc.symm.trans hcr
        obtain ⟨cp, hcp, hnames⟩ := State.names_spec hnm
        obtain ⟨dk', cf, hdk', hcf, rfl⟩ := State.poolOf?_spec hd hcp
        cases hdk.symm.trans hdk'
        obtain ⟨ci', nt, hent, hnt, -⟩ := namesOf?_method hnames
        have hent' : ci' = ci ∧ cf.constantPool[index]? = some (.interfaceMethodref ci nt) := by
          rcases hent with hent | hent
          · simp only [State.memberEntry?, hcp, Option.bind_eq_bind, Option.bind_some, hent, Option.some.injEq, Prod.mk.injEq] at hme
            exact absurd hme.2 (by simp)
          · simp only [State.memberEntry?, hcp, Option.bind_eq_bind, Option.bind_some, hent, Option.some.injEq, Prod.mk.injEq] at hme
            obtain ⟨rfl, -⟩ := hme
            exact ⟨rfl, hent⟩
        obtain ⟨rfl, hent''⟩ := hent'
        have hne : ci' ≠ index := by
          intro he
          obtain ⟨_, cf', name', _, hd', hcf', _, hname', _⟩ := hlinks.here
          cases hdk.symm.trans hd'
          cases hcf.symm.trans hcf'
          subst he
          simp [ConstantPool.className?, hent''] at hname'
        have hdl : dk.loader = none := by
          obtain ⟨dk', _, _, _, hd', _, hl', _⟩ := hlinks.here
          cases hdk.symm.trans hd'; exact hl'
        refine ⟨ci', ⟨dk, cf, nt, x.name, x.desc, ck, ok, meth, hdk, hcf, hent'', hnt, hlinks, hne, hck, hvi, hpoly, hnone, hff, hok, hm, hdl.trans hml.symm, hpla, State.openOr_spec hd hdk hopen⟩, ?_⟩
        simp [State.rightAt, hdk, hcf, hnames, hf]
/-- the interface named declares none -/
theorem hv_none_decl {s : State} {x : MethodName} {J : String} {cI : ClassId} {kL ok : Class} {r0 : MethodId} (hx : x.cls ≠ "java/lang/invoke/MethodHandle" ∧ x.cls ≠ "java/lang/invoke/VarHandle") (hxo : x.cls ≠ J)
    (hcL : s.vm.findClass x.cls = some cI) (hkL : s.vm.classes[cI]? = some kL) (hfoundL : s.methodFound? x.cls x.name x.desc = some r0) (hok : s.vm.classes[r0.cls]? = some ok) (hokname : ok.name = J) : kL.findMethod x.name x.desc = none := by
  obtain ⟨kL', hkL', hnameL⟩ := Vm.findClass_spec hcL
  cases hkL.symm.trans hkL'
  have hpolyL : ∀ y, signaturePolymorphic kL y = false := fun y => by simp [signaturePolymorphic, hnameL, hx.1, hx.2]
  cases hj : kL.findMethod x.name x.desc with
  | none => rfl
  | some j =>
    exfalso
    have hsome : (kL.methods[j]?).isSome := by
      obtain ⟨hlt, -, -⟩ := Array.findIdx?_eq_some_iff_getElem.mp hj
      simp [hlt]
    have h2 := State.methodFound?_declared hcL hkL hpolyL hj hsome
    rw [hfoundL] at h2
    have e1 : r0 = ⟨cI, j⟩ := Option.some.inj h2
    have e2 : r0.cls = cI := by rw [e1]
    rw [e2] at hok
    cases hkL.symm.trans hok
    exact hxo (hnameL.symm.trans hokname)
section
variable {p : Program} {l : Launch} {e : Env} {R : Room} {s : State} {m : MethodId} {args : Array Value} {below : List Frame} {meth : Method} {c : Code} {T : State} {locs : List Loc} {cells slots : Nat}
theorem hv_faceUp (X : Stand p l e R s m args below meth c T locs cells slots) (hexec : p.tables.exec = Jvm.exec)
    {own J : String} {index count : Nat} {x : MethodName} (hown : s.vm.findClass own = some m.cls) (hlink : (Cond.methodLink own index x).before args s = true)
    (hface : (Cond.interfaceMethod x.cls J x.name x.desc).before args s = true)
    (hdecl : (Cond.declares ⟨J, x.name, x.desc⟩).before args s = true) (hcl : x.name ≠ "clone")
    (hxo : x.cls ≠ J) (hx : x.cls ≠ "java/lang/invoke/MethodHandle" ∧ x.cls ≠ "java/lang/invoke/VarHandle")
    {a : Addr} {cell : Cell} {kcell : Class} {cI : ClassId} (hcI : s.vm.findClass x.cls = some cI) (hcell : T.heap[a]? = some cell) (hobj : ∀ c, cell.vm ≠ .statics c) (hkcell : s.vm.classes[cell.cls]? = some kcell)
    (hinst : s.vm.assignable cell.cls cI = true)
    {r0 m' : MethodId} {r meth' : Method} (hn : s.methodNamed? ⟨J, x.name, x.desc⟩ = some r0) (hrm : s.vm.method? r0 = some r)
    (hsel : selectMethod e.platform s.vm cell.cls r0 = .method m') (hm' : s.vm.method? m' = some meth')
    (hway : ((cell.cls :: s.vm.superclasses cell.cls).any fun k => (declaredIn s.vm r.name r.desc k).any fun (_, y) => y.isPrivate || y.isStatic) = false)
    (hpub : hasFlag meth'.accessFlags Acc.public_ = true) (habs : meth'.isAbstract = false)
    {g : JFrame} (hg : g.method = m) {argsL rest : List Value} (hlen : argsL.length = r.sig.parameters.length) (hstack : g.stack = argsL.reverse ++ .ref a :: rest)
    (hdg : decode c.code g.pc = .ok (.invokeinterface index count, 5)) :
    ∃ vm', Stand p l e R s m args below meth c (T.setVm vm') locs cells slots ∧
      ∀ target, (∀ acts, Steps p.tables e below (doInvoke e ((T.setVm vm').setTop { g with stack := rest }) acts m' (.ref a :: argsL).toArray).1 target) → Steps p.tables e below (T.setTop g) target := by
  have hpl : e.platform.magicAccessors = ({} : Platform).magicAccessors := by rw [X.admits.platform]
  obtain ⟨r0', r', hn', hrm', hstR, -⟩ := Cond.declares_spec hdecl
  cases hn.symm.trans hn'
  cases hrm.symm.trans hrm'
  obtain ⟨ok, hok, hokname⟩ := className_of_methodNamed hn
  have hmO : ok.methods[r0.idx]? = some r := by simpa [Vm.method?, hok] using hrm
  obtain ⟨cL, kL, r1, hcL, hkL, hiL, hfoundL, hn1⟩ := Cond.interfaceMethod_spec hface
  cases hcI.symm.trans hcL
  cases hn.symm.trans hn1
  have hnone := hv_none_decl hx hxo hcL hkL hfoundL hok hokname
  obtain ⟨ci, hl, hright⟩ := hv_specFF hown hcL hkL hiL hnone hfoundL hok hmO hcl hx hlink e.platform hpl
  have hE : s.MethodEntryUp e T.vm m.cls index cI r0 ci := State.methodEntryFF X.warmed hl hright
  obtain ⟨dk, cfile, nt, _, _, ck, _, _, hd, hcf, hcp, -, -, -, hck, hvia, -⟩ := hl.here
  cases hkL.symm.trans hck
  have alike := hE.warmed.alike
  obtain ⟨dk₂, hdk₂, hres⟩ := hE.classReady
  obtain ⟨dk₃, hdk₃, hed⟩ := alike.2.2 _ _ hd
  cases hdk₂.symm.trans hdk₃
  obtain ⟨ck₂, hck₂, hec⟩ := alike.2.2 _ _ hck
  obtain ⟨kcell₂, hkcell₂, -⟩ := alike.2.2 _ _ hkcell
  refine ⟨T.vm.calledUp m.cls ci index cI r0, X.noted hE.warmed, fun target hrest => ?_⟩
  subst hg
  jvm_step X.here [hexec, hdg, invokeinterface.wp_coldFace (e := e) (s := T) (s₀ := s) (f := g) (count := count) X.here.top X.warmed hE hd hcf (Or.inr hcp) hck hvia,
    invokeinterface.wp_ready (e := e) (s := T.setVm (T.vm.calledUp g.method.cls ci index cI r0)) (f := g) (count := count) (r := r) (meth := meth') (m := m') (args := argsL) (rest := rest) (cell := cell) (kcell := kcell₂) (ck := dk₂) (nk := ck₂) (cf := cfile) (ci := ci) (nt := nt) (named := cI)
      X.here.top hE.ready (by show (T.vm.calledUp g.method.cls ci index cI r0).method? r0 = some r; rw [alike.method?]; exact hrm) hstR hlen hstack hcell hobj hkcell₂ hdk₂ (by rw [hed]; exact hcf) hcp hres hck₂ (by rw [hec]; exact hvia)
      (by show (T.vm.calledUp g.method.cls ci index cI r0).assignable cell.cls cI = true; rw [alike.assignable]; exact hinst)
      (by show selectMethod e.platform (T.vm.calledUp g.method.cls ci index cI r0) cell.cls r0 = .method m'; rw [alike.selectMethod]; exact hsel)
      (by show (T.vm.calledUp g.method.cls ci index cI r0).method? m' = some meth'; rw [alike.method?]; exact hm')
      (Or.inr (Or.inr (by show ((cell.cls :: (T.vm.calledUp g.method.cls ci index cI r0).superclasses cell.cls).any fun k => (declaredIn (T.vm.calledUp g.method.cls ci index cI r0) r.name r.desc k).any fun (_, y) => y.isPrivate || y.isStatic) = false; simp only [alike.superclasses, alike.declaredIn]; exact hway)))
      (Or.inl hpub) habs]
  exact hrest
end
/-- the word of such a method holds all through a run -/
theorem hv_face_moved {A A' : Array Value} {u U : State} {x : MethodName} {J : String} (hx : x.cls ≠ "java/lang/invoke/MethodHandle" ∧ x.cls ≠ "java/lang/invoke/VarHandle") (hxo : x.cls ≠ J) (hvm : u.vm.Alike U.vm) (h : (Cond.interfaceMethod x.cls J x.name x.desc).before A u = true) : (Cond.interfaceMethod x.cls J x.name x.desc).before A' U = true := by
  obtain ⟨cL, kL, r1, hcL, hkL, hiL, hfoundL, hn1⟩ := Cond.interfaceMethod_spec h
  obtain ⟨ok, hok, hokname⟩ := className_of_methodNamed hn1
  have hnone := hv_none_decl hx hxo hcL hkL hfoundL hok hokname
  obtain ⟨kL', hkL', hnameL⟩ := Vm.findClass_spec hcL
  cases hkL.symm.trans hkL'
  have hpoly : ∀ y, signaturePolymorphic kL y = false := fun y => by simp [signaturePolymorphic, hnameL, hx.1, hx.2]
  have hff := State.faceFind_of_found hcL hkL hiL hpoly hnone hfoundL
  obtain ⟨kU, hkU, heU⟩ := hvm.2.2 _ _ hkL
  obtain ⟨okU, hokU, -⟩ := hvm.2.2 _ _ hok
  have hcU : U.vm.findClass x.cls = some cL := by rw [hvm.findClass]; exact hcL
  have hiU : kU.isInterface = true := by rw [heU]; exact hiL
  have hpolyU : ∀ y, signaturePolymorphic kU y = false := fun y => by
    have : kU.name = x.cls := by rw [heU]; exact hnameL
    simp [signaturePolymorphic, this, hx.1, hx.2]
  have hnoneU : kU.findMethod x.name x.desc = none := by rw [heU]; exact hnone
  have hfU : U.methodFound? x.cls x.name x.desc = some r1 := State.methodFound?_faceFind hcU hkU hiU hpolyU hnoneU (by rw [hvm.faceFind]; exact hff) hokU
  have hnU : U.methodNamed? ⟨J, x.name, x.desc⟩ = some r1 := by
    have : (u.setVm U.vm).methodNamed? ⟨J, x.name, x.desc⟩ = u.methodNamed? ⟨J, x.name, x.desc⟩ := State.methodNamed?_setVm hvm _
    exact this.trans hn1
  simp only [Cond.before, Cond.holds, Cond.value, hcU, hfU, hkU, hnU]
  simp [hiU]
section
variable {l : Launch} {s s0 : State} {args a0 : Array Value} {own C : String} {idx t n : Nat}
theorem hv_kFU {x : MethodName} {J : String} (hz : hv_Z s0 a0) (hW : s0.WarmedH s.vm) (mf : hv_mf t n) (hnh : hv_nh t = true) (hnp : hv_np t = n + 1) (hxd : x.desc = (hv_yn t).desc) (ho : x.cls ≠ "java/lang/invoke/MethodHandle" ∧ x.cls ≠ "java/lang/invoke/VarHandle") (hJ : J ≠ "java/lang/invoke/MethodHandle" ∧ J ≠ "java/lang/invoke/VarHandle") (hxo : x.cls ≠ J) (hcl : x.name ≠ "clone")
    (h1 : (Cond.methodLink own idx x).before a0 s0 = true) (hg1 : goodWord (Cond.methodLink own idx x) = true) (f2 : (Cond.interfaceMethod x.cls J x.name x.desc).before a0 s0 = true) (h3 : Cond.selects C ⟨J, x.name, x.desc⟩ (hv_yn t) ∈ lw_all) (h4 : Cond.instanceMethod (hv_yn t) ∈ lw_all)
    (f1 : Cond.declares ⟨J, x.name, x.desc⟩ ∈ lw_tbl) (f3 : Cond.publicMethod (hv_yn t) ∈ lw_tbl) (f4 : Cond.unhidden C x.name x.desc ∈ lw_tbl) (f5 : Cond.castable C x.cls ∈ lw_tbl) : hv_Link l s args own 4 idx t C := by
  intro p e R m below meth c H locs cells slots cc nL rm Pc Qc XC mc ms free As rest g n' hx hb hml hown hM hrc hrs hfr hlo hbl hP hrcv hg hlen hsz hst hW8 hdg hf
  have ht := hv_ht (args := args) hz hW
  have hc : Cond.code (hv_yn t) (hv_bc t) (hv_mL t) (hv_rt t) ∈ lw_all := by rw [← hv_cw_n hnh]; exact mf.1
  have hlink : (Cond.methodLink own idx x).before args s = true := word_at hW (good_of_word hg1) h1
  have hface : (Cond.interfaceMethod x.cls J x.name x.desc).before args s = true := hv_face_moved ho hxo hW.alike f2
  have tr : ∀ {w : Cond}, w.onTables = true → w.before a0 (s0.setVm s.vm) = true → w.before args s = true := fun hw h => va_tabs hw (rfl : (s0.setVm s.vm).vm = s.vm) h
  have hdecl : (Cond.declares ⟨J, x.name, x.desc⟩).before args s = true := tr rfl (by rw [Cond.declares_setVm hW.alike]; exact hz.1 _ f1)
  have hpub : (Cond.publicMethod (hv_yn t)).before args s = true := tr rfl (by rw [Cond.publicMethod_setVm hW.alike]; exact hz.1 _ f3)
  have hunh : (Cond.unhidden C x.name x.desc).before args s = true := tr rfl (by rw [Cond.unhidden_setVm hW.alike]; exact hz.1 _ f4)
  have hcast : (Cond.castable C x.cls).before args s = true := tr rfl (by rw [Cond.castable_setVm hW.alike]; exact hz.1 _ f5)
  obtain ⟨b, As, cellB, rfl, hcB, hoB, hclB, kB, hkB, -⟩ := hrcv
  have hini := ht _ mf.2.1
  have hK : vx_Back l R p e below s args (hv_yn t) 5 8 (PreOf R mc ms Pc) (PostOf Qc mc ms free) (vx_Post XC mc ms free) := vx_back (bytes := hv_bc t) (maxL := hv_mL t) (ret := hv_rt t) hM hbl hrc hrs hfr hlo (hv_wsk hz hW mf) (List.mem_cons_of_mem _ hc) (fun a' U hW => word_at hW (Or.inl (by first | rfl | simp [Cond.onTables, Cond.keeps, Cond.steady])) hini)
  intro T hT X
  obtain ⟨r0, r, hn, hrm, hstR, hsigR⟩ := Cond.declares_spec hdecl
  obtain ⟨cL, kL, r1, hcL, hkL, hiL, hfoundL, hn1⟩ := Cond.interfaceMethod_spec hface
  cases hn.symm.trans hn1
  obtain ⟨hnameR, hdescR⟩ := name_of_methodNamed hn hrm
  obtain ⟨mk, methM, hnamed, hmethM, -, habM⟩ := Cond.instanceMethod_spec (ht _ h4)
  obtain ⟨c2, r2, m2, q1, q2, q3, q4, -⟩ := Cond.selects_spec (ht _ h3)
  cases hclB.symm.trans q1
  have e9 : r2 = r0 := by
    have z := State.methodFound?_of_named hn hJ
    exact Option.some.inj (q2.symm.trans z)
  subst e9
  cases hnamed.symm.trans q3
  have hselP : selectMethod e.platform s.vm cellB.cls r2 = .method mk := by rw [Launch.admits_selectMethod X.admits]; exact q4
  have hpubM : hasFlag methM.accessFlags Acc.public_ = true := Cond.publicMethod_spec hnamed hmethM hpub
  have hway : ((cellB.cls :: s.vm.superclasses cellB.cls).any fun k => (declaredIn s.vm r.name r.desc k).any fun (_, z) => z.isPrivate || z.isStatic) = false := by
    rw [hnameR, hdescR]; exact Cond.unhidden_spec hclB hunh
  obtain ⟨c3, t3, w1, w2, w3⟩ := Cond.castable_spec hcast
  cases hclB.symm.trans w1
  cases hcL.symm.trans w2
  have hlen' : As.length = n := Nat.succ.inj (hlen.trans hnp)
  have hpar : As.length = r.sig.parameters.length := hlen'.trans (hv_prm mf _ (by rw [← hxd]; exact hsigR))
  obtain ⟨vm₁, X₁, hstep₁⟩ := hv_faceUp X hx hown hlink hface hdecl hcl hxo ho hcL (a := b) (cell := cellB) (kcell := kB) (by rw [hT]; exact hcB)
    (fun z h => by rw [h] at hoB; cases hoB) hkB w3 hn hrm hselP hmethM hway hpubM habM (g := g) hg (argsL := As) (rest := rest) hpar (hst.trans hv_st1) (by rw [hb]; exact hdg)
  rcases hK m meth c ⟨T.setVm vm₁, locs, cells, slots⟩ { g with stack := rest } (.invokeinterface idx n') mk (Value.ref b :: As).toArray X₁ hg (hsz.trans hml.symm) (by rw [hb]; exact hdg) hW8 (X₁.named hnamed) ⟨hf.1, hf.2, hP (T.setVm vm₁) hT X₁.warmed⟩ with ⟨v, ⟨U', l2, c2, s2⟩, X', ⟨g', mk', t, L, e1, e2, hq, h1, hL, h2, h3⟩, hsteps⟩ | ⟨q, ⟨U', l2, c2, s2⟩, X', ⟨g', mk', t, L, E, ce, e1, e2, hq, hce, hcv, hcl, h1, hL, h2, h3⟩, hsteps⟩
  · dsimp only [Pt.U, Pt.locs, Pt.cells, Pt.slots] at X' e1 e2 h1 h2 h3 hsteps
    subst h1; subst h2; subst h3
    exact Or.inl ⟨v, (T.setVm vm₁).calling g' mk' (Value.ref b :: As).toArray, t, U', L, hT, X', hL, e1, e2, hq, fun target h => hstep₁ _ fun acts => by rw [doInvoke_state]; exact hsteps.trans h⟩
  · dsimp only [Pt.U, Pt.locs, Pt.cells, Pt.slots] at X' e1 e2 h1 h2 h3 hsteps hcl
    subst h1; subst h2; subst h3
    exact Or.inr ⟨q, (T.setVm vm₁).calling g' mk' (Value.ref b :: As).toArray, t, U', L, E, ce, hT, X', hL, e1, e2, hq, hce, hcv, vx_cls X₁.warmed hcl, hstep₁ _ fun acts => by rw [doInvoke_state]; exact hsteps⟩
end
