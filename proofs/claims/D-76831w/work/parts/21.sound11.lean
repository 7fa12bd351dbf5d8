/-! SOUNDNESS: the walk -/
set_option maxRecDepth 100000
section
variable {l : Launch} {s0 : State} {a0 : Array Value} {D : va_G} {aC : Nat → ClassId} {rho : Nat → Nat} {B : Nat} {H0 : Heap} {fx : Nat → va_E}
/-- what the walk says of runs with fuel k -/
def hv_Wk (l : Launch) (s0 : State) (D : va_G) (aC : Nat → ClassId) (rho : Nat → Nat) (B : Nat) (H0 : Heap) (fx : Nat → va_E) (k : Nat) : Prop :=
  ∀ (d m pc : Nat) (L : hv_L) (st : List Value) (h : hv_H) (r : hv_R), hv_exec k d m pc L st h = some r → m < 349 → (m = 0 → ∃ v, r.1 = .inl v) →
    ∀ (p : Program) (e : Env) (R : Room) (s : State) (mi : MethodId) (args : Array Value) (below : List Frame) (meth : Method) (c : Code) (H : Heap) (locs : List Loc) (ls : Array Slot) (n0 z0 : Nat),
      hv_Bd s0 D aC rho B H0 fx p s mi meth c m → hv_HR D aC rho B H0 fx h H → hv_lo B locs → hv_LS rho L ls → d ≤ R.frames → 40 * d ≤ R.locals → r.2.1 - n0 ≤ R.cells → r.2.2.1 - z0 ≤ R.slots → n0 ≤ h.1 → z0 ≤ h.2.1 →
      W p l e R s mi args below meth c H locs (h.1 - n0) (h.2.1 - z0) (vx_MQ below (hv_Qc D aC rho B H0 fx r) (hv_XC D aC rho B H0 fx r) args s (r.2.1 - n0) (r.2.2.1 - z0) (fun q => B ≤ q)) (F0 mi pc ls (st.map (hv_cv rho)))
/-- a callee's contract out of the walk -/
theorem hv_met (hC : hv_Cx l s0 a0 D aC rho B H0 fx) {k : Nat} (ih : hv_Wk l s0 D aC rho B H0 fx k) {d m : Nat} {as : List Value} {h : hv_H} {r : hv_R} (hx : hv_exec k d m 0 (hv_ent (hv_mL m) as) [] h = some r) (hm : m < 349) (hm0 : m ≠ 0) :
    vx_Met l (hv_yn m) (hv_ws m) { frames := d, locals := 40 * d, cells := r.2.1 - h.1, slots := r.2.2.1 - h.2.1 } (hv_Pc s0 D aC rho B H0 fx as h) (hv_Qc D aC rho B H0 fx r) (hv_XC D aC rho B H0 fx r) (r.2.1 - h.1) (r.2.2.1 - h.2.1) (fun q => B ≤ q) := by
  obtain ⟨hpf, hmL, hon⟩ := hv_mp hm
  refine MetFree.of_bodySF (code := hv_bc m) (maxLocals := hv_mL m) (ret := hv_rt m) hpf (fun args s mi h1 h2 => ?_) ?_
  · obtain ⟨meth, c, g1, g2, g3, g4, g5, g6, -⟩ := hv_his rfl args s mi h1 h2
    exact ⟨meth, c, g1, g2, g3, g4, g5, g6⟩
  · intro p e s mi args below meth c s₁ Bd hml hP _
    have hh0 : s₁.heap = s.heap := by rw [Bd.state]; rfl
    obtain ⟨meth9, c9, g1, g2, g3, g4, g5, g6, g7⟩ := hv_his rfl args s mi Bd.pre Bd.named
    cases Option.some.inj (g1.symm.trans Bd.method)
    cases Option.some.inj (g2.symm.trans (Stand.of_body Bd).code)
    obtain ⟨hPa, hPw, hPh⟩ := hP
    have hB : hv_Bd s0 D aC rho B H0 fx p s mi meth c m := ⟨Bd.exec, g3, g4, g5, by rw [hon]; exact findClass_of_methodNamed Bd.named, g6, fun _ => g7, fun hi => (name_of_methodNamed Bd.named Bd.method).1.trans (hv_ini_name hm hi), hPw, h, hPh⟩
    have hent : (hv_ent (hv_mL m) as).length = hv_mL m := by
      cases k with
      | zero => cases hx
      | succ k =>
        rw [hv_exec] at hx
        cases ha : hv_at d m 0 (hv_ent (hv_mL m) as) [] h with
        | none => rw [ha] at hx; cases hx
        | some o =>
          unfold hv_at at ha
          split at ha
          · rename_i hl; exact hl
          · cases ha
    have key := ih d m 0 _ _ h r hx hm (fun z => absurd z hm0) p e { frames := d, locals := 40 * d, cells := r.2.1 - h.1, slots := r.2.2.1 - h.2.1 } s mi args below meth c s.heap [] _ h.1 h.2.1 hB hPh (fun q hq => by cases hq) (hv_entry hent) (Nat.le_refl _) (Nat.le_refl _) (Nat.le_refl _) (Nat.le_refl _) (Nat.le_refl _) (Nat.le_refl _)
    rw [Nat.sub_self, Nat.sub_self] at key
    have hef : entryFrame mi args (hv_mL m) = F0 mi 0 ((lg_sl (as.map (hv_cv rho)) ++ List.replicate (hv_mL m - (lg_sl (as.map (hv_cv rho))).length) Slot.unset).toArray) [] := by
      rw [hPa]; exact lg_entry_eq mi (as.map (hv_cv rho)) (hv_mL m)
    rw [hef]
    obtain ⟨t, a1, o, b1, b2, b3⟩ := key s₁ hh0 (Stand.of_body Bd)
    exact ⟨t, o, a1, b1, b2, b3⟩
section
variable {p : Program} {e : Env} {R : Room} {s : State} {mi : MethodId} {args : Array Value} {below : List Frame} {meth : Method} {c : Code} {H : Heap} {locs : List Loc} {ls : Array Slot} {n0 z0 : Nat}
/-- something is thrown over the method's frame -/
theorem hv_thrown (hC : hv_Cx l s0 a0 D aC rho B H0 fx) {k : Nat} (ih : hv_Wk l s0 D aC rho B H0 fx k) {d m pc q : Nat} {L : hv_L} {h : hv_H} {r : hv_R} {rest : List Value}
    (hx : (if hv_xc q h = true then (match hv_hd m pc with
      | some t => hv_exec k d m t L [.ref q] h
      | none => some (.inr q, h)) else none) = some r) (hm : m < 349) (hmz : m = 0 → ∃ v, r.1 = .inl v) (hB : hv_Bd s0 D aC rho B H0 fx p s mi meth c m) (hH : hv_HR D aC rho B H0 fx h H) (hlo : hv_lo B locs) (hLS : hv_LS rho L ls) (hfr : d ≤ R.frames) (hlc : 40 * d ≤ R.locals) (hrc : r.2.1 - n0 ≤ R.cells) (hrs : r.2.2.1 - z0 ≤ R.slots) (hn0 : n0 ≤ h.1) (hz0 : z0 ≤ h.2.1) :
    vx_W p l e R s mi args below meth c H locs (h.1 - n0) (h.2.1 - z0) (vx_MQ below (hv_Qc D aC rho B H0 fx r) (hv_XC D aC rho B H0 fx r) args s (r.2.1 - n0) (r.2.2.1 - z0) (fun q => B ≤ q)) (F0 mi pc ls rest) (rho q) := by
  split at hx
  · rename_i hxc
    have hB' := hB
    obtain ⟨hex, hb, hml, hret, hown, hlocks, htab, hini, hW, h0, hH0⟩ := hB
    have hE := hC.2.1.moved hW.alike
    have hqc : ∃ qq, hv_cl[hv_cls (h.2.2 q)]? = some qq ∧ hv_cls (h.2.2 q) ≠ 30 ∧ hv_cn (hv_cls (h.2.2 q)) = qq.1 := by
      rcases hv_xc_cls hxc with z | z <;> rw [z]
      · exact ⟨_, rfl, by decide, rfl⟩
      · exact ⟨_, rfl, by decide, rfl⟩
    obtain ⟨qq, hqq, h30, hcn⟩ := hqc
    obtain ⟨vs, hvs⟩ := hv_cls_o hqq
    obtain ⟨ha, han, -, cell, q1, q2, q3, -⟩ := hH.objW hE hvs hqq h30
    have hcl : s.vm.findClass (hv_cn (hv_cls (h.2.2 q))) = some cell.cls := by rw [hcn, q2]; exact (hE.1.1 _ qq hqq).2.1
    cases hh : hv_hd m pc with
    | none =>
      rw [hh] at hx
      cases hx
      have hne : m ≠ 0 := fun z => by obtain ⟨v, hv⟩ := hmz z; cases hv
      exact vx_out (by rw [htab hne]; exact hv_hd_none hh) hlocks q1 q3 hcl (fun t ht _ => ⟨q, rfl, rfl, hxc, by rw [ht]; exact hH, rfl⟩) hlo (Nat.le_refl _) (Nat.le_refl _)
    | some t =>
      rw [hh] at hx
      obtain ⟨x, hx1, hx2, hx3, hx4, hx5⟩ := hv_hd_some hh
      have hown' := hown
      rw [hx5] at hown'
      have kk := ih d m t L [.ref q] h r hx hm hmz p e R s mi args below meth c H locs ls n0 z0 hB' hH hlo hLS hfr hlc hrc hrs hn0 hz0
      have hne : m ≠ 0 := fun z => by
        subst z
        cases hx1
      refine vx_catch hown' [] x [] (by rw [htab hne, hx1]; rfl) (fun z hz => by cases hz) hx2 (by rw [hx3]; decide) (by rw [hx3]; exact hv_ht hC.1 hW _ hv_clk419) (hv_xcast hC.1 hW hxc) q1 q3 hcl ?_
      rw [hx4]
      exact kk
  · cases hx
end
theorem hv_ret_inv {d m len pc : Nat} {I : Instr} {L : hv_L} {st : List Value} {h h' : hv_H} {v : Option Value} (hh : hv_heap d m I len pc L st h = some (.inr (.inl (v, h')))) : h' = h ∧
    ((I = .ireturn ∧ ∃ x ty, st = [.int x] ∧ v = some (.int x) ∧ hv_rt m = some ty ∧ narrow ty (.int x) = .int x) ∨ (I = .lreturn ∧ ∃ x, st = [.long x] ∧ v = some (.long x) ∧ hv_rt m = some .long) ∨ (I = .areturn ∧ ∃ x n, st = [x] ∧ v = some x ∧ hv_rt m = some (.object n) ∧ hv_isR x = true) ∨ (I = .return_ ∧ st = [] ∧ v = none ∧ hv_rt m = none)) := by
  unfold hv_heap at hh
  split at hh
  case h_28 =>
    split at hh
    · split at hh
      · rename_i ty hty
        split at hh
        · rename_i hn
          cases hh
          exact ⟨rfl, Or.inl ⟨rfl, _, ty, rfl, rfl, hty, hn⟩⟩
        · cases hh
      · cases hh
    · cases hh
  case h_29 =>
    split at hh
    · split at hh
      · rename_i hty
        cases hh
        exact ⟨rfl, Or.inr (Or.inl ⟨rfl, _, rfl, rfl, hty⟩)⟩
      · cases hh
    · cases hh
  case h_30 =>
    split at hh
    · split at hh
      · rename_i n hty
        split at hh
        · rename_i hr
          cases hh
          exact ⟨rfl, Or.inr (Or.inr (Or.inl ⟨rfl, _, n, rfl, rfl, hty, hr⟩))⟩
        · cases hh
      · cases hh
    · cases hh
  case h_31 =>
    split at hh
    · split at hh
      · rename_i hty
        cases hh
        exact ⟨rfl, Or.inr (Or.inr (Or.inr ⟨rfl, rfl, rfl, hty⟩))⟩
      · cases hh
    · cases hh
  all_goals (try unfold hv_gf hv_go at hh); (try unfold hv_pfd hv_go at hh); (try unfold hv_ldI hv_go at hh); (try unfold hv_ldJ hv_go at hh); (try unfold hv_ldA hv_go at hh); (try unfold hv_stI hv_go at hh); (try unfold hv_stC hv_go at hh); (try unfold hv_stB hv_go at hh); (try unfold hv_stJ hv_go at hh); (try unfold hv_stA hv_go at hh); (try unfold hv_alen hv_go at hh); (try unfold hv_new hv_go at hh); (try unfold hv_newa hv_go at hh); (try unfold hv_cast hv_go at hh); (try unfold hv_inst hv_go at hh); (try unfold hv_kst hv_go at hh); (try unfold hv_acm hv_go at hh); (try unfold hv_cl0 at hh); (try unfold hv_cal at hh); (try unfold hv_cpy at hh); (try unfold hv_cl1 at hh); (try unfold hv_cl2 at hh); (try unfold hv_dis at hh); (try unfold hv_go at hh)
  all_goals (repeat' (split at hh))
  all_goals cases hh
theorem hv_thr_inv {d m len pc : Nat} {I : Instr} {L : hv_L} {st : List Value} {h h' : hv_H} {q : Nat} (hh : hv_heap d m I len pc L st h = some (.inr (.inr (.inr (q, h'))))) : h' = h ∧ I = .athrow ∧ ∃ rest, st = .ref q :: rest := by
  unfold hv_heap at hh
  split at hh
  case h_32 =>
    split at hh
    · cases hh
      exact ⟨rfl, rfl, _, rfl⟩
    · cases hh
  all_goals (try unfold hv_gf hv_go at hh); (try unfold hv_pfd hv_go at hh); (try unfold hv_ldI hv_go at hh); (try unfold hv_ldJ hv_go at hh); (try unfold hv_ldA hv_go at hh); (try unfold hv_stI hv_go at hh); (try unfold hv_stC hv_go at hh); (try unfold hv_stB hv_go at hh); (try unfold hv_stJ hv_go at hh); (try unfold hv_stA hv_go at hh); (try unfold hv_alen hv_go at hh); (try unfold hv_new hv_go at hh); (try unfold hv_newa hv_go at hh); (try unfold hv_cast hv_go at hh); (try unfold hv_inst hv_go at hh); (try unfold hv_kst hv_go at hh); (try unfold hv_acm hv_go at hh); (try unfold hv_cl0 at hh); (try unfold hv_cal at hh); (try unfold hv_cpy at hh); (try unfold hv_cl1 at hh); (try unfold hv_cl2 at hh); (try unfold hv_dis at hh); (try unfold hv_go at hh)
  all_goals (repeat' (split at hh))
  all_goals cases hh
set_option maxHeartbeats 800000 in
theorem hv_walk (hC : hv_Cx l s0 a0 D aC rho B H0 fx) : ∀ k, hv_Wk l s0 D aC rho B H0 fx k := by
  intro k
  induction k with
  | zero => intro d m pc L st h r e; cases e
  | succ k ih =>
    intro d m pc L st h r hx hm hmz p e R s mi args below meth c H locs ls n0 z0 hB hH hlo hLS hfr hlc hrc hrs hn0 hz0
    rw [hv_exec] at hx
    cases ha : hv_at d m pc L st h with
    | none => rw [ha] at hx; cases hx
    | some o =>
      rw [ha] at hx
      unfold hv_at at ha
      split at ha
      · rename_i hLl
        split at ha
        · rename_i I len hlk
          have hmem := hv_lookup_mem hlk
          obtain ⟨hdec, hlok⟩ := hv_code_of hm hmem
          have hB' := hB
          obtain ⟨hex, hb, hml, hret, hown, hlocks, htab, hini, hW, h0, hH0⟩ := hB
          have hE := hC.2.1.moved hW.alike
          unfold hv_step hv_sel at ha
          split at ha
          · rename_i S hp
            cases ha
            exact hv_pure_ok hex hb hdec hlok hp hLS (fun ls' hLS' => ih _ _ _ _ _ _ _ hx hm hmz p e R s mi args below meth c H locs ls' n0 z0 hB' hH hlo hLS' hfr hlc hrc hrs hn0 hz0)
          · rename_i hp
            match o, hx, ha with
            | .inl (S, h'), hx, ha =>
              have hle := hv_heap_le ha
              have hgr := hv_exec_grow _ _ _ _ _ _ _ _ hx
              have hle1 : h.1 ≤ h'.1 := hle.1
              have hle2 : h.2.1 ≤ h'.2.1 := hle.2
              have hldk : hv_ldk m I = true := List.all_eq_true.mp (List.all_eq_true.mp hv_ldks m (List.mem_range.mpr hm)) _ hmem
              refine hv_heap_ok hC hB' hm hdec hlok hldk ha (hv_pfk_of hm hmem) hH hlo hLS hLl hfr hlc (Nat.le_trans (Nat.sub_le_sub_right hgr.1 _) hrc) (Nat.le_trans (Nat.sub_le_sub_right hgr.2 _) hrs) hn0 hz0 (fun hSL H1 locs1 hH1 hlo1 => ?_)
              obtain ⟨pc', L', st'⟩ := S
              subst hSL
              exact ih _ _ _ _ _ _ _ hx hm hmz p e R s mi args below meth c H1 locs1 ls n0 z0 hB' hH1 hlo1 hLS hfr hlc hrc hrs (by omega) (by omega)
            | .inr (.inl (v, h')), hx, ha =>
              cases hx
              obtain ⟨rfl, hcase⟩ := hv_ret_inv ha
              rcases hcase with ⟨rfl, x, ty, rfl, rfl, hrt, hn⟩ | ⟨rfl, x, rfl, rfl, hrt⟩ | ⟨rfl, x, n, rfl, rfl, hrt, hr⟩ | ⟨rfl, rfl, rfl, hrt⟩
              · cases (eq_of_beq hlok : len = 1)
                exact vx_ret (W.zret hex hb (hret.trans hrt) hn (fun t ht _ => ⟨_, rfl, rfl, by rw [ht]; exact hH⟩) hlo hdec hlocks)
              · cases (eq_of_beq hlok : len = 1)
                exact vx_ret (W.lret hex hb (hret.trans hrt) (fun t ht _ => ⟨_, rfl, rfl, by rw [ht]; exact hH⟩) hlo hdec hlocks)
              · cases (eq_of_beq hlok : len = 1)
                exact vx_ret (W.aret hex hb (hret.trans hrt) (Or.inl ⟨n, rfl⟩) (by rcases hv_isR_cases hr with z | ⟨a, z⟩ <;> rw [z]; exact Or.inl rfl; exact Or.inr ⟨_, rfl⟩) (fun t ht _ => ⟨_, rfl, rfl, by rw [ht]; exact hH⟩) hlo hdec hlocks)
              · cases (eq_of_beq hlok : len = 1)
                exact vx_ret (W.vret hex hb (hret.trans hrt) (fun t ht _ => ⟨_, rfl, rfl, by rw [ht]; exact hH⟩) hlo hdec hlocks)
            | .inr (.inr (.inl (m', as, pc', st', h'))), hx, ha =>
              have hopk := List.all_eq_true.mp (show (hv_cd m).all _ = true from List.all_eq_true.mp hv_opks m (List.mem_range.mpr hm)) _ hmem
              obtain ⟨rfl, rfl, hfit, hst, hlen, i, n, cn, hI, hL, hll, hrcv⟩ := hv_call_inv hopk hlok ha
              obtain ⟨hm0, hm1, hc34⟩ := hv_ll_ok hll
              dsimp only at hm0 hm1 hc34
              dsimp only at hx
              cases d with
              | zero => cases hx
              | succ d' =>
                dsimp only at hx
                cases hc : hv_exec k d' m' 0 (hv_ent (hv_mL m') as) [] h' with
                | none => rw [hc] at hx; cases hx
                | some r1 =>
                  rw [hc] at hx
                  have hmet := hv_met hC ih hc hm1 (by omega)
                  have hg1 := hv_exec_grow _ _ _ _ _ _ _ _ hc
                  have hg1a : h'.1 ≤ r1.2.1 := hg1.1
                  have hg1b : h'.2.1 ≤ r1.2.2.1 := hg1.2
                  have hlink := hv_lks (l := l) (args := args) hC.1 hW (hv_ow m) (i, cn, m') hll
                  unfold hv_LK at hlink
                  dsimp only at hlink
                  have hrv : hv_rcv s H (hv_lop (hv_ow m) i) (hv_cn cn) (as.map (hv_cv rho)) := by
                    have key : (∃ (b : Nat) (Bs : List Value), as = .ref b :: Bs ∧ hv_cls (h'.2.2 b) = cn) → ∃ (b : Addr) (Bs : List Value) (cellB : Cell), as.map (hv_cv rho) = .ref b :: Bs ∧ H[b]? = some cellB ∧ cellB.vm.isStatics = false ∧ s.vm.findClass (hv_cn cn) = some cellB.cls ∧ ∃ kB, s.vm.classes[cellB.cls]? = some kB ∧ ClassAt s (hv_cn cn) cellB.cls := by
                      rintro ⟨b, Bs, rfl, rfl⟩
                      have hq : hv_cl[hv_cls (h'.2.2 b)]? = some hv_cl[hv_cls (h'.2.2 b)] := List.getElem?_eq_getElem (show hv_cls (h'.2.2 b) < 34 from hc34)
                      obtain ⟨vs, hvs⟩ := hv_cls_o hq
                      obtain ⟨cell, z1, z2, z3, z4, -⟩ := hH.obj hE hvs hq
                      have hcn : hv_cn (hv_cls (h'.2.2 b)) = (hv_cl[hv_cls (h'.2.2 b)]'hc34).1 := by
                        unfold hv_cn
                        rw [List.getD_eq_getElem?_getD, hq]
                        rfl
                      have hcA : ClassAt s (hv_cn (hv_cls (h'.2.2 b))) cell.cls := by rw [hcn, z4]; exact (hE.1.1 _ _ hq).2
                      exact ⟨rho b, Bs.map (hv_cv rho), cell, rfl, z1, z3, hcA.1, hcA.2.choose, hcA.2.choose_spec.1, hcA⟩
                    unfold hv_rcv
                    generalize hv_lop (hv_ow m) i = op at hrcv ⊢
                    match op, hrcv with
                    | 0, _ => trivial
                    | 1, hrcv =>
                      obtain ⟨b, Bs, rfl⟩ := hrcv
                      exact ⟨rho b, Bs.map (hv_cv rho), rfl⟩
                    | op + 2, hrcv => exact key hrcv
                  have hmL := (hv_mp hm1).2.1
                  have hRR : hv_le r1.2 r.2 := by
                    match r1, hx with
                    | (.inl v, h2), hx => exact hv_exec_grow _ _ _ _ _ _ _ _ hx
                    | (.inr q, h2), hx =>
                      dsimp only at hx
                      split at hx
                      · cases hh : hv_hd m pc with
                        | none => rw [hh] at hx; cases hx; exact hv_le.refl _
                        | some t => rw [hh] at hx; exact hv_exec_grow _ _ _ _ _ _ _ _ hx
                      · cases hx
                  have hRa : r1.2.1 ≤ r.2.1 := hRR.1
                  have hRb : r1.2.2.1 ≤ r.2.2.1 := hRR.2
                  have run := hlink p e R mi below meth c H locs (h'.1 - n0) (h'.2.1 - z0) (hv_bc m) (hv_mL m) _ _ _ _ _ _ _ (as.map (hv_cv rho)) (st'.map (hv_cv rho)) (F0 mi pc ls (st.map (hv_cv rho))) n hex hb hml hown hmet rfl rfl hfr (by show 8 + (hv_mL m' + 11) + 40 * d' ≤ _; omega)
                    (fun _ _ _ _ z => z) (fun U hU hWU => ⟨rfl, State.WarmedH.trans hW hWU, by rw [hU]; exact hH⟩) hrv rfl (by rw [List.length_map]; exact hlen) (show ls.size = hv_mL m from hLS.1.trans hLl) (by show st.map (hv_cv rho) = _; rw [hst, List.map_append, List.map_reverse]) (by show 2 * 0 + _ ≤ 8; have := hv_fr_fit hfit rho; omega) (by rw [← hI, ← hL]; exact hdec) ⟨by omega, by omega⟩
                  have ec : h'.1 - n0 + (r1.2.1 - h'.1) = r1.2.1 - n0 := by omega
                  have es : h'.2.1 - z0 + (r1.2.2.1 - h'.2.1) = r1.2.2.1 - z0 := by omega
                  intro T hT X
                  rcases run T hT X with ⟨v', st₀, t, T', Lx, e0, X', hLx, e1, e2, hq, hgo⟩ | ⟨qv, st₀, t, T', Lx, E, ce, e0, X', hLx, e1, e2, hq, hce, hcv, hcl, hst9⟩
                  · obtain ⟨v, hv1, hv2, hv3⟩ := hq
                    obtain ⟨r1a, h2⟩ := r1
                    dsimp only at hv1 hv3 hg1a hg1b hRa hRb ec es X'
                    subst hv1
                    rw [ec, es] at X'
                    have hv4 : v' = v.map (hv_cv rho) := by injection hv2
                    subst hv4
                    obtain ⟨t', b1, b2⟩ := ih (d' + 1) m (pc + len) L (v.toList ++ st') h2 r hx hm hmz p e R s mi args below meth c T'.heap (locs ++ Lx) ls n0 z0 hB' (by rw [e1]; exact hv3) (hlo.app hLx) hLS hfr hlc hrc hrs (by omega) (by omega) T' rfl X'
                    refine ⟨t', hgo _ ?_, b2⟩
                    rw [← hL]
                    have ev : (v.map (hv_cv rho)).toList ++ st'.map (hv_cv rho) = (v.toList ++ st').map (hv_cv rho) := by cases v <;> simp
                    show Steps p.tables e below (T'.setTop (F0 mi (pc + len) ls ((v.map (hv_cv rho)).toList ++ st'.map (hv_cv rho)))) t'
                    rw [ev]
                    exact b1
                  · obtain ⟨qa, hv1, hv2, hv5, hv3, hv6⟩ := hq
                    obtain ⟨r1a, h2⟩ := r1
                    dsimp only at hv1 hv3 hg1a hg1b hRa hRb ec es X' hv5
                    subst hv1
                    rw [ec, es] at X'
                    subst hv2
                    obtain ⟨t', b1, b2⟩ := hv_thrown hC ih (rest := st'.map (hv_cv rho)) hx hm hmz hB' (by rw [e1]; exact hv3) (hlo.app hLx) hLS hfr hlc hrc hrs (by omega) (by omega) T' rfl X'
                    exact ⟨t', hst9.trans b1, b2⟩
            | .inr (.inr (.inr (q, h'))), hx, ha =>
              obtain ⟨rfl, rfl, rest, rfl⟩ := hv_thr_inv ha
              cases (eq_of_beq hlok : len = 1)
              exact vx_athrow hex hb hdec (hv_thrown hC ih hx hm hmz hB' hH hlo hLS hfr hlc hrc hrs hn0 hz0)
        · cases ha
      · cases ha
end
