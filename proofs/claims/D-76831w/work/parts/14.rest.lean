/-! FIELDS, CLASSES, CONSTANTS: what is known of each entry (printed by gen/calls.py) -/
set_option maxRecDepth 100000
/-- a field's entry: (k, classes, type, final); its link is its own or a nest mate's; where it is final, it is the class's own -/
def hv_ff (o i : Nat) (v : Nat × List Nat × FieldType × Bool) : Prop := ∀ c ∈ v.2.1, ∃ q, hv_cl[c]? = some q ∧ v.1 < q.2.2 ∧ v.2.2.1 = hv_Y c v.1 ∧ v.2.2.2 = (hv_T c v.1).2.2.2 ∧ hv_tyk (hv_Y c v.1) = true ∧
  (Cond.fieldLink (hv_on o) i (hv_T c v.1).1 (hv_T c v.1).2.1 (hv_T c v.1).2.2.1 ∈ lw_all ∨ ∃ host, Cond.fieldLinkNest (hv_on o) i (hv_T c v.1).1 (hv_T c v.1).2.1 (hv_T c v.1).2.2.1 host ∈ lw_tbl) ∧
  (Cond.fieldLink (hv_on o) i (hv_T c v.1).1 (hv_T c v.1).2.1 (hv_T c v.1).2.2.1 ∈ lw_all ∨ (hv_T c v.1).1 ≠ hv_on o)
theorem hv_ff_0 : ∀ e ∈ hv_frs.getD 0 [], hv_ff 0 e.1 e.2 := fun _ h => absurd h List.not_mem_nil
theorem hv_ff_1_48 : hv_ff 1 48 (0, [0], .array (.object "HallOfClaims$Plain"), true) := List.forall_mem_cons.mpr ⟨⟨_, rfl, by decide +kernel, rfl, rfl, rfl, Or.inl (lw_g (lw_at lw_m2 177 rfl) rfl), Or.inl (lw_g (lw_at lw_m2 177 rfl) rfl)⟩, fun _ h => absurd h List.not_mem_nil⟩
theorem hv_ff_1_57 : hv_ff 1 57 (1, [0], .object "HallOfClaims$Hall", true) := List.forall_mem_cons.mpr ⟨⟨_, rfl, by decide +kernel, rfl, rfl, rfl, Or.inl (lw_g (lw_at lw_m2 178 rfl) rfl), Or.inl (lw_g (lw_at lw_m2 178 rfl) rfl)⟩, fun _ h => absurd h List.not_mem_nil⟩
theorem hv_ff_1_61 : hv_ff 1 61 (2, [0], .object "HallOfClaims$Hall", true) := List.forall_mem_cons.mpr ⟨⟨_, rfl, by decide +kernel, rfl, rfl, rfl, Or.inl (lw_g (lw_at lw_m2 179 rfl) rfl), Or.inl (lw_g (lw_at lw_m2 179 rfl) rfl)⟩, fun _ h => absurd h List.not_mem_nil⟩
theorem hv_ff_1_64 : hv_ff 1 64 (3, [0], .object "HallOfClaims$Hall", true) := List.forall_mem_cons.mpr ⟨⟨_, rfl, by decide +kernel, rfl, rfl, rfl, Or.inl (lw_g (lw_at lw_m2 180 rfl) rfl), Or.inl (lw_g (lw_at lw_m2 180 rfl) rfl)⟩, fun _ h => absurd h List.not_mem_nil⟩
theorem hv_ff_1_70 : hv_ff 1 70 (4, [0], .object "HallOfClaims$Frame", true) := List.forall_mem_cons.mpr ⟨⟨_, rfl, by decide +kernel, rfl, rfl, rfl, Or.inl (lw_g (lw_at lw_m2 181 rfl) rfl), Or.inl (lw_g (lw_at lw_m2 181 rfl) rfl)⟩, fun _ h => absurd h List.not_mem_nil⟩
theorem hv_ff_1_79 : hv_ff 1 79 (5, [0], .object "HallOfClaims$Labels", true) := List.forall_mem_cons.mpr ⟨⟨_, rfl, by decide +kernel, rfl, rfl, rfl, Or.inl (lw_g (lw_at lw_m2 182 rfl) rfl), Or.inl (lw_g (lw_at lw_m2 182 rfl) rfl)⟩, fun _ h => absurd h List.not_mem_nil⟩
theorem hv_ff_1_86 : hv_ff 1 86 (6, [0], .object "HallOfClaims$Shelf", true) := List.forall_mem_cons.mpr ⟨⟨_, rfl, by decide +kernel, rfl, rfl, rfl, Or.inl (lw_g (lw_at lw_m2 183 rfl) rfl), Or.inl (lw_g (lw_at lw_m2 183 rfl) rfl)⟩, fun _ h => absurd h List.not_mem_nil⟩
theorem hv_ff_1_93 : hv_ff 1 93 (7, [0], .object "HallOfClaims$Game", true) := List.forall_mem_cons.mpr ⟨⟨_, rfl, by decide +kernel, rfl, rfl, rfl, Or.inl (lw_g (lw_at lw_m2 184 rfl) rfl), Or.inl (lw_g (lw_at lw_m2 184 rfl) rfl)⟩, fun _ h => absurd h List.not_mem_nil⟩
theorem hv_ff_1_97 : hv_ff 1 97 (9, [0], .array .byte, true) := List.forall_mem_cons.mpr ⟨⟨_, rfl, by decide +kernel, rfl, rfl, rfl, Or.inl (lw_g (lw_at lw_m2 186 rfl) rfl), Or.inl (lw_g (lw_at lw_m2 186 rfl) rfl)⟩, fun _ h => absurd h List.not_mem_nil⟩
theorem hv_ff_1_101 : hv_ff 1 101 (11, [0], .array .char, true) := List.forall_mem_cons.mpr ⟨⟨_, rfl, by decide +kernel, rfl, rfl, rfl, Or.inl (lw_g (lw_at lw_m2 189 rfl) rfl), Or.inl (lw_g (lw_at lw_m2 189 rfl) rfl)⟩, fun _ h => absurd h List.not_mem_nil⟩
theorem hv_ff_1_105 : hv_ff 1 105 (13, [0], .array .int, true) := List.forall_mem_cons.mpr ⟨⟨_, rfl, by decide +kernel, rfl, rfl, rfl, Or.inl (lw_g (lw_at lw_m2 192 rfl) rfl), Or.inl (lw_g (lw_at lw_m2 192 rfl) rfl)⟩, fun _ h => absurd h List.not_mem_nil⟩
theorem hv_ff_1_112 : hv_ff 1 112 (14, [0], .array (.object "HallOfClaims$Tally"), true) := List.forall_mem_cons.mpr ⟨⟨_, rfl, by decide +kernel, rfl, rfl, rfl, Or.inl (lw_g (lw_at lw_m2 193 rfl) rfl), Or.inl (lw_g (lw_at lw_m2 193 rfl) rfl)⟩, fun _ h => absurd h List.not_mem_nil⟩
theorem hv_ff_1_119 : hv_ff 1 119 (15, [0], .object "java/util/TreeMap", true) := List.forall_mem_cons.mpr ⟨⟨_, rfl, by decide +kernel, rfl, rfl, rfl, Or.inl (lw_g (lw_at lw_m2 194 rfl) rfl), Or.inl (lw_g (lw_at lw_m2 194 rfl) rfl)⟩, fun _ h => absurd h List.not_mem_nil⟩
theorem hv_ff_1_128 : hv_ff 1 128 (12, [0], .int, false) := List.forall_mem_cons.mpr ⟨⟨_, rfl, by decide +kernel, rfl, rfl, rfl, Or.inl (lw_g (lw_at lw_m2 191 rfl) rfl), Or.inl (lw_g (lw_at lw_m2 191 rfl) rfl)⟩, fun _ h => absurd h List.not_mem_nil⟩
theorem hv_ff_1_138 : hv_ff 1 138 (1, [20], .int, false) := List.forall_mem_cons.mpr ⟨⟨_, rfl, by decide +kernel, rfl, rfl, rfl, Or.inr ⟨_, lw_at lw_m3 98 rfl⟩, Or.inr (by decide +kernel)⟩, fun _ h => absurd h List.not_mem_nil⟩
theorem hv_ff_1_141 : hv_ff 1 141 (0, [20], .int, true) := List.forall_mem_cons.mpr ⟨⟨_, rfl, by decide +kernel, rfl, rfl, rfl, Or.inr ⟨_, lw_at lw_m3 96 rfl⟩, Or.inr (by decide +kernel)⟩, fun _ h => absurd h List.not_mem_nil⟩
theorem hv_ff_1_154 : hv_ff 1 154 (0, [22, 23, 24, 25, 26], .int, true) := List.forall_mem_cons.mpr ⟨⟨_, rfl, by decide +kernel, rfl, rfl, rfl, Or.inl (lw_g (lw_at lw_m3 166 rfl) rfl), Or.inr (by decide +kernel)⟩, List.forall_mem_cons.mpr ⟨⟨_, rfl, by decide +kernel, rfl, rfl, rfl, Or.inl (lw_g (lw_at lw_m3 166 rfl) rfl), Or.inr (by decide +kernel)⟩, List.forall_mem_cons.mpr ⟨⟨_, rfl, by decide +kernel, rfl, rfl, rfl, Or.inl (lw_g (lw_at lw_m3 166 rfl) rfl), Or.inr (by decide +kernel)⟩, List.forall_mem_cons.mpr ⟨⟨_, rfl, by decide +kernel, rfl, rfl, rfl, Or.inl (lw_g (lw_at lw_m3 166 rfl) rfl), Or.inr (by decide +kernel)⟩, List.forall_mem_cons.mpr ⟨⟨_, rfl, by decide +kernel, rfl, rfl, rfl, Or.inl (lw_g (lw_at lw_m3 166 rfl) rfl), Or.inr (by decide +kernel)⟩, fun _ h => absurd h List.not_mem_nil⟩⟩⟩⟩⟩
theorem hv_ff_1_166 : hv_ff 1 166 (0, [7], .int, false) := List.forall_mem_cons.mpr ⟨⟨_, rfl, by decide +kernel, rfl, rfl, rfl, Or.inr ⟨_, lw_at lw_m1 120 rfl⟩, Or.inr (by decide +kernel)⟩, fun _ h => absurd h List.not_mem_nil⟩
theorem hv_ff_1_183 : hv_ff 1 183 (1, [7], .int, false) := List.forall_mem_cons.mpr ⟨⟨_, rfl, by decide +kernel, rfl, rfl, rfl, Or.inr ⟨_, lw_at lw_m1 124 rfl⟩, Or.inr (by decide +kernel)⟩, fun _ h => absurd h List.not_mem_nil⟩
theorem hv_ff_1_196 : hv_ff 1 196 (3, [7], .array (.object "HallOfClaims$Plain"), true) := List.forall_mem_cons.mpr ⟨⟨_, rfl, by decide +kernel, rfl, rfl, rfl, Or.inr ⟨_, lw_at lw_m1 131 rfl⟩, Or.inr (by decide +kernel)⟩, fun _ h => absurd h List.not_mem_nil⟩
theorem hv_ff_1_201 : hv_ff 1 201 (4, [7], .array .int, true) := List.forall_mem_cons.mpr ⟨⟨_, rfl, by decide +kernel, rfl, rfl, rfl, Or.inr ⟨_, lw_at lw_m1 135 rfl⟩, Or.inr (by decide +kernel)⟩, fun _ h => absurd h List.not_mem_nil⟩
theorem hv_ff_1_206 : hv_ff 1 206 (2, [7], .int, false) := List.forall_mem_cons.mpr ⟨⟨_, rfl, by decide +kernel, rfl, rfl, rfl, Or.inr ⟨_, lw_at lw_m1 128 rfl⟩, Or.inr (by decide +kernel)⟩, fun _ h => absurd h List.not_mem_nil⟩
theorem hv_ff_1_209 : hv_ff 1 209 (5, [7], .array .int, true) := List.forall_mem_cons.mpr ⟨⟨_, rfl, by decide +kernel, rfl, rfl, rfl, Or.inr ⟨_, lw_at lw_m1 137 rfl⟩, Or.inr (by decide +kernel)⟩, fun _ h => absurd h List.not_mem_nil⟩
theorem hv_ff_1_212 : hv_ff 1 212 (6, [7], .array .int, true) := List.forall_mem_cons.mpr ⟨⟨_, rfl, by decide +kernel, rfl, rfl, rfl, Or.inr ⟨_, lw_at lw_m1 140 rfl⟩, Or.inr (by decide +kernel)⟩, fun _ h => absurd h List.not_mem_nil⟩
theorem hv_ff_1_215 : hv_ff 1 215 (7, [7], .array .int, true) := List.forall_mem_cons.mpr ⟨⟨_, rfl, by decide +kernel, rfl, rfl, rfl, Or.inr ⟨_, lw_at lw_m1 143 rfl⟩, Or.inr (by decide +kernel)⟩, fun _ h => absurd h List.not_mem_nil⟩
theorem hv_ff_1_225 : hv_ff 1 225 (4, [8], .array .int, true) := List.forall_mem_cons.mpr ⟨⟨_, rfl, by decide +kernel, rfl, rfl, rfl, Or.inr ⟨_, lw_at lw_m1 225 rfl⟩, Or.inr (by decide +kernel)⟩, fun _ h => absurd h List.not_mem_nil⟩
theorem hv_ff_1_228 : hv_ff 1 228 (5, [8], .array .int, true) := List.forall_mem_cons.mpr ⟨⟨_, rfl, by decide +kernel, rfl, rfl, rfl, Or.inr ⟨_, lw_at lw_m1 229 rfl⟩, Or.inr (by decide +kernel)⟩, fun _ h => absurd h List.not_mem_nil⟩
theorem hv_ff_1_237 : hv_ff 1 237 (9, [8], .int, false) := List.forall_mem_cons.mpr ⟨⟨_, rfl, by decide +kernel, rfl, rfl, rfl, Or.inr ⟨_, lw_at lw_m1 235 rfl⟩, Or.inr (by decide +kernel)⟩, fun _ h => absurd h List.not_mem_nil⟩
theorem hv_ff_1_240 : hv_ff 1 240 (8, [8], .array .int, true) := List.forall_mem_cons.mpr ⟨⟨_, rfl, by decide +kernel, rfl, rfl, rfl, Or.inr ⟨_, lw_at lw_m1 233 rfl⟩, Or.inr (by decide +kernel)⟩, fun _ h => absurd h List.not_mem_nil⟩
theorem hv_ff_1_250 : hv_ff 1 250 (1, [12], .object "java/util/TreeSet", true) := List.forall_mem_cons.mpr ⟨⟨_, rfl, by decide +kernel, rfl, rfl, rfl, Or.inr ⟨_, lw_at lw_m2 124 rfl⟩, Or.inr (by decide +kernel)⟩, fun _ h => absurd h List.not_mem_nil⟩
theorem hv_ff_1_289 : hv_ff 1 289 (2, [17], .array .long, true) := List.forall_mem_cons.mpr ⟨⟨_, rfl, by decide +kernel, rfl, rfl, rfl, Or.inr ⟨_, lw_at lw_m2 140 rfl⟩, Or.inr (by decide +kernel)⟩, fun _ h => absurd h List.not_mem_nil⟩
theorem hv_ff_1_293 : hv_ff 1 293 (1, [17], .array .int, true) := List.forall_mem_cons.mpr ⟨⟨_, rfl, by decide +kernel, rfl, rfl, rfl, Or.inr ⟨_, lw_at lw_m2 138 rfl⟩, Or.inr (by decide +kernel)⟩, fun _ h => absurd h List.not_mem_nil⟩
theorem hv_ff_1_299 : hv_ff 1 299 (10, [8], .int, false) := List.forall_mem_cons.mpr ⟨⟨_, rfl, by decide +kernel, rfl, rfl, rfl, Or.inr ⟨_, lw_at lw_m1 237 rfl⟩, Or.inr (by decide +kernel)⟩, fun _ h => absurd h List.not_mem_nil⟩
theorem hv_ff_1_315 : hv_ff 1 315 (10, [0], .int, false) := List.forall_mem_cons.mpr ⟨⟨_, rfl, by decide +kernel, rfl, rfl, rfl, Or.inl (lw_g (lw_at lw_m2 187 rfl) rfl), Or.inl (lw_g (lw_at lw_m2 187 rfl) rfl)⟩, fun _ h => absurd h List.not_mem_nil⟩
theorem hv_ff_1_318 : hv_ff 1 318 (0, [8], .object "HallOfClaims$Hall", false) := List.forall_mem_cons.mpr ⟨⟨_, rfl, by decide +kernel, rfl, rfl, rfl, Or.inr ⟨_, lw_at lw_m1 217 rfl⟩, Or.inr (by decide +kernel)⟩, fun _ h => absurd h List.not_mem_nil⟩
theorem hv_ff_1_356 : hv_ff 1 356 (0, [18], .int, false) := List.forall_mem_cons.mpr ⟨⟨_, rfl, by decide +kernel, rfl, rfl, rfl, Or.inr ⟨_, lw_at lw_m2 157 rfl⟩, Or.inr (by decide +kernel)⟩, fun _ h => absurd h List.not_mem_nil⟩
theorem hv_ff_1_359 : hv_ff 1 359 (1, [18], .int, false) := List.forall_mem_cons.mpr ⟨⟨_, rfl, by decide +kernel, rfl, rfl, rfl, Or.inr ⟨_, lw_at lw_m2 159 rfl⟩, Or.inr (by decide +kernel)⟩, fun _ h => absurd h List.not_mem_nil⟩
theorem hv_ff_1_360 : hv_ff 1 360 (2, [18], .int, false) := List.forall_mem_cons.mpr ⟨⟨_, rfl, by decide +kernel, rfl, rfl, rfl, Or.inr ⟨_, lw_at lw_m2 161 rfl⟩, Or.inr (by decide +kernel)⟩, fun _ h => absurd h List.not_mem_nil⟩
theorem hv_ff_1_506 : hv_ff 1 506 (8, [0], .boolean, false) := List.forall_mem_cons.mpr ⟨⟨_, rfl, by decide +kernel, rfl, rfl, rfl, Or.inl (lw_g (lw_at lw_m2 185 rfl) rfl), Or.inl (lw_g (lw_at lw_m2 185 rfl) rfl)⟩, fun _ h => absurd h List.not_mem_nil⟩
theorem hv_ff_1 : ∀ e ∈ hv_frs.getD 1 [], hv_ff 1 e.1 e.2 := List.forall_mem_cons.mpr ⟨hv_ff_1_48, List.forall_mem_cons.mpr ⟨hv_ff_1_57, List.forall_mem_cons.mpr ⟨hv_ff_1_61, List.forall_mem_cons.mpr ⟨hv_ff_1_64, List.forall_mem_cons.mpr ⟨hv_ff_1_70, List.forall_mem_cons.mpr ⟨hv_ff_1_79, List.forall_mem_cons.mpr ⟨hv_ff_1_86, List.forall_mem_cons.mpr ⟨hv_ff_1_93, List.forall_mem_cons.mpr ⟨hv_ff_1_97, List.forall_mem_cons.mpr ⟨hv_ff_1_101, List.forall_mem_cons.mpr ⟨hv_ff_1_105, List.forall_mem_cons.mpr ⟨hv_ff_1_112, List.forall_mem_cons.mpr ⟨hv_ff_1_119, List.forall_mem_cons.mpr ⟨hv_ff_1_128, List.forall_mem_cons.mpr ⟨hv_ff_1_138, List.forall_mem_cons.mpr ⟨hv_ff_1_141, List.forall_mem_cons.mpr ⟨hv_ff_1_154, List.forall_mem_cons.mpr ⟨hv_ff_1_166, List.forall_mem_cons.mpr ⟨hv_ff_1_183, List.forall_mem_cons.mpr ⟨hv_ff_1_196, List.forall_mem_cons.mpr ⟨hv_ff_1_201, List.forall_mem_cons.mpr ⟨hv_ff_1_206, List.forall_mem_cons.mpr ⟨hv_ff_1_209, List.forall_mem_cons.mpr ⟨hv_ff_1_212, List.forall_mem_cons.mpr ⟨hv_ff_1_215, List.forall_mem_cons.mpr ⟨hv_ff_1_225, List.forall_mem_cons.mpr ⟨hv_ff_1_228, List.forall_mem_cons.mpr ⟨hv_ff_1_237, List.forall_mem_cons.mpr ⟨hv_ff_1_240, List.forall_mem_cons.mpr ⟨hv_ff_1_250, List.forall_mem_cons.mpr ⟨hv_ff_1_289, List.forall_mem_cons.mpr ⟨hv_ff_1_293, List.forall_mem_cons.mpr ⟨hv_ff_1_299, List.forall_mem_cons.mpr ⟨hv_ff_1_315, List.forall_mem_cons.mpr ⟨hv_ff_1_318, List.forall_mem_cons.mpr ⟨hv_ff_1_356, List.forall_mem_cons.mpr ⟨hv_ff_1_359, List.forall_mem_cons.mpr ⟨hv_ff_1_360, List.forall_mem_cons.mpr ⟨hv_ff_1_506, fun _ h => absurd h List.not_mem_nil⟩⟩⟩⟩⟩⟩⟩⟩⟩⟩⟩⟩⟩⟩⟩⟩⟩⟩⟩⟩⟩⟩⟩⟩⟩⟩⟩⟩⟩⟩⟩⟩⟩⟩⟩⟩⟩⟩⟩
theorem hv_ff_2 : ∀ e ∈ hv_frs.getD 2 [], hv_ff 2 e.1 e.2 := fun _ h => absurd h List.not_mem_nil
theorem hv_ff_3 : ∀ e ∈ hv_frs.getD 3 [], hv_ff 3 e.1 e.2 := fun _ h => absurd h List.not_mem_nil
theorem hv_ff_4 : ∀ e ∈ hv_frs.getD 4 [], hv_ff 4 e.1 e.2 := fun _ h => absurd h List.not_mem_nil
theorem hv_ff_5 : ∀ e ∈ hv_frs.getD 5 [], hv_ff 5 e.1 e.2 := fun _ h => absurd h List.not_mem_nil
theorem hv_ff_6 : ∀ e ∈ hv_frs.getD 6 [], hv_ff 6 e.1 e.2 := fun _ h => absurd h List.not_mem_nil
theorem hv_ff_7 : ∀ e ∈ hv_frs.getD 7 [], hv_ff 7 e.1 e.2 := fun _ h => absurd h List.not_mem_nil
theorem hv_ff_8_9 : hv_ff 8 9 (2, [7], .int, false) := List.forall_mem_cons.mpr ⟨⟨_, rfl, by decide +kernel, rfl, rfl, rfl, Or.inl (lw_g (lw_at lw_m1 125 rfl) rfl), Or.inl (lw_g (lw_at lw_m1 125 rfl) rfl)⟩, fun _ h => absurd h List.not_mem_nil⟩
theorem hv_ff_8_17 : hv_ff 8 17 (3, [7], .array (.object "HallOfClaims$Plain"), true) := List.forall_mem_cons.mpr ⟨⟨_, rfl, by decide +kernel, rfl, rfl, rfl, Or.inl (lw_g (lw_at lw_m1 129 rfl) rfl), Or.inl (lw_g (lw_at lw_m1 129 rfl) rfl)⟩, fun _ h => absurd h List.not_mem_nil⟩
theorem hv_ff_8_21 : hv_ff 8 21 (4, [7], .array .int, true) := List.forall_mem_cons.mpr ⟨⟨_, rfl, by decide +kernel, rfl, rfl, rfl, Or.inl (lw_g (lw_at lw_m1 132 rfl) rfl), Or.inl (lw_g (lw_at lw_m1 132 rfl) rfl)⟩, fun _ h => absurd h List.not_mem_nil⟩
theorem hv_ff_8_25 : hv_ff 8 25 (5, [7], .array .int, true) := List.forall_mem_cons.mpr ⟨⟨_, rfl, by decide +kernel, rfl, rfl, rfl, Or.inl (lw_g (lw_at lw_m1 136 rfl) rfl), Or.inl (lw_g (lw_at lw_m1 136 rfl) rfl)⟩, fun _ h => absurd h List.not_mem_nil⟩
theorem hv_ff_8_28 : hv_ff 8 28 (6, [7], .array .int, true) := List.forall_mem_cons.mpr ⟨⟨_, rfl, by decide +kernel, rfl, rfl, rfl, Or.inl (lw_g (lw_at lw_m1 138 rfl) rfl), Or.inl (lw_g (lw_at lw_m1 138 rfl) rfl)⟩, fun _ h => absurd h List.not_mem_nil⟩
theorem hv_ff_8_31 : hv_ff 8 31 (7, [7], .array .int, true) := List.forall_mem_cons.mpr ⟨⟨_, rfl, by decide +kernel, rfl, rfl, rfl, Or.inl (lw_g (lw_at lw_m1 141 rfl) rfl), Or.inl (lw_g (lw_at lw_m1 141 rfl) rfl)⟩, fun _ h => absurd h List.not_mem_nil⟩
theorem hv_ff_8_34 : hv_ff 8 34 (0, [7], .int, false) := List.forall_mem_cons.mpr ⟨⟨_, rfl, by decide +kernel, rfl, rfl, rfl, Or.inl (lw_g (lw_at lw_m1 113 rfl) rfl), Or.inl (lw_g (lw_at lw_m1 113 rfl) rfl)⟩, fun _ h => absurd h List.not_mem_nil⟩
theorem hv_ff_8_37 : hv_ff 8 37 (1, [7], .int, false) := List.forall_mem_cons.mpr ⟨⟨_, rfl, by decide +kernel, rfl, rfl, rfl, Or.inl (lw_g (lw_at lw_m1 122 rfl) rfl), Or.inl (lw_g (lw_at lw_m1 122 rfl) rfl)⟩, fun _ h => absurd h List.not_mem_nil⟩
theorem hv_ff_8 : ∀ e ∈ hv_frs.getD 8 [], hv_ff 8 e.1 e.2 := List.forall_mem_cons.mpr ⟨hv_ff_8_9, List.forall_mem_cons.mpr ⟨hv_ff_8_17, List.forall_mem_cons.mpr ⟨hv_ff_8_21, List.forall_mem_cons.mpr ⟨hv_ff_8_25, List.forall_mem_cons.mpr ⟨hv_ff_8_28, List.forall_mem_cons.mpr ⟨hv_ff_8_31, List.forall_mem_cons.mpr ⟨hv_ff_8_34, List.forall_mem_cons.mpr ⟨hv_ff_8_37, fun _ h => absurd h List.not_mem_nil⟩⟩⟩⟩⟩⟩⟩⟩
theorem hv_ff_9_9 : hv_ff 9 9 (2, [8], .array .int, true) := List.forall_mem_cons.mpr ⟨⟨_, rfl, by decide +kernel, rfl, rfl, rfl, Or.inl (lw_g (lw_at lw_m1 222 rfl) rfl), Or.inl (lw_g (lw_at lw_m1 222 rfl) rfl)⟩, fun _ h => absurd h List.not_mem_nil⟩
theorem hv_ff_9_15 : hv_ff 9 15 (3, [8], .array .int, true) := List.forall_mem_cons.mpr ⟨⟨_, rfl, by decide +kernel, rfl, rfl, rfl, Or.inl (lw_g (lw_at lw_m1 223 rfl) rfl), Or.inl (lw_g (lw_at lw_m1 223 rfl) rfl)⟩, fun _ h => absurd h List.not_mem_nil⟩
theorem hv_ff_9_18 : hv_ff 9 18 (4, [8], .array .int, true) := List.forall_mem_cons.mpr ⟨⟨_, rfl, by decide +kernel, rfl, rfl, rfl, Or.inl (lw_g (lw_at lw_m1 224 rfl) rfl), Or.inl (lw_g (lw_at lw_m1 224 rfl) rfl)⟩, fun _ h => absurd h List.not_mem_nil⟩
theorem hv_ff_9_21 : hv_ff 9 21 (5, [8], .array .int, true) := List.forall_mem_cons.mpr ⟨⟨_, rfl, by decide +kernel, rfl, rfl, rfl, Or.inl (lw_g (lw_at lw_m1 226 rfl) rfl), Or.inl (lw_g (lw_at lw_m1 226 rfl) rfl)⟩, fun _ h => absurd h List.not_mem_nil⟩
theorem hv_ff_9_26 : hv_ff 9 26 (6, [8], .array (.object "HallOfClaims$Waiting"), true) := List.forall_mem_cons.mpr ⟨⟨_, rfl, by decide +kernel, rfl, rfl, rfl, Or.inl (lw_g (lw_at lw_m1 230 rfl) rfl), Or.inl (lw_g (lw_at lw_m1 230 rfl) rfl)⟩, fun _ h => absurd h List.not_mem_nil⟩
theorem hv_ff_9_33 : hv_ff 9 33 (7, [8], .object "java/util/PriorityQueue", true) := List.forall_mem_cons.mpr ⟨⟨_, rfl, by decide +kernel, rfl, rfl, rfl, Or.inl (lw_g (lw_at lw_m1 231 rfl) rfl), Or.inl (lw_g (lw_at lw_m1 231 rfl) rfl)⟩, fun _ h => absurd h List.not_mem_nil⟩
theorem hv_ff_9_37 : hv_ff 9 37 (8, [8], .array .int, true) := List.forall_mem_cons.mpr ⟨⟨_, rfl, by decide +kernel, rfl, rfl, rfl, Or.inl (lw_g (lw_at lw_m1 232 rfl) rfl), Or.inl (lw_g (lw_at lw_m1 232 rfl) rfl)⟩, fun _ h => absurd h List.not_mem_nil⟩
theorem hv_ff_9_43 : hv_ff 9 43 (0, [8], .object "HallOfClaims$Hall", false) := List.forall_mem_cons.mpr ⟨⟨_, rfl, by decide +kernel, rfl, rfl, rfl, Or.inl (lw_g (lw_at lw_m1 214 rfl) rfl), Or.inl (lw_g (lw_at lw_m1 214 rfl) rfl)⟩, fun _ h => absurd h List.not_mem_nil⟩
theorem hv_ff_9_47 : hv_ff 9 47 (1, [7], .int, false) := List.forall_mem_cons.mpr ⟨⟨_, rfl, by decide +kernel, rfl, rfl, rfl, Or.inr ⟨_, lw_at lw_m1 123 rfl⟩, Or.inr (by decide +kernel)⟩, fun _ h => absurd h List.not_mem_nil⟩
theorem hv_ff_9_53 : hv_ff 9 53 (1, [8], .int, false) := List.forall_mem_cons.mpr ⟨⟨_, rfl, by decide +kernel, rfl, rfl, rfl, Or.inl (lw_g (lw_at lw_m1 218 rfl) rfl), Or.inl (lw_g (lw_at lw_m1 218 rfl) rfl)⟩, fun _ h => absurd h List.not_mem_nil⟩
theorem hv_ff_9_54 : hv_ff 9 54 (0, [7], .int, false) := List.forall_mem_cons.mpr ⟨⟨_, rfl, by decide +kernel, rfl, rfl, rfl, Or.inr ⟨_, lw_at lw_m1 117 rfl⟩, Or.inr (by decide +kernel)⟩, fun _ h => absurd h List.not_mem_nil⟩
theorem hv_ff_9_62 : hv_ff 9 62 (2, [7], .int, false) := List.forall_mem_cons.mpr ⟨⟨_, rfl, by decide +kernel, rfl, rfl, rfl, Or.inr ⟨_, lw_at lw_m1 127 rfl⟩, Or.inr (by decide +kernel)⟩, fun _ h => absurd h List.not_mem_nil⟩
theorem hv_ff_9_75 : hv_ff 9 75 (10, [8], .int, false) := List.forall_mem_cons.mpr ⟨⟨_, rfl, by decide +kernel, rfl, rfl, rfl, Or.inl (lw_g (lw_at lw_m1 236 rfl) rfl), Or.inl (lw_g (lw_at lw_m1 236 rfl) rfl)⟩, fun _ h => absurd h List.not_mem_nil⟩
theorem hv_ff_9_78 : hv_ff 9 78 (11, [8], .int, false) := List.forall_mem_cons.mpr ⟨⟨_, rfl, by decide +kernel, rfl, rfl, rfl, Or.inl (lw_g (lw_at lw_m1 238 rfl) rfl), Or.inl (lw_g (lw_at lw_m1 238 rfl) rfl)⟩, fun _ h => absurd h List.not_mem_nil⟩
theorem hv_ff_9_84 : hv_ff 9 84 (4, [7], .array .int, true) := List.forall_mem_cons.mpr ⟨⟨_, rfl, by decide +kernel, rfl, rfl, rfl, Or.inr ⟨_, lw_at lw_m1 134 rfl⟩, Or.inr (by decide +kernel)⟩, fun _ h => absurd h List.not_mem_nil⟩
theorem hv_ff_9_87 : hv_ff 9 87 (1, [10], .int, false) := List.forall_mem_cons.mpr ⟨⟨_, rfl, by decide +kernel, rfl, rfl, rfl, Or.inr ⟨_, lw_at lw_m1 208 rfl⟩, Or.inr (by decide +kernel)⟩, fun _ h => absurd h List.not_mem_nil⟩
theorem hv_ff_9_97 : hv_ff 9 97 (9, [8], .int, false) := List.forall_mem_cons.mpr ⟨⟨_, rfl, by decide +kernel, rfl, rfl, rfl, Or.inl (lw_g (lw_at lw_m1 234 rfl) rfl), Or.inl (lw_g (lw_at lw_m1 234 rfl) rfl)⟩, fun _ h => absurd h List.not_mem_nil⟩
theorem hv_ff_9_111 : hv_ff 9 111 (0, [10], .int, true) := List.forall_mem_cons.mpr ⟨⟨_, rfl, by decide +kernel, rfl, rfl, rfl, Or.inr ⟨_, lw_at lw_m1 206 rfl⟩, Or.inr (by decide +kernel)⟩, fun _ h => absurd h List.not_mem_nil⟩
theorem hv_ff_9 : ∀ e ∈ hv_frs.getD 9 [], hv_ff 9 e.1 e.2 := List.forall_mem_cons.mpr ⟨hv_ff_9_9, List.forall_mem_cons.mpr ⟨hv_ff_9_15, List.forall_mem_cons.mpr ⟨hv_ff_9_18, List.forall_mem_cons.mpr ⟨hv_ff_9_21, List.forall_mem_cons.mpr ⟨hv_ff_9_26, List.forall_mem_cons.mpr ⟨hv_ff_9_33, List.forall_mem_cons.mpr ⟨hv_ff_9_37, List.forall_mem_cons.mpr ⟨hv_ff_9_43, List.forall_mem_cons.mpr ⟨hv_ff_9_47, List.forall_mem_cons.mpr ⟨hv_ff_9_53, List.forall_mem_cons.mpr ⟨hv_ff_9_54, List.forall_mem_cons.mpr ⟨hv_ff_9_62, List.forall_mem_cons.mpr ⟨hv_ff_9_75, List.forall_mem_cons.mpr ⟨hv_ff_9_78, List.forall_mem_cons.mpr ⟨hv_ff_9_84, List.forall_mem_cons.mpr ⟨hv_ff_9_87, List.forall_mem_cons.mpr ⟨hv_ff_9_97, List.forall_mem_cons.mpr ⟨hv_ff_9_111, fun _ h => absurd h List.not_mem_nil⟩⟩⟩⟩⟩⟩⟩⟩⟩⟩⟩⟩⟩⟩⟩⟩⟩⟩
theorem hv_ff_10_17 : hv_ff 10 17 (0, [9], .array (.object "java/lang/Object"), false) := List.forall_mem_cons.mpr ⟨⟨_, rfl, by decide +kernel, rfl, rfl, rfl, Or.inl (lw_g (lw_at lw_m1 187 rfl) rfl), Or.inl (lw_g (lw_at lw_m1 187 rfl) rfl)⟩, fun _ h => absurd h List.not_mem_nil⟩
theorem hv_ff_10_21 : hv_ff 10 21 (2, [9], .object "java/util/Comparator", true) := List.forall_mem_cons.mpr ⟨⟨_, rfl, by decide +kernel, rfl, rfl, rfl, Or.inl (lw_g (lw_at lw_m1 189 rfl) rfl), Or.inl (lw_g (lw_at lw_m1 189 rfl) rfl)⟩, fun _ h => absurd h List.not_mem_nil⟩
theorem hv_ff_10_58 : hv_ff 10 58 (1, [9], .int, false) := List.forall_mem_cons.mpr ⟨⟨_, rfl, by decide +kernel, rfl, rfl, rfl, Or.inl (lw_g (lw_at lw_m1 188 rfl) rfl), Or.inl (lw_g (lw_at lw_m1 188 rfl) rfl)⟩, fun _ h => absurd h List.not_mem_nil⟩
theorem hv_ff_10_93 : hv_ff 10 93 (3, [9], .int, false) := List.forall_mem_cons.mpr ⟨⟨_, rfl, by decide +kernel, rfl, rfl, rfl, Or.inl (lw_g (lw_at lw_m1 190 rfl) rfl), Or.inl (lw_g (lw_at lw_m1 190 rfl) rfl)⟩, fun _ h => absurd h List.not_mem_nil⟩
theorem hv_ff_10 : ∀ e ∈ hv_frs.getD 10 [], hv_ff 10 e.1 e.2 := List.forall_mem_cons.mpr ⟨hv_ff_10_17, List.forall_mem_cons.mpr ⟨hv_ff_10_21, List.forall_mem_cons.mpr ⟨hv_ff_10_58, List.forall_mem_cons.mpr ⟨hv_ff_10_93, fun _ h => absurd h List.not_mem_nil⟩⟩⟩⟩
theorem hv_ff_11 : ∀ e ∈ hv_frs.getD 11 [], hv_ff 11 e.1 e.2 := fun _ h => absurd h List.not_mem_nil
theorem hv_ff_12 : ∀ e ∈ hv_frs.getD 12 [], hv_ff 12 e.1 e.2 := fun _ h => absurd h List.not_mem_nil
theorem hv_ff_13_7 : hv_ff 13 7 (0, [10], .int, true) := List.forall_mem_cons.mpr ⟨⟨_, rfl, by decide +kernel, rfl, rfl, rfl, Or.inl (lw_g (lw_at lw_m1 205 rfl) rfl), Or.inl (lw_g (lw_at lw_m1 205 rfl) rfl)⟩, fun _ h => absurd h List.not_mem_nil⟩
theorem hv_ff_13_13 : hv_ff 13 13 (1, [10], .int, false) := List.forall_mem_cons.mpr ⟨⟨_, rfl, by decide +kernel, rfl, rfl, rfl, Or.inl (lw_g (lw_at lw_m1 207 rfl) rfl), Or.inl (lw_g (lw_at lw_m1 207 rfl) rfl)⟩, fun _ h => absurd h List.not_mem_nil⟩
theorem hv_ff_13 : ∀ e ∈ hv_frs.getD 13 [], hv_ff 13 e.1 e.2 := List.forall_mem_cons.mpr ⟨hv_ff_13_7, List.forall_mem_cons.mpr ⟨hv_ff_13_13, fun _ h => absurd h List.not_mem_nil⟩⟩
theorem hv_ff_14_9 : hv_ff 14 9 (1, [11], .array .int, true) := List.forall_mem_cons.mpr ⟨⟨_, rfl, by decide +kernel, rfl, rfl, rfl, Or.inl (lw_g (lw_at lw_m2 31 rfl) rfl), Or.inl (lw_g (lw_at lw_m2 31 rfl) rfl)⟩, fun _ h => absurd h List.not_mem_nil⟩
theorem hv_ff_14_15 : hv_ff 14 15 (2, [11], .array .int, true) := List.forall_mem_cons.mpr ⟨⟨_, rfl, by decide +kernel, rfl, rfl, rfl, Or.inl (lw_g (lw_at lw_m2 32 rfl) rfl), Or.inl (lw_g (lw_at lw_m2 32 rfl) rfl)⟩, fun _ h => absurd h List.not_mem_nil⟩
theorem hv_ff_14_18 : hv_ff 14 18 (0, [11], .object "HallOfClaims$Frame", true) := List.forall_mem_cons.mpr ⟨⟨_, rfl, by decide +kernel, rfl, rfl, rfl, Or.inl (lw_g (lw_at lw_m2 30 rfl) rfl), Or.inl (lw_g (lw_at lw_m2 30 rfl) rfl)⟩, fun _ h => absurd h List.not_mem_nil⟩
theorem hv_ff_14_22 : hv_ff 14 22 (3, [11], .int, false) := List.forall_mem_cons.mpr ⟨⟨_, rfl, by decide +kernel, rfl, rfl, rfl, Or.inl (lw_g (lw_at lw_m2 34 rfl) rfl), Or.inl (lw_g (lw_at lw_m2 34 rfl) rfl)⟩, fun _ h => absurd h List.not_mem_nil⟩
theorem hv_ff_14_34 : hv_ff 14 34 (5, [8], .array .int, true) := List.forall_mem_cons.mpr ⟨⟨_, rfl, by decide +kernel, rfl, rfl, rfl, Or.inr ⟨_, lw_at lw_m1 228 rfl⟩, Or.inr (by decide +kernel)⟩, fun _ h => absurd h List.not_mem_nil⟩
theorem hv_ff_14_53 : hv_ff 14 53 (0, [8], .object "HallOfClaims$Hall", false) := List.forall_mem_cons.mpr ⟨⟨_, rfl, by decide +kernel, rfl, rfl, rfl, Or.inr ⟨_, lw_at lw_m1 216 rfl⟩, Or.inr (by decide +kernel)⟩, fun _ h => absurd h List.not_mem_nil⟩
theorem hv_ff_14_57 : hv_ff 14 57 (0, [7], .int, false) := List.forall_mem_cons.mpr ⟨⟨_, rfl, by decide +kernel, rfl, rfl, rfl, Or.inr ⟨_, lw_at lw_m1 119 rfl⟩, Or.inr (by decide +kernel)⟩, fun _ h => absurd h List.not_mem_nil⟩
theorem hv_ff_14_62 : hv_ff 14 62 (1, [8], .int, false) := List.forall_mem_cons.mpr ⟨⟨_, rfl, by decide +kernel, rfl, rfl, rfl, Or.inr ⟨_, lw_at lw_m1 221 rfl⟩, Or.inr (by decide +kernel)⟩, fun _ h => absurd h List.not_mem_nil⟩
theorem hv_ff_14 : ∀ e ∈ hv_frs.getD 14 [], hv_ff 14 e.1 e.2 := List.forall_mem_cons.mpr ⟨hv_ff_14_9, List.forall_mem_cons.mpr ⟨hv_ff_14_15, List.forall_mem_cons.mpr ⟨hv_ff_14_18, List.forall_mem_cons.mpr ⟨hv_ff_14_22, List.forall_mem_cons.mpr ⟨hv_ff_14_34, List.forall_mem_cons.mpr ⟨hv_ff_14_53, List.forall_mem_cons.mpr ⟨hv_ff_14_57, List.forall_mem_cons.mpr ⟨hv_ff_14_62, fun _ h => absurd h List.not_mem_nil⟩⟩⟩⟩⟩⟩⟩⟩
theorem hv_ff_15_11 : hv_ff 15 11 (0, [12], .array (.object "HallOfClaims$Found"), true) := List.forall_mem_cons.mpr ⟨⟨_, rfl, by decide +kernel, rfl, rfl, rfl, Or.inl (lw_g (lw_at lw_m2 122 rfl) rfl), Or.inl (lw_g (lw_at lw_m2 122 rfl) rfl)⟩, fun _ h => absurd h List.not_mem_nil⟩
theorem hv_ff_15_25 : hv_ff 15 25 (1, [12], .object "java/util/TreeSet", true) := List.forall_mem_cons.mpr ⟨⟨_, rfl, by decide +kernel, rfl, rfl, rfl, Or.inl (lw_g (lw_at lw_m2 123 rfl) rfl), Or.inl (lw_g (lw_at lw_m2 123 rfl) rfl)⟩, fun _ h => absurd h List.not_mem_nil⟩
theorem hv_ff_15_50 : hv_ff 15 50 (1, [8], .int, false) := List.forall_mem_cons.mpr ⟨⟨_, rfl, by decide +kernel, rfl, rfl, rfl, Or.inr ⟨_, lw_at lw_m1 220 rfl⟩, Or.inr (by decide +kernel)⟩, fun _ h => absurd h List.not_mem_nil⟩
theorem hv_ff_15_60 : hv_ff 15 60 (3, [11], .int, false) := List.forall_mem_cons.mpr ⟨⟨_, rfl, by decide +kernel, rfl, rfl, rfl, Or.inr ⟨_, lw_at lw_m2 35 rfl⟩, Or.inr (by decide +kernel)⟩, fun _ h => absurd h List.not_mem_nil⟩
theorem hv_ff_15_63 : hv_ff 15 63 (2, [11], .array .int, true) := List.forall_mem_cons.mpr ⟨⟨_, rfl, by decide +kernel, rfl, rfl, rfl, Or.inr ⟨_, lw_at lw_m2 33 rfl⟩, Or.inr (by decide +kernel)⟩, fun _ h => absurd h List.not_mem_nil⟩
theorem hv_ff_15_94 : hv_ff 15 94 (0, [16], .int, false) := List.forall_mem_cons.mpr ⟨⟨_, rfl, by decide +kernel, rfl, rfl, rfl, Or.inr ⟨_, lw_at lw_m2 118 rfl⟩, Or.inr (by decide +kernel)⟩, fun _ h => absurd h List.not_mem_nil⟩
theorem hv_ff_15 : ∀ e ∈ hv_frs.getD 15 [], hv_ff 15 e.1 e.2 := List.forall_mem_cons.mpr ⟨hv_ff_15_11, List.forall_mem_cons.mpr ⟨hv_ff_15_25, List.forall_mem_cons.mpr ⟨hv_ff_15_50, List.forall_mem_cons.mpr ⟨hv_ff_15_60, List.forall_mem_cons.mpr ⟨hv_ff_15_63, List.forall_mem_cons.mpr ⟨hv_ff_15_94, fun _ h => absurd h List.not_mem_nil⟩⟩⟩⟩⟩⟩
theorem hv_ff_16_7 : hv_ff 16 7 (0, [16], .int, false) := List.forall_mem_cons.mpr ⟨⟨_, rfl, by decide +kernel, rfl, rfl, rfl, Or.inr ⟨_, lw_at lw_m2 116 rfl⟩, Or.inr (by decide +kernel)⟩, fun _ h => absurd h List.not_mem_nil⟩
theorem hv_ff_16 : ∀ e ∈ hv_frs.getD 16 [], hv_ff 16 e.1 e.2 := List.forall_mem_cons.mpr ⟨hv_ff_16_7, fun _ h => absurd h List.not_mem_nil⟩
theorem hv_ff_17_7 : hv_ff 17 7 (0, [13], .object "java/util/NavigableMap", false) := List.forall_mem_cons.mpr ⟨⟨_, rfl, by decide +kernel, rfl, rfl, rfl, Or.inl (lw_g (lw_at lw_m2 107 rfl) rfl), Or.inl (lw_g (lw_at lw_m2 107 rfl) rfl)⟩, fun _ h => absurd h List.not_mem_nil⟩
theorem hv_ff_17 : ∀ e ∈ hv_frs.getD 17 [], hv_ff 17 e.1 e.2 := List.forall_mem_cons.mpr ⟨hv_ff_17_7, fun _ h => absurd h List.not_mem_nil⟩
theorem hv_ff_18_7 : hv_ff 18 7 (4, [15], .int, false) := List.forall_mem_cons.mpr ⟨⟨_, rfl, by decide +kernel, rfl, rfl, rfl, Or.inl (lw_g (lw_at lw_m2 76 rfl) rfl), Or.inl (lw_g (lw_at lw_m2 76 rfl) rfl)⟩, fun _ h => absurd h List.not_mem_nil⟩
theorem hv_ff_18_13 : hv_ff 18 13 (5, [15], .int, false) := List.forall_mem_cons.mpr ⟨⟨_, rfl, by decide +kernel, rfl, rfl, rfl, Or.inl (lw_g (lw_at lw_m2 77 rfl) rfl), Or.inl (lw_g (lw_at lw_m2 77 rfl) rfl)⟩, fun _ h => absurd h List.not_mem_nil⟩
theorem hv_ff_18_16 : hv_ff 18 16 (2, [15], .object "java/util/Comparator", true) := List.forall_mem_cons.mpr ⟨⟨_, rfl, by decide +kernel, rfl, rfl, rfl, Or.inl (lw_g (lw_at lw_m2 74 rfl) rfl), Or.inl (lw_g (lw_at lw_m2 74 rfl) rfl)⟩, fun _ h => absurd h List.not_mem_nil⟩
theorem hv_ff_18_58 : hv_ff 18 58 (1, [27], .object "java/lang/Object", false) := List.forall_mem_cons.mpr ⟨⟨_, rfl, by decide +kernel, rfl, rfl, rfl, Or.inl (lw_g (lw_at lw_m6 1 rfl) rfl), Or.inr (by decide +kernel)⟩, fun _ h => absurd h List.not_mem_nil⟩
theorem hv_ff_18_101 : hv_ff 18 101 (3, [15], .object "java/util/TreeMap$Entry", false) := List.forall_mem_cons.mpr ⟨⟨_, rfl, by decide +kernel, rfl, rfl, rfl, Or.inl (lw_g (lw_at lw_m2 75 rfl) rfl), Or.inl (lw_g (lw_at lw_m2 75 rfl) rfl)⟩, fun _ h => absurd h List.not_mem_nil⟩
theorem hv_ff_18_105 : hv_ff 18 105 (0, [27], .object "java/lang/Object", false) := List.forall_mem_cons.mpr ⟨⟨_, rfl, by decide +kernel, rfl, rfl, rfl, Or.inl (lw_g (lw_at lw_m5 239 rfl) rfl), Or.inr (by decide +kernel)⟩, fun _ h => absurd h List.not_mem_nil⟩
theorem hv_ff_18_111 : hv_ff 18 111 (2, [27], .object "java/util/TreeMap$Entry", false) := List.forall_mem_cons.mpr ⟨⟨_, rfl, by decide +kernel, rfl, rfl, rfl, Or.inl (lw_g (lw_at lw_m6 2 rfl) rfl), Or.inr (by decide +kernel)⟩, fun _ h => absurd h List.not_mem_nil⟩
theorem hv_ff_18_114 : hv_ff 18 114 (3, [27], .object "java/util/TreeMap$Entry", false) := List.forall_mem_cons.mpr ⟨⟨_, rfl, by decide +kernel, rfl, rfl, rfl, Or.inl (lw_g (lw_at lw_m6 3 rfl) rfl), Or.inr (by decide +kernel)⟩, fun _ h => absurd h List.not_mem_nil⟩
theorem hv_ff_18_124 : hv_ff 18 124 (4, [27], .object "java/util/TreeMap$Entry", false) := List.forall_mem_cons.mpr ⟨⟨_, rfl, by decide +kernel, rfl, rfl, rfl, Or.inl (lw_g (lw_at lw_m6 5 rfl) rfl), Or.inr (by decide +kernel)⟩, fun _ h => absurd h List.not_mem_nil⟩
theorem hv_ff_18_188 : hv_ff 18 188 (6, [15], .object "java/util/TreeMap$EntrySet", false) := List.forall_mem_cons.mpr ⟨⟨_, rfl, by decide +kernel, rfl, rfl, rfl, Or.inl (lw_g (lw_at lw_m2 79 rfl) rfl), Or.inl (lw_g (lw_at lw_m2 79 rfl) rfl)⟩, fun _ h => absurd h List.not_mem_nil⟩
theorem hv_ff_18_191 : hv_ff 18 191 (7, [15], .object "java/util/TreeMap$KeySet", false) := List.forall_mem_cons.mpr ⟨⟨_, rfl, by decide +kernel, rfl, rfl, rfl, Or.inl (lw_g (lw_at lw_m2 80 rfl) rfl), Or.inl (lw_g (lw_at lw_m2 80 rfl) rfl)⟩, fun _ h => absurd h List.not_mem_nil⟩
theorem hv_ff_18_290 : hv_ff 18 290 (5, [27], .boolean, false) := List.forall_mem_cons.mpr ⟨⟨_, rfl, by decide +kernel, rfl, rfl, rfl, Or.inl (lw_g (lw_at lw_m6 7 rfl) rfl), Or.inr (by decide +kernel)⟩, fun _ h => absurd h List.not_mem_nil⟩
theorem hv_ff_18 : ∀ e ∈ hv_frs.getD 18 [], hv_ff 18 e.1 e.2 := List.forall_mem_cons.mpr ⟨hv_ff_18_7, List.forall_mem_cons.mpr ⟨hv_ff_18_13, List.forall_mem_cons.mpr ⟨hv_ff_18_16, List.forall_mem_cons.mpr ⟨hv_ff_18_58, List.forall_mem_cons.mpr ⟨hv_ff_18_101, List.forall_mem_cons.mpr ⟨hv_ff_18_105, List.forall_mem_cons.mpr ⟨hv_ff_18_111, List.forall_mem_cons.mpr ⟨hv_ff_18_114, List.forall_mem_cons.mpr ⟨hv_ff_18_124, List.forall_mem_cons.mpr ⟨hv_ff_18_188, List.forall_mem_cons.mpr ⟨hv_ff_18_191, List.forall_mem_cons.mpr ⟨hv_ff_18_290, fun _ h => absurd h List.not_mem_nil⟩⟩⟩⟩⟩⟩⟩⟩⟩⟩⟩⟩
theorem hv_ff_19 : ∀ e ∈ hv_frs.getD 19 [], hv_ff 19 e.1 e.2 := fun _ h => absurd h List.not_mem_nil
theorem hv_ff_20 : ∀ e ∈ hv_frs.getD 20 [], hv_ff 20 e.1 e.2 := fun _ h => absurd h List.not_mem_nil
theorem hv_ff_21_7 : hv_ff 21 7 (0, [16], .int, false) := List.forall_mem_cons.mpr ⟨⟨_, rfl, by decide +kernel, rfl, rfl, rfl, Or.inl (lw_g (lw_at lw_m2 117 rfl) rfl), Or.inl (lw_g (lw_at lw_m2 117 rfl) rfl)⟩, fun _ h => absurd h List.not_mem_nil⟩
theorem hv_ff_21 : ∀ e ∈ hv_frs.getD 21 [], hv_ff 21 e.1 e.2 := List.forall_mem_cons.mpr ⟨hv_ff_21_7, fun _ h => absurd h List.not_mem_nil⟩
theorem hv_ff_22_9 : hv_ff 22 9 (1, [17], .array .int, true) := List.forall_mem_cons.mpr ⟨⟨_, rfl, by decide +kernel, rfl, rfl, rfl, Or.inl (lw_g (lw_at lw_m2 137 rfl) rfl), Or.inl (lw_g (lw_at lw_m2 137 rfl) rfl)⟩, fun _ h => absurd h List.not_mem_nil⟩
theorem hv_ff_22_15 : hv_ff 22 15 (2, [17], .array .long, true) := List.forall_mem_cons.mpr ⟨⟨_, rfl, by decide +kernel, rfl, rfl, rfl, Or.inl (lw_g (lw_at lw_m2 139 rfl) rfl), Or.inl (lw_g (lw_at lw_m2 139 rfl) rfl)⟩, fun _ h => absurd h List.not_mem_nil⟩
theorem hv_ff_22_19 : hv_ff 22 19 (0, [17], .object "HallOfClaims$Frame", false) := List.forall_mem_cons.mpr ⟨⟨_, rfl, by decide +kernel, rfl, rfl, rfl, Or.inl (lw_g (lw_at lw_m2 136 rfl) rfl), Or.inl (lw_g (lw_at lw_m2 136 rfl) rfl)⟩, fun _ h => absurd h List.not_mem_nil⟩
theorem hv_ff_22_23 : hv_ff 22 23 (0, [8], .object "HallOfClaims$Hall", false) := List.forall_mem_cons.mpr ⟨⟨_, rfl, by decide +kernel, rfl, rfl, rfl, Or.inr ⟨_, lw_at lw_m1 215 rfl⟩, Or.inr (by decide +kernel)⟩, fun _ h => absurd h List.not_mem_nil⟩
theorem hv_ff_22_29 : hv_ff 22 29 (0, [7], .int, false) := List.forall_mem_cons.mpr ⟨⟨_, rfl, by decide +kernel, rfl, rfl, rfl, Or.inr ⟨_, lw_at lw_m1 116 rfl⟩, Or.inr (by decide +kernel)⟩, fun _ h => absurd h List.not_mem_nil⟩
theorem hv_ff_22_39 : hv_ff 22 39 (1, [8], .int, false) := List.forall_mem_cons.mpr ⟨⟨_, rfl, by decide +kernel, rfl, rfl, rfl, Or.inr ⟨_, lw_at lw_m1 219 rfl⟩, Or.inr (by decide +kernel)⟩, fun _ h => absurd h List.not_mem_nil⟩
theorem hv_ff_22_49 : hv_ff 22 49 (5, [8], .array .int, true) := List.forall_mem_cons.mpr ⟨⟨_, rfl, by decide +kernel, rfl, rfl, rfl, Or.inr ⟨_, lw_at lw_m1 227 rfl⟩, Or.inr (by decide +kernel)⟩, fun _ h => absurd h List.not_mem_nil⟩
theorem hv_ff_22 : ∀ e ∈ hv_frs.getD 22 [], hv_ff 22 e.1 e.2 := List.forall_mem_cons.mpr ⟨hv_ff_22_9, List.forall_mem_cons.mpr ⟨hv_ff_22_15, List.forall_mem_cons.mpr ⟨hv_ff_22_19, List.forall_mem_cons.mpr ⟨hv_ff_22_23, List.forall_mem_cons.mpr ⟨hv_ff_22_29, List.forall_mem_cons.mpr ⟨hv_ff_22_39, List.forall_mem_cons.mpr ⟨hv_ff_22_49, fun _ h => absurd h List.not_mem_nil⟩⟩⟩⟩⟩⟩⟩
theorem hv_ff_23_7 : hv_ff 23 7 (0, [18], .int, false) := List.forall_mem_cons.mpr ⟨⟨_, rfl, by decide +kernel, rfl, rfl, rfl, Or.inl (lw_g (lw_at lw_m2 156 rfl) rfl), Or.inl (lw_g (lw_at lw_m2 156 rfl) rfl)⟩, fun _ h => absurd h List.not_mem_nil⟩
theorem hv_ff_23_13 : hv_ff 23 13 (1, [18], .int, false) := List.forall_mem_cons.mpr ⟨⟨_, rfl, by decide +kernel, rfl, rfl, rfl, Or.inl (lw_g (lw_at lw_m2 158 rfl) rfl), Or.inl (lw_g (lw_at lw_m2 158 rfl) rfl)⟩, fun _ h => absurd h List.not_mem_nil⟩
theorem hv_ff_23_16 : hv_ff 23 16 (2, [18], .int, false) := List.forall_mem_cons.mpr ⟨⟨_, rfl, by decide +kernel, rfl, rfl, rfl, Or.inl (lw_g (lw_at lw_m2 160 rfl) rfl), Or.inl (lw_g (lw_at lw_m2 160 rfl) rfl)⟩, fun _ h => absurd h List.not_mem_nil⟩
theorem hv_ff_23 : ∀ e ∈ hv_frs.getD 23 [], hv_ff 23 e.1 e.2 := List.forall_mem_cons.mpr ⟨hv_ff_23_7, List.forall_mem_cons.mpr ⟨hv_ff_23_13, List.forall_mem_cons.mpr ⟨hv_ff_23_16, fun _ h => absurd h List.not_mem_nil⟩⟩⟩
theorem hv_ff_24_9 : hv_ff 24 9 (0, [33], .array .int, true) := List.forall_mem_cons.mpr ⟨⟨_, rfl, by decide +kernel, rfl, rfl, rfl, Or.inl (lw_g (lw_at lw_m8 156 rfl) rfl), Or.inl (lw_g (lw_at lw_m8 156 rfl) rfl)⟩, fun _ h => absurd h List.not_mem_nil⟩
theorem hv_ff_24_13 : hv_ff 24 13 (1, [33], .array .int, true) := List.forall_mem_cons.mpr ⟨⟨_, rfl, by decide +kernel, rfl, rfl, rfl, Or.inl (lw_g (lw_at lw_m8 157 rfl) rfl), Or.inl (lw_g (lw_at lw_m8 157 rfl) rfl)⟩, fun _ h => absurd h List.not_mem_nil⟩
theorem hv_ff_24_16 : hv_ff 24 16 (2, [33], .array .int, true) := List.forall_mem_cons.mpr ⟨⟨_, rfl, by decide +kernel, rfl, rfl, rfl, Or.inl (lw_g (lw_at lw_m8 158 rfl) rfl), Or.inl (lw_g (lw_at lw_m8 158 rfl) rfl)⟩, fun _ h => absurd h List.not_mem_nil⟩
theorem hv_ff_24_19 : hv_ff 24 19 (4, [33], .array .int, true) := List.forall_mem_cons.mpr ⟨⟨_, rfl, by decide +kernel, rfl, rfl, rfl, Or.inl (lw_g (lw_at lw_m8 160 rfl) rfl), Or.inl (lw_g (lw_at lw_m8 160 rfl) rfl)⟩, fun _ h => absurd h List.not_mem_nil⟩
theorem hv_ff_24_22 : hv_ff 24 22 (5, [33], .array .int, true) := List.forall_mem_cons.mpr ⟨⟨_, rfl, by decide +kernel, rfl, rfl, rfl, Or.inl (lw_g (lw_at lw_m8 161 rfl) rfl), Or.inl (lw_g (lw_at lw_m8 161 rfl) rfl)⟩, fun _ h => absurd h List.not_mem_nil⟩
theorem hv_ff_24_25 : hv_ff 24 25 (7, [33], .array .int, true) := List.forall_mem_cons.mpr ⟨⟨_, rfl, by decide +kernel, rfl, rfl, rfl, Or.inl (lw_g (lw_at lw_m8 163 rfl) rfl), Or.inl (lw_g (lw_at lw_m8 163 rfl) rfl)⟩, fun _ h => absurd h List.not_mem_nil⟩
theorem hv_ff_24_28 : hv_ff 24 28 (9, [33], .array .int, true) := List.forall_mem_cons.mpr ⟨⟨_, rfl, by decide +kernel, rfl, rfl, rfl, Or.inl (lw_g (lw_at lw_m8 165 rfl) rfl), Or.inl (lw_g (lw_at lw_m8 165 rfl) rfl)⟩, fun _ h => absurd h List.not_mem_nil⟩
theorem hv_ff_24_31 : hv_ff 24 31 (10, [33], .array .int, true) := List.forall_mem_cons.mpr ⟨⟨_, rfl, by decide +kernel, rfl, rfl, rfl, Or.inl (lw_g (lw_at lw_m8 166 rfl) rfl), Or.inl (lw_g (lw_at lw_m8 166 rfl) rfl)⟩, fun _ h => absurd h List.not_mem_nil⟩
theorem hv_ff_24_34 : hv_ff 24 34 (11, [33], .array .int, true) := List.forall_mem_cons.mpr ⟨⟨_, rfl, by decide +kernel, rfl, rfl, rfl, Or.inl (lw_g (lw_at lw_m8 167 rfl) rfl), Or.inl (lw_g (lw_at lw_m8 167 rfl) rfl)⟩, fun _ h => absurd h List.not_mem_nil⟩
theorem hv_ff_24_37 : hv_ff 24 37 (12, [33], .array .int, true) := List.forall_mem_cons.mpr ⟨⟨_, rfl, by decide +kernel, rfl, rfl, rfl, Or.inl (lw_g (lw_at lw_m8 168 rfl) rfl), Or.inl (lw_g (lw_at lw_m8 168 rfl) rfl)⟩, fun _ h => absurd h List.not_mem_nil⟩
theorem hv_ff_24_40 : hv_ff 24 40 (15, [33], .array .int, true) := List.forall_mem_cons.mpr ⟨⟨_, rfl, by decide +kernel, rfl, rfl, rfl, Or.inl (lw_g (lw_at lw_m8 171 rfl) rfl), Or.inl (lw_g (lw_at lw_m8 171 rfl) rfl)⟩, fun _ h => absurd h List.not_mem_nil⟩
theorem hv_ff_24_43 : hv_ff 24 43 (17, [33], .array .boolean, true) := List.forall_mem_cons.mpr ⟨⟨_, rfl, by decide +kernel, rfl, rfl, rfl, Or.inl (lw_g (lw_at lw_m8 173 rfl) rfl), Or.inl (lw_g (lw_at lw_m8 173 rfl) rfl)⟩, fun _ h => absurd h List.not_mem_nil⟩
theorem hv_ff_24_47 : hv_ff 24 47 (18, [33], .array .boolean, true) := List.forall_mem_cons.mpr ⟨⟨_, rfl, by decide +kernel, rfl, rfl, rfl, Or.inl (lw_g (lw_at lw_m8 174 rfl) rfl), Or.inl (lw_g (lw_at lw_m8 174 rfl) rfl)⟩, fun _ h => absurd h List.not_mem_nil⟩
theorem hv_ff_24_50 : hv_ff 24 50 (21, [33], .array .int, true) := List.forall_mem_cons.mpr ⟨⟨_, rfl, by decide +kernel, rfl, rfl, rfl, Or.inl (lw_g (lw_at lw_m8 177 rfl) rfl), Or.inl (lw_g (lw_at lw_m8 177 rfl) rfl)⟩, fun _ h => absurd h List.not_mem_nil⟩
theorem hv_ff_24_53 : hv_ff 24 53 (22, [33], .array .long, true) := List.forall_mem_cons.mpr ⟨⟨_, rfl, by decide +kernel, rfl, rfl, rfl, Or.inl (lw_g (lw_at lw_m8 178 rfl) rfl), Or.inl (lw_g (lw_at lw_m8 178 rfl) rfl)⟩, fun _ h => absurd h List.not_mem_nil⟩
theorem hv_ff_24_79 : hv_ff 24 79 (13, [33], .int, false) := List.forall_mem_cons.mpr ⟨⟨_, rfl, by decide +kernel, rfl, rfl, rfl, Or.inl (lw_g (lw_at lw_m8 169 rfl) rfl), Or.inl (lw_g (lw_at lw_m8 169 rfl) rfl)⟩, fun _ h => absurd h List.not_mem_nil⟩
theorem hv_ff_24_83 : hv_ff 24 83 (14, [33], .int, false) := List.forall_mem_cons.mpr ⟨⟨_, rfl, by decide +kernel, rfl, rfl, rfl, Or.inl (lw_g (lw_at lw_m8 170 rfl) rfl), Or.inl (lw_g (lw_at lw_m8 170 rfl) rfl)⟩, fun _ h => absurd h List.not_mem_nil⟩
theorem hv_ff_24_89 : hv_ff 24 89 (16, [33], .int, false) := List.forall_mem_cons.mpr ⟨⟨_, rfl, by decide +kernel, rfl, rfl, rfl, Or.inl (lw_g (lw_at lw_m8 172 rfl) rfl), Or.inl (lw_g (lw_at lw_m8 172 rfl) rfl)⟩, fun _ h => absurd h List.not_mem_nil⟩
theorem hv_ff_24_130 : hv_ff 24 130 (8, [33], .int, false) := List.forall_mem_cons.mpr ⟨⟨_, rfl, by decide +kernel, rfl, rfl, rfl, Or.inl (lw_g (lw_at lw_m8 164 rfl) rfl), Or.inl (lw_g (lw_at lw_m8 164 rfl) rfl)⟩, fun _ h => absurd h List.not_mem_nil⟩
theorem hv_ff_24_133 : hv_ff 24 133 (20, [33], .boolean, false) := List.forall_mem_cons.mpr ⟨⟨_, rfl, by decide +kernel, rfl, rfl, rfl, Or.inl (lw_g (lw_at lw_m8 176 rfl) rfl), Or.inl (lw_g (lw_at lw_m8 176 rfl) rfl)⟩, fun _ h => absurd h List.not_mem_nil⟩
theorem hv_ff_24_137 : hv_ff 24 137 (19, [33], .int, false) := List.forall_mem_cons.mpr ⟨⟨_, rfl, by decide +kernel, rfl, rfl, rfl, Or.inl (lw_g (lw_at lw_m8 175 rfl) rfl), Or.inl (lw_g (lw_at lw_m8 175 rfl) rfl)⟩, fun _ h => absurd h List.not_mem_nil⟩
theorem hv_ff_24_269 : hv_ff 24 269 (6, [33], .int, false) := List.forall_mem_cons.mpr ⟨⟨_, rfl, by decide +kernel, rfl, rfl, rfl, Or.inl (lw_g (lw_at lw_m8 162 rfl) rfl), Or.inl (lw_g (lw_at lw_m8 162 rfl) rfl)⟩, fun _ h => absurd h List.not_mem_nil⟩
theorem hv_ff_24_296 : hv_ff 24 296 (23, [33], .int, false) := List.forall_mem_cons.mpr ⟨⟨_, rfl, by decide +kernel, rfl, rfl, rfl, Or.inl (lw_g (lw_at lw_m8 179 rfl) rfl), Or.inl (lw_g (lw_at lw_m8 179 rfl) rfl)⟩, fun _ h => absurd h List.not_mem_nil⟩
theorem hv_ff_24_308 : hv_ff 24 308 (3, [33], .boolean, false) := List.forall_mem_cons.mpr ⟨⟨_, rfl, by decide +kernel, rfl, rfl, rfl, Or.inl (lw_g (lw_at lw_m8 159 rfl) rfl), Or.inl (lw_g (lw_at lw_m8 159 rfl) rfl)⟩, fun _ h => absurd h List.not_mem_nil⟩
theorem hv_ff_24 : ∀ e ∈ hv_frs.getD 24 [], hv_ff 24 e.1 e.2 := List.forall_mem_cons.mpr ⟨hv_ff_24_9, List.forall_mem_cons.mpr ⟨hv_ff_24_13, List.forall_mem_cons.mpr ⟨hv_ff_24_16, List.forall_mem_cons.mpr ⟨hv_ff_24_19, List.forall_mem_cons.mpr ⟨hv_ff_24_22, List.forall_mem_cons.mpr ⟨hv_ff_24_25, List.forall_mem_cons.mpr ⟨hv_ff_24_28, List.forall_mem_cons.mpr ⟨hv_ff_24_31, List.forall_mem_cons.mpr ⟨hv_ff_24_34, List.forall_mem_cons.mpr ⟨hv_ff_24_37, List.forall_mem_cons.mpr ⟨hv_ff_24_40, List.forall_mem_cons.mpr ⟨hv_ff_24_43, List.forall_mem_cons.mpr ⟨hv_ff_24_47, List.forall_mem_cons.mpr ⟨hv_ff_24_50, List.forall_mem_cons.mpr ⟨hv_ff_24_53, List.forall_mem_cons.mpr ⟨hv_ff_24_79, List.forall_mem_cons.mpr ⟨hv_ff_24_83, List.forall_mem_cons.mpr ⟨hv_ff_24_89, List.forall_mem_cons.mpr ⟨hv_ff_24_130, List.forall_mem_cons.mpr ⟨hv_ff_24_133, List.forall_mem_cons.mpr ⟨hv_ff_24_137, List.forall_mem_cons.mpr ⟨hv_ff_24_269, List.forall_mem_cons.mpr ⟨hv_ff_24_296, List.forall_mem_cons.mpr ⟨hv_ff_24_308, fun _ h => absurd h List.not_mem_nil⟩⟩⟩⟩⟩⟩⟩⟩⟩⟩⟩⟩⟩⟩⟩⟩⟩⟩⟩⟩⟩⟩⟩⟩
theorem hv_ff_25_7 : hv_ff 25 7 (1, [19], .int, true) := List.forall_mem_cons.mpr ⟨⟨_, rfl, by decide +kernel, rfl, rfl, rfl, Or.inl (lw_g (lw_at lw_m3 70 rfl) rfl), Or.inl (lw_g (lw_at lw_m3 70 rfl) rfl)⟩, fun _ h => absurd h List.not_mem_nil⟩
theorem hv_ff_25 : ∀ e ∈ hv_frs.getD 25 [], hv_ff 25 e.1 e.2 := List.forall_mem_cons.mpr ⟨hv_ff_25_7, fun _ h => absurd h List.not_mem_nil⟩
theorem hv_ff_26 : ∀ e ∈ hv_frs.getD 26 [], hv_ff 26 e.1 e.2 := fun _ h => absurd h List.not_mem_nil
theorem hv_ff_27_1 : hv_ff 27 1 (2, [20], .object "HallOfClaims", true) := List.forall_mem_cons.mpr ⟨⟨_, rfl, by decide +kernel, rfl, rfl, rfl, Or.inl (lw_g (lw_at lw_m3 99 rfl) rfl), Or.inl (lw_g (lw_at lw_m3 99 rfl) rfl)⟩, fun _ h => absurd h List.not_mem_nil⟩
theorem hv_ff_27_13 : hv_ff 27 13 (12, [0], .int, false) := List.forall_mem_cons.mpr ⟨⟨_, rfl, by decide +kernel, rfl, rfl, rfl, Or.inr ⟨_, lw_at lw_m2 190 rfl⟩, Or.inr (by decide +kernel)⟩, fun _ h => absurd h List.not_mem_nil⟩
theorem hv_ff_27_19 : hv_ff 27 19 (0, [20], .int, true) := List.forall_mem_cons.mpr ⟨⟨_, rfl, by decide +kernel, rfl, rfl, rfl, Or.inl (lw_g (lw_at lw_m3 95 rfl) rfl), Or.inl (lw_g (lw_at lw_m3 95 rfl) rfl)⟩, fun _ h => absurd h List.not_mem_nil⟩
theorem hv_ff_27_22 : hv_ff 27 22 (1, [20], .int, false) := List.forall_mem_cons.mpr ⟨⟨_, rfl, by decide +kernel, rfl, rfl, rfl, Or.inl (lw_g (lw_at lw_m3 97 rfl) rfl), Or.inl (lw_g (lw_at lw_m3 97 rfl) rfl)⟩, fun _ h => absurd h List.not_mem_nil⟩
theorem hv_ff_27_25 : hv_ff 27 25 (11, [0], .array .char, true) := List.forall_mem_cons.mpr ⟨⟨_, rfl, by decide +kernel, rfl, rfl, rfl, Or.inr ⟨_, lw_at lw_m2 188 rfl⟩, Or.inr (by decide +kernel)⟩, fun _ h => absurd h List.not_mem_nil⟩
theorem hv_ff_27 : ∀ e ∈ hv_frs.getD 27 [], hv_ff 27 e.1 e.2 := List.forall_mem_cons.mpr ⟨hv_ff_27_1, List.forall_mem_cons.mpr ⟨hv_ff_27_13, List.forall_mem_cons.mpr ⟨hv_ff_27_19, List.forall_mem_cons.mpr ⟨hv_ff_27_22, List.forall_mem_cons.mpr ⟨hv_ff_27_25, fun _ h => absurd h List.not_mem_nil⟩⟩⟩⟩⟩
theorem hv_ff_28_7 : hv_ff 28 7 (1, [21], .int, true) := List.forall_mem_cons.mpr ⟨⟨_, rfl, by decide +kernel, rfl, rfl, rfl, Or.inl (lw_g (lw_at lw_m3 147 rfl) rfl), Or.inl (lw_g (lw_at lw_m3 147 rfl) rfl)⟩, fun _ h => absurd h List.not_mem_nil⟩
theorem hv_ff_28 : ∀ e ∈ hv_frs.getD 28 [], hv_ff 28 e.1 e.2 := List.forall_mem_cons.mpr ⟨hv_ff_28_7, fun _ h => absurd h List.not_mem_nil⟩
theorem hv_ff_29_3 : hv_ff 29 3 (4, [22], .object "HallOfClaims", true) := List.forall_mem_cons.mpr ⟨⟨_, rfl, by decide +kernel, rfl, rfl, rfl, Or.inl (lw_g (lw_at lw_m3 164 rfl) rfl), Or.inl (lw_g (lw_at lw_m3 164 rfl) rfl)⟩, fun _ h => absurd h List.not_mem_nil⟩
theorem hv_ff_29_15 : hv_ff 29 15 (1, [22], .int, true) := List.forall_mem_cons.mpr ⟨⟨_, rfl, by decide +kernel, rfl, rfl, rfl, Or.inl (lw_g (lw_at lw_m3 161 rfl) rfl), Or.inl (lw_g (lw_at lw_m3 161 rfl) rfl)⟩, fun _ h => absurd h List.not_mem_nil⟩
theorem hv_ff_29_19 : hv_ff 29 19 (2, [22], .int, true) := List.forall_mem_cons.mpr ⟨⟨_, rfl, by decide +kernel, rfl, rfl, rfl, Or.inl (lw_g (lw_at lw_m3 162 rfl) rfl), Or.inl (lw_g (lw_at lw_m3 162 rfl) rfl)⟩, fun _ h => absurd h List.not_mem_nil⟩
theorem hv_ff_29_22 : hv_ff 29 22 (3, [22], .int, true) := List.forall_mem_cons.mpr ⟨⟨_, rfl, by decide +kernel, rfl, rfl, rfl, Or.inl (lw_g (lw_at lw_m3 163 rfl) rfl), Or.inl (lw_g (lw_at lw_m3 163 rfl) rfl)⟩, fun _ h => absurd h List.not_mem_nil⟩
theorem hv_ff_29_25 : hv_ff 29 25 (0, [0], .array (.object "HallOfClaims$Plain"), true) := List.forall_mem_cons.mpr ⟨⟨_, rfl, by decide +kernel, rfl, rfl, rfl, Or.inr ⟨_, lw_at lw_m2 175 rfl⟩, Or.inr (by decide +kernel)⟩, fun _ h => absurd h List.not_mem_nil⟩
theorem hv_ff_29 : ∀ e ∈ hv_frs.getD 29 [], hv_ff 29 e.1 e.2 := List.forall_mem_cons.mpr ⟨hv_ff_29_3, List.forall_mem_cons.mpr ⟨hv_ff_29_15, List.forall_mem_cons.mpr ⟨hv_ff_29_19, List.forall_mem_cons.mpr ⟨hv_ff_29_22, List.forall_mem_cons.mpr ⟨hv_ff_29_25, fun _ h => absurd h List.not_mem_nil⟩⟩⟩⟩⟩
theorem hv_ff_30_7 : hv_ff 30 7 (0, [22, 23, 24, 25, 26], .int, true) := List.forall_mem_cons.mpr ⟨⟨_, rfl, by decide +kernel, rfl, rfl, rfl, Or.inl (lw_g (lw_at lw_m3 165 rfl) rfl), Or.inl (lw_g (lw_at lw_m3 165 rfl) rfl)⟩, List.forall_mem_cons.mpr ⟨⟨_, rfl, by decide +kernel, rfl, rfl, rfl, Or.inl (lw_g (lw_at lw_m3 165 rfl) rfl), Or.inl (lw_g (lw_at lw_m3 165 rfl) rfl)⟩, List.forall_mem_cons.mpr ⟨⟨_, rfl, by decide +kernel, rfl, rfl, rfl, Or.inl (lw_g (lw_at lw_m3 165 rfl) rfl), Or.inl (lw_g (lw_at lw_m3 165 rfl) rfl)⟩, List.forall_mem_cons.mpr ⟨⟨_, rfl, by decide +kernel, rfl, rfl, rfl, Or.inl (lw_g (lw_at lw_m3 165 rfl) rfl), Or.inl (lw_g (lw_at lw_m3 165 rfl) rfl)⟩, List.forall_mem_cons.mpr ⟨⟨_, rfl, by decide +kernel, rfl, rfl, rfl, Or.inl (lw_g (lw_at lw_m3 165 rfl) rfl), Or.inl (lw_g (lw_at lw_m3 165 rfl) rfl)⟩, fun _ h => absurd h List.not_mem_nil⟩⟩⟩⟩⟩
theorem hv_ff_30 : ∀ e ∈ hv_frs.getD 30 [], hv_ff 30 e.1 e.2 := List.forall_mem_cons.mpr ⟨hv_ff_30_7, fun _ h => absurd h List.not_mem_nil⟩
theorem hv_ff_31_9 : hv_ff 31 9 (1, [23], .int, true) := List.forall_mem_cons.mpr ⟨⟨_, rfl, by decide +kernel, rfl, rfl, rfl, Or.inl (lw_g (lw_at lw_m3 184 rfl) rfl), Or.inl (lw_g (lw_at lw_m3 184 rfl) rfl)⟩, fun _ h => absurd h List.not_mem_nil⟩
theorem hv_ff_31_15 : hv_ff 31 15 (2, [7], .int, false) := List.forall_mem_cons.mpr ⟨⟨_, rfl, by decide +kernel, rfl, rfl, rfl, Or.inr ⟨_, lw_at lw_m1 126 rfl⟩, Or.inr (by decide +kernel)⟩, fun _ h => absurd h List.not_mem_nil⟩
theorem hv_ff_31 : ∀ e ∈ hv_frs.getD 31 [], hv_ff 31 e.1 e.2 := List.forall_mem_cons.mpr ⟨hv_ff_31_9, List.forall_mem_cons.mpr ⟨hv_ff_31_15, fun _ h => absurd h List.not_mem_nil⟩⟩
theorem hv_ff_32_3 : hv_ff 32 3 (4, [24], .object "HallOfClaims", true) := List.forall_mem_cons.mpr ⟨⟨_, rfl, by decide +kernel, rfl, rfl, rfl, Or.inl (lw_g (lw_at lw_m3 212 rfl) rfl), Or.inl (lw_g (lw_at lw_m3 212 rfl) rfl)⟩, fun _ h => absurd h List.not_mem_nil⟩
theorem hv_ff_32_15 : hv_ff 32 15 (1, [24], .int, true) := List.forall_mem_cons.mpr ⟨⟨_, rfl, by decide +kernel, rfl, rfl, rfl, Or.inl (lw_g (lw_at lw_m3 209 rfl) rfl), Or.inl (lw_g (lw_at lw_m3 209 rfl) rfl)⟩, fun _ h => absurd h List.not_mem_nil⟩
theorem hv_ff_32_19 : hv_ff 32 19 (2, [24], .int, true) := List.forall_mem_cons.mpr ⟨⟨_, rfl, by decide +kernel, rfl, rfl, rfl, Or.inl (lw_g (lw_at lw_m3 210 rfl) rfl), Or.inl (lw_g (lw_at lw_m3 210 rfl) rfl)⟩, fun _ h => absurd h List.not_mem_nil⟩
theorem hv_ff_32_22 : hv_ff 32 22 (3, [24], .int, true) := List.forall_mem_cons.mpr ⟨⟨_, rfl, by decide +kernel, rfl, rfl, rfl, Or.inl (lw_g (lw_at lw_m3 211 rfl) rfl), Or.inl (lw_g (lw_at lw_m3 211 rfl) rfl)⟩, fun _ h => absurd h List.not_mem_nil⟩
theorem hv_ff_32_25 : hv_ff 32 25 (0, [7], .int, false) := List.forall_mem_cons.mpr ⟨⟨_, rfl, by decide +kernel, rfl, rfl, rfl, Or.inr ⟨_, lw_at lw_m1 114 rfl⟩, Or.inr (by decide +kernel)⟩, fun _ h => absurd h List.not_mem_nil⟩
theorem hv_ff_32_30 : hv_ff 32 30 (3, [7], .array (.object "HallOfClaims$Plain"), true) := List.forall_mem_cons.mpr ⟨⟨_, rfl, by decide +kernel, rfl, rfl, rfl, Or.inr ⟨_, lw_at lw_m1 130 rfl⟩, Or.inr (by decide +kernel)⟩, fun _ h => absurd h List.not_mem_nil⟩
theorem hv_ff_32_34 : hv_ff 32 34 (0, [0], .array (.object "HallOfClaims$Plain"), true) := List.forall_mem_cons.mpr ⟨⟨_, rfl, by decide +kernel, rfl, rfl, rfl, Or.inr ⟨_, lw_at lw_m2 176 rfl⟩, Or.inr (by decide +kernel)⟩, fun _ h => absurd h List.not_mem_nil⟩
theorem hv_ff_32_35 : hv_ff 32 35 (4, [7], .array .int, true) := List.forall_mem_cons.mpr ⟨⟨_, rfl, by decide +kernel, rfl, rfl, rfl, Or.inr ⟨_, lw_at lw_m1 133 rfl⟩, Or.inr (by decide +kernel)⟩, fun _ h => absurd h List.not_mem_nil⟩
theorem hv_ff_32 : ∀ e ∈ hv_frs.getD 32 [], hv_ff 32 e.1 e.2 := List.forall_mem_cons.mpr ⟨hv_ff_32_3, List.forall_mem_cons.mpr ⟨hv_ff_32_15, List.forall_mem_cons.mpr ⟨hv_ff_32_19, List.forall_mem_cons.mpr ⟨hv_ff_32_22, List.forall_mem_cons.mpr ⟨hv_ff_32_25, List.forall_mem_cons.mpr ⟨hv_ff_32_30, List.forall_mem_cons.mpr ⟨hv_ff_32_34, List.forall_mem_cons.mpr ⟨hv_ff_32_35, fun _ h => absurd h List.not_mem_nil⟩⟩⟩⟩⟩⟩⟩⟩
theorem hv_ff_33_7 : hv_ff 33 7 (1, [25], .int, true) := List.forall_mem_cons.mpr ⟨⟨_, rfl, by decide +kernel, rfl, rfl, rfl, Or.inl (lw_g (lw_at lw_m3 229 rfl) rfl), Or.inl (lw_g (lw_at lw_m3 229 rfl) rfl)⟩, fun _ h => absurd h List.not_mem_nil⟩
theorem hv_ff_33_13 : hv_ff 33 13 (1, [7], .int, false) := List.forall_mem_cons.mpr ⟨⟨_, rfl, by decide +kernel, rfl, rfl, rfl, Or.inr ⟨_, lw_at lw_m1 121 rfl⟩, Or.inr (by decide +kernel)⟩, fun _ h => absurd h List.not_mem_nil⟩
theorem hv_ff_33_18 : hv_ff 33 18 (0, [7], .int, false) := List.forall_mem_cons.mpr ⟨⟨_, rfl, by decide +kernel, rfl, rfl, rfl, Or.inr ⟨_, lw_at lw_m1 115 rfl⟩, Or.inr (by decide +kernel)⟩, fun _ h => absurd h List.not_mem_nil⟩
theorem hv_ff_33 : ∀ e ∈ hv_frs.getD 33 [], hv_ff 33 e.1 e.2 := List.forall_mem_cons.mpr ⟨hv_ff_33_7, List.forall_mem_cons.mpr ⟨hv_ff_33_13, List.forall_mem_cons.mpr ⟨hv_ff_33_18, fun _ h => absurd h List.not_mem_nil⟩⟩⟩
theorem hv_ff_34_9 : hv_ff 34 9 (1, [26], .array .int, true) := List.forall_mem_cons.mpr ⟨⟨_, rfl, by decide +kernel, rfl, rfl, rfl, Or.inl (lw_g (lw_at lw_m4 4 rfl) rfl), Or.inl (lw_g (lw_at lw_m4 4 rfl) rfl)⟩, fun _ h => absurd h List.not_mem_nil⟩
theorem hv_ff_34_15 : hv_ff 34 15 (2, [26], .array .boolean, true) := List.forall_mem_cons.mpr ⟨⟨_, rfl, by decide +kernel, rfl, rfl, rfl, Or.inl (lw_g (lw_at lw_m4 5 rfl) rfl), Or.inl (lw_g (lw_at lw_m4 5 rfl) rfl)⟩, fun _ h => absurd h List.not_mem_nil⟩
theorem hv_ff_34_19 : hv_ff 34 19 (3, [26], .int, false) := List.forall_mem_cons.mpr ⟨⟨_, rfl, by decide +kernel, rfl, rfl, rfl, Or.inl (lw_g (lw_at lw_m4 6 rfl) rfl), Or.inl (lw_g (lw_at lw_m4 6 rfl) rfl)⟩, fun _ h => absurd h List.not_mem_nil⟩
theorem hv_ff_34_23 : hv_ff 34 23 (0, [7], .int, false) := List.forall_mem_cons.mpr ⟨⟨_, rfl, by decide +kernel, rfl, rfl, rfl, Or.inr ⟨_, lw_at lw_m1 118 rfl⟩, Or.inr (by decide +kernel)⟩, fun _ h => absurd h List.not_mem_nil⟩
theorem hv_ff_34_28 : hv_ff 34 28 (7, [7], .array .int, true) := List.forall_mem_cons.mpr ⟨⟨_, rfl, by decide +kernel, rfl, rfl, rfl, Or.inr ⟨_, lw_at lw_m1 142 rfl⟩, Or.inr (by decide +kernel)⟩, fun _ h => absurd h List.not_mem_nil⟩
theorem hv_ff_34_30 : hv_ff 34 30 (6, [7], .array .int, true) := List.forall_mem_cons.mpr ⟨⟨_, rfl, by decide +kernel, rfl, rfl, rfl, Or.inr ⟨_, lw_at lw_m1 139 rfl⟩, Or.inr (by decide +kernel)⟩, fun _ h => absurd h List.not_mem_nil⟩
theorem hv_ff_34 : ∀ e ∈ hv_frs.getD 34 [], hv_ff 34 e.1 e.2 := List.forall_mem_cons.mpr ⟨hv_ff_34_9, List.forall_mem_cons.mpr ⟨hv_ff_34_15, List.forall_mem_cons.mpr ⟨hv_ff_34_19, List.forall_mem_cons.mpr ⟨hv_ff_34_23, List.forall_mem_cons.mpr ⟨hv_ff_34_28, List.forall_mem_cons.mpr ⟨hv_ff_34_30, fun _ h => absurd h List.not_mem_nil⟩⟩⟩⟩⟩⟩
theorem hv_ff_35_205 : hv_ff 35 205 (0, [30], .int, true) := List.forall_mem_cons.mpr ⟨⟨_, rfl, by decide +kernel, rfl, rfl, rfl, Or.inl (lw_g (lw_at lw_m7 141 rfl) rfl), Or.inl (lw_g (lw_at lw_m7 141 rfl) rfl)⟩, fun _ h => absurd h List.not_mem_nil⟩
theorem hv_ff_35 : ∀ e ∈ hv_frs.getD 35 [], hv_ff 35 e.1 e.2 := List.forall_mem_cons.mpr ⟨hv_ff_35_205, fun _ h => absurd h List.not_mem_nil⟩
theorem hv_ff_36_1 : hv_ff 36 1 (0, [31], .object "java/util/TreeMap", true) := List.forall_mem_cons.mpr ⟨⟨_, rfl, by decide +kernel, rfl, rfl, rfl, Or.inl (lw_g (lw_at lw_m7 174 rfl) rfl), Or.inl (lw_g (lw_at lw_m7 174 rfl) rfl)⟩, fun _ h => absurd h List.not_mem_nil⟩
theorem hv_ff_36 : ∀ e ∈ hv_frs.getD 36 [], hv_ff 36 e.1 e.2 := List.forall_mem_cons.mpr ⟨hv_ff_36_1, fun _ h => absurd h List.not_mem_nil⟩
theorem hv_ff_37_7 : hv_ff 37 7 (0, [28], .object "java/util/NavigableMap", true) := List.forall_mem_cons.mpr ⟨⟨_, rfl, by decide +kernel, rfl, rfl, rfl, Or.inl (lw_g (lw_at lw_m6 120 rfl) rfl), Or.inl (lw_g (lw_at lw_m6 120 rfl) rfl)⟩, fun _ h => absurd h List.not_mem_nil⟩
theorem hv_ff_37 : ∀ e ∈ hv_frs.getD 37 [], hv_ff 37 e.1 e.2 := List.forall_mem_cons.mpr ⟨hv_ff_37_7, fun _ h => absurd h List.not_mem_nil⟩
theorem hv_ff_38_9 : hv_ff 38 9 (5, [27], .boolean, false) := List.forall_mem_cons.mpr ⟨⟨_, rfl, by decide +kernel, rfl, rfl, rfl, Or.inl (lw_g (lw_at lw_m6 6 rfl) rfl), Or.inl (lw_g (lw_at lw_m6 6 rfl) rfl)⟩, fun _ h => absurd h List.not_mem_nil⟩
theorem hv_ff_38_15 : hv_ff 38 15 (0, [27], .object "java/lang/Object", false) := List.forall_mem_cons.mpr ⟨⟨_, rfl, by decide +kernel, rfl, rfl, rfl, Or.inl (lw_g (lw_at lw_m5 237 rfl) rfl), Or.inl (lw_g (lw_at lw_m5 237 rfl) rfl)⟩, fun _ h => absurd h List.not_mem_nil⟩
theorem hv_ff_38_19 : hv_ff 38 19 (1, [27], .object "java/lang/Object", false) := List.forall_mem_cons.mpr ⟨⟨_, rfl, by decide +kernel, rfl, rfl, rfl, Or.inl (lw_g (lw_at lw_m6 0 rfl) rfl), Or.inl (lw_g (lw_at lw_m6 0 rfl) rfl)⟩, fun _ h => absurd h List.not_mem_nil⟩
theorem hv_ff_38_22 : hv_ff 38 22 (4, [27], .object "java/util/TreeMap$Entry", false) := List.forall_mem_cons.mpr ⟨⟨_, rfl, by decide +kernel, rfl, rfl, rfl, Or.inl (lw_g (lw_at lw_m6 4 rfl) rfl), Or.inl (lw_g (lw_at lw_m6 4 rfl) rfl)⟩, fun _ h => absurd h List.not_mem_nil⟩
theorem hv_ff_38 : ∀ e ∈ hv_frs.getD 38 [], hv_ff 38 e.1 e.2 := List.forall_mem_cons.mpr ⟨hv_ff_38_9, List.forall_mem_cons.mpr ⟨hv_ff_38_15, List.forall_mem_cons.mpr ⟨hv_ff_38_19, List.forall_mem_cons.mpr ⟨hv_ff_38_22, fun _ h => absurd h List.not_mem_nil⟩⟩⟩⟩
theorem hv_ff_39 : ∀ e ∈ hv_frs.getD 39 [], hv_ff 39 e.1 e.2 := fun _ h => absurd h List.not_mem_nil
theorem hv_ff_40_13 : hv_ff 40 13 (0, [27], .object "java/lang/Object", false) := List.forall_mem_cons.mpr ⟨⟨_, rfl, by decide +kernel, rfl, rfl, rfl, Or.inl (lw_g (lw_at lw_m5 238 rfl) rfl), Or.inr (by decide +kernel)⟩, fun _ h => absurd h List.not_mem_nil⟩
theorem hv_ff_40 : ∀ e ∈ hv_frs.getD 40 [], hv_ff 40 e.1 e.2 := List.forall_mem_cons.mpr ⟨hv_ff_40_13, fun _ h => absurd h List.not_mem_nil⟩
theorem hv_ff_41_1 : hv_ff 41 1 (3, [29, 32], .object "java/util/TreeMap", true) := List.forall_mem_cons.mpr ⟨⟨_, rfl, by decide +kernel, rfl, rfl, rfl, Or.inl (lw_g (lw_at lw_m6 155 rfl) rfl), Or.inl (lw_g (lw_at lw_m6 155 rfl) rfl)⟩, List.forall_mem_cons.mpr ⟨⟨_, rfl, by decide +kernel, rfl, rfl, rfl, Or.inl (lw_g (lw_at lw_m6 155 rfl) rfl), Or.inl (lw_g (lw_at lw_m6 155 rfl) rfl)⟩, fun _ h => absurd h List.not_mem_nil⟩⟩
theorem hv_ff_41_13 : hv_ff 41 13 (5, [15], .int, false) := List.forall_mem_cons.mpr ⟨⟨_, rfl, by decide +kernel, rfl, rfl, rfl, Or.inr ⟨_, lw_at lw_m2 78 rfl⟩, Or.inr (by decide +kernel)⟩, fun _ h => absurd h List.not_mem_nil⟩
theorem hv_ff_41_19 : hv_ff 41 19 (2, [29, 32], .int, false) := List.forall_mem_cons.mpr ⟨⟨_, rfl, by decide +kernel, rfl, rfl, rfl, Or.inl (lw_g (lw_at lw_m6 154 rfl) rfl), Or.inl (lw_g (lw_at lw_m6 154 rfl) rfl)⟩, List.forall_mem_cons.mpr ⟨⟨_, rfl, by decide +kernel, rfl, rfl, rfl, Or.inl (lw_g (lw_at lw_m6 154 rfl) rfl), Or.inl (lw_g (lw_at lw_m6 154 rfl) rfl)⟩, fun _ h => absurd h List.not_mem_nil⟩⟩
theorem hv_ff_41_22 : hv_ff 41 22 (1, [29, 32], .object "java/util/TreeMap$Entry", false) := List.forall_mem_cons.mpr ⟨⟨_, rfl, by decide +kernel, rfl, rfl, rfl, Or.inl (lw_g (lw_at lw_m6 153 rfl) rfl), Or.inl (lw_g (lw_at lw_m6 153 rfl) rfl)⟩, List.forall_mem_cons.mpr ⟨⟨_, rfl, by decide +kernel, rfl, rfl, rfl, Or.inl (lw_g (lw_at lw_m6 153 rfl) rfl), Or.inl (lw_g (lw_at lw_m6 153 rfl) rfl)⟩, fun _ h => absurd h List.not_mem_nil⟩⟩
theorem hv_ff_41_26 : hv_ff 41 26 (0, [29, 32], .object "java/util/TreeMap$Entry", false) := List.forall_mem_cons.mpr ⟨⟨_, rfl, by decide +kernel, rfl, rfl, rfl, Or.inl (lw_g (lw_at lw_m6 152 rfl) rfl), Or.inl (lw_g (lw_at lw_m6 152 rfl) rfl)⟩, List.forall_mem_cons.mpr ⟨⟨_, rfl, by decide +kernel, rfl, rfl, rfl, Or.inl (lw_g (lw_at lw_m6 152 rfl) rfl), Or.inl (lw_g (lw_at lw_m6 152 rfl) rfl)⟩, fun _ h => absurd h List.not_mem_nil⟩⟩
theorem hv_ff_41 : ∀ e ∈ hv_frs.getD 41 [], hv_ff 41 e.1 e.2 := List.forall_mem_cons.mpr ⟨hv_ff_41_1, List.forall_mem_cons.mpr ⟨hv_ff_41_13, List.forall_mem_cons.mpr ⟨hv_ff_41_19, List.forall_mem_cons.mpr ⟨hv_ff_41_22, List.forall_mem_cons.mpr ⟨hv_ff_41_26, fun _ h => absurd h List.not_mem_nil⟩⟩⟩⟩⟩
theorem hv_ff_42 : ∀ e ∈ hv_frs.getD 42 [], hv_ff 42 e.1 e.2 := fun _ h => absurd h List.not_mem_nil
theorem hv_ff_43 : ∀ e ∈ hv_frs.getD 43 [], hv_ff 43 e.1 e.2 := fun _ h => absurd h List.not_mem_nil
theorem hv_ffs (o i : Nat) (v) (h : hv_fr o i = some v) : hv_ff o i v := by
  have hm : (i, v) ∈ hv_frs.getD o [] := hv_lookup_mem h
  match o, hm with
  | 0, hm => exact hv_ff_0 _ hm
  | 1, hm => exact hv_ff_1 _ hm
  | 2, hm => exact hv_ff_2 _ hm
  | 3, hm => exact hv_ff_3 _ hm
  | 4, hm => exact hv_ff_4 _ hm
  | 5, hm => exact hv_ff_5 _ hm
  | 6, hm => exact hv_ff_6 _ hm
  | 7, hm => exact hv_ff_7 _ hm
  | 8, hm => exact hv_ff_8 _ hm
  | 9, hm => exact hv_ff_9 _ hm
  | 10, hm => exact hv_ff_10 _ hm
  | 11, hm => exact hv_ff_11 _ hm
  | 12, hm => exact hv_ff_12 _ hm
  | 13, hm => exact hv_ff_13 _ hm
  | 14, hm => exact hv_ff_14 _ hm
  | 15, hm => exact hv_ff_15 _ hm
  | 16, hm => exact hv_ff_16 _ hm
  | 17, hm => exact hv_ff_17 _ hm
  | 18, hm => exact hv_ff_18 _ hm
  | 19, hm => exact hv_ff_19 _ hm
  | 20, hm => exact hv_ff_20 _ hm
  | 21, hm => exact hv_ff_21 _ hm
  | 22, hm => exact hv_ff_22 _ hm
  | 23, hm => exact hv_ff_23 _ hm
  | 24, hm => exact hv_ff_24 _ hm
  | 25, hm => exact hv_ff_25 _ hm
  | 26, hm => exact hv_ff_26 _ hm
  | 27, hm => exact hv_ff_27 _ hm
  | 28, hm => exact hv_ff_28 _ hm
  | 29, hm => exact hv_ff_29 _ hm
  | 30, hm => exact hv_ff_30 _ hm
  | 31, hm => exact hv_ff_31 _ hm
  | 32, hm => exact hv_ff_32 _ hm
  | 33, hm => exact hv_ff_33 _ hm
  | 34, hm => exact hv_ff_34 _ hm
  | 35, hm => exact hv_ff_35 _ hm
  | 36, hm => exact hv_ff_36 _ hm
  | 37, hm => exact hv_ff_37 _ hm
  | 38, hm => exact hv_ff_38 _ hm
  | 39, hm => exact hv_ff_39 _ hm
  | 40, hm => exact hv_ff_40 _ hm
  | 41, hm => exact hv_ff_41 _ hm
  | 42, hm => exact hv_ff_42 _ hm
  | 43, hm => exact hv_ff_43 _ hm
  | o + 44, hm => exact absurd hm (by show ¬ _ ∈ ([] : List _); exact List.not_mem_nil)
def hv_fN (o i c : Nat) : Prop := ∃ q, hv_cl[c]? = some q ∧ c ≠ 30 ∧ Cond.classLink (hv_on o) i q.1 ∈ lw_all
theorem hv_fN_0 : ∀ e ∈ hv_nws.getD 0 [], hv_fN 0 e.1 e.2 := List.forall_mem_cons.mpr ⟨⟨_, rfl, by decide, lw_g (lw_at lw_m1 52 rfl) rfl⟩, List.forall_mem_cons.mpr ⟨⟨_, rfl, by decide, lw_g (lw_at lw_m8 150 rfl) rfl⟩, fun _ h => absurd h List.not_mem_nil⟩⟩
theorem hv_fN_1 : ∀ e ∈ hv_nws.getD 1 [], hv_fN 1 e.1 e.2 := List.forall_mem_cons.mpr ⟨⟨_, rfl, by decide, lw_g (lw_at lw_m3 16 rfl) rfl⟩, List.forall_mem_cons.mpr ⟨⟨_, rfl, by decide, lw_g (lw_at lw_m1 65 rfl) rfl⟩, List.forall_mem_cons.mpr ⟨⟨_, rfl, by decide, lw_g (lw_at lw_m1 75 rfl) rfl⟩, List.forall_mem_cons.mpr ⟨⟨_, rfl, by decide, lw_g (lw_at lw_m1 82 rfl) rfl⟩, List.forall_mem_cons.mpr ⟨⟨_, rfl, by decide, lw_g (lw_at lw_m1 89 rfl) rfl⟩, List.forall_mem_cons.mpr ⟨⟨_, rfl, by decide, lw_g (lw_at lw_m1 96 rfl) rfl⟩, List.forall_mem_cons.mpr ⟨⟨_, rfl, by decide, lw_g (lw_at lw_m1 60 rfl) rfl⟩, List.forall_mem_cons.mpr ⟨⟨_, rfl, by decide, lw_g (lw_at lw_m1 106 rfl) rfl⟩, List.forall_mem_cons.mpr ⟨⟨_, rfl, by decide, lw_g (lw_at lw_m1 162 rfl) rfl⟩, List.forall_mem_cons.mpr ⟨⟨_, rfl, by decide, lw_g (lw_at lw_m2 24 rfl) rfl⟩, List.forall_mem_cons.mpr ⟨⟨_, rfl, by decide, lw_g (lw_at lw_m2 45 rfl) rfl⟩, List.forall_mem_cons.mpr ⟨⟨_, rfl, by decide, lw_g (lw_at lw_m2 130 rfl) rfl⟩, List.forall_mem_cons.mpr ⟨⟨_, rfl, by decide, lw_g (lw_at lw_m2 149 rfl) rfl⟩, List.forall_mem_cons.mpr ⟨⟨_, rfl, by decide, lw_g (lw_at lw_m2 171 rfl) rfl⟩, List.forall_mem_cons.mpr ⟨⟨_, rfl, by decide, lw_g (lw_at lw_m3 89 rfl) rfl⟩, List.forall_mem_cons.mpr ⟨⟨_, rfl, by decide, lw_g (lw_at lw_m4 53 rfl) rfl⟩, fun _ h => absurd h List.not_mem_nil⟩⟩⟩⟩⟩⟩⟩⟩⟩⟩⟩⟩⟩⟩⟩⟩
theorem hv_fN_2 : ∀ e ∈ hv_nws.getD 2 [], hv_fN 2 e.1 e.2 := fun _ h => absurd h List.not_mem_nil
theorem hv_fN_3 : ∀ e ∈ hv_nws.getD 3 [], hv_fN 3 e.1 e.2 := fun _ h => absurd h List.not_mem_nil
theorem hv_fN_4 : ∀ e ∈ hv_nws.getD 4 [], hv_fN 4 e.1 e.2 := fun _ h => absurd h List.not_mem_nil
theorem hv_fN_5 : ∀ e ∈ hv_nws.getD 5 [], hv_fN 5 e.1 e.2 := fun _ h => absurd h List.not_mem_nil
theorem hv_fN_6 : ∀ e ∈ hv_nws.getD 6 [], hv_fN 6 e.1 e.2 := fun _ h => absurd h List.not_mem_nil
theorem hv_fN_7 : ∀ e ∈ hv_nws.getD 7 [], hv_fN 7 e.1 e.2 := fun _ h => absurd h List.not_mem_nil
theorem hv_fN_8 : ∀ e ∈ hv_nws.getD 8 [], hv_fN 8 e.1 e.2 := fun _ h => absurd h List.not_mem_nil
theorem hv_fN_9 : ∀ e ∈ hv_nws.getD 9 [], hv_fN 9 e.1 e.2 := List.forall_mem_cons.mpr ⟨⟨_, rfl, by decide, lw_g (lw_at lw_m1 168 rfl) rfl⟩, List.forall_mem_cons.mpr ⟨⟨_, rfl, by decide, lw_g (lw_at lw_m1 170 rfl) rfl⟩, fun _ h => absurd h List.not_mem_nil⟩⟩
theorem hv_fN_10 : ∀ e ∈ hv_nws.getD 10 [], hv_fN 10 e.1 e.2 := fun _ h => absurd h List.not_mem_nil
theorem hv_fN_11 : ∀ e ∈ hv_nws.getD 11 [], hv_fN 11 e.1 e.2 := fun _ h => absurd h List.not_mem_nil
theorem hv_fN_12 : ∀ e ∈ hv_nws.getD 12 [], hv_fN 12 e.1 e.2 := fun _ h => absurd h List.not_mem_nil
theorem hv_fN_13 : ∀ e ∈ hv_nws.getD 13 [], hv_fN 13 e.1 e.2 := fun _ h => absurd h List.not_mem_nil
theorem hv_fN_14 : ∀ e ∈ hv_nws.getD 14 [], hv_fN 14 e.1 e.2 := fun _ h => absurd h List.not_mem_nil
theorem hv_fN_15 : ∀ e ∈ hv_nws.getD 15 [], hv_fN 15 e.1 e.2 := List.forall_mem_cons.mpr ⟨⟨_, rfl, by decide, lw_g (lw_at lw_m2 51 rfl) rfl⟩, List.forall_mem_cons.mpr ⟨⟨_, rfl, by decide, lw_g (lw_at lw_m2 53 rfl) rfl⟩, List.forall_mem_cons.mpr ⟨⟨_, rfl, by decide, lw_g (lw_at lw_m2 55 rfl) rfl⟩, fun _ h => absurd h List.not_mem_nil⟩⟩⟩
theorem hv_fN_16 : ∀ e ∈ hv_nws.getD 16 [], hv_fN 16 e.1 e.2 := fun _ h => absurd h List.not_mem_nil
theorem hv_fN_17 : ∀ e ∈ hv_nws.getD 17 [], hv_fN 17 e.1 e.2 := List.forall_mem_cons.mpr ⟨⟨_, rfl, by decide, lw_g (lw_at lw_m2 65 rfl) rfl⟩, fun _ h => absurd h List.not_mem_nil⟩
theorem hv_fN_18 : ∀ e ∈ hv_nws.getD 18 [], hv_fN 18 e.1 e.2 := List.forall_mem_cons.mpr ⟨⟨_, rfl, by decide, lw_g (lw_at lw_m5 231 rfl) rfl⟩, List.forall_mem_cons.mpr ⟨⟨_, rfl, by decide, lw_g (lw_at lw_m6 114 rfl) rfl⟩, List.forall_mem_cons.mpr ⟨⟨_, rfl, by decide, lw_g (lw_at lw_m7 168 rfl) rfl⟩, List.forall_mem_cons.mpr ⟨⟨_, rfl, by decide, lw_g (lw_at lw_m6 139 rfl) rfl⟩, fun _ h => absurd h List.not_mem_nil⟩⟩⟩⟩
theorem hv_fN_19 : ∀ e ∈ hv_nws.getD 19 [], hv_fN 19 e.1 e.2 := fun _ h => absurd h List.not_mem_nil
theorem hv_fN_20 : ∀ e ∈ hv_nws.getD 20 [], hv_fN 20 e.1 e.2 := fun _ h => absurd h List.not_mem_nil
theorem hv_fN_21 : ∀ e ∈ hv_nws.getD 21 [], hv_fN 21 e.1 e.2 := fun _ h => absurd h List.not_mem_nil
theorem hv_fN_22 : ∀ e ∈ hv_nws.getD 22 [], hv_fN 22 e.1 e.2 := fun _ h => absurd h List.not_mem_nil
theorem hv_fN_23 : ∀ e ∈ hv_nws.getD 23 [], hv_fN 23 e.1 e.2 := fun _ h => absurd h List.not_mem_nil
theorem hv_fN_24 : ∀ e ∈ hv_nws.getD 24 [], hv_fN 24 e.1 e.2 := fun _ h => absurd h List.not_mem_nil
theorem hv_fN_25 : ∀ e ∈ hv_nws.getD 25 [], hv_fN 25 e.1 e.2 := fun _ h => absurd h List.not_mem_nil
theorem hv_fN_26 : ∀ e ∈ hv_nws.getD 26 [], hv_fN 26 e.1 e.2 := fun _ h => absurd h List.not_mem_nil
theorem hv_fN_27 : ∀ e ∈ hv_nws.getD 27 [], hv_fN 27 e.1 e.2 := List.forall_mem_cons.mpr ⟨⟨_, rfl, by decide, lw_g (lw_at lw_m3 134 rfl) rfl⟩, List.forall_mem_cons.mpr ⟨⟨_, rfl, by decide, lw_g (lw_at lw_m3 152 rfl) rfl⟩, List.forall_mem_cons.mpr ⟨⟨_, rfl, by decide, lw_g (lw_at lw_m3 178 rfl) rfl⟩, List.forall_mem_cons.mpr ⟨⟨_, rfl, by decide, lw_g (lw_at lw_m3 203 rfl) rfl⟩, List.forall_mem_cons.mpr ⟨⟨_, rfl, by decide, lw_g (lw_at lw_m3 223 rfl) rfl⟩, List.forall_mem_cons.mpr ⟨⟨_, rfl, by decide, lw_g (lw_at lw_m3 238 rfl) rfl⟩, fun _ h => absurd h List.not_mem_nil⟩⟩⟩⟩⟩⟩
theorem hv_fN_28 : ∀ e ∈ hv_nws.getD 28 [], hv_fN 28 e.1 e.2 := fun _ h => absurd h List.not_mem_nil
theorem hv_fN_29 : ∀ e ∈ hv_nws.getD 29 [], hv_fN 29 e.1 e.2 := fun _ h => absurd h List.not_mem_nil
theorem hv_fN_30 : ∀ e ∈ hv_nws.getD 30 [], hv_fN 30 e.1 e.2 := fun _ h => absurd h List.not_mem_nil
theorem hv_fN_31 : ∀ e ∈ hv_nws.getD 31 [], hv_fN 31 e.1 e.2 := fun _ h => absurd h List.not_mem_nil
theorem hv_fN_32 : ∀ e ∈ hv_nws.getD 32 [], hv_fN 32 e.1 e.2 := fun _ h => absurd h List.not_mem_nil
theorem hv_fN_33 : ∀ e ∈ hv_nws.getD 33 [], hv_fN 33 e.1 e.2 := fun _ h => absurd h List.not_mem_nil
theorem hv_fN_34 : ∀ e ∈ hv_nws.getD 34 [], hv_fN 34 e.1 e.2 := fun _ h => absurd h List.not_mem_nil
theorem hv_fN_35 : ∀ e ∈ hv_nws.getD 35 [], hv_fN 35 e.1 e.2 := fun _ h => absurd h List.not_mem_nil
theorem hv_fN_36 : ∀ e ∈ hv_nws.getD 36 [], hv_fN 36 e.1 e.2 := List.forall_mem_cons.mpr ⟨⟨_, rfl, by decide, lw_g (lw_at lw_m7 188 rfl) rfl⟩, fun _ h => absurd h List.not_mem_nil⟩
theorem hv_fN_37 : ∀ e ∈ hv_nws.getD 37 [], hv_fN 37 e.1 e.2 := fun _ h => absurd h List.not_mem_nil
theorem hv_fN_38 : ∀ e ∈ hv_nws.getD 38 [], hv_fN 38 e.1 e.2 := fun _ h => absurd h List.not_mem_nil
theorem hv_fN_39 : ∀ e ∈ hv_nws.getD 39 [], hv_fN 39 e.1 e.2 := fun _ h => absurd h List.not_mem_nil
theorem hv_fN_40 : ∀ e ∈ hv_nws.getD 40 [], hv_fN 40 e.1 e.2 := fun _ h => absurd h List.not_mem_nil
theorem hv_fN_41 : ∀ e ∈ hv_nws.getD 41 [], hv_fN 41 e.1 e.2 := fun _ h => absurd h List.not_mem_nil
theorem hv_fN_42 : ∀ e ∈ hv_nws.getD 42 [], hv_fN 42 e.1 e.2 := fun _ h => absurd h List.not_mem_nil
theorem hv_fN_43 : ∀ e ∈ hv_nws.getD 43 [], hv_fN 43 e.1 e.2 := fun _ h => absurd h List.not_mem_nil
theorem hv_fNS (o i : Nat) (v) (h : (hv_nws.getD o []).lookup i = some v) : hv_fN o i v := by
  have hm : (i, v) ∈ hv_nws.getD o [] := hv_lookup_mem h
  match o, hm with
  | 0, hm => exact hv_fN_0 _ hm
  | 1, hm => exact hv_fN_1 _ hm
  | 2, hm => exact hv_fN_2 _ hm
  | 3, hm => exact hv_fN_3 _ hm
  | 4, hm => exact hv_fN_4 _ hm
  | 5, hm => exact hv_fN_5 _ hm
  | 6, hm => exact hv_fN_6 _ hm
  | 7, hm => exact hv_fN_7 _ hm
  | 8, hm => exact hv_fN_8 _ hm
  | 9, hm => exact hv_fN_9 _ hm
  | 10, hm => exact hv_fN_10 _ hm
  | 11, hm => exact hv_fN_11 _ hm
  | 12, hm => exact hv_fN_12 _ hm
  | 13, hm => exact hv_fN_13 _ hm
  | 14, hm => exact hv_fN_14 _ hm
  | 15, hm => exact hv_fN_15 _ hm
  | 16, hm => exact hv_fN_16 _ hm
  | 17, hm => exact hv_fN_17 _ hm
  | 18, hm => exact hv_fN_18 _ hm
  | 19, hm => exact hv_fN_19 _ hm
  | 20, hm => exact hv_fN_20 _ hm
  | 21, hm => exact hv_fN_21 _ hm
  | 22, hm => exact hv_fN_22 _ hm
  | 23, hm => exact hv_fN_23 _ hm
  | 24, hm => exact hv_fN_24 _ hm
  | 25, hm => exact hv_fN_25 _ hm
  | 26, hm => exact hv_fN_26 _ hm
  | 27, hm => exact hv_fN_27 _ hm
  | 28, hm => exact hv_fN_28 _ hm
  | 29, hm => exact hv_fN_29 _ hm
  | 30, hm => exact hv_fN_30 _ hm
  | 31, hm => exact hv_fN_31 _ hm
  | 32, hm => exact hv_fN_32 _ hm
  | 33, hm => exact hv_fN_33 _ hm
  | 34, hm => exact hv_fN_34 _ hm
  | 35, hm => exact hv_fN_35 _ hm
  | 36, hm => exact hv_fN_36 _ hm
  | 37, hm => exact hv_fN_37 _ hm
  | 38, hm => exact hv_fN_38 _ hm
  | 39, hm => exact hv_fN_39 _ hm
  | 40, hm => exact hv_fN_40 _ hm
  | 41, hm => exact hv_fN_41 _ hm
  | 42, hm => exact hv_fN_42 _ hm
  | 43, hm => exact hv_fN_43 _ hm
  | o + 44, hm => exact absurd hm (by show ¬ _ ∈ ([] : List _); exact List.not_mem_nil)
def hv_fA (o i t : Nat) : Prop := ∃ C, hv_tys[t]? = some (.object C) ∧ Cond.classLink (hv_on o) i C ∈ lw_all ∧ Cond.arrayOver (.object C) ∈ lw_tbl
theorem hv_fA_0 : ∀ e ∈ hv_ans.getD 0 [], hv_fA 0 e.1 e.2 := fun _ h => absurd h List.not_mem_nil
theorem hv_fA_1 : ∀ e ∈ hv_ans.getD 1 [], hv_fA 1 e.1 e.2 := List.forall_mem_cons.mpr ⟨⟨_, rfl, lw_g (lw_at lw_m1 60 rfl) rfl, lw_at lw_m1 61 rfl⟩, List.forall_mem_cons.mpr ⟨⟨_, rfl, lw_g (lw_at lw_m2 149 rfl) rfl, lw_at lw_m2 150 rfl⟩, List.forall_mem_cons.mpr ⟨⟨_, rfl, lw_g (lw_at lw_m3 107 rfl) rfl, lw_at lw_m3 108 rfl⟩, fun _ h => absurd h List.not_mem_nil⟩⟩⟩
theorem hv_fA_2 : ∀ e ∈ hv_ans.getD 2 [], hv_fA 2 e.1 e.2 := fun _ h => absurd h List.not_mem_nil
theorem hv_fA_3 : ∀ e ∈ hv_ans.getD 3 [], hv_fA 3 e.1 e.2 := fun _ h => absurd h List.not_mem_nil
theorem hv_fA_4 : ∀ e ∈ hv_ans.getD 4 [], hv_fA 4 e.1 e.2 := fun _ h => absurd h List.not_mem_nil
theorem hv_fA_5 : ∀ e ∈ hv_ans.getD 5 [], hv_fA 5 e.1 e.2 := fun _ h => absurd h List.not_mem_nil
theorem hv_fA_6 : ∀ e ∈ hv_ans.getD 6 [], hv_fA 6 e.1 e.2 := fun _ h => absurd h List.not_mem_nil
theorem hv_fA_7 : ∀ e ∈ hv_ans.getD 7 [], hv_fA 7 e.1 e.2 := fun _ h => absurd h List.not_mem_nil
theorem hv_fA_8 : ∀ e ∈ hv_ans.getD 8 [], hv_fA 8 e.1 e.2 := List.forall_mem_cons.mpr ⟨⟨_, rfl, lw_g (lw_at lw_m1 112 rfl) rfl, lw_at lw_m1 61 rfl⟩, fun _ h => absurd h List.not_mem_nil⟩
theorem hv_fA_9 : ∀ e ∈ hv_ans.getD 9 [], hv_fA 9 e.1 e.2 := List.forall_mem_cons.mpr ⟨⟨_, rfl, lw_g (lw_at lw_m1 168 rfl) rfl, lw_at lw_m1 169 rfl⟩, fun _ h => absurd h List.not_mem_nil⟩
theorem hv_fA_10 : ∀ e ∈ hv_ans.getD 10 [], hv_fA 10 e.1 e.2 := List.forall_mem_cons.mpr ⟨⟨_, rfl, lw_g (lw_at lw_m1 185 rfl) rfl, lw_at lw_m1 186 rfl⟩, fun _ h => absurd h List.not_mem_nil⟩
theorem hv_fA_11 : ∀ e ∈ hv_ans.getD 11 [], hv_fA 11 e.1 e.2 := fun _ h => absurd h List.not_mem_nil
theorem hv_fA_12 : ∀ e ∈ hv_ans.getD 12 [], hv_fA 12 e.1 e.2 := fun _ h => absurd h List.not_mem_nil
theorem hv_fA_13 : ∀ e ∈ hv_ans.getD 13 [], hv_fA 13 e.1 e.2 := fun _ h => absurd h List.not_mem_nil
theorem hv_fA_14 : ∀ e ∈ hv_ans.getD 14 [], hv_fA 14 e.1 e.2 := fun _ h => absurd h List.not_mem_nil
theorem hv_fA_15 : ∀ e ∈ hv_ans.getD 15 [], hv_fA 15 e.1 e.2 := List.forall_mem_cons.mpr ⟨⟨_, rfl, lw_g (lw_at lw_m2 51 rfl) rfl, lw_at lw_m2 52 rfl⟩, fun _ h => absurd h List.not_mem_nil⟩
theorem hv_fA_16 : ∀ e ∈ hv_ans.getD 16 [], hv_fA 16 e.1 e.2 := fun _ h => absurd h List.not_mem_nil
theorem hv_fA_17 : ∀ e ∈ hv_ans.getD 17 [], hv_fA 17 e.1 e.2 := fun _ h => absurd h List.not_mem_nil
theorem hv_fA_18 : ∀ e ∈ hv_ans.getD 18 [], hv_fA 18 e.1 e.2 := fun _ h => absurd h List.not_mem_nil
theorem hv_fA_19 : ∀ e ∈ hv_ans.getD 19 [], hv_fA 19 e.1 e.2 := fun _ h => absurd h List.not_mem_nil
theorem hv_fA_20 : ∀ e ∈ hv_ans.getD 20 [], hv_fA 20 e.1 e.2 := fun _ h => absurd h List.not_mem_nil
theorem hv_fA_21 : ∀ e ∈ hv_ans.getD 21 [], hv_fA 21 e.1 e.2 := fun _ h => absurd h List.not_mem_nil
theorem hv_fA_22 : ∀ e ∈ hv_ans.getD 22 [], hv_fA 22 e.1 e.2 := fun _ h => absurd h List.not_mem_nil
theorem hv_fA_23 : ∀ e ∈ hv_ans.getD 23 [], hv_fA 23 e.1 e.2 := fun _ h => absurd h List.not_mem_nil
theorem hv_fA_24 : ∀ e ∈ hv_ans.getD 24 [], hv_fA 24 e.1 e.2 := fun _ h => absurd h List.not_mem_nil
theorem hv_fA_25 : ∀ e ∈ hv_ans.getD 25 [], hv_fA 25 e.1 e.2 := fun _ h => absurd h List.not_mem_nil
theorem hv_fA_26 : ∀ e ∈ hv_ans.getD 26 [], hv_fA 26 e.1 e.2 := fun _ h => absurd h List.not_mem_nil
theorem hv_fA_27 : ∀ e ∈ hv_ans.getD 27 [], hv_fA 27 e.1 e.2 := fun _ h => absurd h List.not_mem_nil
theorem hv_fA_28 : ∀ e ∈ hv_ans.getD 28 [], hv_fA 28 e.1 e.2 := fun _ h => absurd h List.not_mem_nil
theorem hv_fA_29 : ∀ e ∈ hv_ans.getD 29 [], hv_fA 29 e.1 e.2 := fun _ h => absurd h List.not_mem_nil
theorem hv_fA_30 : ∀ e ∈ hv_ans.getD 30 [], hv_fA 30 e.1 e.2 := fun _ h => absurd h List.not_mem_nil
theorem hv_fA_31 : ∀ e ∈ hv_ans.getD 31 [], hv_fA 31 e.1 e.2 := fun _ h => absurd h List.not_mem_nil
theorem hv_fA_32 : ∀ e ∈ hv_ans.getD 32 [], hv_fA 32 e.1 e.2 := fun _ h => absurd h List.not_mem_nil
theorem hv_fA_33 : ∀ e ∈ hv_ans.getD 33 [], hv_fA 33 e.1 e.2 := fun _ h => absurd h List.not_mem_nil
theorem hv_fA_34 : ∀ e ∈ hv_ans.getD 34 [], hv_fA 34 e.1 e.2 := fun _ h => absurd h List.not_mem_nil
theorem hv_fA_35 : ∀ e ∈ hv_ans.getD 35 [], hv_fA 35 e.1 e.2 := fun _ h => absurd h List.not_mem_nil
theorem hv_fA_36 : ∀ e ∈ hv_ans.getD 36 [], hv_fA 36 e.1 e.2 := fun _ h => absurd h List.not_mem_nil
theorem hv_fA_37 : ∀ e ∈ hv_ans.getD 37 [], hv_fA 37 e.1 e.2 := fun _ h => absurd h List.not_mem_nil
theorem hv_fA_38 : ∀ e ∈ hv_ans.getD 38 [], hv_fA 38 e.1 e.2 := fun _ h => absurd h List.not_mem_nil
theorem hv_fA_39 : ∀ e ∈ hv_ans.getD 39 [], hv_fA 39 e.1 e.2 := fun _ h => absurd h List.not_mem_nil
theorem hv_fA_40 : ∀ e ∈ hv_ans.getD 40 [], hv_fA 40 e.1 e.2 := fun _ h => absurd h List.not_mem_nil
theorem hv_fA_41 : ∀ e ∈ hv_ans.getD 41 [], hv_fA 41 e.1 e.2 := fun _ h => absurd h List.not_mem_nil
theorem hv_fA_42 : ∀ e ∈ hv_ans.getD 42 [], hv_fA 42 e.1 e.2 := fun _ h => absurd h List.not_mem_nil
theorem hv_fA_43 : ∀ e ∈ hv_ans.getD 43 [], hv_fA 43 e.1 e.2 := fun _ h => absurd h List.not_mem_nil
theorem hv_fAS (o i : Nat) (v) (h : (hv_ans.getD o []).lookup i = some v) : hv_fA o i v := by
  have hm : (i, v) ∈ hv_ans.getD o [] := hv_lookup_mem h
  match o, hm with
  | 0, hm => exact hv_fA_0 _ hm
  | 1, hm => exact hv_fA_1 _ hm
  | 2, hm => exact hv_fA_2 _ hm
  | 3, hm => exact hv_fA_3 _ hm
  | 4, hm => exact hv_fA_4 _ hm
  | 5, hm => exact hv_fA_5 _ hm
  | 6, hm => exact hv_fA_6 _ hm
  | 7, hm => exact hv_fA_7 _ hm
  | 8, hm => exact hv_fA_8 _ hm
  | 9, hm => exact hv_fA_9 _ hm
  | 10, hm => exact hv_fA_10 _ hm
  | 11, hm => exact hv_fA_11 _ hm
  | 12, hm => exact hv_fA_12 _ hm
  | 13, hm => exact hv_fA_13 _ hm
  | 14, hm => exact hv_fA_14 _ hm
  | 15, hm => exact hv_fA_15 _ hm
  | 16, hm => exact hv_fA_16 _ hm
  | 17, hm => exact hv_fA_17 _ hm
  | 18, hm => exact hv_fA_18 _ hm
  | 19, hm => exact hv_fA_19 _ hm
  | 20, hm => exact hv_fA_20 _ hm
  | 21, hm => exact hv_fA_21 _ hm
  | 22, hm => exact hv_fA_22 _ hm
  | 23, hm => exact hv_fA_23 _ hm
  | 24, hm => exact hv_fA_24 _ hm
  | 25, hm => exact hv_fA_25 _ hm
  | 26, hm => exact hv_fA_26 _ hm
  | 27, hm => exact hv_fA_27 _ hm
  | 28, hm => exact hv_fA_28 _ hm
  | 29, hm => exact hv_fA_29 _ hm
  | 30, hm => exact hv_fA_30 _ hm
  | 31, hm => exact hv_fA_31 _ hm
  | 32, hm => exact hv_fA_32 _ hm
  | 33, hm => exact hv_fA_33 _ hm
  | 34, hm => exact hv_fA_34 _ hm
  | 35, hm => exact hv_fA_35 _ hm
  | 36, hm => exact hv_fA_36 _ hm
  | 37, hm => exact hv_fA_37 _ hm
  | 38, hm => exact hv_fA_38 _ hm
  | 39, hm => exact hv_fA_39 _ hm
  | 40, hm => exact hv_fA_40 _ hm
  | 41, hm => exact hv_fA_41 _ hm
  | 42, hm => exact hv_fA_42 _ hm
  | 43, hm => exact hv_fA_43 _ hm
  | o + 44, hm => exact absurd hm (by show ¬ _ ∈ ([] : List _); exact List.not_mem_nil)
def hv_fC (o i : Nat) (cs : List Nat) : Prop := ∃ C, Cond.classLink (hv_on o) i C ∈ lw_all ∧ ∀ c ∈ cs, ∃ q, hv_cl[c]? = some q ∧ (q.1 = C ∨ Cond.castable q.1 C ∈ lw_tbl)
theorem hv_fC_0 : ∀ e ∈ hv_ccs.getD 0 [], hv_fC 0 e.1 e.2 := fun _ h => absurd h List.not_mem_nil
theorem hv_fC_1 : ∀ e ∈ hv_ccs.getD 1 [], hv_fC 1 e.1 e.2 := List.forall_mem_cons.mpr ⟨⟨"HallOfClaims$Tally", lw_g (lw_at lw_m2 149 rfl) rfl, List.forall_mem_cons.mpr ⟨⟨_, rfl, Or.inl rfl⟩, fun _ h => absurd h List.not_mem_nil⟩⟩, List.forall_mem_cons.mpr ⟨⟨"java/lang/Integer", lw_g (lw_at lw_m7 228 rfl) rfl, List.forall_mem_cons.mpr ⟨⟨_, rfl, Or.inl rfl⟩, fun _ h => absurd h List.not_mem_nil⟩⟩, List.forall_mem_cons.mpr ⟨⟨"java/util/Map$Entry", lw_g (lw_at lw_m7 208 rfl) rfl, List.forall_mem_cons.mpr ⟨⟨_, rfl, Or.inr (lw_at lw_m7 213 rfl)⟩, fun _ h => absurd h List.not_mem_nil⟩⟩, fun _ h => absurd h List.not_mem_nil⟩⟩⟩
theorem hv_fC_2 : ∀ e ∈ hv_ccs.getD 2 [], hv_fC 2 e.1 e.2 := fun _ h => absurd h List.not_mem_nil
theorem hv_fC_3 : ∀ e ∈ hv_ccs.getD 3 [], hv_fC 3 e.1 e.2 := fun _ h => absurd h List.not_mem_nil
theorem hv_fC_4 : ∀ e ∈ hv_ccs.getD 4 [], hv_fC 4 e.1 e.2 := fun _ h => absurd h List.not_mem_nil
theorem hv_fC_5 : ∀ e ∈ hv_ccs.getD 5 [], hv_fC 5 e.1 e.2 := fun _ h => absurd h List.not_mem_nil
theorem hv_fC_6 : ∀ e ∈ hv_ccs.getD 6 [], hv_fC 6 e.1 e.2 := fun _ h => absurd h List.not_mem_nil
theorem hv_fC_7 : ∀ e ∈ hv_ccs.getD 7 [], hv_fC 7 e.1 e.2 := fun _ h => absurd h List.not_mem_nil
theorem hv_fC_8 : ∀ e ∈ hv_ccs.getD 8 [], hv_fC 8 e.1 e.2 := fun _ h => absurd h List.not_mem_nil
theorem hv_fC_9 : ∀ e ∈ hv_ccs.getD 9 [], hv_fC 9 e.1 e.2 := List.forall_mem_cons.mpr ⟨⟨"HallOfClaims$Waiting", lw_g (lw_at lw_m1 168 rfl) rfl, List.forall_mem_cons.mpr ⟨⟨_, rfl, Or.inl rfl⟩, fun _ h => absurd h List.not_mem_nil⟩⟩, fun _ h => absurd h List.not_mem_nil⟩
theorem hv_fC_10 : ∀ e ∈ hv_ccs.getD 10 [], hv_fC 10 e.1 e.2 := List.forall_mem_cons.mpr ⟨⟨"java/lang/Comparable", lw_g (lw_at lw_m5 78 rfl) rfl, List.forall_mem_cons.mpr ⟨⟨_, rfl, Or.inr (lw_at lw_m5 83 rfl)⟩, List.forall_mem_cons.mpr ⟨⟨_, rfl, Or.inr (lw_at lw_m5 95 rfl)⟩, fun _ h => absurd h List.not_mem_nil⟩⟩⟩, fun _ h => absurd h List.not_mem_nil⟩
theorem hv_fC_11 : ∀ e ∈ hv_ccs.getD 11 [], hv_fC 11 e.1 e.2 := fun _ h => absurd h List.not_mem_nil
theorem hv_fC_12 : ∀ e ∈ hv_ccs.getD 12 [], hv_fC 12 e.1 e.2 := fun _ h => absurd h List.not_mem_nil
theorem hv_fC_13 : ∀ e ∈ hv_ccs.getD 13 [], hv_fC 13 e.1 e.2 := List.forall_mem_cons.mpr ⟨⟨"HallOfClaims$Waiting", lw_g (lw_at lw_m5 89 rfl) rfl, List.forall_mem_cons.mpr ⟨⟨_, rfl, Or.inl rfl⟩, fun _ h => absurd h List.not_mem_nil⟩⟩, fun _ h => absurd h List.not_mem_nil⟩
theorem hv_fC_14 : ∀ e ∈ hv_ccs.getD 14 [], hv_fC 14 e.1 e.2 := fun _ h => absurd h List.not_mem_nil
theorem hv_fC_15 : ∀ e ∈ hv_ccs.getD 15 [], hv_fC 15 e.1 e.2 := List.forall_mem_cons.mpr ⟨⟨"HallOfClaims$Found", lw_g (lw_at lw_m2 51 rfl) rfl, List.forall_mem_cons.mpr ⟨⟨_, rfl, Or.inl rfl⟩, fun _ h => absurd h List.not_mem_nil⟩⟩, fun _ h => absurd h List.not_mem_nil⟩
theorem hv_fC_16 : ∀ e ∈ hv_ccs.getD 16 [], hv_fC 16 e.1 e.2 := List.forall_mem_cons.mpr ⟨⟨"HallOfClaims$Found", lw_g (lw_at lw_m5 64 rfl) rfl, List.forall_mem_cons.mpr ⟨⟨_, rfl, Or.inl rfl⟩, fun _ h => absurd h List.not_mem_nil⟩⟩, fun _ h => absurd h List.not_mem_nil⟩
theorem hv_fC_17 : ∀ e ∈ hv_ccs.getD 17 [], hv_fC 17 e.1 e.2 := fun _ h => absurd h List.not_mem_nil
theorem hv_fC_18 : ∀ e ∈ hv_ccs.getD 18 [], hv_fC 18 e.1 e.2 := List.forall_mem_cons.mpr ⟨⟨"java/lang/Comparable", lw_g (lw_at lw_m5 226 rfl) rfl, List.forall_mem_cons.mpr ⟨⟨_, rfl, Or.inr (lw_at lw_m5 83 rfl)⟩, List.forall_mem_cons.mpr ⟨⟨_, rfl, Or.inr (lw_at lw_m5 95 rfl)⟩, fun _ h => absurd h List.not_mem_nil⟩⟩⟩, fun _ h => absurd h List.not_mem_nil⟩
theorem hv_fC_19 : ∀ e ∈ hv_ccs.getD 19 [], hv_fC 19 e.1 e.2 := fun _ h => absurd h List.not_mem_nil
theorem hv_fC_20 : ∀ e ∈ hv_ccs.getD 20 [], hv_fC 20 e.1 e.2 := fun _ h => absurd h List.not_mem_nil
theorem hv_fC_21 : ∀ e ∈ hv_ccs.getD 21 [], hv_fC 21 e.1 e.2 := fun _ h => absurd h List.not_mem_nil
theorem hv_fC_22 : ∀ e ∈ hv_ccs.getD 22 [], hv_fC 22 e.1 e.2 := fun _ h => absurd h List.not_mem_nil
theorem hv_fC_23 : ∀ e ∈ hv_ccs.getD 23 [], hv_fC 23 e.1 e.2 := fun _ h => absurd h List.not_mem_nil
theorem hv_fC_24 : ∀ e ∈ hv_ccs.getD 24 [], hv_fC 24 e.1 e.2 := fun _ h => absurd h List.not_mem_nil
theorem hv_fC_25 : ∀ e ∈ hv_ccs.getD 25 [], hv_fC 25 e.1 e.2 := fun _ h => absurd h List.not_mem_nil
theorem hv_fC_26 : ∀ e ∈ hv_ccs.getD 26 [], hv_fC 26 e.1 e.2 := fun _ h => absurd h List.not_mem_nil
theorem hv_fC_27 : ∀ e ∈ hv_ccs.getD 27 [], hv_fC 27 e.1 e.2 := fun _ h => absurd h List.not_mem_nil
theorem hv_fC_28 : ∀ e ∈ hv_ccs.getD 28 [], hv_fC 28 e.1 e.2 := fun _ h => absurd h List.not_mem_nil
theorem hv_fC_29 : ∀ e ∈ hv_ccs.getD 29 [], hv_fC 29 e.1 e.2 := fun _ h => absurd h List.not_mem_nil
theorem hv_fC_30 : ∀ e ∈ hv_ccs.getD 30 [], hv_fC 30 e.1 e.2 := fun _ h => absurd h List.not_mem_nil
theorem hv_fC_31 : ∀ e ∈ hv_ccs.getD 31 [], hv_fC 31 e.1 e.2 := fun _ h => absurd h List.not_mem_nil
theorem hv_fC_32 : ∀ e ∈ hv_ccs.getD 32 [], hv_fC 32 e.1 e.2 := fun _ h => absurd h List.not_mem_nil
theorem hv_fC_33 : ∀ e ∈ hv_ccs.getD 33 [], hv_fC 33 e.1 e.2 := fun _ h => absurd h List.not_mem_nil
theorem hv_fC_34 : ∀ e ∈ hv_ccs.getD 34 [], hv_fC 34 e.1 e.2 := fun _ h => absurd h List.not_mem_nil
theorem hv_fC_35 : ∀ e ∈ hv_ccs.getD 35 [], hv_fC 35 e.1 e.2 := List.forall_mem_cons.mpr ⟨⟨"java/lang/Integer", lw_g (lw_at lw_m5 101 rfl) rfl, List.forall_mem_cons.mpr ⟨⟨_, rfl, Or.inl rfl⟩, fun _ h => absurd h List.not_mem_nil⟩⟩, fun _ h => absurd h List.not_mem_nil⟩
theorem hv_fC_36 : ∀ e ∈ hv_ccs.getD 36 [], hv_fC 36 e.1 e.2 := fun _ h => absurd h List.not_mem_nil
theorem hv_fC_37 : ∀ e ∈ hv_ccs.getD 37 [], hv_fC 37 e.1 e.2 := List.forall_mem_cons.mpr ⟨⟨"java/util/TreeMap", lw_g (lw_at lw_m6 134 rfl) rfl, List.forall_mem_cons.mpr ⟨⟨_, rfl, Or.inl rfl⟩, fun _ h => absurd h List.not_mem_nil⟩⟩, List.forall_mem_cons.mpr ⟨⟨"java/util/TreeMap$NavigableSubMap", lw_g (lw_at lw_m6 165 rfl) rfl, fun _ h => absurd h List.not_mem_nil⟩, fun _ h => absurd h List.not_mem_nil⟩⟩
theorem hv_fC_38 : ∀ e ∈ hv_ccs.getD 38 [], hv_fC 38 e.1 e.2 := fun _ h => absurd h List.not_mem_nil
theorem hv_fC_39 : ∀ e ∈ hv_ccs.getD 39 [], hv_fC 39 e.1 e.2 := fun _ h => absurd h List.not_mem_nil
theorem hv_fC_40 : ∀ e ∈ hv_ccs.getD 40 [], hv_fC 40 e.1 e.2 := fun _ h => absurd h List.not_mem_nil
theorem hv_fC_41 : ∀ e ∈ hv_ccs.getD 41 [], hv_fC 41 e.1 e.2 := fun _ h => absurd h List.not_mem_nil
theorem hv_fC_42 : ∀ e ∈ hv_ccs.getD 42 [], hv_fC 42 e.1 e.2 := fun _ h => absurd h List.not_mem_nil
theorem hv_fC_43 : ∀ e ∈ hv_ccs.getD 43 [], hv_fC 43 e.1 e.2 := fun _ h => absurd h List.not_mem_nil
theorem hv_fCS (o i : Nat) (v) (h : (hv_ccs.getD o []).lookup i = some v) : hv_fC o i v := by
  have hm : (i, v) ∈ hv_ccs.getD o [] := hv_lookup_mem h
  match o, hm with
  | 0, hm => exact hv_fC_0 _ hm
  | 1, hm => exact hv_fC_1 _ hm
  | 2, hm => exact hv_fC_2 _ hm
  | 3, hm => exact hv_fC_3 _ hm
  | 4, hm => exact hv_fC_4 _ hm
  | 5, hm => exact hv_fC_5 _ hm
  | 6, hm => exact hv_fC_6 _ hm
  | 7, hm => exact hv_fC_7 _ hm
  | 8, hm => exact hv_fC_8 _ hm
  | 9, hm => exact hv_fC_9 _ hm
  | 10, hm => exact hv_fC_10 _ hm
  | 11, hm => exact hv_fC_11 _ hm
  | 12, hm => exact hv_fC_12 _ hm
  | 13, hm => exact hv_fC_13 _ hm
  | 14, hm => exact hv_fC_14 _ hm
  | 15, hm => exact hv_fC_15 _ hm
  | 16, hm => exact hv_fC_16 _ hm
  | 17, hm => exact hv_fC_17 _ hm
  | 18, hm => exact hv_fC_18 _ hm
  | 19, hm => exact hv_fC_19 _ hm
  | 20, hm => exact hv_fC_20 _ hm
  | 21, hm => exact hv_fC_21 _ hm
  | 22, hm => exact hv_fC_22 _ hm
  | 23, hm => exact hv_fC_23 _ hm
  | 24, hm => exact hv_fC_24 _ hm
  | 25, hm => exact hv_fC_25 _ hm
  | 26, hm => exact hv_fC_26 _ hm
  | 27, hm => exact hv_fC_27 _ hm
  | 28, hm => exact hv_fC_28 _ hm
  | 29, hm => exact hv_fC_29 _ hm
  | 30, hm => exact hv_fC_30 _ hm
  | 31, hm => exact hv_fC_31 _ hm
  | 32, hm => exact hv_fC_32 _ hm
  | 33, hm => exact hv_fC_33 _ hm
  | 34, hm => exact hv_fC_34 _ hm
  | 35, hm => exact hv_fC_35 _ hm
  | 36, hm => exact hv_fC_36 _ hm
  | 37, hm => exact hv_fC_37 _ hm
  | 38, hm => exact hv_fC_38 _ hm
  | 39, hm => exact hv_fC_39 _ hm
  | 40, hm => exact hv_fC_40 _ hm
  | 41, hm => exact hv_fC_41 _ hm
  | 42, hm => exact hv_fC_42 _ hm
  | 43, hm => exact hv_fC_43 _ hm
  | o + 44, hm => exact absurd hm (by show ¬ _ ∈ ([] : List _); exact List.not_mem_nil)
def hv_fO (o i : Nat) (v : List Nat × List Nat) : Prop := ∃ C, Cond.classLink (hv_on o) i C ∈ lw_all ∧ (∀ c ∈ v.1, ∃ q, hv_cl[c]? = some q ∧ (q.1 = C ∨ Cond.castable q.1 C ∈ lw_tbl)) ∧ ∀ c ∈ v.2, ∃ q, hv_cl[c]? = some q ∧ Cond.not (.castable q.1 C) ∈ flatC (Jvm.Cond.and given_1 narrow_1)
theorem hv_fO_0 : ∀ e ∈ hv_ios.getD 0 [], hv_fO 0 e.1 e.2 := fun _ h => absurd h List.not_mem_nil
theorem hv_fO_1 : ∀ e ∈ hv_ios.getD 1 [], hv_fO 1 e.1 e.2 := fun _ h => absurd h List.not_mem_nil
theorem hv_fO_2 : ∀ e ∈ hv_ios.getD 2 [], hv_fO 2 e.1 e.2 := fun _ h => absurd h List.not_mem_nil
theorem hv_fO_3 : ∀ e ∈ hv_ios.getD 3 [], hv_fO 3 e.1 e.2 := fun _ h => absurd h List.not_mem_nil
theorem hv_fO_4 : ∀ e ∈ hv_ios.getD 4 [], hv_fO 4 e.1 e.2 := fun _ h => absurd h List.not_mem_nil
theorem hv_fO_5 : ∀ e ∈ hv_ios.getD 5 [], hv_fO 5 e.1 e.2 := List.forall_mem_cons.mpr ⟨⟨"HallOfClaims$Fact", lw_g (lw_at lw_m4 165 rfl) rfl, List.forall_mem_cons.mpr ⟨⟨_, rfl, Or.inl rfl⟩, fun _ h => absurd h List.not_mem_nil⟩, List.forall_mem_cons.mpr ⟨⟨_, rfl, by decide +kernel⟩, List.forall_mem_cons.mpr ⟨⟨_, rfl, by decide +kernel⟩, List.forall_mem_cons.mpr ⟨⟨_, rfl, by decide +kernel⟩, List.forall_mem_cons.mpr ⟨⟨_, rfl, by decide +kernel⟩, List.forall_mem_cons.mpr ⟨⟨_, rfl, by decide +kernel⟩, fun _ h => absurd h List.not_mem_nil⟩⟩⟩⟩⟩⟩, fun _ h => absurd h List.not_mem_nil⟩
theorem hv_fO_6 : ∀ e ∈ hv_ios.getD 6 [], hv_fO 6 e.1 e.2 := fun _ h => absurd h List.not_mem_nil
theorem hv_fO_7 : ∀ e ∈ hv_ios.getD 7 [], hv_fO 7 e.1 e.2 := fun _ h => absurd h List.not_mem_nil
theorem hv_fO_8 : ∀ e ∈ hv_ios.getD 8 [], hv_fO 8 e.1 e.2 := fun _ h => absurd h List.not_mem_nil
theorem hv_fO_9 : ∀ e ∈ hv_ios.getD 9 [], hv_fO 9 e.1 e.2 := fun _ h => absurd h List.not_mem_nil
theorem hv_fO_10 : ∀ e ∈ hv_ios.getD 10 [], hv_fO 10 e.1 e.2 := fun _ h => absurd h List.not_mem_nil
theorem hv_fO_11 : ∀ e ∈ hv_ios.getD 11 [], hv_fO 11 e.1 e.2 := fun _ h => absurd h List.not_mem_nil
theorem hv_fO_12 : ∀ e ∈ hv_ios.getD 12 [], hv_fO 12 e.1 e.2 := fun _ h => absurd h List.not_mem_nil
theorem hv_fO_13 : ∀ e ∈ hv_ios.getD 13 [], hv_fO 13 e.1 e.2 := fun _ h => absurd h List.not_mem_nil
theorem hv_fO_14 : ∀ e ∈ hv_ios.getD 14 [], hv_fO 14 e.1 e.2 := fun _ h => absurd h List.not_mem_nil
theorem hv_fO_15 : ∀ e ∈ hv_ios.getD 15 [], hv_fO 15 e.1 e.2 := fun _ h => absurd h List.not_mem_nil
theorem hv_fO_16 : ∀ e ∈ hv_ios.getD 16 [], hv_fO 16 e.1 e.2 := fun _ h => absurd h List.not_mem_nil
theorem hv_fO_17 : ∀ e ∈ hv_ios.getD 17 [], hv_fO 17 e.1 e.2 := fun _ h => absurd h List.not_mem_nil
theorem hv_fO_18 : ∀ e ∈ hv_ios.getD 18 [], hv_fO 18 e.1 e.2 := fun _ h => absurd h List.not_mem_nil
theorem hv_fO_19 : ∀ e ∈ hv_ios.getD 19 [], hv_fO 19 e.1 e.2 := fun _ h => absurd h List.not_mem_nil
theorem hv_fO_20 : ∀ e ∈ hv_ios.getD 20 [], hv_fO 20 e.1 e.2 := fun _ h => absurd h List.not_mem_nil
theorem hv_fO_21 : ∀ e ∈ hv_ios.getD 21 [], hv_fO 21 e.1 e.2 := fun _ h => absurd h List.not_mem_nil
theorem hv_fO_22 : ∀ e ∈ hv_ios.getD 22 [], hv_fO 22 e.1 e.2 := fun _ h => absurd h List.not_mem_nil
theorem hv_fO_23 : ∀ e ∈ hv_ios.getD 23 [], hv_fO 23 e.1 e.2 := fun _ h => absurd h List.not_mem_nil
theorem hv_fO_24 : ∀ e ∈ hv_ios.getD 24 [], hv_fO 24 e.1 e.2 := fun _ h => absurd h List.not_mem_nil
theorem hv_fO_25 : ∀ e ∈ hv_ios.getD 25 [], hv_fO 25 e.1 e.2 := fun _ h => absurd h List.not_mem_nil
theorem hv_fO_26 : ∀ e ∈ hv_ios.getD 26 [], hv_fO 26 e.1 e.2 := fun _ h => absurd h List.not_mem_nil
theorem hv_fO_27 : ∀ e ∈ hv_ios.getD 27 [], hv_fO 27 e.1 e.2 := fun _ h => absurd h List.not_mem_nil
theorem hv_fO_28 : ∀ e ∈ hv_ios.getD 28 [], hv_fO 28 e.1 e.2 := fun _ h => absurd h List.not_mem_nil
theorem hv_fO_29 : ∀ e ∈ hv_ios.getD 29 [], hv_fO 29 e.1 e.2 := fun _ h => absurd h List.not_mem_nil
theorem hv_fO_30 : ∀ e ∈ hv_ios.getD 30 [], hv_fO 30 e.1 e.2 := fun _ h => absurd h List.not_mem_nil
theorem hv_fO_31 : ∀ e ∈ hv_ios.getD 31 [], hv_fO 31 e.1 e.2 := fun _ h => absurd h List.not_mem_nil
theorem hv_fO_32 : ∀ e ∈ hv_ios.getD 32 [], hv_fO 32 e.1 e.2 := fun _ h => absurd h List.not_mem_nil
theorem hv_fO_33 : ∀ e ∈ hv_ios.getD 33 [], hv_fO 33 e.1 e.2 := fun _ h => absurd h List.not_mem_nil
theorem hv_fO_34 : ∀ e ∈ hv_ios.getD 34 [], hv_fO 34 e.1 e.2 := fun _ h => absurd h List.not_mem_nil
theorem hv_fO_35 : ∀ e ∈ hv_ios.getD 35 [], hv_fO 35 e.1 e.2 := fun _ h => absurd h List.not_mem_nil
theorem hv_fO_36 : ∀ e ∈ hv_ios.getD 36 [], hv_fO 36 e.1 e.2 := fun _ h => absurd h List.not_mem_nil
theorem hv_fO_37 : ∀ e ∈ hv_ios.getD 37 [], hv_fO 37 e.1 e.2 := List.forall_mem_cons.mpr ⟨⟨"java/util/TreeMap", lw_g (lw_at lw_m6 134 rfl) rfl, List.forall_mem_cons.mpr ⟨⟨_, rfl, Or.inl rfl⟩, fun _ h => absurd h List.not_mem_nil⟩, fun _ h => absurd h List.not_mem_nil⟩, fun _ h => absurd h List.not_mem_nil⟩
theorem hv_fO_38 : ∀ e ∈ hv_ios.getD 38 [], hv_fO 38 e.1 e.2 := fun _ h => absurd h List.not_mem_nil
theorem hv_fO_39 : ∀ e ∈ hv_ios.getD 39 [], hv_fO 39 e.1 e.2 := fun _ h => absurd h List.not_mem_nil
theorem hv_fO_40 : ∀ e ∈ hv_ios.getD 40 [], hv_fO 40 e.1 e.2 := fun _ h => absurd h List.not_mem_nil
theorem hv_fO_41 : ∀ e ∈ hv_ios.getD 41 [], hv_fO 41 e.1 e.2 := fun _ h => absurd h List.not_mem_nil
theorem hv_fO_42 : ∀ e ∈ hv_ios.getD 42 [], hv_fO 42 e.1 e.2 := fun _ h => absurd h List.not_mem_nil
theorem hv_fO_43 : ∀ e ∈ hv_ios.getD 43 [], hv_fO 43 e.1 e.2 := fun _ h => absurd h List.not_mem_nil
theorem hv_fOS (o i : Nat) (v) (h : (hv_ios.getD o []).lookup i = some v) : hv_fO o i v := by
  have hm : (i, v) ∈ hv_ios.getD o [] := hv_lookup_mem h
  match o, hm with
  | 0, hm => exact hv_fO_0 _ hm
  | 1, hm => exact hv_fO_1 _ hm
  | 2, hm => exact hv_fO_2 _ hm
  | 3, hm => exact hv_fO_3 _ hm
  | 4, hm => exact hv_fO_4 _ hm
  | 5, hm => exact hv_fO_5 _ hm
  | 6, hm => exact hv_fO_6 _ hm
  | 7, hm => exact hv_fO_7 _ hm
  | 8, hm => exact hv_fO_8 _ hm
  | 9, hm => exact hv_fO_9 _ hm
  | 10, hm => exact hv_fO_10 _ hm
  | 11, hm => exact hv_fO_11 _ hm
  | 12, hm => exact hv_fO_12 _ hm
  | 13, hm => exact hv_fO_13 _ hm
  | 14, hm => exact hv_fO_14 _ hm
  | 15, hm => exact hv_fO_15 _ hm
  | 16, hm => exact hv_fO_16 _ hm
  | 17, hm => exact hv_fO_17 _ hm
  | 18, hm => exact hv_fO_18 _ hm
  | 19, hm => exact hv_fO_19 _ hm
  | 20, hm => exact hv_fO_20 _ hm
  | 21, hm => exact hv_fO_21 _ hm
  | 22, hm => exact hv_fO_22 _ hm
  | 23, hm => exact hv_fO_23 _ hm
  | 24, hm => exact hv_fO_24 _ hm
  | 25, hm => exact hv_fO_25 _ hm
  | 26, hm => exact hv_fO_26 _ hm
  | 27, hm => exact hv_fO_27 _ hm
  | 28, hm => exact hv_fO_28 _ hm
  | 29, hm => exact hv_fO_29 _ hm
  | 30, hm => exact hv_fO_30 _ hm
  | 31, hm => exact hv_fO_31 _ hm
  | 32, hm => exact hv_fO_32 _ hm
  | 33, hm => exact hv_fO_33 _ hm
  | 34, hm => exact hv_fO_34 _ hm
  | 35, hm => exact hv_fO_35 _ hm
  | 36, hm => exact hv_fO_36 _ hm
  | 37, hm => exact hv_fO_37 _ hm
  | 38, hm => exact hv_fO_38 _ hm
  | 39, hm => exact hv_fO_39 _ hm
  | 40, hm => exact hv_fO_40 _ hm
  | 41, hm => exact hv_fO_41 _ hm
  | 42, hm => exact hv_fO_42 _ hm
  | 43, hm => exact hv_fO_43 _ hm
  | o + 44, hm => exact absurd hm (by show ¬ _ ∈ ([] : List _); exact List.not_mem_nil)
def hv_fK (o i : Nat) (v : Value) : Prop := (∃ n : Int32, v = .int n ∧ Cond.constant (hv_on o) i n ∈ lw_all) ∨ ∃ n : Int64, v = .long n ∧ Cond.constantLong (hv_on o) i n ∈ lw_all
theorem hv_fK_0 : ∀ e ∈ hv_kss.getD 0 [], hv_fK 0 e.1 e.2 := fun _ h => absurd h List.not_mem_nil
theorem hv_fK_1 : ∀ e ∈ hv_kss.getD 1 [], hv_fK 1 e.1 e.2 := List.forall_mem_cons.mpr ⟨Or.inr ⟨_, rfl, lw_g (lw_at lw_m4 82 rfl) rfl⟩, List.forall_mem_cons.mpr ⟨Or.inr ⟨_, rfl, lw_g (lw_at lw_m4 111 rfl) rfl⟩, List.forall_mem_cons.mpr ⟨Or.inr ⟨_, rfl, lw_g (lw_at lw_m8 1 rfl) rfl⟩, List.forall_mem_cons.mpr ⟨Or.inl ⟨_, rfl, lw_g (lw_at lw_m8 2 rfl) rfl⟩, List.forall_mem_cons.mpr ⟨Or.inl ⟨_, rfl, lw_g (lw_at lw_m8 3 rfl) rfl⟩, List.forall_mem_cons.mpr ⟨Or.inl ⟨_, rfl, lw_g (lw_at lw_m8 4 rfl) rfl⟩, List.forall_mem_cons.mpr ⟨Or.inr ⟨_, rfl, lw_g (lw_at lw_m3 9 rfl) rfl⟩, List.forall_mem_cons.mpr ⟨Or.inr ⟨_, rfl, lw_g (lw_at lw_m8 98 rfl) rfl⟩, List.forall_mem_cons.mpr ⟨Or.inr ⟨_, rfl, lw_g (lw_at lw_m8 106 rfl) rfl⟩, List.forall_mem_cons.mpr ⟨Or.inr ⟨_, rfl, lw_g (lw_at lw_m8 148 rfl) rfl⟩, List.forall_mem_cons.mpr ⟨Or.inr ⟨_, rfl, lw_g (lw_at lw_m8 149 rfl) rfl⟩, fun _ h => absurd h List.not_mem_nil⟩⟩⟩⟩⟩⟩⟩⟩⟩⟩⟩
theorem hv_fK_2 : ∀ e ∈ hv_kss.getD 2 [], hv_fK 2 e.1 e.2 := fun _ h => absurd h List.not_mem_nil
theorem hv_fK_3 : ∀ e ∈ hv_kss.getD 3 [], hv_fK 3 e.1 e.2 := fun _ h => absurd h List.not_mem_nil
theorem hv_fK_4 : ∀ e ∈ hv_kss.getD 4 [], hv_fK 4 e.1 e.2 := fun _ h => absurd h List.not_mem_nil
theorem hv_fK_5 : ∀ e ∈ hv_kss.getD 5 [], hv_fK 5 e.1 e.2 := fun _ h => absurd h List.not_mem_nil
theorem hv_fK_6 : ∀ e ∈ hv_kss.getD 6 [], hv_fK 6 e.1 e.2 := fun _ h => absurd h List.not_mem_nil
theorem hv_fK_7 : ∀ e ∈ hv_kss.getD 7 [], hv_fK 7 e.1 e.2 := fun _ h => absurd h List.not_mem_nil
theorem hv_fK_8 : ∀ e ∈ hv_kss.getD 8 [], hv_fK 8 e.1 e.2 := fun _ h => absurd h List.not_mem_nil
theorem hv_fK_9 : ∀ e ∈ hv_kss.getD 9 [], hv_fK 9 e.1 e.2 := fun _ h => absurd h List.not_mem_nil
theorem hv_fK_10 : ∀ e ∈ hv_kss.getD 10 [], hv_fK 10 e.1 e.2 := fun _ h => absurd h List.not_mem_nil
theorem hv_fK_11 : ∀ e ∈ hv_kss.getD 11 [], hv_fK 11 e.1 e.2 := fun _ h => absurd h List.not_mem_nil
theorem hv_fK_12 : ∀ e ∈ hv_kss.getD 12 [], hv_fK 12 e.1 e.2 := fun _ h => absurd h List.not_mem_nil
theorem hv_fK_13 : ∀ e ∈ hv_kss.getD 13 [], hv_fK 13 e.1 e.2 := fun _ h => absurd h List.not_mem_nil
theorem hv_fK_14 : ∀ e ∈ hv_kss.getD 14 [], hv_fK 14 e.1 e.2 := fun _ h => absurd h List.not_mem_nil
theorem hv_fK_15 : ∀ e ∈ hv_kss.getD 15 [], hv_fK 15 e.1 e.2 := fun _ h => absurd h List.not_mem_nil
theorem hv_fK_16 : ∀ e ∈ hv_kss.getD 16 [], hv_fK 16 e.1 e.2 := fun _ h => absurd h List.not_mem_nil
theorem hv_fK_17 : ∀ e ∈ hv_kss.getD 17 [], hv_fK 17 e.1 e.2 := fun _ h => absurd h List.not_mem_nil
theorem hv_fK_18 : ∀ e ∈ hv_kss.getD 18 [], hv_fK 18 e.1 e.2 := fun _ h => absurd h List.not_mem_nil
theorem hv_fK_19 : ∀ e ∈ hv_kss.getD 19 [], hv_fK 19 e.1 e.2 := fun _ h => absurd h List.not_mem_nil
theorem hv_fK_20 : ∀ e ∈ hv_kss.getD 20 [], hv_fK 20 e.1 e.2 := fun _ h => absurd h List.not_mem_nil
theorem hv_fK_21 : ∀ e ∈ hv_kss.getD 21 [], hv_fK 21 e.1 e.2 := fun _ h => absurd h List.not_mem_nil
theorem hv_fK_22 : ∀ e ∈ hv_kss.getD 22 [], hv_fK 22 e.1 e.2 := List.forall_mem_cons.mpr ⟨Or.inr ⟨_, rfl, lw_g (lw_at lw_m7 43 rfl) rfl⟩, fun _ h => absurd h List.not_mem_nil⟩
theorem hv_fK_23 : ∀ e ∈ hv_kss.getD 23 [], hv_fK 23 e.1 e.2 := fun _ h => absurd h List.not_mem_nil
theorem hv_fK_24 : ∀ e ∈ hv_kss.getD 24 [], hv_fK 24 e.1 e.2 := List.forall_mem_cons.mpr ⟨Or.inr ⟨_, rfl, lw_g (lw_at lw_m9 27 rfl) rfl⟩, List.forall_mem_cons.mpr ⟨Or.inr ⟨_, rfl, lw_g (lw_at lw_m9 28 rfl) rfl⟩, List.forall_mem_cons.mpr ⟨Or.inr ⟨_, rfl, lw_g (lw_at lw_m9 17 rfl) rfl⟩, List.forall_mem_cons.mpr ⟨Or.inr ⟨_, rfl, lw_g (lw_at lw_m9 18 rfl) rfl⟩, List.forall_mem_cons.mpr ⟨Or.inr ⟨_, rfl, lw_g (lw_at lw_m8 233 rfl) rfl⟩, List.forall_mem_cons.mpr ⟨Or.inr ⟨_, rfl, lw_g (lw_at lw_m9 82 rfl) rfl⟩, List.forall_mem_cons.mpr ⟨Or.inr ⟨_, rfl, lw_g (lw_at lw_m9 91 rfl) rfl⟩, List.forall_mem_cons.mpr ⟨Or.inr ⟨_, rfl, lw_g (lw_at lw_m9 108 rfl) rfl⟩, List.forall_mem_cons.mpr ⟨Or.inr ⟨_, rfl, lw_g (lw_at lw_m10 0 rfl) rfl⟩, List.forall_mem_cons.mpr ⟨Or.inr ⟨_, rfl, lw_g (lw_at lw_m9 223 rfl) rfl⟩, List.forall_mem_cons.mpr ⟨Or.inr ⟨_, rfl, lw_g (lw_at lw_m10 29 rfl) rfl⟩, List.forall_mem_cons.mpr ⟨Or.inr ⟨_, rfl, lw_g (lw_at lw_m10 30 rfl) rfl⟩, List.forall_mem_cons.mpr ⟨Or.inr ⟨_, rfl, lw_g (lw_at lw_m10 31 rfl) rfl⟩, List.forall_mem_cons.mpr ⟨Or.inl ⟨_, rfl, lw_g (lw_at lw_m10 99 rfl) rfl⟩, List.forall_mem_cons.mpr ⟨Or.inl ⟨_, rfl, lw_g (lw_at lw_m10 100 rfl) rfl⟩, List.forall_mem_cons.mpr ⟨Or.inl ⟨_, rfl, lw_g (lw_at lw_m10 101 rfl) rfl⟩, List.forall_mem_cons.mpr ⟨Or.inr ⟨_, rfl, lw_g (lw_at lw_m10 118 rfl) rfl⟩, List.forall_mem_cons.mpr ⟨Or.inr ⟨_, rfl, lw_g (lw_at lw_m10 119 rfl) rfl⟩, fun _ h => absurd h List.not_mem_nil⟩⟩⟩⟩⟩⟩⟩⟩⟩⟩⟩⟩⟩⟩⟩⟩⟩⟩
theorem hv_fK_25 : ∀ e ∈ hv_kss.getD 25 [], hv_fK 25 e.1 e.2 := fun _ h => absurd h List.not_mem_nil
theorem hv_fK_26 : ∀ e ∈ hv_kss.getD 26 [], hv_fK 26 e.1 e.2 := fun _ h => absurd h List.not_mem_nil
theorem hv_fK_27 : ∀ e ∈ hv_kss.getD 27 [], hv_fK 27 e.1 e.2 := List.forall_mem_cons.mpr ⟨Or.inr ⟨_, rfl, lw_g (lw_at lw_m3 125 rfl) rfl⟩, List.forall_mem_cons.mpr ⟨Or.inr ⟨_, rfl, lw_g (lw_at lw_m3 126 rfl) rfl⟩, List.forall_mem_cons.mpr ⟨Or.inr ⟨_, rfl, lw_g (lw_at lw_m3 197 rfl) rfl⟩, List.forall_mem_cons.mpr ⟨Or.inr ⟨_, rfl, lw_g (lw_at lw_m3 198 rfl) rfl⟩, fun _ h => absurd h List.not_mem_nil⟩⟩⟩⟩
theorem hv_fK_28 : ∀ e ∈ hv_kss.getD 28 [], hv_fK 28 e.1 e.2 := fun _ h => absurd h List.not_mem_nil
theorem hv_fK_29 : ∀ e ∈ hv_kss.getD 29 [], hv_fK 29 e.1 e.2 := fun _ h => absurd h List.not_mem_nil
theorem hv_fK_30 : ∀ e ∈ hv_kss.getD 30 [], hv_fK 30 e.1 e.2 := fun _ h => absurd h List.not_mem_nil
theorem hv_fK_31 : ∀ e ∈ hv_kss.getD 31 [], hv_fK 31 e.1 e.2 := fun _ h => absurd h List.not_mem_nil
theorem hv_fK_32 : ∀ e ∈ hv_kss.getD 32 [], hv_fK 32 e.1 e.2 := fun _ h => absurd h List.not_mem_nil
theorem hv_fK_33 : ∀ e ∈ hv_kss.getD 33 [], hv_fK 33 e.1 e.2 := fun _ h => absurd h List.not_mem_nil
theorem hv_fK_34 : ∀ e ∈ hv_kss.getD 34 [], hv_fK 34 e.1 e.2 := fun _ h => absurd h List.not_mem_nil
theorem hv_fK_35 : ∀ e ∈ hv_kss.getD 35 [], hv_fK 35 e.1 e.2 := fun _ h => absurd h List.not_mem_nil
theorem hv_fK_36 : ∀ e ∈ hv_kss.getD 36 [], hv_fK 36 e.1 e.2 := fun _ h => absurd h List.not_mem_nil
theorem hv_fK_37 : ∀ e ∈ hv_kss.getD 37 [], hv_fK 37 e.1 e.2 := fun _ h => absurd h List.not_mem_nil
theorem hv_fK_38 : ∀ e ∈ hv_kss.getD 38 [], hv_fK 38 e.1 e.2 := fun _ h => absurd h List.not_mem_nil
theorem hv_fK_39 : ∀ e ∈ hv_kss.getD 39 [], hv_fK 39 e.1 e.2 := fun _ h => absurd h List.not_mem_nil
theorem hv_fK_40 : ∀ e ∈ hv_kss.getD 40 [], hv_fK 40 e.1 e.2 := fun _ h => absurd h List.not_mem_nil
theorem hv_fK_41 : ∀ e ∈ hv_kss.getD 41 [], hv_fK 41 e.1 e.2 := fun _ h => absurd h List.not_mem_nil
theorem hv_fK_42 : ∀ e ∈ hv_kss.getD 42 [], hv_fK 42 e.1 e.2 := fun _ h => absurd h List.not_mem_nil
theorem hv_fK_43 : ∀ e ∈ hv_kss.getD 43 [], hv_fK 43 e.1 e.2 := fun _ h => absurd h List.not_mem_nil
theorem hv_fKS (o i : Nat) (v) (h : (hv_kss.getD o []).lookup i = some v) : hv_fK o i v := by
  have hm : (i, v) ∈ hv_kss.getD o [] := hv_lookup_mem h
  match o, hm with
  | 0, hm => exact hv_fK_0 _ hm
  | 1, hm => exact hv_fK_1 _ hm
  | 2, hm => exact hv_fK_2 _ hm
  | 3, hm => exact hv_fK_3 _ hm
  | 4, hm => exact hv_fK_4 _ hm
  | 5, hm => exact hv_fK_5 _ hm
  | 6, hm => exact hv_fK_6 _ hm
  | 7, hm => exact hv_fK_7 _ hm
  | 8, hm => exact hv_fK_8 _ hm
  | 9, hm => exact hv_fK_9 _ hm
  | 10, hm => exact hv_fK_10 _ hm
  | 11, hm => exact hv_fK_11 _ hm
  | 12, hm => exact hv_fK_12 _ hm
  | 13, hm => exact hv_fK_13 _ hm
  | 14, hm => exact hv_fK_14 _ hm
  | 15, hm => exact hv_fK_15 _ hm
  | 16, hm => exact hv_fK_16 _ hm
  | 17, hm => exact hv_fK_17 _ hm
  | 18, hm => exact hv_fK_18 _ hm
  | 19, hm => exact hv_fK_19 _ hm
  | 20, hm => exact hv_fK_20 _ hm
  | 21, hm => exact hv_fK_21 _ hm
  | 22, hm => exact hv_fK_22 _ hm
  | 23, hm => exact hv_fK_23 _ hm
  | 24, hm => exact hv_fK_24 _ hm
  | 25, hm => exact hv_fK_25 _ hm
  | 26, hm => exact hv_fK_26 _ hm
  | 27, hm => exact hv_fK_27 _ hm
  | 28, hm => exact hv_fK_28 _ hm
  | 29, hm => exact hv_fK_29 _ hm
  | 30, hm => exact hv_fK_30 _ hm
  | 31, hm => exact hv_fK_31 _ hm
  | 32, hm => exact hv_fK_32 _ hm
  | 33, hm => exact hv_fK_33 _ hm
  | 34, hm => exact hv_fK_34 _ hm
  | 35, hm => exact hv_fK_35 _ hm
  | 36, hm => exact hv_fK_36 _ hm
  | 37, hm => exact hv_fK_37 _ hm
  | 38, hm => exact hv_fK_38 _ hm
  | 39, hm => exact hv_fK_39 _ hm
  | 40, hm => exact hv_fK_40 _ hm
  | 41, hm => exact hv_fK_41 _ hm
  | 42, hm => exact hv_fK_42 _ hm
  | 43, hm => exact hv_fK_43 _ hm
  | o + 44, hm => exact absurd hm (by show ¬ _ ∈ ([] : List _); exact List.not_mem_nil)
def hv_fG (o i : Nat) (v : Value) : Prop := ∃ C n d, Cond.fieldLink (hv_on o) i C n d ∈ lw_all ∧ ((C = "java/util/TreeSet" ∧ n = "PRESENT" ∧ d = "Ljava/lang/Object;" ∧ v = .ref 257) ∨ (C = "java/lang/Integer$IntegerCache" ∧ n = "high" ∧ d = "I" ∧ v = .int 127) ∨ (C = "java/lang/Integer$IntegerCache" ∧ n = "cache" ∧ d = "[Ljava/lang/Integer;" ∧ v = .ref 258))
theorem hv_fG_0 : ∀ e ∈ hv_gss.getD 0 [], hv_fG 0 e.1 e.2 := fun _ h => absurd h List.not_mem_nil
theorem hv_fG_1 : ∀ e ∈ hv_gss.getD 1 [], hv_fG 1 e.1 e.2 := fun _ h => absurd h List.not_mem_nil
theorem hv_fG_2 : ∀ e ∈ hv_gss.getD 2 [], hv_fG 2 e.1 e.2 := fun _ h => absurd h List.not_mem_nil
theorem hv_fG_3 : ∀ e ∈ hv_gss.getD 3 [], hv_fG 3 e.1 e.2 := fun _ h => absurd h List.not_mem_nil
theorem hv_fG_4 : ∀ e ∈ hv_gss.getD 4 [], hv_fG 4 e.1 e.2 := fun _ h => absurd h List.not_mem_nil
theorem hv_fG_5 : ∀ e ∈ hv_gss.getD 5 [], hv_fG 5 e.1 e.2 := fun _ h => absurd h List.not_mem_nil
theorem hv_fG_6 : ∀ e ∈ hv_gss.getD 6 [], hv_fG 6 e.1 e.2 := fun _ h => absurd h List.not_mem_nil
theorem hv_fG_7 : ∀ e ∈ hv_gss.getD 7 [], hv_fG 7 e.1 e.2 := fun _ h => absurd h List.not_mem_nil
theorem hv_fG_8 : ∀ e ∈ hv_gss.getD 8 [], hv_fG 8 e.1 e.2 := fun _ h => absurd h List.not_mem_nil
theorem hv_fG_9 : ∀ e ∈ hv_gss.getD 9 [], hv_fG 9 e.1 e.2 := fun _ h => absurd h List.not_mem_nil
theorem hv_fG_10 : ∀ e ∈ hv_gss.getD 10 [], hv_fG 10 e.1 e.2 := fun _ h => absurd h List.not_mem_nil
theorem hv_fG_11 : ∀ e ∈ hv_gss.getD 11 [], hv_fG 11 e.1 e.2 := fun _ h => absurd h List.not_mem_nil
theorem hv_fG_12 : ∀ e ∈ hv_gss.getD 12 [], hv_fG 12 e.1 e.2 := fun _ h => absurd h List.not_mem_nil
theorem hv_fG_13 : ∀ e ∈ hv_gss.getD 13 [], hv_fG 13 e.1 e.2 := fun _ h => absurd h List.not_mem_nil
theorem hv_fG_14 : ∀ e ∈ hv_gss.getD 14 [], hv_fG 14 e.1 e.2 := fun _ h => absurd h List.not_mem_nil
theorem hv_fG_15 : ∀ e ∈ hv_gss.getD 15 [], hv_fG 15 e.1 e.2 := fun _ h => absurd h List.not_mem_nil
theorem hv_fG_16 : ∀ e ∈ hv_gss.getD 16 [], hv_fG 16 e.1 e.2 := fun _ h => absurd h List.not_mem_nil
theorem hv_fG_17 : ∀ e ∈ hv_gss.getD 17 [], hv_fG 17 e.1 e.2 := List.forall_mem_cons.mpr ⟨⟨_, _, _, lw_g (lw_at lw_m5 205 rfl) rfl, Or.inl ⟨rfl, rfl, rfl, rfl⟩⟩, fun _ h => absurd h List.not_mem_nil⟩
theorem hv_fG_18 : ∀ e ∈ hv_gss.getD 18 [], hv_fG 18 e.1 e.2 := fun _ h => absurd h List.not_mem_nil
theorem hv_fG_19 : ∀ e ∈ hv_gss.getD 19 [], hv_fG 19 e.1 e.2 := fun _ h => absurd h List.not_mem_nil
theorem hv_fG_20 : ∀ e ∈ hv_gss.getD 20 [], hv_fG 20 e.1 e.2 := fun _ h => absurd h List.not_mem_nil
theorem hv_fG_21 : ∀ e ∈ hv_gss.getD 21 [], hv_fG 21 e.1 e.2 := fun _ h => absurd h List.not_mem_nil
theorem hv_fG_22 : ∀ e ∈ hv_gss.getD 22 [], hv_fG 22 e.1 e.2 := fun _ h => absurd h List.not_mem_nil
theorem hv_fG_23 : ∀ e ∈ hv_gss.getD 23 [], hv_fG 23 e.1 e.2 := fun _ h => absurd h List.not_mem_nil
theorem hv_fG_24 : ∀ e ∈ hv_gss.getD 24 [], hv_fG 24 e.1 e.2 := fun _ h => absurd h List.not_mem_nil
theorem hv_fG_25 : ∀ e ∈ hv_gss.getD 25 [], hv_fG 25 e.1 e.2 := fun _ h => absurd h List.not_mem_nil
theorem hv_fG_26 : ∀ e ∈ hv_gss.getD 26 [], hv_fG 26 e.1 e.2 := fun _ h => absurd h List.not_mem_nil
theorem hv_fG_27 : ∀ e ∈ hv_gss.getD 27 [], hv_fG 27 e.1 e.2 := fun _ h => absurd h List.not_mem_nil
theorem hv_fG_28 : ∀ e ∈ hv_gss.getD 28 [], hv_fG 28 e.1 e.2 := fun _ h => absurd h List.not_mem_nil
theorem hv_fG_29 : ∀ e ∈ hv_gss.getD 29 [], hv_fG 29 e.1 e.2 := fun _ h => absurd h List.not_mem_nil
theorem hv_fG_30 : ∀ e ∈ hv_gss.getD 30 [], hv_fG 30 e.1 e.2 := fun _ h => absurd h List.not_mem_nil
theorem hv_fG_31 : ∀ e ∈ hv_gss.getD 31 [], hv_fG 31 e.1 e.2 := fun _ h => absurd h List.not_mem_nil
theorem hv_fG_32 : ∀ e ∈ hv_gss.getD 32 [], hv_fG 32 e.1 e.2 := fun _ h => absurd h List.not_mem_nil
theorem hv_fG_33 : ∀ e ∈ hv_gss.getD 33 [], hv_fG 33 e.1 e.2 := fun _ h => absurd h List.not_mem_nil
theorem hv_fG_34 : ∀ e ∈ hv_gss.getD 34 [], hv_fG 34 e.1 e.2 := fun _ h => absurd h List.not_mem_nil
theorem hv_fG_35 : ∀ e ∈ hv_gss.getD 35 [], hv_fG 35 e.1 e.2 := List.forall_mem_cons.mpr ⟨⟨_, _, _, lw_g (lw_at lw_m7 129 rfl) rfl, Or.inr (Or.inl ⟨rfl, rfl, rfl, rfl⟩)⟩, List.forall_mem_cons.mpr ⟨⟨_, _, _, lw_g (lw_at lw_m7 131 rfl) rfl, Or.inr (Or.inr ⟨rfl, rfl, rfl, rfl⟩)⟩, fun _ h => absurd h List.not_mem_nil⟩⟩
theorem hv_fG_36 : ∀ e ∈ hv_gss.getD 36 [], hv_fG 36 e.1 e.2 := fun _ h => absurd h List.not_mem_nil
theorem hv_fG_37 : ∀ e ∈ hv_gss.getD 37 [], hv_fG 37 e.1 e.2 := fun _ h => absurd h List.not_mem_nil
theorem hv_fG_38 : ∀ e ∈ hv_gss.getD 38 [], hv_fG 38 e.1 e.2 := fun _ h => absurd h List.not_mem_nil
theorem hv_fG_39 : ∀ e ∈ hv_gss.getD 39 [], hv_fG 39 e.1 e.2 := fun _ h => absurd h List.not_mem_nil
theorem hv_fG_40 : ∀ e ∈ hv_gss.getD 40 [], hv_fG 40 e.1 e.2 := fun _ h => absurd h List.not_mem_nil
theorem hv_fG_41 : ∀ e ∈ hv_gss.getD 41 [], hv_fG 41 e.1 e.2 := fun _ h => absurd h List.not_mem_nil
theorem hv_fG_42 : ∀ e ∈ hv_gss.getD 42 [], hv_fG 42 e.1 e.2 := fun _ h => absurd h List.not_mem_nil
theorem hv_fG_43 : ∀ e ∈ hv_gss.getD 43 [], hv_fG 43 e.1 e.2 := fun _ h => absurd h List.not_mem_nil
theorem hv_fGS (o i : Nat) (v) (h : (hv_gss.getD o []).lookup i = some v) : hv_fG o i v := by
  have hm : (i, v) ∈ hv_gss.getD o [] := hv_lookup_mem h
  match o, hm with
  | 0, hm => exact hv_fG_0 _ hm
  | 1, hm => exact hv_fG_1 _ hm
  | 2, hm => exact hv_fG_2 _ hm
  | 3, hm => exact hv_fG_3 _ hm
  | 4, hm => exact hv_fG_4 _ hm
  | 5, hm => exact hv_fG_5 _ hm
  | 6, hm => exact hv_fG_6 _ hm
  | 7, hm => exact hv_fG_7 _ hm
  | 8, hm => exact hv_fG_8 _ hm
  | 9, hm => exact hv_fG_9 _ hm
  | 10, hm => exact hv_fG_10 _ hm
  | 11, hm => exact hv_fG_11 _ hm
  | 12, hm => exact hv_fG_12 _ hm
  | 13, hm => exact hv_fG_13 _ hm
  | 14, hm => exact hv_fG_14 _ hm
  | 15, hm => exact hv_fG_15 _ hm
  | 16, hm => exact hv_fG_16 _ hm
  | 17, hm => exact hv_fG_17 _ hm
  | 18, hm => exact hv_fG_18 _ hm
  | 19, hm => exact hv_fG_19 _ hm
  | 20, hm => exact hv_fG_20 _ hm
  | 21, hm => exact hv_fG_21 _ hm
  | 22, hm => exact hv_fG_22 _ hm
  | 23, hm => exact hv_fG_23 _ hm
  | 24, hm => exact hv_fG_24 _ hm
  | 25, hm => exact hv_fG_25 _ hm
  | 26, hm => exact hv_fG_26 _ hm
  | 27, hm => exact hv_fG_27 _ hm
  | 28, hm => exact hv_fG_28 _ hm
  | 29, hm => exact hv_fG_29 _ hm
  | 30, hm => exact hv_fG_30 _ hm
  | 31, hm => exact hv_fG_31 _ hm
  | 32, hm => exact hv_fG_32 _ hm
  | 33, hm => exact hv_fG_33 _ hm
  | 34, hm => exact hv_fG_34 _ hm
  | 35, hm => exact hv_fG_35 _ hm
  | 36, hm => exact hv_fG_36 _ hm
  | 37, hm => exact hv_fG_37 _ hm
  | 38, hm => exact hv_fG_38 _ hm
  | 39, hm => exact hv_fG_39 _ hm
  | 40, hm => exact hv_fG_40 _ hm
  | 41, hm => exact hv_fG_41 _ hm
  | 42, hm => exact hv_fG_42 _ hm
  | 43, hm => exact hv_fG_43 _ hm
  | o + 44, hm => exact absurd hm (by show ¬ _ ∈ ([] : List _); exact List.not_mem_nil)
def hv_fM (o i : Nat) (v : Nat × List (Nat × Nat)) : Prop := (v.1 = 2 → Cond.methodLink (hv_on o) i Lib.objectInit ∈ lw_all) ∧ (v.1 = 3 → hv_on o = "HallOfClaims$Refusal" ∧ i = 1) ∧ (v.1 = 4 → Cond.methodLink (hv_on o) i arraycopyName ∈ lw_all)
theorem hv_fM_0 : ∀ e ∈ hv_mls.getD 0 [], hv_fM 0 e.1 e.2 := List.forall_mem_cons.mpr ⟨⟨fun h => absurd h (by decide), fun h => absurd h (by decide), fun h => absurd h (by decide)⟩, List.forall_mem_cons.mpr ⟨⟨fun h => absurd h (by decide), fun h => absurd h (by decide), fun h => absurd h (by decide)⟩, List.forall_mem_cons.mpr ⟨⟨fun h => absurd h (by decide), fun h => absurd h (by decide), fun h => absurd h (by decide)⟩, List.forall_mem_cons.mpr ⟨⟨fun h => absurd h (by decide), fun h => absurd h (by decide), fun h => absurd h (by decide)⟩, List.forall_mem_cons.mpr ⟨⟨fun h => absurd h (by decide), fun h => absurd h (by decide), fun h => absurd h (by decide)⟩, List.forall_mem_cons.mpr ⟨⟨fun h => absurd h (by decide), fun h => absurd h (by decide), fun h => absurd h (by decide)⟩, List.forall_mem_cons.mpr ⟨⟨fun h => absurd h (by decide), fun h => absurd h (by decide), fun h => absurd h (by decide)⟩, List.forall_mem_cons.mpr ⟨⟨fun h => absurd h (by decide), fun h => absurd h (by decide), fun h => absurd h (by decide)⟩, List.forall_mem_cons.mpr ⟨⟨fun h => absurd h (by decide), fun h => absurd h (by decide), fun h => absurd h (by decide)⟩, List.forall_mem_cons.mpr ⟨⟨fun h => absurd h (by decide), fun h => absurd h (by decide), fun h => absurd h (by decide)⟩, List.forall_mem_cons.mpr ⟨⟨fun h => absurd h (by decide), fun h => absurd h (by decide), fun h => absurd h (by decide)⟩, List.forall_mem_cons.mpr ⟨⟨fun h => absurd h (by decide), fun h => absurd h (by decide), fun h => absurd h (by decide)⟩, List.forall_mem_cons.mpr ⟨⟨fun h => absurd h (by decide), fun h => absurd h (by decide), fun h => absurd h (by decide)⟩, List.forall_mem_cons.mpr ⟨⟨fun h => absurd h (by decide), fun h => absurd h (by decide), fun h => absurd h (by decide)⟩, List.forall_mem_cons.mpr ⟨⟨fun h => absurd h (by decide), fun h => absurd h (by decide), fun h => absurd h (by decide)⟩, List.forall_mem_cons.mpr ⟨⟨fun h => absurd h (by decide), fun h => absurd h (by decide), fun h => absurd h (by decide)⟩, List.forall_mem_cons.mpr ⟨⟨fun h => absurd h (by decide), fun h => absurd h (by decide), fun h => absurd h (by decide)⟩, List.forall_mem_cons.mpr ⟨⟨fun h => absurd h (by decide), fun h => absurd h (by decide), fun h => absurd h (by decide)⟩, List.forall_mem_cons.mpr ⟨⟨fun h => absurd h (by decide), fun h => absurd h (by decide), fun h => absurd h (by decide)⟩, List.forall_mem_cons.mpr ⟨⟨fun h => absurd h (by decide), fun h => absurd h (by decide), fun h => absurd h (by decide)⟩, List.forall_mem_cons.mpr ⟨⟨fun h => absurd h (by decide), fun h => absurd h (by decide), fun h => absurd h (by decide)⟩, List.forall_mem_cons.mpr ⟨⟨fun h => absurd h (by decide), fun h => absurd h (by decide), fun h => absurd h (by decide)⟩, List.forall_mem_cons.mpr ⟨⟨fun h => absurd h (by decide), fun h => absurd h (by decide), fun h => absurd h (by decide)⟩, List.forall_mem_cons.mpr ⟨⟨fun h => absurd h (by decide), fun h => absurd h (by decide), fun h => absurd h (by decide)⟩, List.forall_mem_cons.mpr ⟨⟨fun h => absurd h (by decide), fun h => absurd h (by decide), fun h => absurd h (by decide)⟩, List.forall_mem_cons.mpr ⟨⟨fun h => absurd h (by decide), fun h => absurd h (by decide), fun h => absurd h (by decide)⟩, List.forall_mem_cons.mpr ⟨⟨fun h => absurd h (by decide), fun h => absurd h (by decide), fun h => absurd h (by decide)⟩, List.forall_mem_cons.mpr ⟨⟨fun h => absurd h (by decide), fun h => absurd h (by decide), fun h => absurd h (by decide)⟩, List.forall_mem_cons.mpr ⟨⟨fun h => absurd h (by decide), fun h => absurd h (by decide), fun h => absurd h (by decide)⟩, List.forall_mem_cons.mpr ⟨⟨fun h => absurd h (by decide), fun h => absurd h (by decide), fun h => absurd h (by decide)⟩, List.forall_mem_cons.mpr ⟨⟨fun h => absurd h (by decide), fun h => absurd h (by decide), fun h => absurd h (by decide)⟩, List.forall_mem_cons.mpr ⟨⟨fun h => absurd h (by decide), fun h => absurd h (by decide), fun h => absurd h (by decide)⟩, List.forall_mem_cons.mpr ⟨⟨fun h => absurd h (by decide), fun h => absurd h (by decide), fun h => absurd h (by decide)⟩, List.forall_mem_cons.mpr ⟨⟨fun h => absurd h (by decide), fun h => absurd h (by decide), fun h => absurd h (by decide)⟩, List.forall_mem_cons.mpr ⟨⟨fun h => absurd h (by decide), fun h => absurd h (by decide), fun h => absurd h (by decide)⟩, List.forall_mem_cons.mpr ⟨⟨fun h => absurd h (by decide), fun h => absurd h (by decide), fun h => absurd h (by decide)⟩, List.forall_mem_cons.mpr ⟨⟨fun h => absurd h (by decide), fun h => absurd h (by decide), fun h => absurd h (by decide)⟩, List.forall_mem_cons.mpr ⟨⟨fun h => absurd h (by decide), fun h => absurd h (by decide), fun h => absurd h (by decide)⟩, List.forall_mem_cons.mpr ⟨⟨fun h => absurd h (by decide), fun h => absurd h (by decide), fun h => absurd h (by decide)⟩, List.forall_mem_cons.mpr ⟨⟨fun h => absurd h (by decide), fun h => absurd h (by decide), fun h => absurd h (by decide)⟩, List.forall_mem_cons.mpr ⟨⟨fun h => absurd h (by decide), fun h => absurd h (by decide), fun h => absurd h (by decide)⟩, List.forall_mem_cons.mpr ⟨⟨fun h => absurd h (by decide), fun h => absurd h (by decide), fun h => absurd h (by decide)⟩, List.forall_mem_cons.mpr ⟨⟨fun h => absurd h (by decide), fun h => absurd h (by decide), fun h => absurd h (by decide)⟩, List.forall_mem_cons.mpr ⟨⟨fun h => absurd h (by decide), fun h => absurd h (by decide), fun h => absurd h (by decide)⟩, List.forall_mem_cons.mpr ⟨⟨fun h => absurd h (by decide), fun h => absurd h (by decide), fun h => absurd h (by decide)⟩, List.forall_mem_cons.mpr ⟨⟨fun h => absurd h (by decide), fun h => absurd h (by decide), fun h => absurd h (by decide)⟩, List.forall_mem_cons.mpr ⟨⟨fun h => absurd h (by decide), fun h => absurd h (by decide), fun h => absurd h (by decide)⟩, List.forall_mem_cons.mpr ⟨⟨fun h => absurd h (by decide), fun h => absurd h (by decide), fun h => absurd h (by decide)⟩, List.forall_mem_cons.mpr ⟨⟨fun h => absurd h (by decide), fun h => absurd h (by decide), fun h => absurd h (by decide)⟩, List.forall_mem_cons.mpr ⟨⟨fun h => absurd h (by decide), fun h => absurd h (by decide), fun h => absurd h (by decide)⟩, List.forall_mem_cons.mpr ⟨⟨fun h => absurd h (by decide), fun h => absurd h (by decide), fun h => absurd h (by decide)⟩, List.forall_mem_cons.mpr ⟨⟨fun h => absurd h (by decide), fun h => absurd h (by decide), fun h => absurd h (by decide)⟩, List.forall_mem_cons.mpr ⟨⟨fun h => absurd h (by decide), fun h => absurd h (by decide), fun h => absurd h (by decide)⟩, List.forall_mem_cons.mpr ⟨⟨fun h => absurd h (by decide), fun h => absurd h (by decide), fun h => absurd h (by decide)⟩, List.forall_mem_cons.mpr ⟨⟨fun h => absurd h (by decide), fun h => absurd h (by decide), fun h => absurd h (by decide)⟩, List.forall_mem_cons.mpr ⟨⟨fun h => absurd h (by decide), fun h => absurd h (by decide), fun h => absurd h (by decide)⟩, List.forall_mem_cons.mpr ⟨⟨fun h => absurd h (by decide), fun h => absurd h (by decide), fun h => absurd h (by decide)⟩, List.forall_mem_cons.mpr ⟨⟨fun h => absurd h (by decide), fun h => absurd h (by decide), fun h => absurd h (by decide)⟩, List.forall_mem_cons.mpr ⟨⟨fun h => absurd h (by decide), fun h => absurd h (by decide), fun h => absurd h (by decide)⟩, List.forall_mem_cons.mpr ⟨⟨fun h => absurd h (by decide), fun h => absurd h (by decide), fun h => absurd h (by decide)⟩, fun _ h => absurd h List.not_mem_nil⟩⟩⟩⟩⟩⟩⟩⟩⟩⟩⟩⟩⟩⟩⟩⟩⟩⟩⟩⟩⟩⟩⟩⟩⟩⟩⟩⟩⟩⟩⟩⟩⟩⟩⟩⟩⟩⟩⟩⟩⟩⟩⟩⟩⟩⟩⟩⟩⟩⟩⟩⟩⟩⟩⟩⟩⟩⟩⟩⟩
theorem hv_fM_1 : ∀ e ∈ hv_mls.getD 1 [], hv_fM 1 e.1 e.2 := List.forall_mem_cons.mpr ⟨⟨fun h => absurd h (by decide), fun h => absurd h (by decide), fun h => absurd h (by decide)⟩, List.forall_mem_cons.mpr ⟨⟨fun h => absurd h (by decide), fun h => absurd h (by decide), fun h => absurd h (by decide)⟩, List.forall_mem_cons.mpr ⟨⟨fun h => absurd h (by decide), fun h => absurd h (by decide), fun h => absurd h (by decide)⟩, List.forall_mem_cons.mpr ⟨⟨fun h => absurd h (by decide), fun h => absurd h (by decide), fun h => absurd h (by decide)⟩, List.forall_mem_cons.mpr ⟨⟨fun h => absurd h (by decide), fun h => absurd h (by decide), fun h => absurd h (by decide)⟩, List.forall_mem_cons.mpr ⟨⟨fun h => absurd h (by decide), fun h => absurd h (by decide), fun h => absurd h (by decide)⟩, List.forall_mem_cons.mpr ⟨⟨fun h => absurd h (by decide), fun h => absurd h (by decide), fun h => absurd h (by decide)⟩, List.forall_mem_cons.mpr ⟨⟨fun h => absurd h (by decide), fun h => absurd h (by decide), fun h => absurd h (by decide)⟩, List.forall_mem_cons.mpr ⟨⟨fun h => absurd h (by decide), fun h => absurd h (by decide), fun h => absurd h (by decide)⟩, List.forall_mem_cons.mpr ⟨⟨fun h => absurd h (by decide), fun h => absurd h (by decide), fun h => absurd h (by decide)⟩, List.forall_mem_cons.mpr ⟨⟨fun _ => lw_g (lw_at lw_m1 57 rfl) rfl, fun h => absurd h (by decide), fun h => absurd h (by decide)⟩, List.forall_mem_cons.mpr ⟨⟨fun h => absurd h (by decide), fun h => absurd h (by decide), fun h => absurd h (by decide)⟩, List.forall_mem_cons.mpr ⟨⟨fun h => absurd h (by decide), fun h => absurd h (by decide), fun h => absurd h (by decide)⟩, List.forall_mem_cons.mpr ⟨⟨fun h => absurd h (by decide), fun h => absurd h (by decide), fun h => absurd h (by decide)⟩, List.forall_mem_cons.mpr ⟨⟨fun h => absurd h (by decide), fun h => absurd h (by decide), fun h => absurd h (by decide)⟩, List.forall_mem_cons.mpr ⟨⟨fun h => absurd h (by decide), fun h => absurd h (by decide), fun h => absurd h (by decide)⟩, List.forall_mem_cons.mpr ⟨⟨fun h => absurd h (by decide), fun h => absurd h (by decide), fun h => absurd h (by decide)⟩, List.forall_mem_cons.mpr ⟨⟨fun h => absurd h (by decide), fun h => absurd h (by decide), fun h => absurd h (by decide)⟩, List.forall_mem_cons.mpr ⟨⟨fun h => absurd h (by decide), fun h => absurd h (by decide), fun h => absurd h (by decide)⟩, List.forall_mem_cons.mpr ⟨⟨fun h => absurd h (by decide), fun h => absurd h (by decide), fun h => absurd h (by decide)⟩, List.forall_mem_cons.mpr ⟨⟨fun h => absurd h (by decide), fun h => absurd h (by decide), fun h => absurd h (by decide)⟩, List.forall_mem_cons.mpr ⟨⟨fun h => absurd h (by decide), fun h => absurd h (by decide), fun h => absurd h (by decide)⟩, List.forall_mem_cons.mpr ⟨⟨fun h => absurd h (by decide), fun h => absurd h (by decide), fun h => absurd h (by decide)⟩, List.forall_mem_cons.mpr ⟨⟨fun h => absurd h (by decide), fun h => absurd h (by decide), fun h => absurd h (by decide)⟩, List.forall_mem_cons.mpr ⟨⟨fun h => absurd h (by decide), fun h => absurd h (by decide), fun h => absurd h (by decide)⟩, List.forall_mem_cons.mpr ⟨⟨fun h => absurd h (by decide), fun h => absurd h (by decide), fun h => absurd h (by decide)⟩, List.forall_mem_cons.mpr ⟨⟨fun h => absurd h (by decide), fun h => absurd h (by decide), fun h => absurd h (by decide)⟩, List.forall_mem_cons.mpr ⟨⟨fun h => absurd h (by decide), fun h => absurd h (by decide), fun h => absurd h (by decide)⟩, List.forall_mem_cons.mpr ⟨⟨fun h => absurd h (by decide), fun h => absurd h (by decide), fun h => absurd h (by decide)⟩, List.forall_mem_cons.mpr ⟨⟨fun h => absurd h (by decide), fun h => absurd h (by decide), fun h => absurd h (by decide)⟩, List.forall_mem_cons.mpr ⟨⟨fun h => absurd h (by decide), fun h => absurd h (by decide), fun h => absurd h (by decide)⟩, List.forall_mem_cons.mpr ⟨⟨fun h => absurd h (by decide), fun h => absurd h (by decide), fun h => absurd h (by decide)⟩, List.forall_mem_cons.mpr ⟨⟨fun h => absurd h (by decide), fun h => absurd h (by decide), fun h => absurd h (by decide)⟩, List.forall_mem_cons.mpr ⟨⟨fun h => absurd h (by decide), fun h => absurd h (by decide), fun h => absurd h (by decide)⟩, List.forall_mem_cons.mpr ⟨⟨fun h => absurd h (by decide), fun h => absurd h (by decide), fun h => absurd h (by decide)⟩, List.forall_mem_cons.mpr ⟨⟨fun h => absurd h (by decide), fun h => absurd h (by decide), fun h => absurd h (by decide)⟩, List.forall_mem_cons.mpr ⟨⟨fun h => absurd h (by decide), fun h => absurd h (by decide), fun h => absurd h (by decide)⟩, List.forall_mem_cons.mpr ⟨⟨fun h => absurd h (by decide), fun h => absurd h (by decide), fun h => absurd h (by decide)⟩, List.forall_mem_cons.mpr ⟨⟨fun h => absurd h (by decide), fun h => absurd h (by decide), fun h => absurd h (by decide)⟩, List.forall_mem_cons.mpr ⟨⟨fun h => absurd h (by decide), fun h => absurd h (by decide), fun h => absurd h (by decide)⟩, List.forall_mem_cons.mpr ⟨⟨fun h => absurd h (by decide), fun h => absurd h (by decide), fun h => absurd h (by decide)⟩, List.forall_mem_cons.mpr ⟨⟨fun h => absurd h (by decide), fun h => absurd h (by decide), fun h => absurd h (by decide)⟩, List.forall_mem_cons.mpr ⟨⟨fun h => absurd h (by decide), fun h => absurd h (by decide), fun h => absurd h (by decide)⟩, List.forall_mem_cons.mpr ⟨⟨fun h => absurd h (by decide), fun h => absurd h (by decide), fun h => absurd h (by decide)⟩, List.forall_mem_cons.mpr ⟨⟨fun h => absurd h (by decide), fun h => absurd h (by decide), fun h => absurd h (by decide)⟩, List.forall_mem_cons.mpr ⟨⟨fun h => absurd h (by decide), fun h => absurd h (by decide), fun h => absurd h (by decide)⟩, List.forall_mem_cons.mpr ⟨⟨fun h => absurd h (by decide), fun h => absurd h (by decide), fun h => absurd h (by decide)⟩, List.forall_mem_cons.mpr ⟨⟨fun h => absurd h (by decide), fun h => absurd h (by decide), fun h => absurd h (by decide)⟩, List.forall_mem_cons.mpr ⟨⟨fun h => absurd h (by decide), fun h => absurd h (by decide), fun h => absurd h (by decide)⟩, List.forall_mem_cons.mpr ⟨⟨fun h => absurd h (by decide), fun h => absurd h (by decide), fun h => absurd h (by decide)⟩, List.forall_mem_cons.mpr ⟨⟨fun h => absurd h (by decide), fun h => absurd h (by decide), fun h => absurd h (by decide)⟩, List.forall_mem_cons.mpr ⟨⟨fun h => absurd h (by decide), fun h => absurd h (by decide), fun h => absurd h (by decide)⟩, List.forall_mem_cons.mpr ⟨⟨fun h => absurd h (by decide), fun h => absurd h (by decide), fun h => absurd h (by decide)⟩, List.forall_mem_cons.mpr ⟨⟨fun h => absurd h (by decide), fun h => absurd h (by decide), fun h => absurd h (by decide)⟩, List.forall_mem_cons.mpr ⟨⟨fun h => absurd h (by decide), fun h => absurd h (by decide), fun h => absurd h (by decide)⟩, List.forall_mem_cons.mpr ⟨⟨fun h => absurd h (by decide), fun h => absurd h (by decide), fun h => absurd h (by decide)⟩, List.forall_mem_cons.mpr ⟨⟨fun h => absurd h (by decide), fun h => absurd h (by decide), fun h => absurd h (by decide)⟩, List.forall_mem_cons.mpr ⟨⟨fun h => absurd h (by decide), fun h => absurd h (by decide), fun h => absurd h (by decide)⟩, List.forall_mem_cons.mpr ⟨⟨fun h => absurd h (by decide), fun h => absurd h (by decide), fun h => absurd h (by decide)⟩, List.forall_mem_cons.mpr ⟨⟨fun h => absurd h (by decide), fun h => absurd h (by decide), fun h => absurd h (by decide)⟩, List.forall_mem_cons.mpr ⟨⟨fun h => absurd h (by decide), fun h => absurd h (by decide), fun h => absurd h (by decide)⟩, List.forall_mem_cons.mpr ⟨⟨fun h => absurd h (by decide), fun h => absurd h (by decide), fun h => absurd h (by decide)⟩, List.forall_mem_cons.mpr ⟨⟨fun h => absurd h (by decide), fun h => absurd h (by decide), fun h => absurd h (by decide)⟩, List.forall_mem_cons.mpr ⟨⟨fun h => absurd h (by decide), fun h => absurd h (by decide), fun h => absurd h (by decide)⟩, List.forall_mem_cons.mpr ⟨⟨fun h => absurd h (by decide), fun h => absurd h (by decide), fun h => absurd h (by decide)⟩, List.forall_mem_cons.mpr ⟨⟨fun h => absurd h (by decide), fun h => absurd h (by decide), fun h => absurd h (by decide)⟩, List.forall_mem_cons.mpr ⟨⟨fun h => absurd h (by decide), fun h => absurd h (by decide), fun h => absurd h (by decide)⟩, List.forall_mem_cons.mpr ⟨⟨fun h => absurd h (by decide), fun h => absurd h (by decide), fun h => absurd h (by decide)⟩, List.forall_mem_cons.mpr ⟨⟨fun h => absurd h (by decide), fun h => absurd h (by decide), fun h => absurd h (by decide)⟩, List.forall_mem_cons.mpr ⟨⟨fun h => absurd h (by decide), fun h => absurd h (by decide), fun h => absurd h (by decide)⟩, List.forall_mem_cons.mpr ⟨⟨fun h => absurd h (by decide), fun h => absurd h (by decide), fun h => absurd h (by decide)⟩, List.forall_mem_cons.mpr ⟨⟨fun h => absurd h (by decide), fun h => absurd h (by decide), fun h => absurd h (by decide)⟩, List.forall_mem_cons.mpr ⟨⟨fun h => absurd h (by decide), fun h => absurd h (by decide), fun h => absurd h (by decide)⟩, List.forall_mem_cons.mpr ⟨⟨fun h => absurd h (by decide), fun h => absurd h (by decide), fun h => absurd h (by decide)⟩, List.forall_mem_cons.mpr ⟨⟨fun h => absurd h (by decide), fun h => absurd h (by decide), fun h => absurd h (by decide)⟩, List.forall_mem_cons.mpr ⟨⟨fun h => absurd h (by decide), fun h => absurd h (by decide), fun h => absurd h (by decide)⟩, List.forall_mem_cons.mpr ⟨⟨fun h => absurd h (by decide), fun h => absurd h (by decide), fun h => absurd h (by decide)⟩, List.forall_mem_cons.mpr ⟨⟨fun h => absurd h (by decide), fun h => absurd h (by decide), fun h => absurd h (by decide)⟩, List.forall_mem_cons.mpr ⟨⟨fun h => absurd h (by decide), fun h => absurd h (by decide), fun h => absurd h (by decide)⟩, List.forall_mem_cons.mpr ⟨⟨fun h => absurd h (by decide), fun h => absurd h (by decide), fun h => absurd h (by decide)⟩, List.forall_mem_cons.mpr ⟨⟨fun h => absurd h (by decide), fun h => absurd h (by decide), fun h => absurd h (by decide)⟩, List.forall_mem_cons.mpr ⟨⟨fun h => absurd h (by decide), fun h => absurd h (by decide), fun h => absurd h (by decide)⟩, List.forall_mem_cons.mpr ⟨⟨fun h => absurd h (by decide), fun h => absurd h (by decide), fun h => absurd h (by decide)⟩, List.forall_mem_cons.mpr ⟨⟨fun h => absurd h (by decide), fun h => absurd h (by decide), fun h => absurd h (by decide)⟩, List.forall_mem_cons.mpr ⟨⟨fun h => absurd h (by decide), fun h => absurd h (by decide), fun h => absurd h (by decide)⟩, List.forall_mem_cons.mpr ⟨⟨fun h => absurd h (by decide), fun h => absurd h (by decide), fun h => absurd h (by decide)⟩, List.forall_mem_cons.mpr ⟨⟨fun h => absurd h (by decide), fun h => absurd h (by decide), fun h => absurd h (by decide)⟩, List.forall_mem_cons.mpr ⟨⟨fun h => absurd h (by decide), fun h => absurd h (by decide), fun h => absurd h (by decide)⟩, List.forall_mem_cons.mpr ⟨⟨fun h => absurd h (by decide), fun h => absurd h (by decide), fun h => absurd h (by decide)⟩, List.forall_mem_cons.mpr ⟨⟨fun h => absurd h (by decide), fun h => absurd h (by decide), fun h => absurd h (by decide)⟩, List.forall_mem_cons.mpr ⟨⟨fun h => absurd h (by decide), fun h => absurd h (by decide), fun h => absurd h (by decide)⟩, List.forall_mem_cons.mpr ⟨⟨fun h => absurd h (by decide), fun h => absurd h (by decide), fun h => absurd h (by decide)⟩, List.forall_mem_cons.mpr ⟨⟨fun h => absurd h (by decide), fun h => absurd h (by decide), fun h => absurd h (by decide)⟩, List.forall_mem_cons.mpr ⟨⟨fun h => absurd h (by decide), fun h => absurd h (by decide), fun h => absurd h (by decide)⟩, List.forall_mem_cons.mpr ⟨⟨fun h => absurd h (by decide), fun h => absurd h (by decide), fun h => absurd h (by decide)⟩, List.forall_mem_cons.mpr ⟨⟨fun h => absurd h (by decide), fun h => absurd h (by decide), fun h => absurd h (by decide)⟩, List.forall_mem_cons.mpr ⟨⟨fun h => absurd h (by decide), fun h => absurd h (by decide), fun h => absurd h (by decide)⟩, List.forall_mem_cons.mpr ⟨⟨fun h => absurd h (by decide), fun h => absurd h (by decide), fun h => absurd h (by decide)⟩, List.forall_mem_cons.mpr ⟨⟨fun h => absurd h (by decide), fun h => absurd h (by decide), fun h => absurd h (by decide)⟩, List.forall_mem_cons.mpr ⟨⟨fun h => absurd h (by decide), fun h => absurd h (by decide), fun h => absurd h (by decide)⟩, List.forall_mem_cons.mpr ⟨⟨fun h => absurd h (by decide), fun h => absurd h (by decide), fun h => absurd h (by decide)⟩, List.forall_mem_cons.mpr ⟨⟨fun h => absurd h (by decide), fun h => absurd h (by decide), fun h => absurd h (by decide)⟩, List.forall_mem_cons.mpr ⟨⟨fun h => absurd h (by decide), fun h => absurd h (by decide), fun h => absurd h (by decide)⟩, List.forall_mem_cons.mpr ⟨⟨fun h => absurd h (by decide), fun h => absurd h (by decide), fun h => absurd h (by decide)⟩, List.forall_mem_cons.mpr ⟨⟨fun h => absurd h (by decide), fun h => absurd h (by decide), fun h => absurd h (by decide)⟩, List.forall_mem_cons.mpr ⟨⟨fun h => absurd h (by decide), fun h => absurd h (by decide), fun h => absurd h (by decide)⟩, List.forall_mem_cons.mpr ⟨⟨fun h => absurd h (by decide), fun h => absurd h (by decide), fun h => absurd h (by decide)⟩, List.forall_mem_cons.mpr ⟨⟨fun h => absurd h (by decide), fun h => absurd h (by decide), fun h => absurd h (by decide)⟩, List.forall_mem_cons.mpr ⟨⟨fun h => absurd h (by decide), fun h => absurd h (by decide), fun h => absurd h (by decide)⟩, fun _ h => absurd h List.not_mem_nil⟩⟩⟩⟩⟩⟩⟩⟩⟩⟩⟩⟩⟩⟩⟩⟩⟩⟩⟩⟩⟩⟩⟩⟩⟩⟩⟩⟩⟩⟩⟩⟩⟩⟩⟩⟩⟩⟩⟩⟩⟩⟩⟩⟩⟩⟩⟩⟩⟩⟩⟩⟩⟩⟩⟩⟩⟩⟩⟩⟩⟩⟩⟩⟩⟩⟩⟩⟩⟩⟩⟩⟩⟩⟩⟩⟩⟩⟩⟩⟩⟩⟩⟩⟩⟩⟩⟩⟩⟩⟩⟩⟩⟩⟩⟩⟩⟩⟩⟩⟩⟩⟩⟩⟩⟩⟩⟩⟩⟩
theorem hv_fM_2 : ∀ e ∈ hv_mls.getD 2 [], hv_fM 2 e.1 e.2 := List.forall_mem_cons.mpr ⟨⟨fun h => absurd h (by decide), fun h => absurd h (by decide), fun h => absurd h (by decide)⟩, List.forall_mem_cons.mpr ⟨⟨fun h => absurd h (by decide), fun h => absurd h (by decide), fun h => absurd h (by decide)⟩, fun _ h => absurd h List.not_mem_nil⟩⟩
theorem hv_fM_3 : ∀ e ∈ hv_mls.getD 3 [], hv_fM 3 e.1 e.2 := List.forall_mem_cons.mpr ⟨⟨fun _ => lw_g (lw_at lw_m1 73 rfl) rfl, fun h => absurd h (by decide), fun h => absurd h (by decide)⟩, fun _ h => absurd h List.not_mem_nil⟩
theorem hv_fM_4 : ∀ e ∈ hv_mls.getD 4 [], hv_fM 4 e.1 e.2 := List.forall_mem_cons.mpr ⟨⟨fun h => absurd h (by decide), fun h => absurd h (by decide), fun h => absurd h (by decide)⟩, List.forall_mem_cons.mpr ⟨⟨fun h => absurd h (by decide), fun h => absurd h (by decide), fun h => absurd h (by decide)⟩, fun _ h => absurd h List.not_mem_nil⟩⟩
theorem hv_fM_5 : ∀ e ∈ hv_mls.getD 5 [], hv_fM 5 e.1 e.2 := List.forall_mem_cons.mpr ⟨⟨fun h => absurd h (by decide), fun h => absurd h (by decide), fun h => absurd h (by decide)⟩, List.forall_mem_cons.mpr ⟨⟨fun h => absurd h (by decide), fun h => absurd h (by decide), fun h => absurd h (by decide)⟩, fun _ h => absurd h List.not_mem_nil⟩⟩
theorem hv_fM_6 : ∀ e ∈ hv_mls.getD 6 [], hv_fM 6 e.1 e.2 := List.forall_mem_cons.mpr ⟨⟨fun h => absurd h (by decide), fun h => absurd h (by decide), fun h => absurd h (by decide)⟩, fun _ h => absurd h List.not_mem_nil⟩
theorem hv_fM_7 : ∀ e ∈ hv_mls.getD 7 [], hv_fM 7 e.1 e.2 := List.forall_mem_cons.mpr ⟨⟨fun h => absurd h (by decide), fun h => absurd h (by decide), fun h => absurd h (by decide)⟩, fun _ h => absurd h List.not_mem_nil⟩
theorem hv_fM_8 : ∀ e ∈ hv_mls.getD 8 [], hv_fM 8 e.1 e.2 := List.forall_mem_cons.mpr ⟨⟨fun _ => lw_g (lw_at lw_m1 111 rfl) rfl, fun h => absurd h (by decide), fun h => absurd h (by decide)⟩, List.forall_mem_cons.mpr ⟨⟨fun h => absurd h (by decide), fun h => absurd h (by decide), fun _ => lw_g (lw_at lw_m4 28 rfl) rfl⟩, List.forall_mem_cons.mpr ⟨⟨fun h => absurd h (by decide), fun h => absurd h (by decide), fun h => absurd h (by decide)⟩, List.forall_mem_cons.mpr ⟨⟨fun h => absurd h (by decide), fun h => absurd h (by decide), fun h => absurd h (by decide)⟩, List.forall_mem_cons.mpr ⟨⟨fun h => absurd h (by decide), fun h => absurd h (by decide), fun h => absurd h (by decide)⟩, List.forall_mem_cons.mpr ⟨⟨fun h => absurd h (by decide), fun h => absurd h (by decide), fun h => absurd h (by decide)⟩, List.forall_mem_cons.mpr ⟨⟨fun h => absurd h (by decide), fun h => absurd h (by decide), fun h => absurd h (by decide)⟩, List.forall_mem_cons.mpr ⟨⟨fun h => absurd h (by decide), fun h => absurd h (by decide), fun h => absurd h (by decide)⟩, fun _ h => absurd h List.not_mem_nil⟩⟩⟩⟩⟩⟩⟩⟩
theorem hv_fM_9 : ∀ e ∈ hv_mls.getD 9 [], hv_fM 9 e.1 e.2 := List.forall_mem_cons.mpr ⟨⟨fun _ => lw_g (lw_at lw_m1 167 rfl) rfl, fun h => absurd h (by decide), fun h => absurd h (by decide)⟩, List.forall_mem_cons.mpr ⟨⟨fun h => absurd h (by decide), fun h => absurd h (by decide), fun h => absurd h (by decide)⟩, List.forall_mem_cons.mpr ⟨⟨fun h => absurd h (by decide), fun h => absurd h (by decide), fun h => absurd h (by decide)⟩, List.forall_mem_cons.mpr ⟨⟨fun h => absurd h (by decide), fun h => absurd h (by decide), fun h => absurd h (by decide)⟩, List.forall_mem_cons.mpr ⟨⟨fun h => absurd h (by decide), fun h => absurd h (by decide), fun h => absurd h (by decide)⟩, List.forall_mem_cons.mpr ⟨⟨fun h => absurd h (by decide), fun h => absurd h (by decide), fun h => absurd h (by decide)⟩, List.forall_mem_cons.mpr ⟨⟨fun h => absurd h (by decide), fun h => absurd h (by decide), fun h => absurd h (by decide)⟩, List.forall_mem_cons.mpr ⟨⟨fun h => absurd h (by decide), fun h => absurd h (by decide), fun h => absurd h (by decide)⟩, List.forall_mem_cons.mpr ⟨⟨fun h => absurd h (by decide), fun h => absurd h (by decide), fun h => absurd h (by decide)⟩, List.forall_mem_cons.mpr ⟨⟨fun h => absurd h (by decide), fun h => absurd h (by decide), fun h => absurd h (by decide)⟩, List.forall_mem_cons.mpr ⟨⟨fun h => absurd h (by decide), fun h => absurd h (by decide), fun h => absurd h (by decide)⟩, List.forall_mem_cons.mpr ⟨⟨fun h => absurd h (by decide), fun h => absurd h (by decide), fun h => absurd h (by decide)⟩, List.forall_mem_cons.mpr ⟨⟨fun h => absurd h (by decide), fun h => absurd h (by decide), fun h => absurd h (by decide)⟩, List.forall_mem_cons.mpr ⟨⟨fun h => absurd h (by decide), fun h => absurd h (by decide), fun h => absurd h (by decide)⟩, List.forall_mem_cons.mpr ⟨⟨fun h => absurd h (by decide), fun h => absurd h (by decide), fun h => absurd h (by decide)⟩, List.forall_mem_cons.mpr ⟨⟨fun h => absurd h (by decide), fun h => absurd h (by decide), fun h => absurd h (by decide)⟩, List.forall_mem_cons.mpr ⟨⟨fun h => absurd h (by decide), fun h => absurd h (by decide), fun h => absurd h (by decide)⟩, List.forall_mem_cons.mpr ⟨⟨fun h => absurd h (by decide), fun h => absurd h (by decide), fun h => absurd h (by decide)⟩, List.forall_mem_cons.mpr ⟨⟨fun h => absurd h (by decide), fun h => absurd h (by decide), fun h => absurd h (by decide)⟩, fun _ h => absurd h List.not_mem_nil⟩⟩⟩⟩⟩⟩⟩⟩⟩⟩⟩⟩⟩⟩⟩⟩⟩⟩⟩
theorem hv_fM_10 : ∀ e ∈ hv_mls.getD 10 [], hv_fM 10 e.1 e.2 := List.forall_mem_cons.mpr ⟨⟨fun h => absurd h (by decide), fun h => absurd h (by decide), fun h => absurd h (by decide)⟩, List.forall_mem_cons.mpr ⟨⟨fun h => absurd h (by decide), fun h => absurd h (by decide), fun h => absurd h (by decide)⟩, List.forall_mem_cons.mpr ⟨⟨fun h => absurd h (by decide), fun h => absurd h (by decide), fun h => absurd h (by decide)⟩, List.forall_mem_cons.mpr ⟨⟨fun h => absurd h (by decide), fun h => absurd h (by decide), fun h => absurd h (by decide)⟩, List.forall_mem_cons.mpr ⟨⟨fun h => absurd h (by decide), fun h => absurd h (by decide), fun h => absurd h (by decide)⟩, List.forall_mem_cons.mpr ⟨⟨fun h => absurd h (by decide), fun h => absurd h (by decide), fun h => absurd h (by decide)⟩, List.forall_mem_cons.mpr ⟨⟨fun h => absurd h (by decide), fun h => absurd h (by decide), fun h => absurd h (by decide)⟩, fun _ h => absurd h List.not_mem_nil⟩⟩⟩⟩⟩⟩⟩
theorem hv_fM_11 : ∀ e ∈ hv_mls.getD 11 [], hv_fM 11 e.1 e.2 := List.forall_mem_cons.mpr ⟨⟨fun h => absurd h (by decide), fun h => absurd h (by decide), fun h => absurd h (by decide)⟩, fun _ h => absurd h List.not_mem_nil⟩
theorem hv_fM_12 : ∀ e ∈ hv_mls.getD 12 [], hv_fM 12 e.1 e.2 := List.forall_mem_cons.mpr ⟨⟨fun _ => lw_g (lw_at lw_m1 184 rfl) rfl, fun h => absurd h (by decide), fun h => absurd h (by decide)⟩, List.forall_mem_cons.mpr ⟨⟨fun h => absurd h (by decide), fun h => absurd h (by decide), fun h => absurd h (by decide)⟩, fun _ h => absurd h List.not_mem_nil⟩⟩
theorem hv_fM_13 : ∀ e ∈ hv_mls.getD 13 [], hv_fM 13 e.1 e.2 := List.forall_mem_cons.mpr ⟨⟨fun _ => lw_g (lw_at lw_m1 204 rfl) rfl, fun h => absurd h (by decide), fun h => absurd h (by decide)⟩, List.forall_mem_cons.mpr ⟨⟨fun h => absurd h (by decide), fun h => absurd h (by decide), fun h => absurd h (by decide)⟩, List.forall_mem_cons.mpr ⟨⟨fun h => absurd h (by decide), fun h => absurd h (by decide), fun h => absurd h (by decide)⟩, fun _ h => absurd h List.not_mem_nil⟩⟩⟩
theorem hv_fM_14 : ∀ e ∈ hv_mls.getD 14 [], hv_fM 14 e.1 e.2 := List.forall_mem_cons.mpr ⟨⟨fun _ => lw_g (lw_at lw_m2 29 rfl) rfl, fun h => absurd h (by decide), fun h => absurd h (by decide)⟩, List.forall_mem_cons.mpr ⟨⟨fun h => absurd h (by decide), fun h => absurd h (by decide), fun h => absurd h (by decide)⟩, List.forall_mem_cons.mpr ⟨⟨fun h => absurd h (by decide), fun h => absurd h (by decide), fun h => absurd h (by decide)⟩, List.forall_mem_cons.mpr ⟨⟨fun h => absurd h (by decide), fun h => absurd h (by decide), fun h => absurd h (by decide)⟩, List.forall_mem_cons.mpr ⟨⟨fun h => absurd h (by decide), fun h => absurd h (by decide), fun h => absurd h (by decide)⟩, List.forall_mem_cons.mpr ⟨⟨fun h => absurd h (by decide), fun h => absurd h (by decide), fun h => absurd h (by decide)⟩, List.forall_mem_cons.mpr ⟨⟨fun h => absurd h (by decide), fun h => absurd h (by decide), fun h => absurd h (by decide)⟩, List.forall_mem_cons.mpr ⟨⟨fun h => absurd h (by decide), fun h => absurd h (by decide), fun h => absurd h (by decide)⟩, fun _ h => absurd h List.not_mem_nil⟩⟩⟩⟩⟩⟩⟩⟩
theorem hv_fM_15 : ∀ e ∈ hv_mls.getD 15 [], hv_fM 15 e.1 e.2 := List.forall_mem_cons.mpr ⟨⟨fun _ => lw_g (lw_at lw_m2 50 rfl) rfl, fun h => absurd h (by decide), fun h => absurd h (by decide)⟩, List.forall_mem_cons.mpr ⟨⟨fun h => absurd h (by decide), fun h => absurd h (by decide), fun h => absurd h (by decide)⟩, List.forall_mem_cons.mpr ⟨⟨fun h => absurd h (by decide), fun h => absurd h (by decide), fun h => absurd h (by decide)⟩, List.forall_mem_cons.mpr ⟨⟨fun h => absurd h (by decide), fun h => absurd h (by decide), fun h => absurd h (by decide)⟩, List.forall_mem_cons.mpr ⟨⟨fun h => absurd h (by decide), fun h => absurd h (by decide), fun h => absurd h (by decide)⟩, List.forall_mem_cons.mpr ⟨⟨fun h => absurd h (by decide), fun h => absurd h (by decide), fun h => absurd h (by decide)⟩, List.forall_mem_cons.mpr ⟨⟨fun h => absurd h (by decide), fun h => absurd h (by decide), fun h => absurd h (by decide)⟩, List.forall_mem_cons.mpr ⟨⟨fun h => absurd h (by decide), fun h => absurd h (by decide), fun h => absurd h (by decide)⟩, List.forall_mem_cons.mpr ⟨⟨fun h => absurd h (by decide), fun h => absurd h (by decide), fun h => absurd h (by decide)⟩, List.forall_mem_cons.mpr ⟨⟨fun h => absurd h (by decide), fun h => absurd h (by decide), fun h => absurd h (by decide)⟩, List.forall_mem_cons.mpr ⟨⟨fun h => absurd h (by decide), fun h => absurd h (by decide), fun h => absurd h (by decide)⟩, List.forall_mem_cons.mpr ⟨⟨fun h => absurd h (by decide), fun h => absurd h (by decide), fun h => absurd h (by decide)⟩, List.forall_mem_cons.mpr ⟨⟨fun h => absurd h (by decide), fun h => absurd h (by decide), fun h => absurd h (by decide)⟩, List.forall_mem_cons.mpr ⟨⟨fun h => absurd h (by decide), fun h => absurd h (by decide), fun h => absurd h (by decide)⟩, List.forall_mem_cons.mpr ⟨⟨fun h => absurd h (by decide), fun h => absurd h (by decide), fun h => absurd h (by decide)⟩, List.forall_mem_cons.mpr ⟨⟨fun h => absurd h (by decide), fun h => absurd h (by decide), fun h => absurd h (by decide)⟩, List.forall_mem_cons.mpr ⟨⟨fun h => absurd h (by decide), fun h => absurd h (by decide), fun h => absurd h (by decide)⟩, fun _ h => absurd h List.not_mem_nil⟩⟩⟩⟩⟩⟩⟩⟩⟩⟩⟩⟩⟩⟩⟩⟩⟩
theorem hv_fM_16 : ∀ e ∈ hv_mls.getD 16 [], hv_fM 16 e.1 e.2 := List.forall_mem_cons.mpr ⟨⟨fun _ => lw_g (lw_at lw_m2 60 rfl) rfl, fun h => absurd h (by decide), fun h => absurd h (by decide)⟩, List.forall_mem_cons.mpr ⟨⟨fun h => absurd h (by decide), fun h => absurd h (by decide), fun h => absurd h (by decide)⟩, List.forall_mem_cons.mpr ⟨⟨fun h => absurd h (by decide), fun h => absurd h (by decide), fun h => absurd h (by decide)⟩, List.forall_mem_cons.mpr ⟨⟨fun h => absurd h (by decide), fun h => absurd h (by decide), fun h => absurd h (by decide)⟩, fun _ h => absurd h List.not_mem_nil⟩⟩⟩⟩
theorem hv_fM_17 : ∀ e ∈ hv_mls.getD 17 [], hv_fM 17 e.1 e.2 := List.forall_mem_cons.mpr ⟨⟨fun h => absurd h (by decide), fun h => absurd h (by decide), fun h => absurd h (by decide)⟩, List.forall_mem_cons.mpr ⟨⟨fun h => absurd h (by decide), fun h => absurd h (by decide), fun h => absurd h (by decide)⟩, List.forall_mem_cons.mpr ⟨⟨fun h => absurd h (by decide), fun h => absurd h (by decide), fun h => absurd h (by decide)⟩, List.forall_mem_cons.mpr ⟨⟨fun h => absurd h (by decide), fun h => absurd h (by decide), fun h => absurd h (by decide)⟩, List.forall_mem_cons.mpr ⟨⟨fun h => absurd h (by decide), fun h => absurd h (by decide), fun h => absurd h (by decide)⟩, List.forall_mem_cons.mpr ⟨⟨fun h => absurd h (by decide), fun h => absurd h (by decide), fun h => absurd h (by decide)⟩, List.forall_mem_cons.mpr ⟨⟨fun h => absurd h (by decide), fun h => absurd h (by decide), fun h => absurd h (by decide)⟩, List.forall_mem_cons.mpr ⟨⟨fun h => absurd h (by decide), fun h => absurd h (by decide), fun h => absurd h (by decide)⟩, List.forall_mem_cons.mpr ⟨⟨fun h => absurd h (by decide), fun h => absurd h (by decide), fun h => absurd h (by decide)⟩, fun _ h => absurd h List.not_mem_nil⟩⟩⟩⟩⟩⟩⟩⟩⟩
theorem hv_fM_18 : ∀ e ∈ hv_mls.getD 18 [], hv_fM 18 e.1 e.2 := List.forall_mem_cons.mpr ⟨⟨fun h => absurd h (by decide), fun h => absurd h (by decide), fun h => absurd h (by decide)⟩, List.forall_mem_cons.mpr ⟨⟨fun h => absurd h (by decide), fun h => absurd h (by decide), fun h => absurd h (by decide)⟩, List.forall_mem_cons.mpr ⟨⟨fun h => absurd h (by decide), fun h => absurd h (by decide), fun h => absurd h (by decide)⟩, List.forall_mem_cons.mpr ⟨⟨fun h => absurd h (by decide), fun h => absurd h (by decide), fun h => absurd h (by decide)⟩, List.forall_mem_cons.mpr ⟨⟨fun h => absurd h (by decide), fun h => absurd h (by decide), fun h => absurd h (by decide)⟩, List.forall_mem_cons.mpr ⟨⟨fun h => absurd h (by decide), fun h => absurd h (by decide), fun h => absurd h (by decide)⟩, List.forall_mem_cons.mpr ⟨⟨fun h => absurd h (by decide), fun h => absurd h (by decide), fun h => absurd h (by decide)⟩, List.forall_mem_cons.mpr ⟨⟨fun h => absurd h (by decide), fun h => absurd h (by decide), fun h => absurd h (by decide)⟩, List.forall_mem_cons.mpr ⟨⟨fun h => absurd h (by decide), fun h => absurd h (by decide), fun h => absurd h (by decide)⟩, List.forall_mem_cons.mpr ⟨⟨fun h => absurd h (by decide), fun h => absurd h (by decide), fun h => absurd h (by decide)⟩, List.forall_mem_cons.mpr ⟨⟨fun h => absurd h (by decide), fun h => absurd h (by decide), fun h => absurd h (by decide)⟩, List.forall_mem_cons.mpr ⟨⟨fun h => absurd h (by decide), fun h => absurd h (by decide), fun h => absurd h (by decide)⟩, List.forall_mem_cons.mpr ⟨⟨fun h => absurd h (by decide), fun h => absurd h (by decide), fun h => absurd h (by decide)⟩, List.forall_mem_cons.mpr ⟨⟨fun h => absurd h (by decide), fun h => absurd h (by decide), fun h => absurd h (by decide)⟩, List.forall_mem_cons.mpr ⟨⟨fun h => absurd h (by decide), fun h => absurd h (by decide), fun h => absurd h (by decide)⟩, List.forall_mem_cons.mpr ⟨⟨fun h => absurd h (by decide), fun h => absurd h (by decide), fun h => absurd h (by decide)⟩, List.forall_mem_cons.mpr ⟨⟨fun h => absurd h (by decide), fun h => absurd h (by decide), fun h => absurd h (by decide)⟩, List.forall_mem_cons.mpr ⟨⟨fun h => absurd h (by decide), fun h => absurd h (by decide), fun h => absurd h (by decide)⟩, List.forall_mem_cons.mpr ⟨⟨fun h => absurd h (by decide), fun h => absurd h (by decide), fun h => absurd h (by decide)⟩, List.forall_mem_cons.mpr ⟨⟨fun h => absurd h (by decide), fun h => absurd h (by decide), fun h => absurd h (by decide)⟩, List.forall_mem_cons.mpr ⟨⟨fun h => absurd h (by decide), fun h => absurd h (by decide), fun h => absurd h (by decide)⟩, List.forall_mem_cons.mpr ⟨⟨fun h => absurd h (by decide), fun h => absurd h (by decide), fun h => absurd h (by decide)⟩, fun _ h => absurd h List.not_mem_nil⟩⟩⟩⟩⟩⟩⟩⟩⟩⟩⟩⟩⟩⟩⟩⟩⟩⟩⟩⟩⟩⟩
theorem hv_fM_19 : ∀ e ∈ hv_mls.getD 19 [], hv_fM 19 e.1 e.2 := List.forall_mem_cons.mpr ⟨⟨fun _ => lw_g (lw_at lw_m2 73 rfl) rfl, fun h => absurd h (by decide), fun h => absurd h (by decide)⟩, List.forall_mem_cons.mpr ⟨⟨fun h => absurd h (by decide), fun h => absurd h (by decide), fun h => absurd h (by decide)⟩, fun _ h => absurd h List.not_mem_nil⟩⟩
theorem hv_fM_20 : ∀ e ∈ hv_mls.getD 20 [], hv_fM 20 e.1 e.2 := List.forall_mem_cons.mpr ⟨⟨fun h => absurd h (by decide), fun h => absurd h (by decide), fun h => absurd h (by decide)⟩, fun _ h => absurd h List.not_mem_nil⟩
theorem hv_fM_21 : ∀ e ∈ hv_mls.getD 21 [], hv_fM 21 e.1 e.2 := List.forall_mem_cons.mpr ⟨⟨fun _ => lw_g (lw_at lw_m2 115 rfl) rfl, fun h => absurd h (by decide), fun h => absurd h (by decide)⟩, fun _ h => absurd h List.not_mem_nil⟩
theorem hv_fM_22 : ∀ e ∈ hv_mls.getD 22 [], hv_fM 22 e.1 e.2 := List.forall_mem_cons.mpr ⟨⟨fun _ => lw_g (lw_at lw_m2 135 rfl) rfl, fun h => absurd h (by decide), fun h => absurd h (by decide)⟩, List.forall_mem_cons.mpr ⟨⟨fun h => absurd h (by decide), fun h => absurd h (by decide), fun h => absurd h (by decide)⟩, List.forall_mem_cons.mpr ⟨⟨fun h => absurd h (by decide), fun h => absurd h (by decide), fun h => absurd h (by decide)⟩, List.forall_mem_cons.mpr ⟨⟨fun h => absurd h (by decide), fun h => absurd h (by decide), fun h => absurd h (by decide)⟩, List.forall_mem_cons.mpr ⟨⟨fun h => absurd h (by decide), fun h => absurd h (by decide), fun h => absurd h (by decide)⟩, List.forall_mem_cons.mpr ⟨⟨fun h => absurd h (by decide), fun h => absurd h (by decide), fun h => absurd h (by decide)⟩, List.forall_mem_cons.mpr ⟨⟨fun h => absurd h (by decide), fun h => absurd h (by decide), fun h => absurd h (by decide)⟩, List.forall_mem_cons.mpr ⟨⟨fun h => absurd h (by decide), fun h => absurd h (by decide), fun h => absurd h (by decide)⟩, List.forall_mem_cons.mpr ⟨⟨fun h => absurd h (by decide), fun h => absurd h (by decide), fun h => absurd h (by decide)⟩, fun _ h => absurd h List.not_mem_nil⟩⟩⟩⟩⟩⟩⟩⟩⟩
theorem hv_fM_23 : ∀ e ∈ hv_mls.getD 23 [], hv_fM 23 e.1 e.2 := List.forall_mem_cons.mpr ⟨⟨fun _ => lw_g (lw_at lw_m2 155 rfl) rfl, fun h => absurd h (by decide), fun h => absurd h (by decide)⟩, fun _ h => absurd h List.not_mem_nil⟩
theorem hv_fM_24 : ∀ e ∈ hv_mls.getD 24 [], hv_fM 24 e.1 e.2 := List.forall_mem_cons.mpr ⟨⟨fun _ => lw_g (lw_at lw_m8 155 rfl) rfl, fun h => absurd h (by decide), fun h => absurd h (by decide)⟩, List.forall_mem_cons.mpr ⟨⟨fun h => absurd h (by decide), fun h => absurd h (by decide), fun h => absurd h (by decide)⟩, List.forall_mem_cons.mpr ⟨⟨fun h => absurd h (by decide), fun h => absurd h (by decide), fun h => absurd h (by decide)⟩, List.forall_mem_cons.mpr ⟨⟨fun h => absurd h (by decide), fun h => absurd h (by decide), fun h => absurd h (by decide)⟩, List.forall_mem_cons.mpr ⟨⟨fun h => absurd h (by decide), fun h => absurd h (by decide), fun h => absurd h (by decide)⟩, List.forall_mem_cons.mpr ⟨⟨fun h => absurd h (by decide), fun h => absurd h (by decide), fun h => absurd h (by decide)⟩, List.forall_mem_cons.mpr ⟨⟨fun h => absurd h (by decide), fun h => absurd h (by decide), fun h => absurd h (by decide)⟩, List.forall_mem_cons.mpr ⟨⟨fun h => absurd h (by decide), fun h => absurd h (by decide), fun h => absurd h (by decide)⟩, List.forall_mem_cons.mpr ⟨⟨fun h => absurd h (by decide), fun h => absurd h (by decide), fun h => absurd h (by decide)⟩, List.forall_mem_cons.mpr ⟨⟨fun h => absurd h (by decide), fun h => absurd h (by decide), fun h => absurd h (by decide)⟩, List.forall_mem_cons.mpr ⟨⟨fun h => absurd h (by decide), fun h => absurd h (by decide), fun h => absurd h (by decide)⟩, List.forall_mem_cons.mpr ⟨⟨fun h => absurd h (by decide), fun h => absurd h (by decide), fun h => absurd h (by decide)⟩, List.forall_mem_cons.mpr ⟨⟨fun h => absurd h (by decide), fun h => absurd h (by decide), fun h => absurd h (by decide)⟩, List.forall_mem_cons.mpr ⟨⟨fun h => absurd h (by decide), fun h => absurd h (by decide), fun h => absurd h (by decide)⟩, List.forall_mem_cons.mpr ⟨⟨fun h => absurd h (by decide), fun h => absurd h (by decide), fun h => absurd h (by decide)⟩, List.forall_mem_cons.mpr ⟨⟨fun h => absurd h (by decide), fun h => absurd h (by decide), fun h => absurd h (by decide)⟩, List.forall_mem_cons.mpr ⟨⟨fun h => absurd h (by decide), fun h => absurd h (by decide), fun h => absurd h (by decide)⟩, List.forall_mem_cons.mpr ⟨⟨fun h => absurd h (by decide), fun h => absurd h (by decide), fun h => absurd h (by decide)⟩, List.forall_mem_cons.mpr ⟨⟨fun h => absurd h (by decide), fun h => absurd h (by decide), fun h => absurd h (by decide)⟩, List.forall_mem_cons.mpr ⟨⟨fun h => absurd h (by decide), fun h => absurd h (by decide), fun h => absurd h (by decide)⟩, List.forall_mem_cons.mpr ⟨⟨fun h => absurd h (by decide), fun h => absurd h (by decide), fun h => absurd h (by decide)⟩, List.forall_mem_cons.mpr ⟨⟨fun h => absurd h (by decide), fun h => absurd h (by decide), fun h => absurd h (by decide)⟩, List.forall_mem_cons.mpr ⟨⟨fun h => absurd h (by decide), fun h => absurd h (by decide), fun h => absurd h (by decide)⟩, List.forall_mem_cons.mpr ⟨⟨fun h => absurd h (by decide), fun h => absurd h (by decide), fun h => absurd h (by decide)⟩, List.forall_mem_cons.mpr ⟨⟨fun h => absurd h (by decide), fun h => absurd h (by decide), fun h => absurd h (by decide)⟩, List.forall_mem_cons.mpr ⟨⟨fun h => absurd h (by decide), fun h => absurd h (by decide), fun h => absurd h (by decide)⟩, List.forall_mem_cons.mpr ⟨⟨fun h => absurd h (by decide), fun h => absurd h (by decide), fun h => absurd h (by decide)⟩, List.forall_mem_cons.mpr ⟨⟨fun h => absurd h (by decide), fun h => absurd h (by decide), fun h => absurd h (by decide)⟩, List.forall_mem_cons.mpr ⟨⟨fun h => absurd h (by decide), fun h => absurd h (by decide), fun h => absurd h (by decide)⟩, List.forall_mem_cons.mpr ⟨⟨fun h => absurd h (by decide), fun h => absurd h (by decide), fun h => absurd h (by decide)⟩, List.forall_mem_cons.mpr ⟨⟨fun h => absurd h (by decide), fun h => absurd h (by decide), fun h => absurd h (by decide)⟩, List.forall_mem_cons.mpr ⟨⟨fun h => absurd h (by decide), fun h => absurd h (by decide), fun h => absurd h (by decide)⟩, List.forall_mem_cons.mpr ⟨⟨fun h => absurd h (by decide), fun h => absurd h (by decide), fun h => absurd h (by decide)⟩, List.forall_mem_cons.mpr ⟨⟨fun h => absurd h (by decide), fun h => absurd h (by decide), fun h => absurd h (by decide)⟩, List.forall_mem_cons.mpr ⟨⟨fun h => absurd h (by decide), fun h => absurd h (by decide), fun h => absurd h (by decide)⟩, List.forall_mem_cons.mpr ⟨⟨fun h => absurd h (by decide), fun h => absurd h (by decide), fun h => absurd h (by decide)⟩, List.forall_mem_cons.mpr ⟨⟨fun h => absurd h (by decide), fun h => absurd h (by decide), fun h => absurd h (by decide)⟩, List.forall_mem_cons.mpr ⟨⟨fun h => absurd h (by decide), fun h => absurd h (by decide), fun h => absurd h (by decide)⟩, List.forall_mem_cons.mpr ⟨⟨fun h => absurd h (by decide), fun h => absurd h (by decide), fun h => absurd h (by decide)⟩, List.forall_mem_cons.mpr ⟨⟨fun h => absurd h (by decide), fun h => absurd h (by decide), fun h => absurd h (by decide)⟩, List.forall_mem_cons.mpr ⟨⟨fun h => absurd h (by decide), fun h => absurd h (by decide), fun h => absurd h (by decide)⟩, List.forall_mem_cons.mpr ⟨⟨fun h => absurd h (by decide), fun h => absurd h (by decide), fun h => absurd h (by decide)⟩, List.forall_mem_cons.mpr ⟨⟨fun h => absurd h (by decide), fun h => absurd h (by decide), fun h => absurd h (by decide)⟩, List.forall_mem_cons.mpr ⟨⟨fun h => absurd h (by decide), fun h => absurd h (by decide), fun h => absurd h (by decide)⟩, List.forall_mem_cons.mpr ⟨⟨fun h => absurd h (by decide), fun h => absurd h (by decide), fun h => absurd h (by decide)⟩, List.forall_mem_cons.mpr ⟨⟨fun h => absurd h (by decide), fun h => absurd h (by decide), fun h => absurd h (by decide)⟩, List.forall_mem_cons.mpr ⟨⟨fun h => absurd h (by decide), fun h => absurd h (by decide), fun h => absurd h (by decide)⟩, List.forall_mem_cons.mpr ⟨⟨fun h => absurd h (by decide), fun h => absurd h (by decide), fun h => absurd h (by decide)⟩, List.forall_mem_cons.mpr ⟨⟨fun h => absurd h (by decide), fun h => absurd h (by decide), fun h => absurd h (by decide)⟩, List.forall_mem_cons.mpr ⟨⟨fun h => absurd h (by decide), fun h => absurd h (by decide), fun h => absurd h (by decide)⟩, List.forall_mem_cons.mpr ⟨⟨fun h => absurd h (by decide), fun h => absurd h (by decide), fun h => absurd h (by decide)⟩, List.forall_mem_cons.mpr ⟨⟨fun h => absurd h (by decide), fun h => absurd h (by decide), fun h => absurd h (by decide)⟩, List.forall_mem_cons.mpr ⟨⟨fun h => absurd h (by decide), fun h => absurd h (by decide), fun h => absurd h (by decide)⟩, List.forall_mem_cons.mpr ⟨⟨fun h => absurd h (by decide), fun h => absurd h (by decide), fun h => absurd h (by decide)⟩, List.forall_mem_cons.mpr ⟨⟨fun h => absurd h (by decide), fun h => absurd h (by decide), fun h => absurd h (by decide)⟩, List.forall_mem_cons.mpr ⟨⟨fun h => absurd h (by decide), fun h => absurd h (by decide), fun h => absurd h (by decide)⟩, List.forall_mem_cons.mpr ⟨⟨fun h => absurd h (by decide), fun h => absurd h (by decide), fun h => absurd h (by decide)⟩, List.forall_mem_cons.mpr ⟨⟨fun h => absurd h (by decide), fun h => absurd h (by decide), fun h => absurd h (by decide)⟩, List.forall_mem_cons.mpr ⟨⟨fun h => absurd h (by decide), fun h => absurd h (by decide), fun h => absurd h (by decide)⟩, List.forall_mem_cons.mpr ⟨⟨fun h => absurd h (by decide), fun h => absurd h (by decide), fun h => absurd h (by decide)⟩, List.forall_mem_cons.mpr ⟨⟨fun h => absurd h (by decide), fun h => absurd h (by decide), fun h => absurd h (by decide)⟩, List.forall_mem_cons.mpr ⟨⟨fun h => absurd h (by decide), fun h => absurd h (by decide), fun h => absurd h (by decide)⟩, fun _ h => absurd h List.not_mem_nil⟩⟩⟩⟩⟩⟩⟩⟩⟩⟩⟩⟩⟩⟩⟩⟩⟩⟩⟩⟩⟩⟩⟩⟩⟩⟩⟩⟩⟩⟩⟩⟩⟩⟩⟩⟩⟩⟩⟩⟩⟩⟩⟩⟩⟩⟩⟩⟩⟩⟩⟩⟩⟩⟩⟩⟩⟩⟩⟩⟩⟩⟩
theorem hv_fM_25 : ∀ e ∈ hv_mls.getD 25 [], hv_fM 25 e.1 e.2 := List.forall_mem_cons.mpr ⟨⟨fun h => absurd h (by decide), fun h => absurd h (by decide), fun h => absurd h (by decide)⟩, fun _ h => absurd h List.not_mem_nil⟩
theorem hv_fM_26 : ∀ e ∈ hv_mls.getD 26 [], hv_fM 26 e.1 e.2 := List.forall_mem_cons.mpr ⟨⟨fun h => absurd h (by decide), fun _ => ⟨rfl, rfl⟩, fun h => absurd h (by decide)⟩, fun _ h => absurd h List.not_mem_nil⟩
theorem hv_fM_27 : ∀ e ∈ hv_mls.getD 27 [], hv_fM 27 e.1 e.2 := List.forall_mem_cons.mpr ⟨⟨fun _ => lw_g (lw_at lw_m3 94 rfl) rfl, fun h => absurd h (by decide), fun h => absurd h (by decide)⟩, List.forall_mem_cons.mpr ⟨⟨fun h => absurd h (by decide), fun h => absurd h (by decide), fun h => absurd h (by decide)⟩, List.forall_mem_cons.mpr ⟨⟨fun h => absurd h (by decide), fun h => absurd h (by decide), fun h => absurd h (by decide)⟩, List.forall_mem_cons.mpr ⟨⟨fun h => absurd h (by decide), fun h => absurd h (by decide), fun h => absurd h (by decide)⟩, List.forall_mem_cons.mpr ⟨⟨fun h => absurd h (by decide), fun h => absurd h (by decide), fun h => absurd h (by decide)⟩, List.forall_mem_cons.mpr ⟨⟨fun h => absurd h (by decide), fun h => absurd h (by decide), fun h => absurd h (by decide)⟩, List.forall_mem_cons.mpr ⟨⟨fun h => absurd h (by decide), fun h => absurd h (by decide), fun h => absurd h (by decide)⟩, List.forall_mem_cons.mpr ⟨⟨fun h => absurd h (by decide), fun h => absurd h (by decide), fun h => absurd h (by decide)⟩, List.forall_mem_cons.mpr ⟨⟨fun h => absurd h (by decide), fun h => absurd h (by decide), fun h => absurd h (by decide)⟩, List.forall_mem_cons.mpr ⟨⟨fun h => absurd h (by decide), fun h => absurd h (by decide), fun h => absurd h (by decide)⟩, List.forall_mem_cons.mpr ⟨⟨fun h => absurd h (by decide), fun h => absurd h (by decide), fun h => absurd h (by decide)⟩, List.forall_mem_cons.mpr ⟨⟨fun h => absurd h (by decide), fun h => absurd h (by decide), fun h => absurd h (by decide)⟩, List.forall_mem_cons.mpr ⟨⟨fun h => absurd h (by decide), fun h => absurd h (by decide), fun h => absurd h (by decide)⟩, List.forall_mem_cons.mpr ⟨⟨fun h => absurd h (by decide), fun h => absurd h (by decide), fun h => absurd h (by decide)⟩, List.forall_mem_cons.mpr ⟨⟨fun h => absurd h (by decide), fun h => absurd h (by decide), fun h => absurd h (by decide)⟩, List.forall_mem_cons.mpr ⟨⟨fun h => absurd h (by decide), fun h => absurd h (by decide), fun h => absurd h (by decide)⟩, List.forall_mem_cons.mpr ⟨⟨fun h => absurd h (by decide), fun h => absurd h (by decide), fun h => absurd h (by decide)⟩, List.forall_mem_cons.mpr ⟨⟨fun h => absurd h (by decide), fun h => absurd h (by decide), fun h => absurd h (by decide)⟩, fun _ h => absurd h List.not_mem_nil⟩⟩⟩⟩⟩⟩⟩⟩⟩⟩⟩⟩⟩⟩⟩⟩⟩⟩
theorem hv_fM_28 : ∀ e ∈ hv_mls.getD 28 [], hv_fM 28 e.1 e.2 := List.forall_mem_cons.mpr ⟨⟨fun h => absurd h (by decide), fun h => absurd h (by decide), fun h => absurd h (by decide)⟩, fun _ h => absurd h List.not_mem_nil⟩
theorem hv_fM_29 : ∀ e ∈ hv_mls.getD 29 [], hv_fM 29 e.1 e.2 := List.forall_mem_cons.mpr ⟨⟨fun h => absurd h (by decide), fun h => absurd h (by decide), fun h => absurd h (by decide)⟩, List.forall_mem_cons.mpr ⟨⟨fun h => absurd h (by decide), fun h => absurd h (by decide), fun h => absurd h (by decide)⟩, fun _ h => absurd h List.not_mem_nil⟩⟩
theorem hv_fM_30 : ∀ e ∈ hv_mls.getD 30 [], hv_fM 30 e.1 e.2 := List.forall_mem_cons.mpr ⟨⟨fun _ => lw_g (lw_at lw_m3 160 rfl) rfl, fun h => absurd h (by decide), fun h => absurd h (by decide)⟩, fun _ h => absurd h List.not_mem_nil⟩
theorem hv_fM_31 : ∀ e ∈ hv_mls.getD 31 [], hv_fM 31 e.1 e.2 := List.forall_mem_cons.mpr ⟨⟨fun h => absurd h (by decide), fun h => absurd h (by decide), fun h => absurd h (by decide)⟩, fun _ h => absurd h List.not_mem_nil⟩
theorem hv_fM_32 : ∀ e ∈ hv_mls.getD 32 [], hv_fM 32 e.1 e.2 := List.forall_mem_cons.mpr ⟨⟨fun h => absurd h (by decide), fun h => absurd h (by decide), fun h => absurd h (by decide)⟩, fun _ h => absurd h List.not_mem_nil⟩
theorem hv_fM_33 : ∀ e ∈ hv_mls.getD 33 [], hv_fM 33 e.1 e.2 := List.forall_mem_cons.mpr ⟨⟨fun h => absurd h (by decide), fun h => absurd h (by decide), fun h => absurd h (by decide)⟩, fun _ h => absurd h List.not_mem_nil⟩
theorem hv_fM_34 : ∀ e ∈ hv_mls.getD 34 [], hv_fM 34 e.1 e.2 := List.forall_mem_cons.mpr ⟨⟨fun h => absurd h (by decide), fun h => absurd h (by decide), fun h => absurd h (by decide)⟩, fun _ h => absurd h List.not_mem_nil⟩
theorem hv_fM_35 : ∀ e ∈ hv_mls.getD 35 [], hv_fM 35 e.1 e.2 := List.forall_mem_cons.mpr ⟨⟨fun h => absurd h (by decide), fun h => absurd h (by decide), fun h => absurd h (by decide)⟩, List.forall_mem_cons.mpr ⟨⟨fun h => absurd h (by decide), fun h => absurd h (by decide), fun h => absurd h (by decide)⟩, fun _ h => absurd h List.not_mem_nil⟩⟩
theorem hv_fM_36 : ∀ e ∈ hv_mls.getD 36 [], hv_fM 36 e.1 e.2 := List.forall_mem_cons.mpr ⟨⟨fun h => absurd h (by decide), fun h => absurd h (by decide), fun h => absurd h (by decide)⟩, List.forall_mem_cons.mpr ⟨⟨fun h => absurd h (by decide), fun h => absurd h (by decide), fun h => absurd h (by decide)⟩, List.forall_mem_cons.mpr ⟨⟨fun h => absurd h (by decide), fun h => absurd h (by decide), fun h => absurd h (by decide)⟩, List.forall_mem_cons.mpr ⟨⟨fun h => absurd h (by decide), fun h => absurd h (by decide), fun h => absurd h (by decide)⟩, fun _ h => absurd h List.not_mem_nil⟩⟩⟩⟩
theorem hv_fM_37 : ∀ e ∈ hv_mls.getD 37 [], hv_fM 37 e.1 e.2 := List.forall_mem_cons.mpr ⟨⟨fun h => absurd h (by decide), fun h => absurd h (by decide), fun h => absurd h (by decide)⟩, List.forall_mem_cons.mpr ⟨⟨fun h => absurd h (by decide), fun h => absurd h (by decide), fun h => absurd h (by decide)⟩, fun _ h => absurd h List.not_mem_nil⟩⟩
theorem hv_fM_38 : ∀ e ∈ hv_mls.getD 38 [], hv_fM 38 e.1 e.2 := List.forall_mem_cons.mpr ⟨⟨fun _ => lw_g (lw_at lw_m5 236 rfl) rfl, fun h => absurd h (by decide), fun h => absurd h (by decide)⟩, fun _ h => absurd h List.not_mem_nil⟩
theorem hv_fM_39 : ∀ e ∈ hv_mls.getD 39 [], hv_fM 39 e.1 e.2 := fun _ h => absurd h List.not_mem_nil
theorem hv_fM_40 : ∀ e ∈ hv_mls.getD 40 [], hv_fM 40 e.1 e.2 := List.forall_mem_cons.mpr ⟨⟨fun h => absurd h (by decide), fun h => absurd h (by decide), fun h => absurd h (by decide)⟩, List.forall_mem_cons.mpr ⟨⟨fun h => absurd h (by decide), fun h => absurd h (by decide), fun h => absurd h (by decide)⟩, fun _ h => absurd h List.not_mem_nil⟩⟩
theorem hv_fM_41 : ∀ e ∈ hv_mls.getD 41 [], hv_fM 41 e.1 e.2 := List.forall_mem_cons.mpr ⟨⟨fun _ => lw_g (lw_at lw_m6 151 rfl) rfl, fun h => absurd h (by decide), fun h => absurd h (by decide)⟩, List.forall_mem_cons.mpr ⟨⟨fun h => absurd h (by decide), fun h => absurd h (by decide), fun h => absurd h (by decide)⟩, fun _ h => absurd h List.not_mem_nil⟩⟩
theorem hv_fM_42 : ∀ e ∈ hv_mls.getD 42 [], hv_fM 42 e.1 e.2 := List.forall_mem_cons.mpr ⟨⟨fun h => absurd h (by decide), fun h => absurd h (by decide), fun h => absurd h (by decide)⟩, List.forall_mem_cons.mpr ⟨⟨fun h => absurd h (by decide), fun h => absurd h (by decide), fun h => absurd h (by decide)⟩, List.forall_mem_cons.mpr ⟨⟨fun h => absurd h (by decide), fun h => absurd h (by decide), fun h => absurd h (by decide)⟩, fun _ h => absurd h List.not_mem_nil⟩⟩⟩
theorem hv_fM_43 : ∀ e ∈ hv_mls.getD 43 [], hv_fM 43 e.1 e.2 := fun _ h => absurd h List.not_mem_nil
theorem hv_fMS (o i : Nat) (v) (h : (hv_mls.getD o []).lookup i = some v) : hv_fM o i v := by
  have hm : (i, v) ∈ hv_mls.getD o [] := hv_lookup_mem h
  match o, hm with
  | 0, hm => exact hv_fM_0 _ hm
  | 1, hm => exact hv_fM_1 _ hm
  | 2, hm => exact hv_fM_2 _ hm
  | 3, hm => exact hv_fM_3 _ hm
  | 4, hm => exact hv_fM_4 _ hm
  | 5, hm => exact hv_fM_5 _ hm
  | 6, hm => exact hv_fM_6 _ hm
  | 7, hm => exact hv_fM_7 _ hm
  | 8, hm => exact hv_fM_8 _ hm
  | 9, hm => exact hv_fM_9 _ hm
  | 10, hm => exact hv_fM_10 _ hm
  | 11, hm => exact hv_fM_11 _ hm
  | 12, hm => exact hv_fM_12 _ hm
  | 13, hm => exact hv_fM_13 _ hm
  | 14, hm => exact hv_fM_14 _ hm
  | 15, hm => exact hv_fM_15 _ hm
  | 16, hm => exact hv_fM_16 _ hm
  | 17, hm => exact hv_fM_17 _ hm
  | 18, hm => exact hv_fM_18 _ hm
  | 19, hm => exact hv_fM_19 _ hm
  | 20, hm => exact hv_fM_20 _ hm
  | 21, hm => exact hv_fM_21 _ hm
  | 22, hm => exact hv_fM_22 _ hm
  | 23, hm => exact hv_fM_23 _ hm
  | 24, hm => exact hv_fM_24 _ hm
  | 25, hm => exact hv_fM_25 _ hm
  | 26, hm => exact hv_fM_26 _ hm
  | 27, hm => exact hv_fM_27 _ hm
  | 28, hm => exact hv_fM_28 _ hm
  | 29, hm => exact hv_fM_29 _ hm
  | 30, hm => exact hv_fM_30 _ hm
  | 31, hm => exact hv_fM_31 _ hm
  | 32, hm => exact hv_fM_32 _ hm
  | 33, hm => exact hv_fM_33 _ hm
  | 34, hm => exact hv_fM_34 _ hm
  | 35, hm => exact hv_fM_35 _ hm
  | 36, hm => exact hv_fM_36 _ hm
  | 37, hm => exact hv_fM_37 _ hm
  | 38, hm => exact hv_fM_38 _ hm
  | 39, hm => exact hv_fM_39 _ hm
  | 40, hm => exact hv_fM_40 _ hm
  | 41, hm => exact hv_fM_41 _ hm
  | 42, hm => exact hv_fM_42 _ hm
  | 43, hm => exact hv_fM_43 _ hm
  | o + 44, hm => exact absurd hm (by show ¬ _ ∈ ([] : List _); exact List.not_mem_nil)
theorem hv_oiI : Cond.instanceMethod Lib.objectInit ∈ lw_all := lw_g (lw_at lw_m1 58 rfl) rfl
theorem hv_oiC : Cond.code Lib.objectInit ⟨#[0xb1]⟩ 1 none ∈ lw_all := lw_g (lw_at lw_m1 59 rfl) rfl
theorem hv_acN : Cond.native arraycopyName ∈ lw_all := lw_g (lw_at lw_m4 30 rfl) rfl
theorem hv_acS : Cond.static arraycopyName ∈ lw_all := lw_g (lw_at lw_m4 29 rfl) rfl
theorem hv_acI : Cond.initialized "java/lang/System" ∈ lw_all := lw_g (lw_at lw_m1 38 rfl) rfl
theorem hv_ac_int : Cond.arrayClass .int ∈ lw_all := lw_g (lw_at lw_m1 161 rfl) rfl
theorem hv_ac_long : Cond.arrayClass .long ∈ lw_all := lw_g (lw_at lw_m2 148 rfl) rfl
theorem hv_ac_byte : Cond.arrayClass .byte ∈ lw_all := lw_g (lw_at lw_m2 169 rfl) rfl
theorem hv_ac_char : Cond.arrayClass .char ∈ lw_all := lw_g (lw_at lw_m2 170 rfl) rfl
theorem hv_ac_boolean : Cond.arrayClass .boolean ∈ lw_all := lw_g (lw_at lw_m4 15 rfl) rfl
