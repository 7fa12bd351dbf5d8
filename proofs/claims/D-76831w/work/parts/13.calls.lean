/-! CALLS: what is known of each entry (printed by gen/calls.py) -/
set_option maxRecDepth 100000
def hv_cn (c : Nat) : String := (hv_cl.getD c ("", hv_T 1000, 0)).1
def hv_LK (l : Launch) (s : State) (args : Array Value) (o : Nat) (q : Nat × Nat × Nat) : Prop := hv_Link l s args (hv_on o) (hv_lop o q.1) q.1 q.2.2 (hv_cn q.2.1)
def hv_ll (o : Nat) : List (Nat × Nat × Nat) := (hv_mls.getD o []).flatMap (fun e => e.2.2.map (fun q => (e.1, q.1, q.2)))
section
variable {l : Launch} {s s0 : State} {args a0 : Array Value}
theorem hv_k0_9_0 (hz : hv_Z s0 a0) (hW : s0.WarmedH s.vm) : hv_LK l s args 0 (9, 0, 1) :=
  show hv_Link l s args "HallOfClaimsLaw" 1 9 1 "HallOfClaims" from hv_kI hz hW hv_mf1 rfl rfl rfl rfl (lw_g (lw_at lw_m1 54 rfl) rfl) (lw_g (lw_at lw_m1 55 rfl) rfl)
theorem hv_k0_12_0 (hz : hv_Z s0 a0) (hW : s0.WarmedH s.vm) : hv_LK l s args 0 (12, 0, 28) :=
  show hv_Link l s args "HallOfClaimsLaw" 1 12 28 "HallOfClaims" from hv_kI hz hW hv_mf28 rfl rfl rfl rfl (lw_g (lw_at lw_m8 152 rfl) rfl) (lw_g (lw_at lw_m8 153 rfl) rfl)
theorem hv_k0_13_0 (hz : hv_Z s0 a0) (hW : s0.WarmedH s.vm) : hv_LK l s args 0 (13, 0, 29) :=
  show hv_Link l s args "HallOfClaimsLaw" 3 13 29 "HallOfClaims" from hv_kV hz hW hv_mf29 rfl rfl (lw_g (lw_at lw_m2 228 rfl) rfl) (lw_g (lw_at lw_m2 229 rfl) rfl) (lw_g (lw_at lw_m2 230 rfl) rfl)
theorem hv_k0_17_33 (hz : hv_Z s0 a0) (hW : s0.WarmedH s.vm) : hv_LK l s args 0 (17, 33, 227) :=
  show hv_Link l s args "HallOfClaimsLaw" 3 17 227 "HallOfClaimsModel" from hv_kV hz hW hv_mf227 rfl rfl (lw_g (lw_at lw_m8 229 rfl) rfl) (lw_g (lw_at lw_m8 230 rfl) rfl) (lw_g (lw_at lw_m8 231 rfl) rfl)
theorem hv_k0_18_0 (hz : hv_Z s0 a0) (hW : s0.WarmedH s.vm) : hv_LK l s args 0 (18, 0, 230) :=
  show hv_Link l s args "HallOfClaimsLaw" 3 18 230 "HallOfClaims" from hv_kV hz hW hv_mf230 rfl rfl (lw_g (lw_at lw_m8 18 rfl) rfl) (lw_g (lw_at lw_m8 19 rfl) rfl) (lw_g (lw_at lw_m8 20 rfl) rfl)
theorem hv_k0_22_33 (hz : hv_Z s0 a0) (hW : s0.WarmedH s.vm) : hv_LK l s args 0 (22, 33, 231) :=
  show hv_Link l s args "HallOfClaimsLaw" 3 22 231 "HallOfClaimsModel" from hv_kV hz hW hv_mf231 rfl rfl (lw_g (lw_at lw_m9 1 rfl) rfl) (lw_g (lw_at lw_m9 2 rfl) rfl) (lw_g (lw_at lw_m9 3 rfl) rfl)
theorem hv_k0_23_0 (hz : hv_Z s0 a0) (hW : s0.WarmedH s.vm) : hv_LK l s args 0 (23, 0, 250) :=
  show hv_Link l s args "HallOfClaimsLaw" 3 23 250 "HallOfClaims" from hv_kV hz hW hv_mf250 rfl rfl (lw_g (lw_at lw_m8 22 rfl) rfl) (lw_g (lw_at lw_m8 23 rfl) rfl) (lw_g (lw_at lw_m8 24 rfl) rfl)
theorem hv_k0_27_33 (hz : hv_Z s0 a0) (hW : s0.WarmedH s.vm) : hv_LK l s args 0 (27, 33, 251) :=
  show hv_Link l s args "HallOfClaimsLaw" 3 27 251 "HallOfClaimsModel" from hv_kV hz hW hv_mf251 rfl rfl (lw_g (lw_at lw_m9 78 rfl) rfl) (lw_g (lw_at lw_m9 79 rfl) rfl) (lw_g (lw_at lw_m9 80 rfl) rfl)
theorem hv_k0_28_0 (hz : hv_Z s0 a0) (hW : s0.WarmedH s.vm) : hv_LK l s args 0 (28, 0, 252) :=
  show hv_Link l s args "HallOfClaimsLaw" 3 28 252 "HallOfClaims" from hv_kV hz hW hv_mf252 rfl rfl (lw_g (lw_at lw_m8 26 rfl) rfl) (lw_g (lw_at lw_m8 27 rfl) rfl) (lw_g (lw_at lw_m8 28 rfl) rfl)
theorem hv_k0_31_33 (hz : hv_Z s0 a0) (hW : s0.WarmedH s.vm) : hv_LK l s args 0 (31, 33, 253) :=
  show hv_Link l s args "HallOfClaimsLaw" 3 31 253 "HallOfClaimsModel" from hv_kV hz hW hv_mf253 rfl rfl (lw_g (lw_at lw_m9 83 rfl) rfl) (lw_g (lw_at lw_m9 84 rfl) rfl) (lw_g (lw_at lw_m9 85 rfl) rfl)
theorem hv_k0_32_0 (hz : hv_Z s0 a0) (hW : s0.WarmedH s.vm) : hv_LK l s args 0 (32, 0, 254) :=
  show hv_Link l s args "HallOfClaimsLaw" 3 32 254 "HallOfClaims" from hv_kV hz hW hv_mf254 rfl rfl (lw_g (lw_at lw_m8 30 rfl) rfl) (lw_g (lw_at lw_m8 31 rfl) rfl) (lw_g (lw_at lw_m8 32 rfl) rfl)
theorem hv_k0_35_33 (hz : hv_Z s0 a0) (hW : s0.WarmedH s.vm) : hv_LK l s args 0 (35, 33, 255) :=
  show hv_Link l s args "HallOfClaimsLaw" 3 35 255 "HallOfClaimsModel" from hv_kV hz hW hv_mf255 rfl rfl (lw_g (lw_at lw_m9 87 rfl) rfl) (lw_g (lw_at lw_m9 88 rfl) rfl) (lw_g (lw_at lw_m9 89 rfl) rfl)
theorem hv_k0_36_0 (hz : hv_Z s0 a0) (hW : s0.WarmedH s.vm) : hv_LK l s args 0 (36, 0, 256) :=
  show hv_Link l s args "HallOfClaimsLaw" 3 36 256 "HallOfClaims" from hv_kV hz hW hv_mf256 rfl rfl (lw_g (lw_at lw_m8 34 rfl) rfl) (lw_g (lw_at lw_m8 35 rfl) rfl) (lw_g (lw_at lw_m8 36 rfl) rfl)
theorem hv_k0_40_33 (hz : hv_Z s0 a0) (hW : s0.WarmedH s.vm) : hv_LK l s args 0 (40, 33, 257) :=
  show hv_Link l s args "HallOfClaimsLaw" 3 40 257 "HallOfClaimsModel" from hv_kV hz hW hv_mf257 rfl rfl (lw_g (lw_at lw_m9 92 rfl) rfl) (lw_g (lw_at lw_m9 93 rfl) rfl) (lw_g (lw_at lw_m9 94 rfl) rfl)
theorem hv_k0_41_0 (hz : hv_Z s0 a0) (hW : s0.WarmedH s.vm) : hv_LK l s args 0 (41, 0, 259) :=
  show hv_Link l s args "HallOfClaimsLaw" 3 41 259 "HallOfClaims" from hv_kV hz hW hv_mf259 rfl rfl (lw_g (lw_at lw_m8 38 rfl) rfl) (lw_g (lw_at lw_m8 39 rfl) rfl) (lw_g (lw_at lw_m8 40 rfl) rfl)
theorem hv_k0_44_33 (hz : hv_Z s0 a0) (hW : s0.WarmedH s.vm) : hv_LK l s args 0 (44, 33, 260) :=
  show hv_Link l s args "HallOfClaimsLaw" 3 44 260 "HallOfClaimsModel" from hv_kV hz hW hv_mf260 rfl rfl (lw_g (lw_at lw_m9 100 rfl) rfl) (lw_g (lw_at lw_m9 101 rfl) rfl) (lw_g (lw_at lw_m9 102 rfl) rfl)
theorem hv_k0_45_0 (hz : hv_Z s0 a0) (hW : s0.WarmedH s.vm) : hv_LK l s args 0 (45, 0, 261) :=
  show hv_Link l s args "HallOfClaimsLaw" 3 45 261 "HallOfClaims" from hv_kV hz hW hv_mf261 rfl rfl (lw_g (lw_at lw_m8 42 rfl) rfl) (lw_g (lw_at lw_m8 43 rfl) rfl) (lw_g (lw_at lw_m8 44 rfl) rfl)
theorem hv_k0_48_33 (hz : hv_Z s0 a0) (hW : s0.WarmedH s.vm) : hv_LK l s args 0 (48, 33, 262) :=
  show hv_Link l s args "HallOfClaimsLaw" 3 48 262 "HallOfClaimsModel" from hv_kV hz hW hv_mf262 rfl rfl (lw_g (lw_at lw_m9 104 rfl) rfl) (lw_g (lw_at lw_m9 105 rfl) rfl) (lw_g (lw_at lw_m9 106 rfl) rfl)
theorem hv_k0_49_0 (hz : hv_Z s0 a0) (hW : s0.WarmedH s.vm) : hv_LK l s args 0 (49, 0, 263) :=
  show hv_Link l s args "HallOfClaimsLaw" 3 49 263 "HallOfClaims" from hv_kV hz hW hv_mf263 rfl rfl (lw_g (lw_at lw_m8 46 rfl) rfl) (lw_g (lw_at lw_m8 47 rfl) rfl) (lw_g (lw_at lw_m8 48 rfl) rfl)
theorem hv_k0_52_33 (hz : hv_Z s0 a0) (hW : s0.WarmedH s.vm) : hv_LK l s args 0 (52, 33, 264) :=
  show hv_Link l s args "HallOfClaimsLaw" 3 52 264 "HallOfClaimsModel" from hv_kV hz hW hv_mf264 rfl rfl (lw_g (lw_at lw_m9 109 rfl) rfl) (lw_g (lw_at lw_m9 110 rfl) rfl) (lw_g (lw_at lw_m9 111 rfl) rfl)
theorem hv_k0_53_0 (hz : hv_Z s0 a0) (hW : s0.WarmedH s.vm) : hv_LK l s args 0 (53, 0, 270) :=
  show hv_Link l s args "HallOfClaimsLaw" 3 53 270 "HallOfClaims" from hv_kV hz hW hv_mf270 rfl rfl (lw_g (lw_at lw_m8 50 rfl) rfl) (lw_g (lw_at lw_m8 51 rfl) rfl) (lw_g (lw_at lw_m8 52 rfl) rfl)
theorem hv_k0_56_33 (hz : hv_Z s0 a0) (hW : s0.WarmedH s.vm) : hv_LK l s args 0 (56, 33, 271) :=
  show hv_Link l s args "HallOfClaimsLaw" 3 56 271 "HallOfClaimsModel" from hv_kV hz hW hv_mf271 rfl rfl (lw_g (lw_at lw_m9 132 rfl) rfl) (lw_g (lw_at lw_m9 133 rfl) rfl) (lw_g (lw_at lw_m9 134 rfl) rfl)
theorem hv_k0_57_0 (hz : hv_Z s0 a0) (hW : s0.WarmedH s.vm) : hv_LK l s args 0 (57, 0, 275) :=
  show hv_Link l s args "HallOfClaimsLaw" 3 57 275 "HallOfClaims" from hv_kV hz hW hv_mf275 rfl rfl (lw_g (lw_at lw_m8 54 rfl) rfl) (lw_g (lw_at lw_m8 55 rfl) rfl) (lw_g (lw_at lw_m8 56 rfl) rfl)
theorem hv_k0_60_33 (hz : hv_Z s0 a0) (hW : s0.WarmedH s.vm) : hv_LK l s args 0 (60, 33, 276) :=
  show hv_Link l s args "HallOfClaimsLaw" 3 60 276 "HallOfClaimsModel" from hv_kV hz hW hv_mf276 rfl rfl (lw_g (lw_at lw_m9 148 rfl) rfl) (lw_g (lw_at lw_m9 149 rfl) rfl) (lw_g (lw_at lw_m9 150 rfl) rfl)
theorem hv_k0_61_0 (hz : hv_Z s0 a0) (hW : s0.WarmedH s.vm) : hv_LK l s args 0 (61, 0, 277) :=
  show hv_Link l s args "HallOfClaimsLaw" 3 61 277 "HallOfClaims" from hv_kV hz hW hv_mf277 rfl rfl (lw_g (lw_at lw_m8 58 rfl) rfl) (lw_g (lw_at lw_m8 59 rfl) rfl) (lw_g (lw_at lw_m8 60 rfl) rfl)
theorem hv_k0_64_33 (hz : hv_Z s0 a0) (hW : s0.WarmedH s.vm) : hv_LK l s args 0 (64, 33, 278) :=
  show hv_Link l s args "HallOfClaimsLaw" 3 64 278 "HallOfClaimsModel" from hv_kV hz hW hv_mf278 rfl rfl (lw_g (lw_at lw_m9 152 rfl) rfl) (lw_g (lw_at lw_m9 153 rfl) rfl) (lw_g (lw_at lw_m9 154 rfl) rfl)
theorem hv_k0_65_0 (hz : hv_Z s0 a0) (hW : s0.WarmedH s.vm) : hv_LK l s args 0 (65, 0, 292) :=
  show hv_Link l s args "HallOfClaimsLaw" 3 65 292 "HallOfClaims" from hv_kV hz hW hv_mf292 rfl rfl (lw_g (lw_at lw_m8 62 rfl) rfl) (lw_g (lw_at lw_m8 63 rfl) rfl) (lw_g (lw_at lw_m8 64 rfl) rfl)
theorem hv_k0_68_33 (hz : hv_Z s0 a0) (hW : s0.WarmedH s.vm) : hv_LK l s args 0 (68, 33, 293) :=
  show hv_Link l s args "HallOfClaimsLaw" 3 68 293 "HallOfClaimsModel" from hv_kV hz hW hv_mf293 rfl rfl (lw_g (lw_at lw_m9 207 rfl) rfl) (lw_g (lw_at lw_m9 208 rfl) rfl) (lw_g (lw_at lw_m9 209 rfl) rfl)
theorem hv_k0_69_0 (hz : hv_Z s0 a0) (hW : s0.WarmedH s.vm) : hv_LK l s args 0 (69, 0, 294) :=
  show hv_Link l s args "HallOfClaimsLaw" 3 69 294 "HallOfClaims" from hv_kV hz hW hv_mf294 rfl rfl (lw_g (lw_at lw_m8 66 rfl) rfl) (lw_g (lw_at lw_m8 67 rfl) rfl) (lw_g (lw_at lw_m8 68 rfl) rfl)
theorem hv_k0_72_33 (hz : hv_Z s0 a0) (hW : s0.WarmedH s.vm) : hv_LK l s args 0 (72, 33, 295) :=
  show hv_Link l s args "HallOfClaimsLaw" 3 72 295 "HallOfClaimsModel" from hv_kV hz hW hv_mf295 rfl rfl (lw_g (lw_at lw_m9 211 rfl) rfl) (lw_g (lw_at lw_m9 212 rfl) rfl) (lw_g (lw_at lw_m9 213 rfl) rfl)
theorem hv_k0_73_0 (hz : hv_Z s0 a0) (hW : s0.WarmedH s.vm) : hv_LK l s args 0 (73, 0, 296) :=
  show hv_Link l s args "HallOfClaimsLaw" 3 73 296 "HallOfClaims" from hv_kV hz hW hv_mf296 rfl rfl (lw_g (lw_at lw_m8 70 rfl) rfl) (lw_g (lw_at lw_m8 71 rfl) rfl) (lw_g (lw_at lw_m8 72 rfl) rfl)
theorem hv_k0_76_33 (hz : hv_Z s0 a0) (hW : s0.WarmedH s.vm) : hv_LK l s args 0 (76, 33, 297) :=
  show hv_Link l s args "HallOfClaimsLaw" 3 76 297 "HallOfClaimsModel" from hv_kV hz hW hv_mf297 rfl rfl (lw_g (lw_at lw_m9 215 rfl) rfl) (lw_g (lw_at lw_m9 216 rfl) rfl) (lw_g (lw_at lw_m9 217 rfl) rfl)
theorem hv_k0_77_0 (hz : hv_Z s0 a0) (hW : s0.WarmedH s.vm) : hv_LK l s args 0 (77, 0, 303) :=
  show hv_Link l s args "HallOfClaimsLaw" 3 77 303 "HallOfClaims" from hv_kV hz hW hv_mf303 rfl rfl (lw_g (lw_at lw_m8 74 rfl) rfl) (lw_g (lw_at lw_m8 75 rfl) rfl) (lw_g (lw_at lw_m8 76 rfl) rfl)
theorem hv_k0_80_33 (hz : hv_Z s0 a0) (hW : s0.WarmedH s.vm) : hv_LK l s args 0 (80, 33, 304) :=
  show hv_Link l s args "HallOfClaimsLaw" 3 80 304 "HallOfClaimsModel" from hv_kV hz hW hv_mf304 rfl rfl (lw_g (lw_at lw_m10 1 rfl) rfl) (lw_g (lw_at lw_m10 2 rfl) rfl) (lw_g (lw_at lw_m10 3 rfl) rfl)
theorem hv_k0_81_0 (hz : hv_Z s0 a0) (hW : s0.WarmedH s.vm) : hv_LK l s args 0 (81, 0, 305) :=
  show hv_Link l s args "HallOfClaimsLaw" 3 81 305 "HallOfClaims" from hv_kV hz hW hv_mf305 rfl rfl (lw_g (lw_at lw_m8 78 rfl) rfl) (lw_g (lw_at lw_m8 79 rfl) rfl) (lw_g (lw_at lw_m8 80 rfl) rfl)
theorem hv_k0_84_33 (hz : hv_Z s0 a0) (hW : s0.WarmedH s.vm) : hv_LK l s args 0 (84, 33, 306) :=
  show hv_Link l s args "HallOfClaimsLaw" 3 84 306 "HallOfClaimsModel" from hv_kV hz hW hv_mf306 rfl rfl (lw_g (lw_at lw_m10 5 rfl) rfl) (lw_g (lw_at lw_m10 6 rfl) rfl) (lw_g (lw_at lw_m10 7 rfl) rfl)
theorem hv_k0_85_0 (hz : hv_Z s0 a0) (hW : s0.WarmedH s.vm) : hv_LK l s args 0 (85, 0, 308) :=
  show hv_Link l s args "HallOfClaimsLaw" 3 85 308 "HallOfClaims" from hv_kV hz hW hv_mf308 rfl rfl (lw_g (lw_at lw_m8 82 rfl) rfl) (lw_g (lw_at lw_m8 83 rfl) rfl) (lw_g (lw_at lw_m8 84 rfl) rfl)
theorem hv_k0_88_33 (hz : hv_Z s0 a0) (hW : s0.WarmedH s.vm) : hv_LK l s args 0 (88, 33, 309) :=
  show hv_Link l s args "HallOfClaimsLaw" 3 88 309 "HallOfClaimsModel" from hv_kV hz hW hv_mf309 rfl rfl (lw_g (lw_at lw_m10 13 rfl) rfl) (lw_g (lw_at lw_m10 14 rfl) rfl) (lw_g (lw_at lw_m10 15 rfl) rfl)
theorem hv_k0_89_0 (hz : hv_Z s0 a0) (hW : s0.WarmedH s.vm) : hv_LK l s args 0 (89, 0, 310) :=
  show hv_Link l s args "HallOfClaimsLaw" 3 89 310 "HallOfClaims" from hv_kV hz hW hv_mf310 rfl rfl (lw_g (lw_at lw_m8 86 rfl) rfl) (lw_g (lw_at lw_m8 87 rfl) rfl) (lw_g (lw_at lw_m8 88 rfl) rfl)
theorem hv_k0_92_33 (hz : hv_Z s0 a0) (hW : s0.WarmedH s.vm) : hv_LK l s args 0 (92, 33, 311) :=
  show hv_Link l s args "HallOfClaimsLaw" 3 92 311 "HallOfClaimsModel" from hv_kV hz hW hv_mf311 rfl rfl (lw_g (lw_at lw_m10 17 rfl) rfl) (lw_g (lw_at lw_m10 18 rfl) rfl) (lw_g (lw_at lw_m10 19 rfl) rfl)
theorem hv_k0_93_0 (hz : hv_Z s0 a0) (hW : s0.WarmedH s.vm) : hv_LK l s args 0 (93, 0, 313) :=
  show hv_Link l s args "HallOfClaimsLaw" 3 93 313 "HallOfClaims" from hv_kV hz hW hv_mf313 rfl rfl (lw_g (lw_at lw_m8 90 rfl) rfl) (lw_g (lw_at lw_m8 91 rfl) rfl) (lw_g (lw_at lw_m8 92 rfl) rfl)
theorem hv_k0_97_33 (hz : hv_Z s0 a0) (hW : s0.WarmedH s.vm) : hv_LK l s args 0 (97, 33, 317) :=
  show hv_Link l s args "HallOfClaimsLaw" 3 97 317 "HallOfClaimsModel" from hv_kV hz hW hv_mf317 rfl rfl (lw_g (lw_at lw_m10 25 rfl) rfl) (lw_g (lw_at lw_m10 26 rfl) rfl) (lw_g (lw_at lw_m10 27 rfl) rfl)
theorem hv_k0_98_0 (hz : hv_Z s0 a0) (hW : s0.WarmedH s.vm) : hv_LK l s args 0 (98, 0, 319) :=
  show hv_Link l s args "HallOfClaimsLaw" 3 98 319 "HallOfClaims" from hv_kV hz hW hv_mf319 rfl rfl (lw_g (lw_at lw_m8 107 rfl) rfl) (lw_g (lw_at lw_m8 108 rfl) rfl) (lw_g (lw_at lw_m8 109 rfl) rfl)
theorem hv_k0_101_33 (hz : hv_Z s0 a0) (hW : s0.WarmedH s.vm) : hv_LK l s args 0 (101, 33, 320) :=
  show hv_Link l s args "HallOfClaimsLaw" 3 101 320 "HallOfClaimsModel" from hv_kV hz hW hv_mf320 rfl rfl (lw_g (lw_at lw_m10 35 rfl) rfl) (lw_g (lw_at lw_m10 36 rfl) rfl) (lw_g (lw_at lw_m10 37 rfl) rfl)
theorem hv_k0_102_0 (hz : hv_Z s0 a0) (hW : s0.WarmedH s.vm) : hv_LK l s args 0 (102, 0, 322) :=
  show hv_Link l s args "HallOfClaimsLaw" 3 102 322 "HallOfClaims" from hv_kV hz hW hv_mf322 rfl rfl (lw_g (lw_at lw_m8 111 rfl) rfl) (lw_g (lw_at lw_m8 112 rfl) rfl) (lw_g (lw_at lw_m8 113 rfl) rfl)
theorem hv_k0_105_33 (hz : hv_Z s0 a0) (hW : s0.WarmedH s.vm) : hv_LK l s args 0 (105, 33, 323) :=
  show hv_Link l s args "HallOfClaimsLaw" 3 105 323 "HallOfClaimsModel" from hv_kV hz hW hv_mf323 rfl rfl (lw_g (lw_at lw_m10 43 rfl) rfl) (lw_g (lw_at lw_m10 44 rfl) rfl) (lw_g (lw_at lw_m10 45 rfl) rfl)
theorem hv_k0_106_0 (hz : hv_Z s0 a0) (hW : s0.WarmedH s.vm) : hv_LK l s args 0 (106, 0, 324) :=
  show hv_Link l s args "HallOfClaimsLaw" 3 106 324 "HallOfClaims" from hv_kV hz hW hv_mf324 rfl rfl (lw_g (lw_at lw_m8 115 rfl) rfl) (lw_g (lw_at lw_m8 116 rfl) rfl) (lw_g (lw_at lw_m8 117 rfl) rfl)
theorem hv_k0_109_33 (hz : hv_Z s0 a0) (hW : s0.WarmedH s.vm) : hv_LK l s args 0 (109, 33, 325) :=
  show hv_Link l s args "HallOfClaimsLaw" 3 109 325 "HallOfClaimsModel" from hv_kV hz hW hv_mf325 rfl rfl (lw_g (lw_at lw_m10 47 rfl) rfl) (lw_g (lw_at lw_m10 48 rfl) rfl) (lw_g (lw_at lw_m10 49 rfl) rfl)
theorem hv_k0_110_0 (hz : hv_Z s0 a0) (hW : s0.WarmedH s.vm) : hv_LK l s args 0 (110, 0, 329) :=
  show hv_Link l s args "HallOfClaimsLaw" 3 110 329 "HallOfClaims" from hv_kV hz hW hv_mf329 rfl rfl (lw_g (lw_at lw_m8 119 rfl) rfl) (lw_g (lw_at lw_m8 120 rfl) rfl) (lw_g (lw_at lw_m8 121 rfl) rfl)
theorem hv_k0_113_33 (hz : hv_Z s0 a0) (hW : s0.WarmedH s.vm) : hv_LK l s args 0 (113, 33, 330) :=
  show hv_Link l s args "HallOfClaimsLaw" 3 113 330 "HallOfClaimsModel" from hv_kV hz hW hv_mf330 rfl rfl (lw_g (lw_at lw_m10 63 rfl) rfl) (lw_g (lw_at lw_m10 64 rfl) rfl) (lw_g (lw_at lw_m10 65 rfl) rfl)
theorem hv_k0_114_0 (hz : hv_Z s0 a0) (hW : s0.WarmedH s.vm) : hv_LK l s args 0 (114, 0, 331) :=
  show hv_Link l s args "HallOfClaimsLaw" 3 114 331 "HallOfClaims" from hv_kV hz hW hv_mf331 rfl rfl (lw_g (lw_at lw_m8 123 rfl) rfl) (lw_g (lw_at lw_m8 124 rfl) rfl) (lw_g (lw_at lw_m8 125 rfl) rfl)
theorem hv_k0_117_33 (hz : hv_Z s0 a0) (hW : s0.WarmedH s.vm) : hv_LK l s args 0 (117, 33, 332) :=
  show hv_Link l s args "HallOfClaimsLaw" 3 117 332 "HallOfClaimsModel" from hv_kV hz hW hv_mf332 rfl rfl (lw_g (lw_at lw_m10 67 rfl) rfl) (lw_g (lw_at lw_m10 68 rfl) rfl) (lw_g (lw_at lw_m10 69 rfl) rfl)
theorem hv_k0_118_0 (hz : hv_Z s0 a0) (hW : s0.WarmedH s.vm) : hv_LK l s args 0 (118, 0, 337) :=
  show hv_Link l s args "HallOfClaimsLaw" 3 118 337 "HallOfClaims" from hv_kV hz hW hv_mf337 rfl rfl (lw_g (lw_at lw_m8 127 rfl) rfl) (lw_g (lw_at lw_m8 128 rfl) rfl) (lw_g (lw_at lw_m8 129 rfl) rfl)
theorem hv_k0_121_33 (hz : hv_Z s0 a0) (hW : s0.WarmedH s.vm) : hv_LK l s args 0 (121, 33, 338) :=
  show hv_Link l s args "HallOfClaimsLaw" 3 121 338 "HallOfClaimsModel" from hv_kV hz hW hv_mf338 rfl rfl (lw_g (lw_at lw_m10 87 rfl) rfl) (lw_g (lw_at lw_m10 88 rfl) rfl) (lw_g (lw_at lw_m10 89 rfl) rfl)
theorem hv_k0_122_0 (hz : hv_Z s0 a0) (hW : s0.WarmedH s.vm) : hv_LK l s args 0 (122, 0, 341) :=
  show hv_Link l s args "HallOfClaimsLaw" 3 122 341 "HallOfClaims" from hv_kV hz hW hv_mf341 rfl rfl (lw_g (lw_at lw_m8 131 rfl) rfl) (lw_g (lw_at lw_m8 132 rfl) rfl) (lw_g (lw_at lw_m8 133 rfl) rfl)
theorem hv_k0_125_33 (hz : hv_Z s0 a0) (hW : s0.WarmedH s.vm) : hv_LK l s args 0 (125, 33, 342) :=
  show hv_Link l s args "HallOfClaimsLaw" 3 125 342 "HallOfClaimsModel" from hv_kV hz hW hv_mf342 rfl rfl (lw_g (lw_at lw_m10 102 rfl) rfl) (lw_g (lw_at lw_m10 103 rfl) rfl) (lw_g (lw_at lw_m10 104 rfl) rfl)
theorem hv_k0_126_0 (hz : hv_Z s0 a0) (hW : s0.WarmedH s.vm) : hv_LK l s args 0 (126, 0, 343) :=
  show hv_Link l s args "HallOfClaimsLaw" 3 126 343 "HallOfClaims" from hv_kV hz hW hv_mf343 rfl rfl (lw_g (lw_at lw_m8 135 rfl) rfl) (lw_g (lw_at lw_m8 136 rfl) rfl) (lw_g (lw_at lw_m8 137 rfl) rfl)
theorem hv_k0_129_33 (hz : hv_Z s0 a0) (hW : s0.WarmedH s.vm) : hv_LK l s args 0 (129, 33, 344) :=
  show hv_Link l s args "HallOfClaimsLaw" 3 129 344 "HallOfClaimsModel" from hv_kV hz hW hv_mf344 rfl rfl (lw_g (lw_at lw_m10 106 rfl) rfl) (lw_g (lw_at lw_m10 107 rfl) rfl) (lw_g (lw_at lw_m10 108 rfl) rfl)
theorem hv_k0_130_0 (hz : hv_Z s0 a0) (hW : s0.WarmedH s.vm) : hv_LK l s args 0 (130, 0, 345) :=
  show hv_Link l s args "HallOfClaimsLaw" 3 130 345 "HallOfClaims" from hv_kV hz hW hv_mf345 rfl rfl (lw_g (lw_at lw_m8 139 rfl) rfl) (lw_g (lw_at lw_m8 140 rfl) rfl) (lw_g (lw_at lw_m8 141 rfl) rfl)
theorem hv_k0_133_33 (hz : hv_Z s0 a0) (hW : s0.WarmedH s.vm) : hv_LK l s args 0 (133, 33, 347) :=
  show hv_Link l s args "HallOfClaimsLaw" 3 133 347 "HallOfClaimsModel" from hv_kV hz hW hv_mf347 rfl rfl (lw_g (lw_at lw_m10 110 rfl) rfl) (lw_g (lw_at lw_m10 111 rfl) rfl) (lw_g (lw_at lw_m10 112 rfl) rfl)
theorem hv_lk0 (hz : hv_Z s0 a0) (hW : s0.WarmedH s.vm) : ∀ q ∈ hv_ll 0, hv_LK l s args 0 q := by
  rw [show hv_ll 0 = [(9, 0, 1), (12, 0, 28), (13, 0, 29), (17, 33, 227), (18, 0, 230), (22, 33, 231), (23, 0, 250), (27, 33, 251), (28, 0, 252), (31, 33, 253), (32, 0, 254), (35, 33, 255), (36, 0, 256), (40, 33, 257), (41, 0, 259), (44, 33, 260), (45, 0, 261), (48, 33, 262), (49, 0, 263), (52, 33, 264), (53, 0, 270), (56, 33, 271), (57, 0, 275), (60, 33, 276), (61, 0, 277), (64, 33, 278), (65, 0, 292), (68, 33, 293), (69, 0, 294), (72, 33, 295), (73, 0, 296), (76, 33, 297), (77, 0, 303), (80, 33, 304), (81, 0, 305), (84, 33, 306), (85, 0, 308), (88, 33, 309), (89, 0, 310), (92, 33, 311), (93, 0, 313), (97, 33, 317), (98, 0, 319), (101, 33, 320), (102, 0, 322), (105, 33, 323), (106, 0, 324), (109, 33, 325), (110, 0, 329), (113, 33, 330), (114, 0, 331), (117, 33, 332), (118, 0, 337), (121, 33, 338), (122, 0, 341), (125, 33, 342), (126, 0, 343), (129, 33, 344), (130, 0, 345), (133, 33, 347)] by decide +kernel]
  exact List.forall_mem_cons.mpr ⟨hv_k0_9_0 hz hW, List.forall_mem_cons.mpr ⟨hv_k0_12_0 hz hW, List.forall_mem_cons.mpr ⟨hv_k0_13_0 hz hW, List.forall_mem_cons.mpr ⟨hv_k0_17_33 hz hW, List.forall_mem_cons.mpr ⟨hv_k0_18_0 hz hW, List.forall_mem_cons.mpr ⟨hv_k0_22_33 hz hW, List.forall_mem_cons.mpr ⟨hv_k0_23_0 hz hW, List.forall_mem_cons.mpr ⟨hv_k0_27_33 hz hW, List.forall_mem_cons.mpr ⟨hv_k0_28_0 hz hW, List.forall_mem_cons.mpr ⟨hv_k0_31_33 hz hW, List.forall_mem_cons.mpr ⟨hv_k0_32_0 hz hW, List.forall_mem_cons.mpr ⟨hv_k0_35_33 hz hW, List.forall_mem_cons.mpr ⟨hv_k0_36_0 hz hW, List.forall_mem_cons.mpr ⟨hv_k0_40_33 hz hW, List.forall_mem_cons.mpr ⟨hv_k0_41_0 hz hW, List.forall_mem_cons.mpr ⟨hv_k0_44_33 hz hW, List.forall_mem_cons.mpr ⟨hv_k0_45_0 hz hW, List.forall_mem_cons.mpr ⟨hv_k0_48_33 hz hW, List.forall_mem_cons.mpr ⟨hv_k0_49_0 hz hW, List.forall_mem_cons.mpr ⟨hv_k0_52_33 hz hW, List.forall_mem_cons.mpr ⟨hv_k0_53_0 hz hW, List.forall_mem_cons.mpr ⟨hv_k0_56_33 hz hW, List.forall_mem_cons.mpr ⟨hv_k0_57_0 hz hW, List.forall_mem_cons.mpr ⟨hv_k0_60_33 hz hW, List.forall_mem_cons.mpr ⟨hv_k0_61_0 hz hW, List.forall_mem_cons.mpr ⟨hv_k0_64_33 hz hW, List.forall_mem_cons.mpr ⟨hv_k0_65_0 hz hW, List.forall_mem_cons.mpr ⟨hv_k0_68_33 hz hW, List.forall_mem_cons.mpr ⟨hv_k0_69_0 hz hW, List.forall_mem_cons.mpr ⟨hv_k0_72_33 hz hW, List.forall_mem_cons.mpr ⟨hv_k0_73_0 hz hW, List.forall_mem_cons.mpr ⟨hv_k0_76_33 hz hW, List.forall_mem_cons.mpr ⟨hv_k0_77_0 hz hW, List.forall_mem_cons.mpr ⟨hv_k0_80_33 hz hW, List.forall_mem_cons.mpr ⟨hv_k0_81_0 hz hW, List.forall_mem_cons.mpr ⟨hv_k0_84_33 hz hW, List.forall_mem_cons.mpr ⟨hv_k0_85_0 hz hW, List.forall_mem_cons.mpr ⟨hv_k0_88_33 hz hW, List.forall_mem_cons.mpr ⟨hv_k0_89_0 hz hW, List.forall_mem_cons.mpr ⟨hv_k0_92_33 hz hW, List.forall_mem_cons.mpr ⟨hv_k0_93_0 hz hW, List.forall_mem_cons.mpr ⟨hv_k0_97_33 hz hW, List.forall_mem_cons.mpr ⟨hv_k0_98_0 hz hW, List.forall_mem_cons.mpr ⟨hv_k0_101_33 hz hW, List.forall_mem_cons.mpr ⟨hv_k0_102_0 hz hW, List.forall_mem_cons.mpr ⟨hv_k0_105_33 hz hW, List.forall_mem_cons.mpr ⟨hv_k0_106_0 hz hW, List.forall_mem_cons.mpr ⟨hv_k0_109_33 hz hW, List.forall_mem_cons.mpr ⟨hv_k0_110_0 hz hW, List.forall_mem_cons.mpr ⟨hv_k0_113_33 hz hW, List.forall_mem_cons.mpr ⟨hv_k0_114_0 hz hW, List.forall_mem_cons.mpr ⟨hv_k0_117_33 hz hW, List.forall_mem_cons.mpr ⟨hv_k0_118_0 hz hW, List.forall_mem_cons.mpr ⟨hv_k0_121_33 hz hW, List.forall_mem_cons.mpr ⟨hv_k0_122_0 hz hW, List.forall_mem_cons.mpr ⟨hv_k0_125_33 hz hW, List.forall_mem_cons.mpr ⟨hv_k0_126_0 hz hW, List.forall_mem_cons.mpr ⟨hv_k0_129_33 hz hW, List.forall_mem_cons.mpr ⟨hv_k0_130_0 hz hW, List.forall_mem_cons.mpr ⟨hv_k0_133_33 hz hW, fun _ h => absurd h List.not_mem_nil⟩⟩⟩⟩⟩⟩⟩⟩⟩⟩⟩⟩⟩⟩⟩⟩⟩⟩⟩⟩⟩⟩⟩⟩⟩⟩⟩⟩⟩⟩⟩⟩⟩⟩⟩⟩⟩⟩⟩⟩⟩⟩⟩⟩⟩⟩⟩⟩⟩⟩⟩⟩⟩⟩⟩⟩⟩⟩⟩⟩
theorem hv_k1_3_0 (hz : hv_Z s0 a0) (hW : s0.WarmedH s.vm) : hv_LK l s args 1 (3, 0, 36) :=
  show hv_Link l s args "HallOfClaims" 1 3 36 "HallOfClaims" from hv_kI hz hW hv_mf36 rfl rfl rfl rfl (lw_g (lw_at lw_m3 57 rfl) rfl) (lw_g (lw_at lw_m3 58 rfl) rfl)
theorem hv_k1_9_0 (hz : hv_Z s0 a0) (hW : s0.WarmedH s.vm) : hv_LK l s args 1 (9, 0, 35) :=
  show hv_Link l s args "HallOfClaims" 0 9 35 "HallOfClaims" from hv_kS hz hW hv_mf35 rfl rfl (lw_g (lw_at lw_m3 13 rfl) rfl) (lw_g (lw_at lw_m3 14 rfl) rfl)
theorem hv_k1_13_0 (hz : hv_Z s0 a0) (hW : s0.WarmedH s.vm) : hv_LK l s args 1 (13, 0, 44) :=
  show hv_Link l s args "HallOfClaims" 0 13 44 "HallOfClaims" from hv_kS hz hW hv_mf44 rfl rfl (lw_g (lw_at lw_m4 62 rfl) rfl) (lw_g (lw_at lw_m3 128 rfl) rfl)
theorem hv_k1_17_0 (hz : hv_Z s0 a0) (hW : s0.WarmedH s.vm) : hv_LK l s args 1 (17, 0, 316) :=
  show hv_Link l s args "HallOfClaims" 0 17 316 "HallOfClaims" from hv_kS hz hW hv_mf316 rfl rfl (lw_g (lw_at lw_m8 103 rfl) rfl) (lw_g (lw_at lw_m8 104 rfl) rfl)
theorem hv_k1_23_0 (hz : hv_Z s0 a0) (hW : s0.WarmedH s.vm) : hv_LK l s args 1 (23, 0, 3) :=
  show hv_Link l s args "HallOfClaims" 1 23 3 "HallOfClaims" from hv_kIN hz hW hv_mf3 rfl rfl rfl rfl (lw_at lw_m1 67 rfl) (lw_g (lw_at lw_m1 68 rfl) rfl)
theorem hv_k1_28_0 (hz : hv_Z s0 a0) (hW : s0.WarmedH s.vm) : hv_LK l s args 1 (28, 0, 5) :=
  show hv_Link l s args "HallOfClaims" 1 28 5 "HallOfClaims" from hv_kIN hz hW hv_mf5 rfl rfl rfl rfl (lw_at lw_m1 77 rfl) (lw_g (lw_at lw_m1 78 rfl) rfl)
theorem hv_k1_31_0 (hz : hv_Z s0 a0) (hW : s0.WarmedH s.vm) : hv_LK l s args 1 (31, 0, 6) :=
  show hv_Link l s args "HallOfClaims" 1 31 6 "HallOfClaims" from hv_kIN hz hW hv_mf6 rfl rfl rfl rfl (lw_at lw_m1 84 rfl) (lw_g (lw_at lw_m1 85 rfl) rfl)
theorem hv_k1_34_0 (hz : hv_Z s0 a0) (hW : s0.WarmedH s.vm) : hv_LK l s args 1 (34, 0, 7) :=
  show hv_Link l s args "HallOfClaims" 1 34 7 "HallOfClaims" from hv_kIN hz hW hv_mf7 rfl rfl rfl rfl (lw_at lw_m1 91 rfl) (lw_g (lw_at lw_m1 92 rfl) rfl)
theorem hv_k1_37_0 (hz : hv_Z s0 a0) (hW : s0.WarmedH s.vm) : hv_LK l s args 1 (37, 0, 8) :=
  show hv_Link l s args "HallOfClaims" 1 37 8 "HallOfClaims" from hv_kIN hz hW hv_mf8 rfl rfl rfl rfl (lw_at lw_m1 98 rfl) (lw_g (lw_at lw_m1 99 rfl) rfl)
theorem hv_k1_40_0 (hz : hv_Z s0 a0) (hW : s0.WarmedH s.vm) : hv_LK l s args 1 (40, 0, 4) :=
  show hv_Link l s args "HallOfClaims" 1 40 4 "HallOfClaims" from hv_kIN hz hW hv_mf4 rfl rfl rfl rfl (lw_at lw_m1 104 rfl) (lw_g (lw_at lw_m1 71 rfl) rfl)
theorem hv_k1_44_0 (hz : hv_Z s0 a0) (hW : s0.WarmedH s.vm) : hv_LK l s args 1 (44, 0, 2) :=
  show hv_Link l s args "HallOfClaims" 0 44 2 "HallOfClaims" from hv_kS hz hW hv_mf2 rfl rfl (lw_g (lw_at lw_m1 62 rfl) rfl) (lw_g (lw_at lw_m1 63 rfl) rfl)
theorem hv_k1_54_0 (hz : hv_Z s0 a0) (hW : s0.WarmedH s.vm) : hv_LK l s args 1 (54, 0, 9) :=
  show hv_Link l s args "HallOfClaims" 1 54 9 "HallOfClaims" from hv_kI hz hW hv_mf9 rfl rfl rfl rfl (lw_g (lw_at lw_m1 108 rfl) rfl) (lw_g (lw_at lw_m1 109 rfl) rfl)
theorem hv_k1_69_0 (hz : hv_Z s0 a0) (hW : s0.WarmedH s.vm) : hv_LK l s args 1 (69, 0, 10) :=
  show hv_Link l s args "HallOfClaims" 1 69 10 "HallOfClaims" from hv_kI hz hW hv_mf10 rfl rfl rfl rfl (lw_g (lw_at lw_m1 164 rfl) rfl) (lw_g (lw_at lw_m1 165 rfl) rfl)
theorem hv_k1_76_0 (hz : hv_Z s0 a0) (hW : s0.WarmedH s.vm) : hv_LK l s args 1 (76, 0, 16) :=
  show hv_Link l s args "HallOfClaims" 1 76 16 "HallOfClaims" from hv_kI hz hW hv_mf16 rfl rfl rfl rfl (lw_g (lw_at lw_m2 26 rfl) rfl) (lw_g (lw_at lw_m2 27 rfl) rfl)
theorem hv_k1_85_0 (hz : hv_Z s0 a0) (hW : s0.WarmedH s.vm) : hv_LK l s args 1 (85, 0, 17) :=
  show hv_Link l s args "HallOfClaims" 1 85 17 "HallOfClaims" from hv_kI hz hW hv_mf17 rfl rfl rfl rfl (lw_g (lw_at lw_m2 47 rfl) rfl) (lw_g (lw_at lw_m2 48 rfl) rfl)
theorem hv_k1_92_0 (hz : hv_Z s0 a0) (hW : s0.WarmedH s.vm) : hv_LK l s args 1 (92, 0, 25) :=
  show hv_Link l s args "HallOfClaims" 1 92 25 "HallOfClaims" from hv_kIN hz hW hv_mf25 rfl rfl rfl rfl (lw_at lw_m2 132 rfl) (lw_g (lw_at lw_m2 133 rfl) rfl)
theorem hv_k1_111_0 (hz : hv_Z s0 a0) (hW : s0.WarmedH s.vm) : hv_LK l s args 1 (111, 0, 26) :=
  show hv_Link l s args "HallOfClaims" 1 111 26 "HallOfClaims" from hv_kIN hz hW hv_mf26 rfl rfl rfl rfl (lw_at lw_m2 152 rfl) (lw_g (lw_at lw_m2 153 rfl) rfl)
theorem hv_k1_118_0 (hz : hv_Z s0 a0) (hW : s0.WarmedH s.vm) : hv_LK l s args 1 (118, 0, 27) :=
  show hv_Link l s args "HallOfClaims" 1 118 27 "HallOfClaims" from hv_kI hz hW hv_mf27 rfl rfl rfl rfl (lw_g (lw_at lw_m2 172 rfl) rfl) (lw_g (lw_at lw_m2 173 rfl) rfl)
theorem hv_k1_125_0 (hz : hv_Z s0 a0) (hW : s0.WarmedH s.vm) : hv_LK l s args 1 (125, 0, 39) :=
  show hv_Link l s args "HallOfClaims" 1 125 39 "HallOfClaims" from hv_kIN hz hW hv_mf39 rfl rfl rfl rfl (lw_at lw_m3 91 rfl) (lw_g (lw_at lw_m3 92 rfl) rfl)
theorem hv_k1_134_20 (hz : hv_Z s0 a0) (hW : s0.WarmedH s.vm) : hv_LK l s args 1 (134, 20, 40) :=
  show hv_Link l s args "HallOfClaims" 3 134 40 "HallOfClaims$Reader" from hv_kV hz hW hv_mf40 rfl rfl (lw_g (lw_at lw_m3 109 rfl) rfl) (lw_g (lw_at lw_m3 110 rfl) rfl) (lw_g (lw_at lw_m3 111 rfl) rfl)
theorem hv_k1_144_7 (hz : hv_Z s0 a0) (hW : s0.WarmedH s.vm) : hv_LK l s args 1 (144, 7, 59) :=
  show hv_Link l s args "HallOfClaims" 3 144 59 "HallOfClaims$Hall" from hv_kV hz hW hv_mf59 rfl rfl (lw_g (lw_at lw_m4 24 rfl) rfl) (lw_g (lw_at lw_m4 25 rfl) rfl) (lw_g (lw_at lw_m4 26 rfl) rfl)
theorem hv_k1_148_22 (hz : hv_Z s0 a0) (hW : s0.WarmedH s.vm) : hv_LK l s args 1 (148, 22, 60) :=
  show hv_Link l s args "HallOfClaims" 3 148 60 "HallOfClaims$ClaimTold" from hv_kU (owner := "HallOfClaims$Told") (x := ⟨"HallOfClaims$Told", "comes", "(LHallOfClaims$Hall;)Z"⟩) hz hW hv_mf60 rfl rfl rfl (by decide +kernel) (lw_g (lw_at lw_m4 31 rfl) rfl) (lw_g (lw_at lw_m4 33 rfl) rfl) (va_Decl.abs (va_Nw.warmD hW (va_Nw.of rfl (hz.1 _ (lw_at lw_m4 32 rfl))))) (lw_g (lw_at lw_m4 34 rfl) rfl) (lw_g (lw_at lw_m4 35 rfl) rfl)
theorem hv_k1_148_24 (hz : hv_Z s0 a0) (hW : s0.WarmedH s.vm) : hv_LK l s args 1 (148, 24, 62) :=
  show hv_Link l s args "HallOfClaims" 3 148 62 "HallOfClaims$KindTold" from hv_kU (owner := "HallOfClaims$Told") (x := ⟨"HallOfClaims$Told", "comes", "(LHallOfClaims$Hall;)Z"⟩) hz hW hv_mf62 rfl rfl rfl (by decide +kernel) (lw_g (lw_at lw_m4 31 rfl) rfl) (lw_g (lw_at lw_m4 33 rfl) rfl) (va_Decl.abs (va_Nw.warmD hW (va_Nw.of rfl (hz.1 _ (lw_at lw_m4 32 rfl))))) (lw_g (lw_at lw_m4 41 rfl) rfl) (lw_g (lw_at lw_m4 42 rfl) rfl)
theorem hv_k1_148_23 (hz : hv_Z s0 a0) (hW : s0.WarmedH s.vm) : hv_LK l s args 1 (148, 23, 63) :=
  show hv_Link l s args "HallOfClaims" 3 148 63 "HallOfClaims$ModeTold" from hv_kU (owner := "HallOfClaims$Told") (x := ⟨"HallOfClaims$Told", "comes", "(LHallOfClaims$Hall;)Z"⟩) hz hW hv_mf63 rfl rfl rfl (by decide +kernel) (lw_g (lw_at lw_m4 31 rfl) rfl) (lw_g (lw_at lw_m4 33 rfl) rfl) (va_Decl.abs (va_Nw.warmD hW (va_Nw.of rfl (hz.1 _ (lw_at lw_m4 32 rfl))))) (lw_g (lw_at lw_m4 44 rfl) rfl) (lw_g (lw_at lw_m4 45 rfl) rfl)
theorem hv_k1_148_26 (hz : hv_Z s0 a0) (hW : s0.WarmedH s.vm) : hv_LK l s args 1 (148, 26, 64) :=
  show hv_Link l s args "HallOfClaims" 3 148 64 "HallOfClaims$RowTold" from hv_kU (owner := "HallOfClaims$Told") (x := ⟨"HallOfClaims$Told", "comes", "(LHallOfClaims$Hall;)Z"⟩) hz hW hv_mf64 rfl rfl rfl (by decide +kernel) (lw_g (lw_at lw_m4 31 rfl) rfl) (lw_g (lw_at lw_m4 33 rfl) rfl) (va_Decl.abs (va_Nw.warmD hW (va_Nw.of rfl (hz.1 _ (lw_at lw_m4 32 rfl))))) (lw_g (lw_at lw_m4 47 rfl) rfl) (lw_g (lw_at lw_m4 48 rfl) rfl)
theorem hv_k1_148_25 (hz : hv_Z s0 a0) (hW : s0.WarmedH s.vm) : hv_LK l s args 1 (148, 25, 65) :=
  show hv_Link l s args "HallOfClaims" 3 148 65 "HallOfClaims$TurnTold" from hv_kU (owner := "HallOfClaims$Told") (x := ⟨"HallOfClaims$Told", "comes", "(LHallOfClaims$Hall;)Z"⟩) hz hW hv_mf65 rfl rfl rfl (by decide +kernel) (lw_g (lw_at lw_m4 31 rfl) rfl) (lw_g (lw_at lw_m4 33 rfl) rfl) (va_Decl.abs (va_Nw.warmD hW (va_Nw.of rfl (hz.1 _ (lw_at lw_m4 32 rfl))))) (lw_g (lw_at lw_m4 50 rfl) rfl) (lw_g (lw_at lw_m4 51 rfl) rfl)
theorem hv_k1_157_0 (hz : hv_Z s0 a0) (hW : s0.WarmedH s.vm) : hv_LK l s args 1 (157, 0, 46) :=
  show hv_Link l s args "HallOfClaims" 1 157 46 "HallOfClaims" from hv_kI hz hW hv_mf46 rfl rfl rfl rfl (lw_g (lw_at lw_m4 54 rfl) rfl) (lw_g (lw_at lw_m3 144 rfl) rfl)
theorem hv_k1_158_8 (hz : hv_Z s0 a0) (hW : s0.WarmedH s.vm) : hv_LK l s args 1 (158, 8, 93) :=
  show hv_Link l s args "HallOfClaims" 3 158 93 "HallOfClaims$Frame" from hv_kV hz hW hv_mf93 rfl rfl (lw_g (lw_at lw_m4 173 rfl) rfl) (lw_g (lw_at lw_m4 174 rfl) rfl) (lw_g (lw_at lw_m4 175 rfl) rfl)
theorem hv_k1_162_8 (hz : hv_Z s0 a0) (hW : s0.WarmedH s.vm) : hv_LK l s args 1 (162, 8, 99) :=
  show hv_Link l s args "HallOfClaims" 3 162 99 "HallOfClaims$Frame" from hv_kV hz hW hv_mf99 rfl rfl (lw_g (lw_at lw_m4 200 rfl) rfl) (lw_g (lw_at lw_m4 201 rfl) rfl) (lw_g (lw_at lw_m4 202 rfl) rfl)
theorem hv_k1_169_0 (hz : hv_Z s0 a0) (hW : s0.WarmedH s.vm) : hv_LK l s args 1 (169, 0, 70) :=
  show hv_Link l s args "HallOfClaims" 0 169 70 "HallOfClaims" from hv_kS hz hW hv_mf70 rfl rfl (lw_g (lw_at lw_m4 72 rfl) rfl) (lw_g (lw_at lw_m4 73 rfl) rfl)
theorem hv_k1_173_0 (hz : hv_Z s0 a0) (hW : s0.WarmedH s.vm) : hv_LK l s args 1 (173, 0, 67) :=
  show hv_Link l s args "HallOfClaims" 0 173 67 "HallOfClaims" from hv_kS hz hW hv_mf67 rfl rfl (lw_g (lw_at lw_m4 59 rfl) rfl) (lw_g (lw_at lw_m4 60 rfl) rfl)
theorem hv_k1_176_7 (hz : hv_Z s0 a0) (hW : s0.WarmedH s.vm) : hv_LK l s args 1 (176, 7, 61) :=
  show hv_Link l s args "HallOfClaims" 3 176 61 "HallOfClaims$Hall" from hv_kV hz hW hv_mf61 rfl rfl (lw_g (lw_at lw_m4 63 rfl) rfl) (lw_g (lw_at lw_m4 38 rfl) rfl) (lw_g (lw_at lw_m4 39 rfl) rfl)
theorem hv_k1_180_0 (hz : hv_Z s0 a0) (hW : s0.WarmedH s.vm) : hv_LK l s args 1 (180, 0, 69) :=
  show hv_Link l s args "HallOfClaims" 3 180 69 "HallOfClaims" from hv_kV hz hW hv_mf69 rfl rfl (lw_g (lw_at lw_m4 68 rfl) rfl) (lw_g (lw_at lw_m4 70 rfl) rfl) (lw_g (lw_at lw_ms 17 rfl) rfl)
theorem hv_k1_186_0 (hz : hv_Z s0 a0) (hW : s0.WarmedH s.vm) : hv_LK l s args 1 (186, 0, 71) :=
  show hv_Link l s args "HallOfClaims" 0 186 71 "HallOfClaims" from hv_kS hz hW hv_mf71 rfl rfl (lw_g (lw_at lw_m4 75 rfl) rfl) (lw_g (lw_at lw_m4 76 rfl) rfl)
theorem hv_k1_192_0 (hz : hv_Z s0 a0) (hW : s0.WarmedH s.vm) : hv_LK l s args 1 (192, 0, 34) :=
  show hv_Link l s args "HallOfClaims" 0 192 34 "HallOfClaims" from hv_kS hz hW hv_mf34 rfl rfl (lw_g (lw_at lw_m3 10 rfl) rfl) (lw_g (lw_at lw_m3 11 rfl) rfl)
theorem hv_k1_197_6 (hz : hv_Z s0 a0) (hW : s0.WarmedH s.vm) : hv_LK l s args 1 (197, 6, 73) :=
  show hv_Link l s args "HallOfClaims" 3 197 73 "HallOfClaims$Plain" from hv_kV hz hW hv_mf73 rfl rfl (lw_g (lw_at lw_m4 83 rfl) rfl) (lw_g (lw_at lw_m4 84 rfl) rfl) (lw_g (lw_at lw_m4 85 rfl) rfl)
theorem hv_k1_197_5 (hz : hv_Z s0 a0) (hW : s0.WarmedH s.vm) : hv_LK l s args 1 (197, 5, 74) :=
  show hv_Link l s args "HallOfClaims" 3 197 74 "HallOfClaims$Aside" from hv_kU (owner := "HallOfClaims$Plain") (x := ⟨"HallOfClaims$Plain", "kind", "()I"⟩) hz hW hv_mf74 rfl rfl rfl (by decide +kernel) (lw_g (lw_at lw_m4 83 rfl) rfl) (lw_g (lw_at lw_m4 86 rfl) rfl) (va_Decl.of (hv_ht (args := args) hz hW _ (lw_g (lw_at lw_m4 84 rfl) rfl)) (hv_ht (args := args) hz hW _ (lw_g (lw_at lw_m4 102 rfl) rfl))) (lw_g (lw_at lw_m4 87 rfl) rfl) (lw_g (lw_at lw_m4 88 rfl) rfl)
theorem hv_k1_197_4 (hz : hv_Z s0 a0) (hW : s0.WarmedH s.vm) : hv_LK l s args 1 (197, 4, 75) :=
  show hv_Link l s args "HallOfClaims" 3 197 75 "HallOfClaims$Doubt" from hv_kU (owner := "HallOfClaims$Plain") (x := ⟨"HallOfClaims$Plain", "kind", "()I"⟩) hz hW hv_mf75 rfl rfl rfl (by decide +kernel) (lw_g (lw_at lw_m4 83 rfl) rfl) (lw_g (lw_at lw_m4 86 rfl) rfl) (va_Decl.of (hv_ht (args := args) hz hW _ (lw_g (lw_at lw_m4 84 rfl) rfl)) (hv_ht (args := args) hz hW _ (lw_g (lw_at lw_m4 102 rfl) rfl))) (lw_g (lw_at lw_m4 90 rfl) rfl) (lw_g (lw_at lw_m4 91 rfl) rfl)
theorem hv_k1_197_3 (hz : hv_Z s0 a0) (hW : s0.WarmedH s.vm) : hv_LK l s args 1 (197, 3, 76) :=
  show hv_Link l s args "HallOfClaims" 3 197 76 "HallOfClaims$Fact" from hv_kU (owner := "HallOfClaims$Plain") (x := ⟨"HallOfClaims$Plain", "kind", "()I"⟩) hz hW hv_mf76 rfl rfl rfl (by decide +kernel) (lw_g (lw_at lw_m4 83 rfl) rfl) (lw_g (lw_at lw_m4 86 rfl) rfl) (va_Decl.of (hv_ht (args := args) hz hW _ (lw_g (lw_at lw_m4 84 rfl) rfl)) (hv_ht (args := args) hz hW _ (lw_g (lw_at lw_m4 102 rfl) rfl))) (lw_g (lw_at lw_m4 93 rfl) rfl) (lw_g (lw_at lw_m4 94 rfl) rfl)
theorem hv_k1_197_2 (hz : hv_Z s0 a0) (hW : s0.WarmedH s.vm) : hv_LK l s args 1 (197, 2, 77) :=
  show hv_Link l s args "HallOfClaims" 3 197 77 "HallOfClaims$Firm" from hv_kU (owner := "HallOfClaims$Plain") (x := ⟨"HallOfClaims$Plain", "kind", "()I"⟩) hz hW hv_mf77 rfl rfl rfl (by decide +kernel) (lw_g (lw_at lw_m4 83 rfl) rfl) (lw_g (lw_at lw_m4 86 rfl) rfl) (va_Decl.of (hv_ht (args := args) hz hW _ (lw_g (lw_at lw_m4 84 rfl) rfl)) (hv_ht (args := args) hz hW _ (lw_g (lw_at lw_m4 102 rfl) rfl))) (lw_g (lw_at lw_m4 96 rfl) rfl) (lw_g (lw_at lw_m4 97 rfl) rfl)
theorem hv_k1_197_1 (hz : hv_Z s0 a0) (hW : s0.WarmedH s.vm) : hv_LK l s args 1 (197, 1, 78) :=
  show hv_Link l s args "HallOfClaims" 3 197 78 "HallOfClaims$Weak" from hv_kU (owner := "HallOfClaims$Plain") (x := ⟨"HallOfClaims$Plain", "kind", "()I"⟩) hz hW hv_mf78 rfl rfl rfl (by decide +kernel) (lw_g (lw_at lw_m4 83 rfl) rfl) (lw_g (lw_at lw_m4 86 rfl) rfl) (va_Decl.of (hv_ht (args := args) hz hW _ (lw_g (lw_at lw_m4 84 rfl) rfl)) (hv_ht (args := args) hz hW _ (lw_g (lw_at lw_m4 102 rfl) rfl))) (lw_g (lw_at lw_m4 99 rfl) rfl) (lw_g (lw_at lw_m4 100 rfl) rfl)
theorem hv_k1_218_7 (hz : hv_Z s0 a0) (hW : s0.WarmedH s.vm) : hv_LK l s args 1 (218, 7, 82) :=
  show hv_Link l s args "HallOfClaims" 3 218 82 "HallOfClaims$Hall" from hv_kV hz hW hv_mf82 rfl rfl (lw_g (lw_at lw_m4 116 rfl) rfl) (lw_g (lw_at lw_m4 117 rfl) rfl) (lw_g (lw_at lw_m4 118 rfl) rfl)
theorem hv_k1_222_7 (hz : hv_Z s0 a0) (hW : s0.WarmedH s.vm) : hv_LK l s args 1 (222, 7, 92) :=
  show hv_Link l s args "HallOfClaims" 3 222 92 "HallOfClaims$Hall" from hv_kV hz hW hv_mf92 rfl rfl (lw_g (lw_at lw_m4 169 rfl) rfl) (lw_g (lw_at lw_m4 170 rfl) rfl) (lw_g (lw_at lw_m4 171 rfl) rfl)
theorem hv_k1_231_0 (hz : hv_Z s0 a0) (hW : s0.WarmedH s.vm) : hv_LK l s args 1 (231, 0, 98) :=
  show hv_Link l s args "HallOfClaims" 3 231 98 "HallOfClaims" from hv_kV hz hW hv_mf98 rfl rfl (lw_g (lw_at lw_m4 196 rfl) rfl) (lw_g (lw_at lw_m4 198 rfl) rfl) (lw_g (lw_at lw_ms 26 rfl) rfl)
theorem hv_k1_234_8 (hz : hv_Z s0 a0) (hW : s0.WarmedH s.vm) : hv_LK l s args 1 (234, 8, 121) :=
  show hv_Link l s args "HallOfClaims" 3 234 121 "HallOfClaims$Frame" from hv_kV hz hW hv_mf121 rfl rfl (lw_g (lw_at lw_m5 153 rfl) rfl) (lw_g (lw_at lw_m5 154 rfl) rfl) (lw_g (lw_at lw_m5 155 rfl) rfl)
theorem hv_k1_243_12 (hz : hv_Z s0 a0) (hW : s0.WarmedH s.vm) : hv_LK l s args 1 (243, 12, 125) :=
  show hv_Link l s args "HallOfClaims" 3 243 125 "HallOfClaims$Shelf" from hv_kV hz hW hv_mf125 rfl rfl (lw_g (lw_at lw_m5 169 rfl) rfl) (lw_g (lw_at lw_m5 170 rfl) rfl) (lw_g (lw_at lw_m5 171 rfl) rfl)
theorem hv_k1_246_0 (hz : hv_Z s0 a0) (hW : s0.WarmedH s.vm) : hv_LK l s args 1 (246, 0, 124) :=
  show hv_Link l s args "HallOfClaims" 3 246 124 "HallOfClaims" from hv_kV hz hW hv_mf124 rfl rfl (lw_g (lw_at lw_m5 165 rfl) rfl) (lw_g (lw_at lw_m5 167 rfl) rfl) (lw_g (lw_at lw_ms 32 rfl) rfl)
theorem hv_k1_254_13 (hz : hv_Z s0 a0) (hW : s0.WarmedH s.vm) : hv_LK l s args 1 (254, 13, 117) :=
  show hv_Link l s args "HallOfClaims" 3 254 117 "java/util/TreeSet" from hv_kV hz hW hv_mf117 rfl rfl (lw_g (lw_at lw_m6 96 rfl) rfl) (lw_g (lw_at lw_m5 136 rfl) rfl) (lw_g (lw_at lw_m10 122 rfl) rfl)
theorem hv_k1_258_12 (hz : hv_Z s0 a0) (hW : s0.WarmedH s.vm) : hv_LK l s args 1 (258, 12, 161) :=
  show hv_Link l s args "HallOfClaims" 3 258 161 "HallOfClaims$Shelf" from hv_kV hz hW hv_mf161 rfl rfl (lw_g (lw_at lw_m6 97 rfl) rfl) (lw_g (lw_at lw_m6 98 rfl) rfl) (lw_g (lw_at lw_m6 99 rfl) rfl)
theorem hv_k1_260_0 (hz : hv_Z s0 a0) (hW : s0.WarmedH s.vm) : hv_LK l s args 1 (260, 0, 177) :=
  show hv_Link l s args "HallOfClaims" 0 260 177 "HallOfClaims" from hv_kS hz hW hv_mf177 rfl rfl (lw_g (lw_at lw_m6 220 rfl) rfl) (lw_g (lw_at lw_m6 221 rfl) rfl)
theorem hv_k1_263_12 (hz : hv_Z s0 a0) (hW : s0.WarmedH s.vm) : hv_LK l s args 1 (263, 12, 178) :=
  show hv_Link l s args "HallOfClaims" 3 263 178 "HallOfClaims$Shelf" from hv_kV hz hW hv_mf178 rfl rfl (lw_g (lw_at lw_m6 223 rfl) rfl) (lw_g (lw_at lw_m6 224 rfl) rfl) (lw_g (lw_at lw_m6 225 rfl) rfl)
theorem hv_k1_266_13 (hz : hv_Z s0 a0) (hW : s0.WarmedH s.vm) : hv_LK l s args 1 (266, 13, 179) :=
  show hv_Link l s args "HallOfClaims" 3 266 179 "java/util/TreeSet" from hv_kV hz hW hv_mf179 rfl rfl (lw_g (lw_at lw_m6 227 rfl) rfl) (lw_g (lw_at lw_m6 228 rfl) rfl) (lw_g (lw_at lw_m6 229 rfl) rfl)
theorem hv_k1_270_12 (hz : hv_Z s0 a0) (hW : s0.WarmedH s.vm) : hv_LK l s args 1 (270, 12, 181) :=
  show hv_Link l s args "HallOfClaims" 3 270 181 "HallOfClaims$Shelf" from hv_kV hz hW hv_mf181 rfl rfl (lw_g (lw_at lw_m7 3 rfl) rfl) (lw_g (lw_at lw_m7 4 rfl) rfl) (lw_g (lw_at lw_m7 5 rfl) rfl)
theorem hv_k1_273_8 (hz : hv_Z s0 a0) (hW : s0.WarmedH s.vm) : hv_LK l s args 1 (273, 8, 129) :=
  show hv_Link l s args "HallOfClaims" 3 273 129 "HallOfClaims$Frame" from hv_kV hz hW hv_mf129 rfl rfl (lw_g (lw_at lw_m7 11 rfl) rfl) (lw_g (lw_at lw_m5 189 rfl) rfl) (lw_g (lw_at lw_m5 190 rfl) rfl)
theorem hv_k1_277_0 (hz : hv_Z s0 a0) (hW : s0.WarmedH s.vm) : hv_LK l s args 1 (277, 0, 139) :=
  show hv_Link l s args "HallOfClaims" 0 277 139 "HallOfClaims" from hv_kS hz hW hv_mf139 rfl rfl (lw_g (lw_at lw_m7 12 rfl) rfl) (lw_g (lw_at lw_m5 70 rfl) rfl)
theorem hv_k1_280_0 (hz : hv_Z s0 a0) (hW : s0.WarmedH s.vm) : hv_LK l s args 1 (280, 0, 184) :=
  show hv_Link l s args "HallOfClaims" 3 280 184 "HallOfClaims" from hv_kV hz hW hv_mf184 rfl rfl (lw_g (lw_at lw_m7 17 rfl) rfl) (lw_g (lw_at lw_m7 19 rfl) rfl) (lw_g (lw_at lw_ms 46 rfl) rfl)
theorem hv_k1_283_17 (hz : hv_Z s0 a0) (hW : s0.WarmedH s.vm) : hv_LK l s args 1 (283, 17, 185) :=
  show hv_Link l s args "HallOfClaims" 3 283 185 "HallOfClaims$Game" from hv_kV hz hW hv_mf185 rfl rfl (lw_g (lw_at lw_m7 21 rfl) rfl) (lw_g (lw_at lw_m7 22 rfl) rfl) (lw_g (lw_at lw_m7 23 rfl) rfl)
theorem hv_k1_286_0 (hz : hv_Z s0 a0) (hW : s0.WarmedH s.vm) : hv_LK l s args 1 (286, 0, 188) :=
  show hv_Link l s args "HallOfClaims" 0 286 188 "HallOfClaims" from hv_kSN hz hW hv_mf188 rfl rfl (lw_at lw_m7 45 rfl) (lw_g (lw_at lw_m7 36 rfl) rfl)
theorem hv_k1_296_17 (hz : hv_Z s0 a0) (hW : s0.WarmedH s.vm) : hv_LK l s args 1 (296, 17, 187) :=
  show hv_Link l s args "HallOfClaims" 3 296 187 "HallOfClaims$Game" from hv_kV hz hW hv_mf187 rfl rfl (lw_g (lw_at lw_m7 50 rfl) rfl) (lw_g (lw_at lw_m7 32 rfl) rfl) (lw_g (lw_at lw_m7 33 rfl) rfl)
theorem hv_k1_301_0 (hz : hv_Z s0 a0) (hW : s0.WarmedH s.vm) : hv_LK l s args 1 (301, 0, 195) :=
  show hv_Link l s args "HallOfClaims" 3 301 195 "HallOfClaims" from hv_kV hz hW hv_mf195 rfl rfl (lw_g (lw_at lw_m7 59 rfl) rfl) (lw_g (lw_at lw_m7 61 rfl) rfl) (lw_g (lw_at lw_ms 52 rfl) rfl)
theorem hv_k1_305_0 (hz : hv_Z s0 a0) (hW : s0.WarmedH s.vm) : hv_LK l s args 1 (305, 0, 196) :=
  show hv_Link l s args "HallOfClaims" 3 305 196 "HallOfClaims" from hv_kV hz hW hv_mf196 rfl rfl (lw_g (lw_at lw_m7 63 rfl) rfl) (lw_g (lw_at lw_m7 65 rfl) rfl) (lw_g (lw_at lw_ms 53 rfl) rfl)
theorem hv_k1_309_8 (hz : hv_Z s0 a0) (hW : s0.WarmedH s.vm) : hv_LK l s args 1 (309, 8, 200) :=
  show hv_Link l s args "HallOfClaims" 3 309 200 "HallOfClaims$Frame" from hv_kV hz hW hv_mf200 rfl rfl (lw_g (lw_at lw_m7 79 rfl) rfl) (lw_g (lw_at lw_m7 80 rfl) rfl) (lw_g (lw_at lw_m7 81 rfl) rfl)
theorem hv_k1_312_0 (hz : hv_Z s0 a0) (hW : s0.WarmedH s.vm) : hv_LK l s args 1 (312, 0, 199) :=
  show hv_Link l s args "HallOfClaims" 3 312 199 "HallOfClaims" from hv_kV hz hW hv_mf199 rfl rfl (lw_g (lw_at lw_m7 75 rfl) rfl) (lw_g (lw_at lw_m7 77 rfl) rfl) (lw_g (lw_at lw_ms 56 rfl) rfl)
theorem hv_k1_321_0 (hz : hv_Z s0 a0) (hW : s0.WarmedH s.vm) : hv_LK l s args 1 (321, 0, 202) :=
  show hv_Link l s args "HallOfClaims" 3 321 202 "HallOfClaims" from hv_kV hz hW hv_mf202 rfl rfl (lw_g (lw_at lw_m7 89 rfl) rfl) (lw_g (lw_at lw_m7 91 rfl) rfl) (lw_g (lw_at lw_ms 58 rfl) rfl)
theorem hv_k1_325_0 (hz : hv_Z s0 a0) (hW : s0.WarmedH s.vm) : hv_LK l s args 1 (325, 0, 207) :=
  show hv_Link l s args "HallOfClaims" 3 325 207 "HallOfClaims" from hv_kV hz hW hv_mf207 rfl rfl (lw_g (lw_at lw_m7 109 rfl) rfl) (lw_g (lw_at lw_m7 111 rfl) rfl) (lw_g (lw_at lw_ms 63 rfl) rfl)
theorem hv_k1_328_0 (hz : hv_Z s0 a0) (hW : s0.WarmedH s.vm) : hv_LK l s args 1 (328, 0, 206) :=
  show hv_Link l s args "HallOfClaims" 3 328 206 "HallOfClaims" from hv_kV hz hW hv_mf206 rfl rfl (lw_g (lw_at lw_m7 105 rfl) rfl) (lw_g (lw_at lw_m7 107 rfl) rfl) (lw_g (lw_at lw_ms 62 rfl) rfl)
theorem hv_k1_331_0 (hz : hv_Z s0 a0) (hW : s0.WarmedH s.vm) : hv_LK l s args 1 (331, 0, 205) :=
  show hv_Link l s args "HallOfClaims" 3 331 205 "HallOfClaims" from hv_kV hz hW hv_mf205 rfl rfl (lw_g (lw_at lw_m7 101 rfl) rfl) (lw_g (lw_at lw_m7 103 rfl) rfl) (lw_g (lw_at lw_ms 61 rfl) rfl)
theorem hv_k1_334_15 (hz : hv_Z s0 a0) (hW : s0.WarmedH s.vm) : hv_LK l s args 1 (334, 15, 127) :=
  show hv_Link l s args "HallOfClaims" 3 334 127 "java/util/TreeMap" from hv_kV hz hW hv_mf127 rfl rfl (lw_g (lw_at lw_m7 125 rfl) rfl) (lw_g (lw_at lw_m5 181 rfl) rfl) (lw_g (lw_at lw_m10 123 rfl) rfl)
theorem hv_k1_337_0 (hz : hv_Z s0 a0) (hW : s0.WarmedH s.vm) : hv_LK l s args 1 (337, 0, 211) :=
  show hv_Link l s args "HallOfClaims" 0 337 211 "HallOfClaims" from hv_kS hz hW hv_mf211 rfl rfl (lw_g (lw_at lw_m7 126 rfl) rfl) (lw_g (lw_at lw_m7 127 rfl) rfl)
theorem hv_k1_343_15 (hz : hv_Z s0 a0) (hW : s0.WarmedH s.vm) : hv_LK l s args 1 (343, 15, 212) :=
  show hv_Link l s args "HallOfClaims" 3 343 212 "java/util/TreeMap" from hv_kV hz hW hv_mf212 rfl rfl (lw_g (lw_at lw_m7 145 rfl) rfl) (lw_g (lw_at lw_m7 146 rfl) rfl) (lw_g (lw_at lw_m7 147 rfl) rfl)
theorem hv_k1_347_15 (hz : hv_Z s0 a0) (hW : s0.WarmedH s.vm) : hv_LK l s args 1 (347, 15, 115) :=
  show hv_Link l s args "HallOfClaims" 3 347 115 "java/util/TreeMap" from hv_kV hz hW hv_mf115 rfl rfl (lw_g (lw_at lw_m7 157 rfl) rfl) (lw_g (lw_at lw_m5 123 rfl) rfl) (lw_g (lw_at lw_m5 124 rfl) rfl)
theorem hv_k1_348_18 (hz : hv_Z s0 a0) (hW : s0.WarmedH s.vm) : hv_LK l s args 1 (348, 18, 214) :=
  show hv_Link l s args "HallOfClaims" 3 348 214 "HallOfClaims$Tally" from hv_kV hz hW hv_mf214 rfl rfl (lw_g (lw_at lw_m7 158 rfl) rfl) (lw_g (lw_at lw_m7 159 rfl) rfl) (lw_g (lw_at lw_m7 160 rfl) rfl)
theorem hv_k1_352_15 (hz : hv_Z s0 a0) (hW : s0.WarmedH s.vm) : hv_LK l s args 1 (352, 15, 133) :=
  show hv_Link l s args "HallOfClaims" 3 352 133 "java/util/TreeMap" from hv_kV hz hW hv_mf133 rfl rfl (lw_g (lw_at lw_m7 162 rfl) rfl) (lw_g (lw_at lw_m5 211 rfl) rfl) (lw_g (lw_at lw_m10 124 rfl) rfl)
theorem hv_k1_363_0 (hz : hv_Z s0 a0) (hW : s0.WarmedH s.vm) : hv_LK l s args 1 (363, 0, 189) :=
  show hv_Link l s args "HallOfClaims" 0 363 189 "HallOfClaims" from hv_kS hz hW hv_mf189 rfl rfl (lw_g (lw_at lw_m7 163 rfl) rfl) (lw_g (lw_at lw_m4 231 rfl) rfl)
theorem hv_k1_368_0 (hz : hv_Z s0 a0) (hW : s0.WarmedH s.vm) : hv_LK l s args 1 (368, 0, 210) :=
  show hv_Link l s args "HallOfClaims" 3 368 210 "HallOfClaims" from hv_kV hz hW hv_mf210 rfl rfl (lw_g (lw_at lw_m7 121 rfl) rfl) (lw_g (lw_at lw_m7 123 rfl) rfl) (lw_g (lw_at lw_ms 66 rfl) rfl)
theorem hv_k1_371_15 (hz : hv_Z s0 a0) (hW : s0.WarmedH s.vm) : hv_LK l s args 1 (371, 15, 215) :=
  show hv_Link l s args "HallOfClaims" 3 371 215 "java/util/TreeMap" from hv_kV hz hW hv_mf215 rfl rfl (lw_g (lw_at lw_m7 164 rfl) rfl) (lw_g (lw_at lw_m7 165 rfl) rfl) (lw_g (lw_at lw_m7 166 rfl) rfl)
theorem hv_k1_375_31 (hz : hv_Z s0 a0) (hW : s0.WarmedH s.vm) : hv_LK l s args 1 (375, 31, 217) :=
  show hv_Link l s args "HallOfClaims" 4 375 217 "java/util/TreeMap$EntrySet" from hv_kF (x := ⟨"java/util/Set", "iterator", "()Ljava/util/Iterator;"⟩) hz hW hv_mf217 rfl rfl rfl (by decide +kernel) (lw_g (lw_at lw_m7 179 rfl) rfl) (lw_g (lw_at lw_m7 183 rfl) rfl) (lw_g (lw_at lw_m7 185 rfl) rfl) (lw_at lw_m7 181 rfl) (lw_at lw_m7 180 rfl) (lw_at lw_m7 186 rfl) (lw_at lw_m7 184 rfl) (lw_at lw_m7 182 rfl)
theorem hv_k1_375_28 (hz : hv_Z s0 a0) (hW : s0.WarmedH s.vm) : hv_LK l s args 1 (375, 28, 165) :=
  show hv_Link l s args "HallOfClaims" 4 375 165 "java/util/TreeMap$KeySet" from hv_kF (x := ⟨"java/util/Set", "iterator", "()Ljava/util/Iterator;"⟩) hz hW hv_mf165 rfl rfl rfl (by decide +kernel) (lw_g (lw_at lw_m7 179 rfl) rfl) (lw_g (lw_at lw_m7 201 rfl) rfl) (lw_g (lw_at lw_m6 131 rfl) rfl) (lw_at lw_m7 181 rfl) (lw_at lw_m7 180 rfl) (lw_at lw_m6 132 rfl) (lw_at lw_m6 130 rfl) (lw_at lw_m7 200 rfl)
theorem hv_k1_375_13 (hz : hv_Z s0 a0) (hW : s0.WarmedH s.vm) : hv_LK l s args 1 (375, 13, 162) :=
  show hv_Link l s args "HallOfClaims" 4 375 162 "java/util/TreeSet" from hv_kF (x := ⟨"java/util/Set", "iterator", "()Ljava/util/Iterator;"⟩) hz hW hv_mf162 rfl rfl rfl (by decide +kernel) (lw_g (lw_at lw_m7 179 rfl) rfl) (lw_g (lw_at lw_m7 203 rfl) rfl) (lw_g (lw_at lw_m6 102 rfl) rfl) (lw_at lw_m7 181 rfl) (lw_at lw_m7 180 rfl) (lw_at lw_m6 172 rfl) (lw_at lw_m6 171 rfl) (lw_at lw_m7 202 rfl)
theorem hv_k1_381_32 (hz : hv_Z s0 a0) (hW : s0.WarmedH s.vm) : hv_LK l s args 1 (381, 32, 170) :=
  show hv_Link l s args "HallOfClaims" 4 381 170 "java/util/TreeMap$EntryIterator" from hv_kF (x := ⟨"java/util/Iterator", "hasNext", "()Z"⟩) hz hW hv_mf170 rfl rfl rfl (by decide +kernel) (lw_g (lw_at lw_m7 205 rfl) rfl) (lw_g (lw_at lw_m6 178 rfl) rfl) (lw_g (lw_at lw_m6 180 rfl) rfl) (lw_at lw_m6 176 rfl) (lw_at lw_m6 175 rfl) (lw_at lw_m6 181 rfl) (lw_at lw_m6 179 rfl) (lw_at lw_m6 177 rfl)
theorem hv_k1_381_29 (hz : hv_Z s0 a0) (hW : s0.WarmedH s.vm) : hv_LK l s args 1 (381, 29, 170) :=
  show hv_Link l s args "HallOfClaims" 4 381 170 "java/util/TreeMap$KeyIterator" from hv_kF (x := ⟨"java/util/Iterator", "hasNext", "()Z"⟩) hz hW hv_mf170 rfl rfl rfl (by decide +kernel) (lw_g (lw_at lw_m7 205 rfl) rfl) (lw_g (lw_at lw_m6 184 rfl) rfl) (lw_g (lw_at lw_m6 180 rfl) rfl) (lw_at lw_m6 176 rfl) (lw_at lw_m6 175 rfl) (lw_at lw_m6 181 rfl) (lw_at lw_m6 185 rfl) (lw_at lw_m6 183 rfl)
theorem hv_k1_386_32 (hz : hv_Z s0 a0) (hW : s0.WarmedH s.vm) : hv_LK l s args 1 (386, 32, 171) :=
  show hv_Link l s args "HallOfClaims" 4 386 171 "java/util/TreeMap$EntryIterator" from hv_kF (x := ⟨"java/util/Iterator", "next", "()Ljava/lang/Object;"⟩) hz hW hv_mf171 rfl rfl rfl (by decide +kernel) (lw_g (lw_at lw_m7 207 rfl) rfl) (lw_g (lw_at lw_m6 190 rfl) rfl) (lw_g (lw_at lw_m6 192 rfl) rfl) (lw_at lw_m6 189 rfl) (lw_at lw_m6 188 rfl) (lw_at lw_m6 193 rfl) (lw_at lw_m6 191 rfl) (lw_at lw_m6 177 rfl)
theorem hv_k1_386_29 (hz : hv_Z s0 a0) (hW : s0.WarmedH s.vm) : hv_LK l s args 1 (386, 29, 175) :=
  show hv_Link l s args "HallOfClaims" 4 386 175 "java/util/TreeMap$KeyIterator" from hv_kF (x := ⟨"java/util/Iterator", "next", "()Ljava/lang/Object;"⟩) hz hW hv_mf175 rfl rfl rfl (by decide +kernel) (lw_g (lw_at lw_m7 207 rfl) rfl) (lw_g (lw_at lw_m6 208 rfl) rfl) (lw_g (lw_at lw_m6 210 rfl) rfl) (lw_at lw_m6 189 rfl) (lw_at lw_m6 188 rfl) (lw_at lw_m6 211 rfl) (lw_at lw_m6 209 rfl) (lw_at lw_m6 183 rfl)
theorem hv_k1_392_27 (hz : hv_Z s0 a0) (hW : s0.WarmedH s.vm) : hv_LK l s args 1 (392, 27, 219) :=
  show hv_Link l s args "HallOfClaims" 4 392 219 "java/util/TreeMap$Entry" from hv_kF (x := ⟨"java/util/Map$Entry", "getValue", "()Ljava/lang/Object;"⟩) hz hW hv_mf219 rfl rfl rfl (by decide +kernel) (lw_g (lw_at lw_m7 210 rfl) rfl) (lw_g (lw_at lw_m7 214 rfl) rfl) (lw_g (lw_at lw_m7 216 rfl) rfl) (lw_at lw_m7 212 rfl) (lw_at lw_m7 211 rfl) (lw_at lw_m7 217 rfl) (lw_at lw_m7 215 rfl) (lw_at lw_m7 213 rfl)
theorem hv_k1_395_27 (hz : hv_Z s0 a0) (hW : s0.WarmedH s.vm) : hv_LK l s args 1 (395, 27, 220) :=
  show hv_Link l s args "HallOfClaims" 4 395 220 "java/util/TreeMap$Entry" from hv_kF (x := ⟨"java/util/Map$Entry", "getKey", "()Ljava/lang/Object;"⟩) hz hW hv_mf220 rfl rfl rfl (by decide +kernel) (lw_g (lw_at lw_m7 220 rfl) rfl) (lw_g (lw_at lw_m7 223 rfl) rfl) (lw_g (lw_at lw_m7 225 rfl) rfl) (lw_at lw_m7 222 rfl) (lw_at lw_m7 221 rfl) (lw_at lw_m7 226 rfl) (lw_at lw_m7 224 rfl) (lw_at lw_m7 213 rfl)
theorem hv_k1_398_30 (hz : hv_Z s0 a0) (hW : s0.WarmedH s.vm) : hv_LK l s args 1 (398, 30, 221) :=
  show hv_Link l s args "HallOfClaims" 3 398 221 "java/lang/Integer" from hv_kV hz hW hv_mf221 rfl rfl (lw_g (lw_at lw_m7 229 rfl) rfl) (lw_g (lw_at lw_m7 230 rfl) rfl) (lw_g (lw_at lw_m7 231 rfl) rfl)
theorem hv_k1_406_0 (hz : hv_Z s0 a0) (hW : s0.WarmedH s.vm) : hv_LK l s args 1 (406, 0, 32) :=
  show hv_Link l s args "HallOfClaims" 3 406 32 "HallOfClaims" from hv_kV hz hW hv_mf32 rfl rfl (lw_g (lw_at lw_m3 1 rfl) rfl) (lw_g (lw_at lw_m3 3 rfl) rfl) (lw_g (lw_at lw_ms 2 rfl) rfl)
theorem hv_k1_410_0 (hz : hv_Z s0 a0) (hW : s0.WarmedH s.vm) : hv_LK l s args 1 (410, 0, 96) :=
  show hv_Link l s args "HallOfClaims" 3 410 96 "HallOfClaims" from hv_kV hz hW hv_mf96 rfl rfl (lw_g (lw_at lw_m4 188 rfl) rfl) (lw_g (lw_at lw_m4 190 rfl) rfl) (lw_g (lw_at lw_ms 24 rfl) rfl)
theorem hv_k1_413_0 (hz : hv_Z s0 a0) (hW : s0.WarmedH s.vm) : hv_LK l s args 1 (413, 0, 193) :=
  show hv_Link l s args "HallOfClaims" 3 413 193 "HallOfClaims" from hv_kV hz hW hv_mf193 rfl rfl (lw_g (lw_at lw_m7 51 rfl) rfl) (lw_g (lw_at lw_m7 53 rfl) rfl) (lw_g (lw_at lw_ms 50 rfl) rfl)
theorem hv_k1_416_0 (hz : hv_Z s0 a0) (hW : s0.WarmedH s.vm) : hv_LK l s args 1 (416, 0, 31) :=
  show hv_Link l s args "HallOfClaims" 3 416 31 "HallOfClaims" from hv_kV hz hW hv_mf31 rfl rfl (lw_g (lw_at lw_m2 237 rfl) rfl) (lw_g (lw_at lw_m2 239 rfl) rfl) (lw_g (lw_at lw_ms 1 rfl) rfl)
theorem hv_k1_421_21 (hz : hv_Z s0 a0) (hW : s0.WarmedH s.vm) : hv_LK l s args 1 (421, 21, 224) :=
  show hv_Link l s args "HallOfClaims" 3 421 224 "HallOfClaims$Fault" from hv_kU (owner := "HallOfClaims$Refusal") (x := ⟨"HallOfClaims$Refusal", "number", "()I"⟩) hz hW hv_mf224 rfl rfl rfl (by decide +kernel) (lw_g (lw_at lw_m8 5 rfl) rfl) (lw_g (lw_at lw_m8 7 rfl) rfl) (va_Decl.abs (va_Nw.warmD hW (va_Nw.of rfl (hz.1 _ (lw_at lw_m8 6 rfl))))) (lw_g (lw_at lw_m8 8 rfl) rfl) (lw_g (lw_at lw_m8 9 rfl) rfl)
theorem hv_k1_421_19 (hz : hv_Z s0 a0) (hW : s0.WarmedH s.vm) : hv_LK l s args 1 (421, 19, 225) :=
  show hv_Link l s args "HallOfClaims" 3 421 225 "HallOfClaims$Refused" from hv_kU (owner := "HallOfClaims$Refusal") (x := ⟨"HallOfClaims$Refusal", "number", "()I"⟩) hz hW hv_mf225 rfl rfl rfl (by decide +kernel) (lw_g (lw_at lw_m8 5 rfl) rfl) (lw_g (lw_at lw_m8 7 rfl) rfl) (va_Decl.abs (va_Nw.warmD hW (va_Nw.of rfl (hz.1 _ (lw_at lw_m8 6 rfl))))) (lw_g (lw_at lw_m8 11 rfl) rfl) (lw_g (lw_at lw_m8 12 rfl) rfl)
theorem hv_k1_424_0 (hz : hv_Z s0 a0) (hW : s0.WarmedH s.vm) : hv_LK l s args 1 (424, 0, 226) :=
  show hv_Link l s args "HallOfClaims" 3 424 226 "HallOfClaims" from hv_kV hz hW hv_mf226 rfl rfl (lw_g (lw_at lw_m8 14 rfl) rfl) (lw_g (lw_at lw_m8 16 rfl) rfl) (lw_g (lw_at lw_ms 69 rfl) rfl)
theorem hv_k1_429_0 (hz : hv_Z s0 a0) (hW : s0.WarmedH s.vm) : hv_LK l s args 1 (429, 0, 33) :=
  show hv_Link l s args "HallOfClaims" 3 429 33 "HallOfClaims" from hv_kV hz hW hv_mf33 rfl rfl (lw_g (lw_at lw_m3 5 rfl) rfl) (lw_g (lw_at lw_m3 7 rfl) rfl) (lw_g (lw_at lw_ms 3 rfl) rfl)
theorem hv_k1_432_0 (hz : hv_Z s0 a0) (hW : s0.WarmedH s.vm) : hv_LK l s args 1 (432, 0, 38) :=
  show hv_Link l s args "HallOfClaims" 3 432 38 "HallOfClaims" from hv_kV hz hW hv_mf38 rfl rfl (lw_g (lw_at lw_m3 85 rfl) rfl) (lw_g (lw_at lw_m3 87 rfl) rfl) (lw_g (lw_at lw_ms 5 rfl) rfl)
theorem hv_k1_435_0 (hz : hv_Z s0 a0) (hW : s0.WarmedH s.vm) : hv_LK l s args 1 (435, 0, 66) :=
  show hv_Link l s args "HallOfClaims" 3 435 66 "HallOfClaims" from hv_kV hz hW hv_mf66 rfl rfl (lw_g (lw_at lw_m4 55 rfl) rfl) (lw_g (lw_at lw_m4 57 rfl) rfl) (lw_g (lw_at lw_ms 15 rfl) rfl)
theorem hv_k1_439_0 (hz : hv_Z s0 a0) (hW : s0.WarmedH s.vm) : hv_LK l s args 1 (439, 0, 68) :=
  show hv_Link l s args "HallOfClaims" 3 439 68 "HallOfClaims" from hv_kV hz hW hv_mf68 rfl rfl (lw_g (lw_at lw_m4 64 rfl) rfl) (lw_g (lw_at lw_m4 66 rfl) rfl) (lw_g (lw_at lw_ms 16 rfl) rfl)
theorem hv_k1_442_0 (hz : hv_Z s0 a0) (hW : s0.WarmedH s.vm) : hv_LK l s args 1 (442, 0, 72) :=
  show hv_Link l s args "HallOfClaims" 3 442 72 "HallOfClaims" from hv_kV hz hW hv_mf72 rfl rfl (lw_g (lw_at lw_m4 78 rfl) rfl) (lw_g (lw_at lw_m4 80 rfl) rfl) (lw_g (lw_at lw_ms 18 rfl) rfl)
theorem hv_k1_445_0 (hz : hv_Z s0 a0) (hW : s0.WarmedH s.vm) : hv_LK l s args 1 (445, 0, 79) :=
  show hv_Link l s args "HallOfClaims" 3 445 79 "HallOfClaims" from hv_kV hz hW hv_mf79 rfl rfl (lw_g (lw_at lw_m4 103 rfl) rfl) (lw_g (lw_at lw_m4 105 rfl) rfl) (lw_g (lw_at lw_ms 19 rfl) rfl)
theorem hv_k1_449_0 (hz : hv_Z s0 a0) (hW : s0.WarmedH s.vm) : hv_LK l s args 1 (449, 0, 80) :=
  show hv_Link l s args "HallOfClaims" 3 449 80 "HallOfClaims" from hv_kV hz hW hv_mf80 rfl rfl (lw_g (lw_at lw_m4 107 rfl) rfl) (lw_g (lw_at lw_m4 109 rfl) rfl) (lw_g (lw_at lw_ms 20 rfl) rfl)
theorem hv_k1_452_0 (hz : hv_Z s0 a0) (hW : s0.WarmedH s.vm) : hv_LK l s args 1 (452, 0, 81) :=
  show hv_Link l s args "HallOfClaims" 3 452 81 "HallOfClaims" from hv_kV hz hW hv_mf81 rfl rfl (lw_g (lw_at lw_m4 112 rfl) rfl) (lw_g (lw_at lw_m4 114 rfl) rfl) (lw_g (lw_at lw_ms 21 rfl) rfl)
theorem hv_k1_455_0 (hz : hv_Z s0 a0) (hW : s0.WarmedH s.vm) : hv_LK l s args 1 (455, 0, 97) :=
  show hv_Link l s args "HallOfClaims" 3 455 97 "HallOfClaims" from hv_kV hz hW hv_mf97 rfl rfl (lw_g (lw_at lw_m4 192 rfl) rfl) (lw_g (lw_at lw_m4 194 rfl) rfl) (lw_g (lw_at lw_ms 25 rfl) rfl)
theorem hv_k1_458_0 (hz : hv_Z s0 a0) (hW : s0.WarmedH s.vm) : hv_LK l s args 1 (458, 0, 122) :=
  show hv_Link l s args "HallOfClaims" 3 458 122 "HallOfClaims" from hv_kV hz hW hv_mf122 rfl rfl (lw_g (lw_at lw_m5 157 rfl) rfl) (lw_g (lw_at lw_m5 159 rfl) rfl) (lw_g (lw_at lw_ms 30 rfl) rfl)
theorem hv_k1_461_0 (hz : hv_Z s0 a0) (hW : s0.WarmedH s.vm) : hv_LK l s args 1 (461, 0, 123) :=
  show hv_Link l s args "HallOfClaims" 3 461 123 "HallOfClaims" from hv_kV hz hW hv_mf123 rfl rfl (lw_g (lw_at lw_m5 161 rfl) rfl) (lw_g (lw_at lw_m5 163 rfl) rfl) (lw_g (lw_at lw_ms 31 rfl) rfl)
theorem hv_k1_464_0 (hz : hv_Z s0 a0) (hW : s0.WarmedH s.vm) : hv_LK l s args 1 (464, 0, 176) :=
  show hv_Link l s args "HallOfClaims" 3 464 176 "HallOfClaims" from hv_kV hz hW hv_mf176 rfl rfl (lw_g (lw_at lw_m6 216 rfl) rfl) (lw_g (lw_at lw_m6 218 rfl) rfl) (lw_g (lw_at lw_ms 43 rfl) rfl)
theorem hv_k1_467_0 (hz : hv_Z s0 a0) (hW : s0.WarmedH s.vm) : hv_LK l s args 1 (467, 0, 182) :=
  show hv_Link l s args "HallOfClaims" 3 467 182 "HallOfClaims" from hv_kV hz hW hv_mf182 rfl rfl (lw_g (lw_at lw_m7 7 rfl) rfl) (lw_g (lw_at lw_m7 9 rfl) rfl) (lw_g (lw_at lw_ms 44 rfl) rfl)
theorem hv_k1_470_0 (hz : hv_Z s0 a0) (hW : s0.WarmedH s.vm) : hv_LK l s args 1 (470, 0, 183) :=
  show hv_Link l s args "HallOfClaims" 3 470 183 "HallOfClaims" from hv_kV hz hW hv_mf183 rfl rfl (lw_g (lw_at lw_m7 13 rfl) rfl) (lw_g (lw_at lw_m7 15 rfl) rfl) (lw_g (lw_at lw_ms 45 rfl) rfl)
theorem hv_k1_473_0 (hz : hv_Z s0 a0) (hW : s0.WarmedH s.vm) : hv_LK l s args 1 (473, 0, 192) :=
  show hv_Link l s args "HallOfClaims" 3 473 192 "HallOfClaims" from hv_kV hz hW hv_mf192 rfl rfl (lw_g (lw_at lw_m7 46 rfl) rfl) (lw_g (lw_at lw_m7 48 rfl) rfl) (lw_g (lw_at lw_ms 49 rfl) rfl)
theorem hv_k1_476_0 (hz : hv_Z s0 a0) (hW : s0.WarmedH s.vm) : hv_LK l s args 1 (476, 0, 194) :=
  show hv_Link l s args "HallOfClaims" 3 476 194 "HallOfClaims" from hv_kV hz hW hv_mf194 rfl rfl (lw_g (lw_at lw_m7 55 rfl) rfl) (lw_g (lw_at lw_m7 57 rfl) rfl) (lw_g (lw_at lw_ms 51 rfl) rfl)
theorem hv_k1_479_0 (hz : hv_Z s0 a0) (hW : s0.WarmedH s.vm) : hv_LK l s args 1 (479, 0, 197) :=
  show hv_Link l s args "HallOfClaims" 3 479 197 "HallOfClaims" from hv_kV hz hW hv_mf197 rfl rfl (lw_g (lw_at lw_m7 67 rfl) rfl) (lw_g (lw_at lw_m7 69 rfl) rfl) (lw_g (lw_at lw_ms 54 rfl) rfl)
theorem hv_k1_482_0 (hz : hv_Z s0 a0) (hW : s0.WarmedH s.vm) : hv_LK l s args 1 (482, 0, 198) :=
  show hv_Link l s args "HallOfClaims" 3 482 198 "HallOfClaims" from hv_kV hz hW hv_mf198 rfl rfl (lw_g (lw_at lw_m7 71 rfl) rfl) (lw_g (lw_at lw_m7 73 rfl) rfl) (lw_g (lw_at lw_ms 55 rfl) rfl)
theorem hv_k1_485_0 (hz : hv_Z s0 a0) (hW : s0.WarmedH s.vm) : hv_LK l s args 1 (485, 0, 201) :=
  show hv_Link l s args "HallOfClaims" 3 485 201 "HallOfClaims" from hv_kV hz hW hv_mf201 rfl rfl (lw_g (lw_at lw_m7 85 rfl) rfl) (lw_g (lw_at lw_m7 87 rfl) rfl) (lw_g (lw_at lw_ms 57 rfl) rfl)
theorem hv_k1_488_0 (hz : hv_Z s0 a0) (hW : s0.WarmedH s.vm) : hv_LK l s args 1 (488, 0, 203) :=
  show hv_Link l s args "HallOfClaims" 3 488 203 "HallOfClaims" from hv_kV hz hW hv_mf203 rfl rfl (lw_g (lw_at lw_m7 93 rfl) rfl) (lw_g (lw_at lw_m7 95 rfl) rfl) (lw_g (lw_at lw_ms 59 rfl) rfl)
theorem hv_k1_491_0 (hz : hv_Z s0 a0) (hW : s0.WarmedH s.vm) : hv_LK l s args 1 (491, 0, 204) :=
  show hv_Link l s args "HallOfClaims" 3 491 204 "HallOfClaims" from hv_kV hz hW hv_mf204 rfl rfl (lw_g (lw_at lw_m7 97 rfl) rfl) (lw_g (lw_at lw_m7 99 rfl) rfl) (lw_g (lw_at lw_ms 60 rfl) rfl)
theorem hv_k1_494_0 (hz : hv_Z s0 a0) (hW : s0.WarmedH s.vm) : hv_LK l s args 1 (494, 0, 208) :=
  show hv_Link l s args "HallOfClaims" 3 494 208 "HallOfClaims" from hv_kV hz hW hv_mf208 rfl rfl (lw_g (lw_at lw_m7 113 rfl) rfl) (lw_g (lw_at lw_m7 115 rfl) rfl) (lw_g (lw_at lw_ms 64 rfl) rfl)
theorem hv_k1_497_0 (hz : hv_Z s0 a0) (hW : s0.WarmedH s.vm) : hv_LK l s args 1 (497, 0, 209) :=
  show hv_Link l s args "HallOfClaims" 3 497 209 "HallOfClaims" from hv_kV hz hW hv_mf209 rfl rfl (lw_g (lw_at lw_m7 117 rfl) rfl) (lw_g (lw_at lw_m7 119 rfl) rfl) (lw_g (lw_at lw_ms 65 rfl) rfl)
theorem hv_k1_500_0 (hz : hv_Z s0 a0) (hW : s0.WarmedH s.vm) : hv_LK l s args 1 (500, 0, 222) :=
  show hv_Link l s args "HallOfClaims" 3 500 222 "HallOfClaims" from hv_kV hz hW hv_mf222 rfl rfl (lw_g (lw_at lw_m7 233 rfl) rfl) (lw_g (lw_at lw_m7 235 rfl) rfl) (lw_g (lw_at lw_ms 67 rfl) rfl)
theorem hv_k1_503_0 (hz : hv_Z s0 a0) (hW : s0.WarmedH s.vm) : hv_LK l s args 1 (503, 0, 223) :=
  show hv_Link l s args "HallOfClaims" 3 503 223 "HallOfClaims" from hv_kV hz hW hv_mf223 rfl rfl (lw_g (lw_at lw_m7 237 rfl) rfl) (lw_g (lw_at lw_m7 239 rfl) rfl) (lw_g (lw_at lw_ms 68 rfl) rfl)
theorem hv_k1_512_0 (hz : hv_Z s0 a0) (hW : s0.WarmedH s.vm) : hv_LK l s args 1 (512, 0, 315) :=
  show hv_Link l s args "HallOfClaims" 3 512 315 "HallOfClaims" from hv_kV hz hW hv_mf315 rfl rfl (lw_g (lw_at lw_m8 99 rfl) rfl) (lw_g (lw_at lw_m8 101 rfl) rfl) (lw_g (lw_at lw_ms 71 rfl) rfl)
theorem hv_k1_518_0 (hz : hv_Z s0 a0) (hW : s0.WarmedH s.vm) : hv_LK l s args 1 (518, 0, 30) :=
  show hv_Link l s args "HallOfClaims" 3 518 30 "HallOfClaims" from hv_kVW hz hW hv_mf30 rfl rfl (lw_g (lw_at lw_m2 232 rfl) rfl) (lw_g (lw_at lw_m2 234 rfl) rfl) (lw_g (lw_at lw_ms 0 rfl) rfl)
theorem hv_k1_521_0 (hz : hv_Z s0 a0) (hW : s0.WarmedH s.vm) : hv_LK l s args 1 (521, 0, 314) :=
  show hv_Link l s args "HallOfClaims" 3 521 314 "HallOfClaims" from hv_kVW hz hW hv_mf314 rfl rfl (lw_g (lw_at lw_m8 94 rfl) rfl) (lw_g (lw_at lw_m8 96 rfl) rfl) (lw_g (lw_at lw_ms 70 rfl) rfl)
theorem hv_k1_524_7 (hz : hv_Z s0 a0) (hW : s0.WarmedH s.vm) : hv_LK l s args 1 (524, 7, 346) :=
  show hv_Link l s args "HallOfClaims" 3 524 346 "HallOfClaims$Hall" from hv_kV hz hW hv_mf346 rfl rfl (lw_g (lw_at lw_m8 143 rfl) rfl) (lw_g (lw_at lw_m8 144 rfl) rfl) (lw_g (lw_at lw_m8 145 rfl) rfl)
theorem hv_lk1 (hz : hv_Z s0 a0) (hW : s0.WarmedH s.vm) : ∀ q ∈ hv_ll 1, hv_LK l s args 1 q := by
  rw [show hv_ll 1 = [(3, 0, 36), (9, 0, 35), (13, 0, 44), (17, 0, 316), (23, 0, 3), (28, 0, 5), (31, 0, 6), (34, 0, 7), (37, 0, 8), (40, 0, 4), (44, 0, 2), (54, 0, 9), (69, 0, 10), (76, 0, 16), (85, 0, 17), (92, 0, 25), (111, 0, 26), (118, 0, 27), (125, 0, 39), (134, 20, 40), (144, 7, 59), (148, 22, 60), (148, 24, 62), (148, 23, 63), (148, 26, 64), (148, 25, 65), (157, 0, 46), (158, 8, 93), (162, 8, 99), (169, 0, 70), (173, 0, 67), (176, 7, 61), (180, 0, 69), (186, 0, 71), (192, 0, 34), (197, 6, 73), (197, 5, 74), (197, 4, 75), (197, 3, 76), (197, 2, 77), (197, 1, 78), (218, 7, 82), (222, 7, 92), (231, 0, 98), (234, 8, 121), (243, 12, 125), (246, 0, 124), (254, 13, 117), (258, 12, 161), (260, 0, 177), (263, 12, 178), (266, 13, 179), (270, 12, 181), (273, 8, 129), (277, 0, 139), (280, 0, 184), (283, 17, 185), (286, 0, 188), (296, 17, 187), (301, 0, 195), (305, 0, 196), (309, 8, 200), (312, 0, 199), (321, 0, 202), (325, 0, 207), (328, 0, 206), (331, 0, 205), (334, 15, 127), (337, 0, 211), (343, 15, 212), (347, 15, 115), (348, 18, 214), (352, 15, 133), (363, 0, 189), (368, 0, 210), (371, 15, 215), (375, 31, 217), (375, 28, 165), (375, 13, 162), (381, 32, 170), (381, 29, 170), (386, 32, 171), (386, 29, 175), (392, 27, 219), (395, 27, 220), (398, 30, 221), (406, 0, 32), (410, 0, 96), (413, 0, 193), (416, 0, 31), (421, 21, 224), (421, 19, 225), (424, 0, 226), (429, 0, 33), (432, 0, 38), (435, 0, 66), (439, 0, 68), (442, 0, 72), (445, 0, 79), (449, 0, 80), (452, 0, 81), (455, 0, 97), (458, 0, 122), (461, 0, 123), (464, 0, 176), (467, 0, 182), (470, 0, 183), (473, 0, 192), (476, 0, 194), (479, 0, 197), (482, 0, 198), (485, 0, 201), (488, 0, 203), (491, 0, 204), (494, 0, 208), (497, 0, 209), (500, 0, 222), (503, 0, 223), (512, 0, 315), (518, 0, 30), (521, 0, 314), (524, 7, 346)] by decide +kernel]
  exact List.forall_mem_cons.mpr ⟨hv_k1_3_0 hz hW, List.forall_mem_cons.mpr ⟨hv_k1_9_0 hz hW, List.forall_mem_cons.mpr ⟨hv_k1_13_0 hz hW, List.forall_mem_cons.mpr ⟨hv_k1_17_0 hz hW, List.forall_mem_cons.mpr ⟨hv_k1_23_0 hz hW, List.forall_mem_cons.mpr ⟨hv_k1_28_0 hz hW, List.forall_mem_cons.mpr ⟨hv_k1_31_0 hz hW, List.forall_mem_cons.mpr ⟨hv_k1_34_0 hz hW, List.forall_mem_cons.mpr ⟨hv_k1_37_0 hz hW, List.forall_mem_cons.mpr ⟨hv_k1_40_0 hz hW, List.forall_mem_cons.mpr ⟨hv_k1_44_0 hz hW, List.forall_mem_cons.mpr ⟨hv_k1_54_0 hz hW, List.forall_mem_cons.mpr ⟨hv_k1_69_0 hz hW, List.forall_mem_cons.mpr ⟨hv_k1_76_0 hz hW, List.forall_mem_cons.mpr ⟨hv_k1_85_0 hz hW, List.forall_mem_cons.mpr ⟨hv_k1_92_0 hz hW, List.forall_mem_cons.mpr ⟨hv_k1_111_0 hz hW, List.forall_mem_cons.mpr ⟨hv_k1_118_0 hz hW, List.forall_mem_cons.mpr ⟨hv_k1_125_0 hz hW, List.forall_mem_cons.mpr ⟨hv_k1_134_20 hz hW, List.forall_mem_cons.mpr ⟨hv_k1_144_7 hz hW, List.forall_mem_cons.mpr ⟨hv_k1_148_22 hz hW, List.forall_mem_cons.mpr ⟨hv_k1_148_24 hz hW, List.forall_mem_cons.mpr ⟨hv_k1_148_23 hz hW, List.forall_mem_cons.mpr ⟨hv_k1_148_26 hz hW, List.forall_mem_cons.mpr ⟨hv_k1_148_25 hz hW, List.forall_mem_cons.mpr ⟨hv_k1_157_0 hz hW, List.forall_mem_cons.mpr ⟨hv_k1_158_8 hz hW, List.forall_mem_cons.mpr ⟨hv_k1_162_8 hz hW, List.forall_mem_cons.mpr ⟨hv_k1_169_0 hz hW, List.forall_mem_cons.mpr ⟨hv_k1_173_0 hz hW, List.forall_mem_cons.mpr ⟨hv_k1_176_7 hz hW, List.forall_mem_cons.mpr ⟨hv_k1_180_0 hz hW, List.forall_mem_cons.mpr ⟨hv_k1_186_0 hz hW, List.forall_mem_cons.mpr ⟨hv_k1_192_0 hz hW, List.forall_mem_cons.mpr ⟨hv_k1_197_6 hz hW, List.forall_mem_cons.mpr ⟨hv_k1_197_5 hz hW, List.forall_mem_cons.mpr ⟨hv_k1_197_4 hz hW, List.forall_mem_cons.mpr ⟨hv_k1_197_3 hz hW, List.forall_mem_cons.mpr ⟨hv_k1_197_2 hz hW, List.forall_mem_cons.mpr ⟨hv_k1_197_1 hz hW, List.forall_mem_cons.mpr ⟨hv_k1_218_7 hz hW, List.forall_mem_cons.mpr ⟨hv_k1_222_7 hz hW, List.forall_mem_cons.mpr ⟨hv_k1_231_0 hz hW, List.forall_mem_cons.mpr ⟨hv_k1_234_8 hz hW, List.forall_mem_cons.mpr ⟨hv_k1_243_12 hz hW, List.forall_mem_cons.mpr ⟨hv_k1_246_0 hz hW, List.forall_mem_cons.mpr ⟨hv_k1_254_13 hz hW, List.forall_mem_cons.mpr ⟨hv_k1_258_12 hz hW, List.forall_mem_cons.mpr ⟨hv_k1_260_0 hz hW, List.forall_mem_cons.mpr ⟨hv_k1_263_12 hz hW, List.forall_mem_cons.mpr ⟨hv_k1_266_13 hz hW, List.forall_mem_cons.mpr ⟨hv_k1_270_12 hz hW, List.forall_mem_cons.mpr ⟨hv_k1_273_8 hz hW, List.forall_mem_cons.mpr ⟨hv_k1_277_0 hz hW, List.forall_mem_cons.mpr ⟨hv_k1_280_0 hz hW, List.forall_mem_cons.mpr ⟨hv_k1_283_17 hz hW, List.forall_mem_cons.mpr ⟨hv_k1_286_0 hz hW, List.forall_mem_cons.mpr ⟨hv_k1_296_17 hz hW, List.forall_mem_cons.mpr ⟨hv_k1_301_0 hz hW, List.forall_mem_cons.mpr ⟨hv_k1_305_0 hz hW, List.forall_mem_cons.mpr ⟨hv_k1_309_8 hz hW, List.forall_mem_cons.mpr ⟨hv_k1_312_0 hz hW, List.forall_mem_cons.mpr ⟨hv_k1_321_0 hz hW, List.forall_mem_cons.mpr ⟨hv_k1_325_0 hz hW, List.forall_mem_cons.mpr ⟨hv_k1_328_0 hz hW, List.forall_mem_cons.mpr ⟨hv_k1_331_0 hz hW, List.forall_mem_cons.mpr ⟨hv_k1_334_15 hz hW, List.forall_mem_cons.mpr ⟨hv_k1_337_0 hz hW, List.forall_mem_cons.mpr ⟨hv_k1_343_15 hz hW, List.forall_mem_cons.mpr ⟨hv_k1_347_15 hz hW, List.forall_mem_cons.mpr ⟨hv_k1_348_18 hz hW, List.forall_mem_cons.mpr ⟨hv_k1_352_15 hz hW, List.forall_mem_cons.mpr ⟨hv_k1_363_0 hz hW, List.forall_mem_cons.mpr ⟨hv_k1_368_0 hz hW, List.forall_mem_cons.mpr ⟨hv_k1_371_15 hz hW, List.forall_mem_cons.mpr ⟨hv_k1_375_31 hz hW, List.forall_mem_cons.mpr ⟨hv_k1_375_28 hz hW, List.forall_mem_cons.mpr ⟨hv_k1_375_13 hz hW, List.forall_mem_cons.mpr ⟨hv_k1_381_32 hz hW, List.forall_mem_cons.mpr ⟨hv_k1_381_29 hz hW, List.forall_mem_cons.mpr ⟨hv_k1_386_32 hz hW, List.forall_mem_cons.mpr ⟨hv_k1_386_29 hz hW, List.forall_mem_cons.mpr ⟨hv_k1_392_27 hz hW, List.forall_mem_cons.mpr ⟨hv_k1_395_27 hz hW, List.forall_mem_cons.mpr ⟨hv_k1_398_30 hz hW, List.forall_mem_cons.mpr ⟨hv_k1_406_0 hz hW, List.forall_mem_cons.mpr ⟨hv_k1_410_0 hz hW, List.forall_mem_cons.mpr ⟨hv_k1_413_0 hz hW, List.forall_mem_cons.mpr ⟨hv_k1_416_0 hz hW, List.forall_mem_cons.mpr ⟨hv_k1_421_21 hz hW, List.forall_mem_cons.mpr ⟨hv_k1_421_19 hz hW, List.forall_mem_cons.mpr ⟨hv_k1_424_0 hz hW, List.forall_mem_cons.mpr ⟨hv_k1_429_0 hz hW, List.forall_mem_cons.mpr ⟨hv_k1_432_0 hz hW, List.forall_mem_cons.mpr ⟨hv_k1_435_0 hz hW, List.forall_mem_cons.mpr ⟨hv_k1_439_0 hz hW, List.forall_mem_cons.mpr ⟨hv_k1_442_0 hz hW, List.forall_mem_cons.mpr ⟨hv_k1_445_0 hz hW, List.forall_mem_cons.mpr ⟨hv_k1_449_0 hz hW, List.forall_mem_cons.mpr ⟨hv_k1_452_0 hz hW, List.forall_mem_cons.mpr ⟨hv_k1_455_0 hz hW, List.forall_mem_cons.mpr ⟨hv_k1_458_0 hz hW, List.forall_mem_cons.mpr ⟨hv_k1_461_0 hz hW, List.forall_mem_cons.mpr ⟨hv_k1_464_0 hz hW, List.forall_mem_cons.mpr ⟨hv_k1_467_0 hz hW, List.forall_mem_cons.mpr ⟨hv_k1_470_0 hz hW, List.forall_mem_cons.mpr ⟨hv_k1_473_0 hz hW, List.forall_mem_cons.mpr ⟨hv_k1_476_0 hz hW, List.forall_mem_cons.mpr ⟨hv_k1_479_0 hz hW, List.forall_mem_cons.mpr ⟨hv_k1_482_0 hz hW, List.forall_mem_cons.mpr ⟨hv_k1_485_0 hz hW, List.forall_mem_cons.mpr ⟨hv_k1_488_0 hz hW, List.forall_mem_cons.mpr ⟨hv_k1_491_0 hz hW, List.forall_mem_cons.mpr ⟨hv_k1_494_0 hz hW, List.forall_mem_cons.mpr ⟨hv_k1_497_0 hz hW, List.forall_mem_cons.mpr ⟨hv_k1_500_0 hz hW, List.forall_mem_cons.mpr ⟨hv_k1_503_0 hz hW, List.forall_mem_cons.mpr ⟨hv_k1_512_0 hz hW, List.forall_mem_cons.mpr ⟨hv_k1_518_0 hz hW, List.forall_mem_cons.mpr ⟨hv_k1_521_0 hz hW, List.forall_mem_cons.mpr ⟨hv_k1_524_7 hz hW, fun _ h => absurd h List.not_mem_nil⟩⟩⟩⟩⟩⟩⟩⟩⟩⟩⟩⟩⟩⟩⟩⟩⟩⟩⟩⟩⟩⟩⟩⟩⟩⟩⟩⟩⟩⟩⟩⟩⟩⟩⟩⟩⟩⟩⟩⟩⟩⟩⟩⟩⟩⟩⟩⟩⟩⟩⟩⟩⟩⟩⟩⟩⟩⟩⟩⟩⟩⟩⟩⟩⟩⟩⟩⟩⟩⟩⟩⟩⟩⟩⟩⟩⟩⟩⟩⟩⟩⟩⟩⟩⟩⟩⟩⟩⟩⟩⟩⟩⟩⟩⟩⟩⟩⟩⟩⟩⟩⟩⟩⟩⟩⟩⟩⟩⟩⟩⟩⟩⟩⟩⟩⟩⟩⟩⟩⟩⟩⟩
theorem hv_k2_1_0 (hz : hv_Z s0 a0) (hW : s0.WarmedH s.vm) : hv_LK l s args 2 (1, 0, 4) :=
  show hv_Link l s args "HallOfClaims$Weak" 1 1 4 "HallOfClaims" from hv_kIN hz hW hv_mf4 rfl rfl rfl rfl (lw_at lw_m1 70 rfl) (lw_g (lw_at lw_m1 71 rfl) rfl)
theorem hv_k2_7_1 (hz : hv_Z s0 a0) (hW : s0.WarmedH s.vm) : hv_LK l s args 2 (7, 1, 86) :=
  show hv_Link l s args "HallOfClaims$Weak" 2 7 86 "HallOfClaims$Weak" from hv_kSU hz hW hv_mf86 rfl rfl (by decide +kernel) (lw_g (lw_at lw_m4 147 rfl) rfl) (lw_g (lw_at lw_m4 140 rfl) rfl) (lw_g (lw_at lw_m1 74 rfl) rfl) (lw_g (lw_at lw_m4 138 rfl) rfl)
theorem hv_k2_7_4 (hz : hv_Z s0 a0) (hW : s0.WarmedH s.vm) : hv_LK l s args 2 (7, 4, 86) :=
  show hv_Link l s args "HallOfClaims$Weak" 2 7 86 "HallOfClaims$Doubt" from hv_kSU hz hW hv_mf86 rfl rfl (by decide +kernel) (lw_g (lw_at lw_m4 147 rfl) rfl) (lw_g (lw_at lw_m4 140 rfl) rfl) (lw_g (lw_at lw_m1 74 rfl) rfl) (lw_g (lw_at lw_m4 138 rfl) rfl)
theorem hv_lk2 (hz : hv_Z s0 a0) (hW : s0.WarmedH s.vm) : ∀ q ∈ hv_ll 2, hv_LK l s args 2 q := by
  rw [show hv_ll 2 = [(1, 0, 4), (7, 1, 86), (7, 4, 86)] by decide +kernel]
  exact List.forall_mem_cons.mpr ⟨hv_k2_1_0 hz hW, List.forall_mem_cons.mpr ⟨hv_k2_7_1 hz hW, List.forall_mem_cons.mpr ⟨hv_k2_7_4 hz hW, fun _ h => absurd h List.not_mem_nil⟩⟩⟩
theorem hv_lk3 (hz : hv_Z s0 a0) (hW : s0.WarmedH s.vm) : ∀ q ∈ hv_ll 3, hv_LK l s args 3 q := by
  rw [show hv_ll 3 = [] by decide +kernel]
  exact fun _ h => absurd h List.not_mem_nil
theorem hv_k4_1_0 (hz : hv_Z s0 a0) (hW : s0.WarmedH s.vm) : hv_LK l s args 4 (1, 0, 4) :=
  show hv_Link l s args "HallOfClaims$Firm" 1 1 4 "HallOfClaims" from hv_kIN hz hW hv_mf4 rfl rfl rfl rfl (lw_at lw_m1 80 rfl) (lw_g (lw_at lw_m1 71 rfl) rfl)
theorem hv_k4_7_2 (hz : hv_Z s0 a0) (hW : s0.WarmedH s.vm) : hv_LK l s args 4 (7, 2, 89) :=
  show hv_Link l s args "HallOfClaims$Firm" 2 7 89 "HallOfClaims$Firm" from hv_kSU hz hW hv_mf89 rfl rfl (by decide +kernel) (lw_g (lw_at lw_m4 164 rfl) rfl) (lw_g (lw_at lw_m4 155 rfl) rfl) (lw_g (lw_at lw_m1 81 rfl) rfl) (lw_g (lw_at lw_m4 153 rfl) rfl)
theorem hv_k4_7_3 (hz : hv_Z s0 a0) (hW : s0.WarmedH s.vm) : hv_LK l s args 4 (7, 3, 89) :=
  show hv_Link l s args "HallOfClaims$Firm" 2 7 89 "HallOfClaims$Fact" from hv_kSU hz hW hv_mf89 rfl rfl (by decide +kernel) (lw_g (lw_at lw_m4 164 rfl) rfl) (lw_g (lw_at lw_m4 155 rfl) rfl) (lw_g (lw_at lw_m1 81 rfl) rfl) (lw_g (lw_at lw_m4 153 rfl) rfl)
theorem hv_lk4 (hz : hv_Z s0 a0) (hW : s0.WarmedH s.vm) : ∀ q ∈ hv_ll 4, hv_LK l s args 4 q := by
  rw [show hv_ll 4 = [(1, 0, 4), (7, 2, 89), (7, 3, 89)] by decide +kernel]
  exact List.forall_mem_cons.mpr ⟨hv_k4_1_0 hz hW, List.forall_mem_cons.mpr ⟨hv_k4_7_2 hz hW, List.forall_mem_cons.mpr ⟨hv_k4_7_3 hz hW, fun _ h => absurd h List.not_mem_nil⟩⟩⟩
theorem hv_k5_1_0 (hz : hv_Z s0 a0) (hW : s0.WarmedH s.vm) : hv_LK l s args 5 (1, 0, 5) :=
  show hv_Link l s args "HallOfClaims$Fact" 1 1 5 "HallOfClaims" from hv_kIN hz hW hv_mf5 rfl rfl rfl rfl (lw_at lw_m1 87 rfl) (lw_g (lw_at lw_m1 78 rfl) rfl)
theorem hv_k5_7_3 (hz : hv_Z s0 a0) (hW : s0.WarmedH s.vm) : hv_LK l s args 5 (7, 3, 91) :=
  show hv_Link l s args "HallOfClaims$Fact" 2 7 91 "HallOfClaims$Fact" from hv_kSU hz hW hv_mf91 rfl rfl (by decide +kernel) (lw_g (lw_at lw_m4 161 rfl) rfl) (lw_g (lw_at lw_m10 121 rfl) rfl) (lw_g (lw_at lw_m1 88 rfl) rfl) (lw_g (lw_at lw_m4 162 rfl) rfl)
theorem hv_lk5 (hz : hv_Z s0 a0) (hW : s0.WarmedH s.vm) : ∀ q ∈ hv_ll 5, hv_LK l s args 5 q := by
  rw [show hv_ll 5 = [(1, 0, 5), (7, 3, 91)] by decide +kernel]
  exact List.forall_mem_cons.mpr ⟨hv_k5_1_0 hz hW, List.forall_mem_cons.mpr ⟨hv_k5_7_3 hz hW, fun _ h => absurd h List.not_mem_nil⟩⟩
theorem hv_k6_1_0 (hz : hv_Z s0 a0) (hW : s0.WarmedH s.vm) : hv_LK l s args 6 (1, 0, 3) :=
  show hv_Link l s args "HallOfClaims$Doubt" 1 1 3 "HallOfClaims" from hv_kIN hz hW hv_mf3 rfl rfl rfl rfl (lw_at lw_m1 94 rfl) (lw_g (lw_at lw_m1 68 rfl) rfl)
theorem hv_lk6 (hz : hv_Z s0 a0) (hW : s0.WarmedH s.vm) : ∀ q ∈ hv_ll 6, hv_LK l s args 6 q := by
  rw [show hv_ll 6 = [(1, 0, 3)] by decide +kernel]
  exact List.forall_mem_cons.mpr ⟨hv_k6_1_0 hz hW, fun _ h => absurd h List.not_mem_nil⟩
theorem hv_k7_1_0 (hz : hv_Z s0 a0) (hW : s0.WarmedH s.vm) : hv_LK l s args 7 (1, 0, 4) :=
  show hv_Link l s args "HallOfClaims$Aside" 1 1 4 "HallOfClaims" from hv_kIN hz hW hv_mf4 rfl rfl rfl rfl (lw_at lw_m1 101 rfl) (lw_g (lw_at lw_m1 71 rfl) rfl)
theorem hv_lk7 (hz : hv_Z s0 a0) (hW : s0.WarmedH s.vm) : ∀ q ∈ hv_ll 7, hv_LK l s args 7 q := by
  rw [show hv_ll 7 = [(1, 0, 4)] by decide +kernel]
  exact List.forall_mem_cons.mpr ⟨hv_k7_1_0 hz hW, fun _ h => absurd h List.not_mem_nil⟩
theorem hv_k8_46_0 (hz : hv_Z s0 a0) (hW : s0.WarmedH s.vm) : hv_LK l s args 8 (46, 0, 71) :=
  show hv_Link l s args "HallOfClaims$Hall" 0 46 71 "HallOfClaims" from hv_kSN hz hW hv_mf71 rfl rfl (lw_at lw_m4 124 rfl) (lw_g (lw_at lw_m4 76 rfl) rfl)
theorem hv_k8_50_6 (hz : hv_Z s0 a0) (hW : s0.WarmedH s.vm) : hv_LK l s args 8 (50, 6, 84) :=
  show hv_Link l s args "HallOfClaims$Hall" 3 50 84 "HallOfClaims$Plain" from hv_kV hz hW hv_mf84 rfl rfl (lw_g (lw_at lw_m4 125 rfl) rfl) (lw_g (lw_at lw_m4 126 rfl) rfl) (lw_g (lw_at lw_m4 127 rfl) rfl)
theorem hv_k8_50_5 (hz : hv_Z s0 a0) (hW : s0.WarmedH s.vm) : hv_LK l s args 8 (50, 5, 84) :=
  show hv_Link l s args "HallOfClaims$Hall" 3 50 84 "HallOfClaims$Aside" from hv_kU (owner := "HallOfClaims$Plain") (x := ⟨"HallOfClaims$Plain", "hitsItself", "()Z"⟩) hz hW hv_mf84 rfl rfl rfl (by decide +kernel) (lw_g (lw_at lw_m4 125 rfl) rfl) (lw_g (lw_at lw_m4 128 rfl) rfl) (va_Decl.of (hv_ht (args := args) hz hW _ (lw_g (lw_at lw_m4 126 rfl) rfl)) (hv_ht (args := args) hz hW _ (lw_g (lw_at lw_m4 136 rfl) rfl))) (lw_g (lw_at lw_m4 129 rfl) rfl) (lw_g (lw_at lw_m4 126 rfl) rfl)
theorem hv_k8_50_4 (hz : hv_Z s0 a0) (hW : s0.WarmedH s.vm) : hv_LK l s args 8 (50, 4, 85) :=
  show hv_Link l s args "HallOfClaims$Hall" 3 50 85 "HallOfClaims$Doubt" from hv_kU (owner := "HallOfClaims$Plain") (x := ⟨"HallOfClaims$Plain", "hitsItself", "()Z"⟩) hz hW hv_mf85 rfl rfl rfl (by decide +kernel) (lw_g (lw_at lw_m4 125 rfl) rfl) (lw_g (lw_at lw_m4 128 rfl) rfl) (va_Decl.of (hv_ht (args := args) hz hW _ (lw_g (lw_at lw_m4 126 rfl) rfl)) (hv_ht (args := args) hz hW _ (lw_g (lw_at lw_m4 136 rfl) rfl))) (lw_g (lw_at lw_m4 130 rfl) rfl) (lw_g (lw_at lw_m4 131 rfl) rfl)
theorem hv_k8_50_3 (hz : hv_Z s0 a0) (hW : s0.WarmedH s.vm) : hv_LK l s args 8 (50, 3, 84) :=
  show hv_Link l s args "HallOfClaims$Hall" 3 50 84 "HallOfClaims$Fact" from hv_kU (owner := "HallOfClaims$Plain") (x := ⟨"HallOfClaims$Plain", "hitsItself", "()Z"⟩) hz hW hv_mf84 rfl rfl rfl (by decide +kernel) (lw_g (lw_at lw_m4 125 rfl) rfl) (lw_g (lw_at lw_m4 128 rfl) rfl) (va_Decl.of (hv_ht (args := args) hz hW _ (lw_g (lw_at lw_m4 126 rfl) rfl)) (hv_ht (args := args) hz hW _ (lw_g (lw_at lw_m4 136 rfl) rfl))) (lw_g (lw_at lw_m4 133 rfl) rfl) (lw_g (lw_at lw_m4 126 rfl) rfl)
theorem hv_k8_50_2 (hz : hv_Z s0 a0) (hW : s0.WarmedH s.vm) : hv_LK l s args 8 (50, 2, 84) :=
  show hv_Link l s args "HallOfClaims$Hall" 3 50 84 "HallOfClaims$Firm" from hv_kU (owner := "HallOfClaims$Plain") (x := ⟨"HallOfClaims$Plain", "hitsItself", "()Z"⟩) hz hW hv_mf84 rfl rfl rfl (by decide +kernel) (lw_g (lw_at lw_m4 125 rfl) rfl) (lw_g (lw_at lw_m4 128 rfl) rfl) (va_Decl.of (hv_ht (args := args) hz hW _ (lw_g (lw_at lw_m4 126 rfl) rfl)) (hv_ht (args := args) hz hW _ (lw_g (lw_at lw_m4 136 rfl) rfl))) (lw_g (lw_at lw_m4 134 rfl) rfl) (lw_g (lw_at lw_m4 126 rfl) rfl)
theorem hv_k8_50_1 (hz : hv_Z s0 a0) (hW : s0.WarmedH s.vm) : hv_LK l s args 8 (50, 1, 84) :=
  show hv_Link l s args "HallOfClaims$Hall" 3 50 84 "HallOfClaims$Weak" from hv_kU (owner := "HallOfClaims$Plain") (x := ⟨"HallOfClaims$Plain", "hitsItself", "()Z"⟩) hz hW hv_mf84 rfl rfl rfl (by decide +kernel) (lw_g (lw_at lw_m4 125 rfl) rfl) (lw_g (lw_at lw_m4 128 rfl) rfl) (va_Decl.of (hv_ht (args := args) hz hW _ (lw_g (lw_at lw_m4 126 rfl) rfl)) (hv_ht (args := args) hz hW _ (lw_g (lw_at lw_m4 136 rfl) rfl))) (lw_g (lw_at lw_m4 135 rfl) rfl) (lw_g (lw_at lw_m4 126 rfl) rfl)
theorem hv_k8_54_6 (hz : hv_Z s0 a0) (hW : s0.WarmedH s.vm) : hv_LK l s args 8 (54, 6, 86) :=
  show hv_Link l s args "HallOfClaims$Hall" 3 54 86 "HallOfClaims$Plain" from hv_kV hz hW hv_mf86 rfl rfl (lw_g (lw_at lw_m4 137 rfl) rfl) (lw_g (lw_at lw_m4 138 rfl) rfl) (lw_g (lw_at lw_m4 139 rfl) rfl)
theorem hv_k8_54_5 (hz : hv_Z s0 a0) (hW : s0.WarmedH s.vm) : hv_LK l s args 8 (54, 5, 87) :=
  show hv_Link l s args "HallOfClaims$Hall" 3 54 87 "HallOfClaims$Aside" from hv_kU (owner := "HallOfClaims$Plain") (x := ⟨"HallOfClaims$Plain", "hits", "(II)Z"⟩) hz hW hv_mf87 rfl rfl rfl (by decide +kernel) (lw_g (lw_at lw_m4 137 rfl) rfl) (lw_g (lw_at lw_m4 140 rfl) rfl) (va_Decl.of (hv_ht (args := args) hz hW _ (lw_g (lw_at lw_m4 138 rfl) rfl)) (hv_ht (args := args) hz hW _ (lw_g (lw_at lw_m4 151 rfl) rfl))) (lw_g (lw_at lw_m4 141 rfl) rfl) (lw_g (lw_at lw_m4 142 rfl) rfl)
theorem hv_k8_54_4 (hz : hv_Z s0 a0) (hW : s0.WarmedH s.vm) : hv_LK l s args 8 (54, 4, 88) :=
  show hv_Link l s args "HallOfClaims$Hall" 3 54 88 "HallOfClaims$Doubt" from hv_kU (owner := "HallOfClaims$Plain") (x := ⟨"HallOfClaims$Plain", "hits", "(II)Z"⟩) hz hW hv_mf88 rfl rfl rfl (by decide +kernel) (lw_g (lw_at lw_m4 137 rfl) rfl) (lw_g (lw_at lw_m4 140 rfl) rfl) (va_Decl.of (hv_ht (args := args) hz hW _ (lw_g (lw_at lw_m4 138 rfl) rfl)) (hv_ht (args := args) hz hW _ (lw_g (lw_at lw_m4 151 rfl) rfl))) (lw_g (lw_at lw_m4 144 rfl) rfl) (lw_g (lw_at lw_m4 145 rfl) rfl)
theorem hv_k8_54_3 (hz : hv_Z s0 a0) (hW : s0.WarmedH s.vm) : hv_LK l s args 8 (54, 3, 86) :=
  show hv_Link l s args "HallOfClaims$Hall" 3 54 86 "HallOfClaims$Fact" from hv_kU (owner := "HallOfClaims$Plain") (x := ⟨"HallOfClaims$Plain", "hits", "(II)Z"⟩) hz hW hv_mf86 rfl rfl rfl (by decide +kernel) (lw_g (lw_at lw_m4 137 rfl) rfl) (lw_g (lw_at lw_m4 140 rfl) rfl) (va_Decl.of (hv_ht (args := args) hz hW _ (lw_g (lw_at lw_m4 138 rfl) rfl)) (hv_ht (args := args) hz hW _ (lw_g (lw_at lw_m4 151 rfl) rfl))) (lw_g (lw_at lw_m4 148 rfl) rfl) (lw_g (lw_at lw_m4 138 rfl) rfl)
theorem hv_k8_54_2 (hz : hv_Z s0 a0) (hW : s0.WarmedH s.vm) : hv_LK l s args 8 (54, 2, 86) :=
  show hv_Link l s args "HallOfClaims$Hall" 3 54 86 "HallOfClaims$Firm" from hv_kU (owner := "HallOfClaims$Plain") (x := ⟨"HallOfClaims$Plain", "hits", "(II)Z"⟩) hz hW hv_mf86 rfl rfl rfl (by decide +kernel) (lw_g (lw_at lw_m4 137 rfl) rfl) (lw_g (lw_at lw_m4 140 rfl) rfl) (va_Decl.of (hv_ht (args := args) hz hW _ (lw_g (lw_at lw_m4 138 rfl) rfl)) (hv_ht (args := args) hz hW _ (lw_g (lw_at lw_m4 151 rfl) rfl))) (lw_g (lw_at lw_m4 149 rfl) rfl) (lw_g (lw_at lw_m4 138 rfl) rfl)
theorem hv_k8_54_1 (hz : hv_Z s0 a0) (hW : s0.WarmedH s.vm) : hv_LK l s args 8 (54, 1, 88) :=
  show hv_Link l s args "HallOfClaims$Hall" 3 54 88 "HallOfClaims$Weak" from hv_kU (owner := "HallOfClaims$Plain") (x := ⟨"HallOfClaims$Plain", "hits", "(II)Z"⟩) hz hW hv_mf88 rfl rfl rfl (by decide +kernel) (lw_g (lw_at lw_m4 137 rfl) rfl) (lw_g (lw_at lw_m4 140 rfl) rfl) (va_Decl.of (hv_ht (args := args) hz hW _ (lw_g (lw_at lw_m4 138 rfl) rfl)) (hv_ht (args := args) hz hW _ (lw_g (lw_at lw_m4 151 rfl) rfl))) (lw_g (lw_at lw_m4 150 rfl) rfl) (lw_g (lw_at lw_m4 145 rfl) rfl)
theorem hv_k8_57_6 (hz : hv_Z s0 a0) (hW : s0.WarmedH s.vm) : hv_LK l s args 8 (57, 6, 89) :=
  show hv_Link l s args "HallOfClaims$Hall" 3 57 89 "HallOfClaims$Plain" from hv_kV hz hW hv_mf89 rfl rfl (lw_g (lw_at lw_m4 152 rfl) rfl) (lw_g (lw_at lw_m4 153 rfl) rfl) (lw_g (lw_at lw_m4 154 rfl) rfl)
theorem hv_k8_57_5 (hz : hv_Z s0 a0) (hW : s0.WarmedH s.vm) : hv_LK l s args 8 (57, 5, 89) :=
  show hv_Link l s args "HallOfClaims$Hall" 3 57 89 "HallOfClaims$Aside" from hv_kU (owner := "HallOfClaims$Plain") (x := ⟨"HallOfClaims$Plain", "yields", "(LHallOfClaims$Sort;II)Z"⟩) hz hW hv_mf89 rfl rfl rfl (by decide +kernel) (lw_g (lw_at lw_m4 152 rfl) rfl) (lw_g (lw_at lw_m4 155 rfl) rfl) (va_Decl.of (hv_ht (args := args) hz hW _ (lw_g (lw_at lw_m4 153 rfl) rfl)) (hv_ht (args := args) hz hW _ (lw_g (lw_at lw_m4 168 rfl) rfl))) (lw_g (lw_at lw_m4 156 rfl) rfl) (lw_g (lw_at lw_m4 153 rfl) rfl)
theorem hv_k8_57_4 (hz : hv_Z s0 a0) (hW : s0.WarmedH s.vm) : hv_LK l s args 8 (57, 4, 89) :=
  show hv_Link l s args "HallOfClaims$Hall" 3 57 89 "HallOfClaims$Doubt" from hv_kU (owner := "HallOfClaims$Plain") (x := ⟨"HallOfClaims$Plain", "yields", "(LHallOfClaims$Sort;II)Z"⟩) hz hW hv_mf89 rfl rfl rfl (by decide +kernel) (lw_g (lw_at lw_m4 152 rfl) rfl) (lw_g (lw_at lw_m4 155 rfl) rfl) (va_Decl.of (hv_ht (args := args) hz hW _ (lw_g (lw_at lw_m4 153 rfl) rfl)) (hv_ht (args := args) hz hW _ (lw_g (lw_at lw_m4 168 rfl) rfl))) (lw_g (lw_at lw_m4 157 rfl) rfl) (lw_g (lw_at lw_m4 153 rfl) rfl)
theorem hv_k8_57_3 (hz : hv_Z s0 a0) (hW : s0.WarmedH s.vm) : hv_LK l s args 8 (57, 3, 90) :=
  show hv_Link l s args "HallOfClaims$Hall" 3 57 90 "HallOfClaims$Fact" from hv_kU (owner := "HallOfClaims$Plain") (x := ⟨"HallOfClaims$Plain", "yields", "(LHallOfClaims$Sort;II)Z"⟩) hz hW hv_mf90 rfl rfl rfl (by decide +kernel) (lw_g (lw_at lw_m4 152 rfl) rfl) (lw_g (lw_at lw_m4 155 rfl) rfl) (va_Decl.of (hv_ht (args := args) hz hW _ (lw_g (lw_at lw_m4 153 rfl) rfl)) (hv_ht (args := args) hz hW _ (lw_g (lw_at lw_m4 168 rfl) rfl))) (lw_g (lw_at lw_m4 158 rfl) rfl) (lw_g (lw_at lw_m4 159 rfl) rfl)
theorem hv_k8_57_2 (hz : hv_Z s0 a0) (hW : s0.WarmedH s.vm) : hv_LK l s args 8 (57, 2, 91) :=
  show hv_Link l s args "HallOfClaims$Hall" 3 57 91 "HallOfClaims$Firm" from hv_kU (owner := "HallOfClaims$Plain") (x := ⟨"HallOfClaims$Plain", "yields", "(LHallOfClaims$Sort;II)Z"⟩) hz hW hv_mf91 rfl rfl rfl (by decide +kernel) (lw_g (lw_at lw_m4 152 rfl) rfl) (lw_g (lw_at lw_m4 155 rfl) rfl) (va_Decl.of (hv_ht (args := args) hz hW _ (lw_g (lw_at lw_m4 153 rfl) rfl)) (hv_ht (args := args) hz hW _ (lw_g (lw_at lw_m4 168 rfl) rfl))) (lw_g (lw_at lw_m4 166 rfl) rfl) (lw_g (lw_at lw_m4 162 rfl) rfl)
theorem hv_k8_57_1 (hz : hv_Z s0 a0) (hW : s0.WarmedH s.vm) : hv_LK l s args 8 (57, 1, 89) :=
  show hv_Link l s args "HallOfClaims$Hall" 3 57 89 "HallOfClaims$Weak" from hv_kU (owner := "HallOfClaims$Plain") (x := ⟨"HallOfClaims$Plain", "yields", "(LHallOfClaims$Sort;II)Z"⟩) hz hW hv_mf89 rfl rfl rfl (by decide +kernel) (lw_g (lw_at lw_m4 152 rfl) rfl) (lw_g (lw_at lw_m4 155 rfl) rfl) (va_Decl.of (hv_ht (args := args) hz hW _ (lw_g (lw_at lw_m4 153 rfl) rfl)) (hv_ht (args := args) hz hW _ (lw_g (lw_at lw_m4 168 rfl) rfl))) (lw_g (lw_at lw_m4 167 rfl) rfl) (lw_g (lw_at lw_m4 153 rfl) rfl)
theorem hv_k8_61_7 (hz : hv_Z s0 a0) (hW : s0.WarmedH s.vm) : hv_LK l s args 8 (61, 7, 83) :=
  show hv_Link l s args "HallOfClaims$Hall" 3 61 83 "HallOfClaims$Hall" from hv_kV hz hW hv_mf83 rfl rfl (lw_g (lw_at lw_m4 120 rfl) rfl) (lw_g (lw_at lw_m4 121 rfl) rfl) (lw_g (lw_at lw_m4 122 rfl) rfl)
theorem hv_k8_62_0 (hz : hv_Z s0 a0) (hW : s0.WarmedH s.vm) : hv_LK l s args 8 (62, 0, 139) :=
  show hv_Link l s args "HallOfClaims$Hall" 0 62 139 "HallOfClaims" from hv_kSN hz hW hv_mf139 rfl rfl (lw_at lw_m8 147 rfl) (lw_g (lw_at lw_m5 70 rfl) rfl)
theorem hv_lk8 (hz : hv_Z s0 a0) (hW : s0.WarmedH s.vm) : ∀ q ∈ hv_ll 8, hv_LK l s args 8 q := by
  rw [show hv_ll 8 = [(46, 0, 71), (50, 6, 84), (50, 5, 84), (50, 4, 85), (50, 3, 84), (50, 2, 84), (50, 1, 84), (54, 6, 86), (54, 5, 87), (54, 4, 88), (54, 3, 86), (54, 2, 86), (54, 1, 88), (57, 6, 89), (57, 5, 89), (57, 4, 89), (57, 3, 90), (57, 2, 91), (57, 1, 89), (61, 7, 83), (62, 0, 139)] by decide +kernel]
  exact List.forall_mem_cons.mpr ⟨hv_k8_46_0 hz hW, List.forall_mem_cons.mpr ⟨hv_k8_50_6 hz hW, List.forall_mem_cons.mpr ⟨hv_k8_50_5 hz hW, List.forall_mem_cons.mpr ⟨hv_k8_50_4 hz hW, List.forall_mem_cons.mpr ⟨hv_k8_50_3 hz hW, List.forall_mem_cons.mpr ⟨hv_k8_50_2 hz hW, List.forall_mem_cons.mpr ⟨hv_k8_50_1 hz hW, List.forall_mem_cons.mpr ⟨hv_k8_54_6 hz hW, List.forall_mem_cons.mpr ⟨hv_k8_54_5 hz hW, List.forall_mem_cons.mpr ⟨hv_k8_54_4 hz hW, List.forall_mem_cons.mpr ⟨hv_k8_54_3 hz hW, List.forall_mem_cons.mpr ⟨hv_k8_54_2 hz hW, List.forall_mem_cons.mpr ⟨hv_k8_54_1 hz hW, List.forall_mem_cons.mpr ⟨hv_k8_57_6 hz hW, List.forall_mem_cons.mpr ⟨hv_k8_57_5 hz hW, List.forall_mem_cons.mpr ⟨hv_k8_57_4 hz hW, List.forall_mem_cons.mpr ⟨hv_k8_57_3 hz hW, List.forall_mem_cons.mpr ⟨hv_k8_57_2 hz hW, List.forall_mem_cons.mpr ⟨hv_k8_57_1 hz hW, List.forall_mem_cons.mpr ⟨hv_k8_61_7 hz hW, List.forall_mem_cons.mpr ⟨hv_k8_62_0 hz hW, fun _ h => absurd h List.not_mem_nil⟩⟩⟩⟩⟩⟩⟩⟩⟩⟩⟩⟩⟩⟩⟩⟩⟩⟩⟩⟩⟩
theorem hv_k9_32_0 (hz : hv_Z s0 a0) (hW : s0.WarmedH s.vm) : hv_LK l s args 9 (32, 0, 11) :=
  show hv_Link l s args "HallOfClaims$Frame" 1 32 11 "HallOfClaims" from hv_kI hz hW hv_mf11 rfl rfl rfl rfl (lw_g (lw_at lw_m1 172 rfl) rfl) (lw_g (lw_at lw_m1 173 rfl) rfl)
theorem hv_k9_40_0 (hz : hv_Z s0 a0) (hW : s0.WarmedH s.vm) : hv_LK l s args 9 (40, 0, 15) :=
  show hv_Link l s args "HallOfClaims$Frame" 1 40 15 "HallOfClaims" from hv_kI hz hW hv_mf15 rfl rfl rfl rfl (lw_g (lw_at lw_m1 201 rfl) rfl) (lw_g (lw_at lw_m1 202 rfl) rfl)
theorem hv_k9_57_7 (hz : hv_Z s0 a0) (hW : s0.WarmedH s.vm) : hv_LK l s args 9 (57, 7, 82) :=
  show hv_Link l s args "HallOfClaims$Frame" 3 57 82 "HallOfClaims$Hall" from hv_kV hz hW hv_mf82 rfl rfl (lw_g (lw_at lw_m4 177 rfl) rfl) (lw_g (lw_at lw_m4 117 rfl) rfl) (lw_g (lw_at lw_m4 118 rfl) rfl)
theorem hv_k9_60_7 (hz : hv_Z s0 a0) (hW : s0.WarmedH s.vm) : hv_LK l s args 9 (60, 7, 92) :=
  show hv_Link l s args "HallOfClaims$Frame" 3 60 92 "HallOfClaims$Hall" from hv_kV hz hW hv_mf92 rfl rfl (lw_g (lw_at lw_m4 178 rfl) rfl) (lw_g (lw_at lw_m4 170 rfl) rfl) (lw_g (lw_at lw_m4 171 rfl) rfl)
theorem hv_k9_65_0 (hz : hv_Z s0 a0) (hW : s0.WarmedH s.vm) : hv_LK l s args 9 (65, 0, 71) :=
  show hv_Link l s args "HallOfClaims$Frame" 0 65 71 "HallOfClaims" from hv_kSN hz hW hv_mf71 rfl rfl (lw_at lw_m4 179 rfl) (lw_g (lw_at lw_m4 76 rfl) rfl)
theorem hv_k9_69_8 (hz : hv_Z s0 a0) (hW : s0.WarmedH s.vm) : hv_LK l s args 9 (69, 8, 94) :=
  show hv_Link l s args "HallOfClaims$Frame" 3 69 94 "HallOfClaims$Frame" from hv_kV hz hW hv_mf94 rfl rfl (lw_g (lw_at lw_m4 180 rfl) rfl) (lw_g (lw_at lw_m4 182 rfl) rfl) (lw_g (lw_at lw_ms 22 rfl) rfl)
theorem hv_k9_72_8 (hz : hv_Z s0 a0) (hW : s0.WarmedH s.vm) : hv_LK l s args 9 (72, 8, 95) :=
  show hv_Link l s args "HallOfClaims$Frame" 3 72 95 "HallOfClaims$Frame" from hv_kV hz hW hv_mf95 rfl rfl (lw_g (lw_at lw_m4 184 rfl) rfl) (lw_g (lw_at lw_m4 186 rfl) rfl) (lw_g (lw_at lw_ms 23 rfl) rfl)
theorem hv_k9_81_0 (hz : hv_Z s0 a0) (hW : s0.WarmedH s.vm) : hv_LK l s args 9 (81, 0, 102) :=
  show hv_Link l s args "HallOfClaims$Frame" 0 81 102 "HallOfClaims" from hv_kSN hz hW hv_mf102 rfl rfl (lw_at lw_m4 212 rfl) (lw_g (lw_at lw_m4 213 rfl) rfl)
theorem hv_k9_90_9 (hz : hv_Z s0 a0) (hW : s0.WarmedH s.vm) : hv_LK l s args 9 (90, 9, 103) :=
  show hv_Link l s args "HallOfClaims$Frame" 3 90 103 "java/util/PriorityQueue" from hv_kV hz hW hv_mf103 rfl rfl (lw_g (lw_at lw_m4 215 rfl) rfl) (lw_g (lw_at lw_m4 216 rfl) rfl) (lw_g (lw_at lw_m4 217 rfl) rfl)
theorem hv_k9_94_9 (hz : hv_Z s0 a0) (hW : s0.WarmedH s.vm) : hv_LK l s args 9 (94, 9, 100) :=
  show hv_Link l s args "HallOfClaims$Frame" 3 94 100 "java/util/PriorityQueue" from hv_kV hz hW hv_mf100 rfl rfl (lw_g (lw_at lw_m4 204 rfl) rfl) (lw_g (lw_at lw_m4 205 rfl) rfl) (lw_g (lw_at lw_m4 206 rfl) rfl)
theorem hv_k9_100_8 (hz : hv_Z s0 a0) (hW : s0.WarmedH s.vm) : hv_LK l s args 9 (100, 8, 101) :=
  show hv_Link l s args "HallOfClaims$Frame" 3 100 101 "HallOfClaims$Frame" from hv_kV hz hW hv_mf101 rfl rfl (lw_g (lw_at lw_m4 208 rfl) rfl) (lw_g (lw_at lw_m4 210 rfl) rfl) (lw_g (lw_at lw_ms 27 rfl) rfl)
theorem hv_k9_103_9 (hz : hv_Z s0 a0) (hW : s0.WarmedH s.vm) : hv_LK l s args 9 (103, 9, 112) :=
  show hv_Link l s args "HallOfClaims$Frame" 3 103 112 "java/util/PriorityQueue" from hv_kU (owner := "java/util/AbstractCollection") (x := ⟨"java/util/PriorityQueue", "isEmpty", "()Z"⟩) hz hW hv_mf112 rfl rfl rfl (by decide +kernel) (lw_g (lw_at lw_m5 107 rfl) rfl) (lw_g (lw_at lw_m5 108 rfl) rfl) (va_Decl.abs (va_Nw.warmD hW (va_Nw.of rfl (hz.1 _ (lw_at lw_m5 109 rfl))))) (lw_g (lw_at lw_m5 110 rfl) rfl) (lw_g (lw_at lw_m5 111 rfl) rfl)
theorem hv_k9_107_9 (hz : hv_Z s0 a0) (hW : s0.WarmedH s.vm) : hv_LK l s args 9 (107, 9, 118) :=
  show hv_Link l s args "HallOfClaims$Frame" 3 107 118 "java/util/PriorityQueue" from hv_kV hz hW hv_mf118 rfl rfl (lw_g (lw_at lw_m5 139 rfl) rfl) (lw_g (lw_at lw_m5 140 rfl) rfl) (lw_g (lw_at lw_m5 141 rfl) rfl)
theorem hv_k9_114_8 (hz : hv_Z s0 a0) (hW : s0.WarmedH s.vm) : hv_LK l s args 9 (114, 8, 120) :=
  show hv_Link l s args "HallOfClaims$Frame" 3 114 120 "HallOfClaims$Frame" from hv_kV hz hW hv_mf120 rfl rfl (lw_g (lw_at lw_m5 149 rfl) rfl) (lw_g (lw_at lw_m5 150 rfl) rfl) (lw_g (lw_at lw_m5 151 rfl) rfl)
theorem hv_k9_117_8 (hz : hv_Z s0 a0) (hW : s0.WarmedH s.vm) : hv_LK l s args 9 (117, 8, 128) :=
  show hv_Link l s args "HallOfClaims$Frame" 3 117 128 "HallOfClaims$Frame" from hv_kV hz hW hv_mf128 rfl rfl (lw_g (lw_at lw_m5 192 rfl) rfl) (lw_g (lw_at lw_m5 185 rfl) rfl) (lw_g (lw_at lw_m5 186 rfl) rfl)
theorem hv_k9_121_8 (hz : hv_Z s0 a0) (hW : s0.WarmedH s.vm) : hv_LK l s args 9 (121, 8, 130) :=
  show hv_Link l s args "HallOfClaims$Frame" 3 121 130 "HallOfClaims$Frame" from hv_kV hz hW hv_mf130 rfl rfl (lw_g (lw_at lw_m5 193 rfl) rfl) (lw_g (lw_at lw_m5 194 rfl) rfl) (lw_g (lw_at lw_m5 195 rfl) rfl)
theorem hv_k9_124_8 (hz : hv_Z s0 a0) (hW : s0.WarmedH s.vm) : hv_LK l s args 9 (124, 8, 158) :=
  show hv_Link l s args "HallOfClaims$Frame" 3 124 158 "HallOfClaims$Frame" from hv_kV hz hW hv_mf158 rfl rfl (lw_g (lw_at lw_m7 83 rfl) rfl) (lw_g (lw_at lw_m6 85 rfl) rfl) (lw_g (lw_at lw_m6 86 rfl) rfl)
theorem hv_k9_127_8 (hz : hv_Z s0 a0) (hW : s0.WarmedH s.vm) : hv_LK l s args 9 (127, 8, 200) :=
  show hv_Link l s args "HallOfClaims$Frame" 3 127 200 "HallOfClaims$Frame" from hv_kV hz hW hv_mf200 rfl rfl (lw_g (lw_at lw_m7 84 rfl) rfl) (lw_g (lw_at lw_m7 80 rfl) rfl) (lw_g (lw_at lw_m7 81 rfl) rfl)
theorem hv_lk9 (hz : hv_Z s0 a0) (hW : s0.WarmedH s.vm) : ∀ q ∈ hv_ll 9, hv_LK l s args 9 q := by
  rw [show hv_ll 9 = [(32, 0, 11), (40, 0, 15), (57, 7, 82), (60, 7, 92), (65, 0, 71), (69, 8, 94), (72, 8, 95), (81, 0, 102), (90, 9, 103), (94, 9, 100), (100, 8, 101), (103, 9, 112), (107, 9, 118), (114, 8, 120), (117, 8, 128), (121, 8, 130), (124, 8, 158), (127, 8, 200)] by decide +kernel]
  exact List.forall_mem_cons.mpr ⟨hv_k9_32_0 hz hW, List.forall_mem_cons.mpr ⟨hv_k9_40_0 hz hW, List.forall_mem_cons.mpr ⟨hv_k9_57_7 hz hW, List.forall_mem_cons.mpr ⟨hv_k9_60_7 hz hW, List.forall_mem_cons.mpr ⟨hv_k9_65_0 hz hW, List.forall_mem_cons.mpr ⟨hv_k9_69_8 hz hW, List.forall_mem_cons.mpr ⟨hv_k9_72_8 hz hW, List.forall_mem_cons.mpr ⟨hv_k9_81_0 hz hW, List.forall_mem_cons.mpr ⟨hv_k9_90_9 hz hW, List.forall_mem_cons.mpr ⟨hv_k9_94_9 hz hW, List.forall_mem_cons.mpr ⟨hv_k9_100_8 hz hW, List.forall_mem_cons.mpr ⟨hv_k9_103_9 hz hW, List.forall_mem_cons.mpr ⟨hv_k9_107_9 hz hW, List.forall_mem_cons.mpr ⟨hv_k9_114_8 hz hW, List.forall_mem_cons.mpr ⟨hv_k9_117_8 hz hW, List.forall_mem_cons.mpr ⟨hv_k9_121_8 hz hW, List.forall_mem_cons.mpr ⟨hv_k9_124_8 hz hW, List.forall_mem_cons.mpr ⟨hv_k9_127_8 hz hW, fun _ h => absurd h List.not_mem_nil⟩⟩⟩⟩⟩⟩⟩⟩⟩⟩⟩⟩⟩⟩⟩⟩⟩⟩
theorem hv_k10_3_0 (hz : hv_Z s0 a0) (hW : s0.WarmedH s.vm) : hv_LK l s args 10 (3, 0, 12) :=
  show hv_Link l s args "java/util/PriorityQueue" 1 3 12 "HallOfClaims" from hv_kI hz hW hv_mf12 rfl rfl rfl rfl (lw_g (lw_at lw_m1 175 rfl) rfl) (lw_g (lw_at lw_m1 176 rfl) rfl)
theorem hv_k10_7_0 (hz : hv_Z s0 a0) (hW : s0.WarmedH s.vm) : hv_LK l s args 10 (7, 0, 13) :=
  show hv_Link l s args "java/util/PriorityQueue" 1 7 13 "HallOfClaims" from hv_kI hz hW hv_mf13 rfl rfl rfl rfl (lw_g (lw_at lw_m1 178 rfl) rfl) (lw_g (lw_at lw_m1 179 rfl) rfl)
theorem hv_k10_89_9 (hz : hv_Z s0 a0) (hW : s0.WarmedH s.vm) : hv_LK l s args 10 (89, 9, 104) :=
  show hv_Link l s args "java/util/PriorityQueue" 3 89 104 "java/util/PriorityQueue" from hv_kV hz hW hv_mf104 rfl rfl (lw_g (lw_at lw_m4 219 rfl) rfl) (lw_g (lw_at lw_m4 220 rfl) rfl) (lw_g (lw_at lw_m4 221 rfl) rfl)
theorem hv_k10_100_9 (hz : hv_Z s0 a0) (hW : s0.WarmedH s.vm) : hv_LK l s args 10 (100, 9, 105) :=
  show hv_Link l s args "java/util/PriorityQueue" 3 100 105 "java/util/PriorityQueue" from hv_kV hz hW hv_mf105 rfl rfl (lw_g (lw_at lw_m5 47 rfl) rfl) (lw_g (lw_at lw_m5 49 rfl) rfl) (lw_g (lw_at lw_ms 29 rfl) rfl)
theorem hv_k10_125_0 (hz : hv_Z s0 a0) (hW : s0.WarmedH s.vm) : hv_LK l s args 10 (125, 0, 119) :=
  show hv_Link l s args "java/util/PriorityQueue" 0 125 119 "HallOfClaims" from hv_kS hz hW hv_mf119 rfl rfl (lw_g (lw_at lw_m5 143 rfl) rfl) (lw_g (lw_at lw_m5 144 rfl) rfl)
theorem hv_k10_140_0 (hz : hv_Z s0 a0) (hW : s0.WarmedH s.vm) : hv_LK l s args 10 (140, 0, 106) :=
  show hv_Link l s args "java/util/PriorityQueue" 0 140 106 "HallOfClaims" from hv_kS hz hW hv_mf106 rfl rfl (lw_g (lw_at lw_m5 75 rfl) rfl) (lw_g (lw_at lw_m5 76 rfl) rfl)
theorem hv_k10_146_10 (hz : hv_Z s0 a0) (hW : s0.WarmedH s.vm) : hv_LK l s args 10 (146, 10, 107) :=
  show hv_Link l s args "java/util/PriorityQueue" 4 146 107 "HallOfClaims$Waiting" from hv_kF (x := ⟨"java/lang/Comparable", "compareTo", "(Ljava/lang/Object;)I"⟩) hz hW hv_mf107 rfl rfl rfl (by decide +kernel) (lw_g (lw_at lw_m5 80 rfl) rfl) (lw_g (lw_at lw_m5 84 rfl) rfl) (lw_g (lw_at lw_m5 86 rfl) rfl) (lw_at lw_m5 82 rfl) (lw_at lw_m5 81 rfl) (lw_at lw_m5 87 rfl) (lw_at lw_m5 85 rfl) (lw_at lw_m5 83 rfl)
theorem hv_k10_146_30 (hz : hv_Z s0 a0) (hW : s0.WarmedH s.vm) : hv_LK l s args 10 (146, 30, 110) :=
  show hv_Link l s args "java/util/PriorityQueue" 4 146 110 "java/lang/Integer" from hv_kF (x := ⟨"java/lang/Comparable", "compareTo", "(Ljava/lang/Object;)I"⟩) hz hW hv_mf110 rfl rfl rfl (by decide +kernel) (lw_g (lw_at lw_m5 80 rfl) rfl) (lw_g (lw_at lw_m5 96 rfl) rfl) (lw_g (lw_at lw_m5 98 rfl) rfl) (lw_at lw_m5 82 rfl) (lw_at lw_m5 81 rfl) (lw_at lw_m5 99 rfl) (lw_at lw_m5 97 rfl) (lw_at lw_m5 95 rfl)
theorem hv_lk10 (hz : hv_Z s0 a0) (hW : s0.WarmedH s.vm) : ∀ q ∈ hv_ll 10, hv_LK l s args 10 q := by
  rw [show hv_ll 10 = [(3, 0, 12), (7, 0, 13), (89, 9, 104), (100, 9, 105), (125, 0, 119), (140, 0, 106), (146, 10, 107), (146, 30, 110)] by decide +kernel]
  exact List.forall_mem_cons.mpr ⟨hv_k10_3_0 hz hW, List.forall_mem_cons.mpr ⟨hv_k10_7_0 hz hW, List.forall_mem_cons.mpr ⟨hv_k10_89_9 hz hW, List.forall_mem_cons.mpr ⟨hv_k10_100_9 hz hW, List.forall_mem_cons.mpr ⟨hv_k10_125_0 hz hW, List.forall_mem_cons.mpr ⟨hv_k10_140_0 hz hW, List.forall_mem_cons.mpr ⟨hv_k10_146_10 hz hW, List.forall_mem_cons.mpr ⟨hv_k10_146_30 hz hW, fun _ h => absurd h List.not_mem_nil⟩⟩⟩⟩⟩⟩⟩⟩
theorem hv_k11_1_0 (hz : hv_Z s0 a0) (hW : s0.WarmedH s.vm) : hv_LK l s args 11 (1, 0, 14) :=
  show hv_Link l s args "java/util/AbstractQueue" 1 1 14 "HallOfClaims" from hv_kI hz hW hv_mf14 rfl rfl rfl rfl (lw_g (lw_at lw_m1 181 rfl) rfl) (lw_g (lw_at lw_m1 182 rfl) rfl)
theorem hv_lk11 (hz : hv_Z s0 a0) (hW : s0.WarmedH s.vm) : ∀ q ∈ hv_ll 11, hv_LK l s args 11 q := by
  rw [show hv_ll 11 = [(1, 0, 14)] by decide +kernel]
  exact List.forall_mem_cons.mpr ⟨hv_k11_1_0 hz hW, fun _ h => absurd h List.not_mem_nil⟩
theorem hv_k12_7_9 (hz : hv_Z s0 a0) (hW : s0.WarmedH s.vm) : hv_LK l s args 12 (7, 9, 113) :=
  show hv_Link l s args "java/util/AbstractCollection" 3 7 113 "java/util/PriorityQueue" from hv_kU (owner := "java/util/AbstractCollection") (x := ⟨"java/util/AbstractCollection", "size", "()I"⟩) hz hW hv_mf113 rfl rfl rfl (by decide +kernel) (lw_g (lw_at lw_m5 113 rfl) rfl) (lw_g (lw_at lw_m5 115 rfl) rfl) (va_Decl.abs (va_Nw.warmD hW (va_Nw.of rfl (hz.1 _ (lw_at lw_m5 114 rfl))))) (lw_g (lw_at lw_m5 116 rfl) rfl) (lw_g (lw_at lw_m5 117 rfl) rfl)
theorem hv_k12_7_31 (hz : hv_Z s0 a0) (hW : s0.WarmedH s.vm) : hv_LK l s args 12 (7, 31, 114) :=
  show hv_Link l s args "java/util/AbstractCollection" 3 7 114 "java/util/TreeMap$EntrySet" from hv_kU (owner := "java/util/AbstractCollection") (x := ⟨"java/util/AbstractCollection", "size", "()I"⟩) hz hW hv_mf114 rfl rfl rfl (by decide +kernel) (lw_g (lw_at lw_m5 113 rfl) rfl) (lw_g (lw_at lw_m5 115 rfl) rfl) (va_Decl.abs (va_Nw.warmD hW (va_Nw.of rfl (hz.1 _ (lw_at lw_m5 114 rfl))))) (lw_g (lw_at lw_m5 119 rfl) rfl) (lw_g (lw_at lw_m5 120 rfl) rfl)
theorem hv_k12_7_28 (hz : hv_Z s0 a0) (hW : s0.WarmedH s.vm) : hv_LK l s args 12 (7, 28, 116) :=
  show hv_Link l s args "java/util/AbstractCollection" 3 7 116 "java/util/TreeMap$KeySet" from hv_kU (owner := "java/util/AbstractCollection") (x := ⟨"java/util/AbstractCollection", "size", "()I"⟩) hz hW hv_mf116 rfl rfl rfl (by decide +kernel) (lw_g (lw_at lw_m5 113 rfl) rfl) (lw_g (lw_at lw_m5 115 rfl) rfl) (va_Decl.abs (va_Nw.warmD hW (va_Nw.of rfl (hz.1 _ (lw_at lw_m5 114 rfl))))) (lw_g (lw_at lw_m5 126 rfl) rfl) (lw_g (lw_at lw_m5 127 rfl) rfl)
theorem hv_k12_7_13 (hz : hv_Z s0 a0) (hW : s0.WarmedH s.vm) : hv_LK l s args 12 (7, 13, 117) :=
  show hv_Link l s args "java/util/AbstractCollection" 3 7 117 "java/util/TreeSet" from hv_kU (owner := "java/util/AbstractCollection") (x := ⟨"java/util/AbstractCollection", "size", "()I"⟩) hz hW hv_mf117 rfl rfl rfl (by decide +kernel) (lw_g (lw_at lw_m5 113 rfl) rfl) (lw_g (lw_at lw_m5 115 rfl) rfl) (va_Decl.abs (va_Nw.warmD hW (va_Nw.of rfl (hz.1 _ (lw_at lw_m5 114 rfl))))) (lw_g (lw_at lw_m5 135 rfl) rfl) (lw_g (lw_at lw_m5 136 rfl) rfl)
theorem hv_lk12 (hz : hv_Z s0 a0) (hW : s0.WarmedH s.vm) : ∀ q ∈ hv_ll 12, hv_LK l s args 12 q := by
  rw [show hv_ll 12 = [(7, 9, 113), (7, 31, 114), (7, 28, 116), (7, 13, 117)] by decide +kernel]
  exact List.forall_mem_cons.mpr ⟨hv_k12_7_9 hz hW, List.forall_mem_cons.mpr ⟨hv_k12_7_31 hz hW, List.forall_mem_cons.mpr ⟨hv_k12_7_28 hz hW, List.forall_mem_cons.mpr ⟨hv_k12_7_13 hz hW, fun _ h => absurd h List.not_mem_nil⟩⟩⟩⟩
theorem hv_k13_16_0 (hz : hv_Z s0 a0) (hW : s0.WarmedH s.vm) : hv_LK l s args 13 (16, 0, 109) :=
  show hv_Link l s args "HallOfClaims$Waiting" 0 16 109 "HallOfClaims" from hv_kS hz hW hv_mf109 rfl rfl (lw_g (lw_at lw_m5 94 rfl) rfl) (lw_g (lw_at lw_m5 73 rfl) rfl)
theorem hv_k13_22_10 (hz : hv_Z s0 a0) (hW : s0.WarmedH s.vm) : hv_LK l s args 13 (22, 10, 108) :=
  show hv_Link l s args "HallOfClaims$Waiting" 3 22 108 "HallOfClaims$Waiting" from hv_kV hz hW hv_mf108 rfl rfl (lw_g (lw_at lw_m5 90 rfl) rfl) (lw_g (lw_at lw_m5 91 rfl) rfl) (lw_g (lw_at lw_m5 92 rfl) rfl)
theorem hv_lk13 (hz : hv_Z s0 a0) (hW : s0.WarmedH s.vm) : ∀ q ∈ hv_ll 13, hv_LK l s args 13 q := by
  rw [show hv_ll 13 = [(16, 0, 109), (22, 10, 108)] by decide +kernel]
  exact List.forall_mem_cons.mpr ⟨hv_k13_16_0 hz hW, List.forall_mem_cons.mpr ⟨hv_k13_22_10 hz hW, fun _ h => absurd h List.not_mem_nil⟩⟩
theorem hv_k14_26_11 (hz : hv_Z s0 a0) (hW : s0.WarmedH s.vm) : hv_LK l s args 14 (26, 11, 152) :=
  show hv_Link l s args "HallOfClaims$Labels" 3 26 152 "HallOfClaims$Labels" from hv_kV hz hW hv_mf152 rfl rfl (lw_g (lw_at lw_m6 59 rfl) rfl) (lw_g (lw_at lw_m6 61 rfl) rfl) (lw_g (lw_at lw_ms 39 rfl) rfl)
theorem hv_k14_30_0 (hz : hv_Z s0 a0) (hW : s0.WarmedH s.vm) : hv_LK l s args 14 (30, 0, 71) :=
  show hv_Link l s args "HallOfClaims$Labels" 0 30 71 "HallOfClaims" from hv_kSN hz hW hv_mf71 rfl rfl (lw_at lw_m6 76 rfl) (lw_g (lw_at lw_m4 76 rfl) rfl)
theorem hv_k14_39_0 (hz : hv_Z s0 a0) (hW : s0.WarmedH s.vm) : hv_LK l s args 14 (39, 0, 102) :=
  show hv_Link l s args "HallOfClaims$Labels" 0 39 102 "HallOfClaims" from hv_kSN hz hW hv_mf102 rfl rfl (lw_at lw_m6 71 rfl) (lw_g (lw_at lw_m4 213 rfl) rfl)
theorem hv_k14_42_11 (hz : hv_Z s0 a0) (hW : s0.WarmedH s.vm) : hv_LK l s args 14 (42, 11, 155) :=
  show hv_Link l s args "HallOfClaims$Labels" 3 42 155 "HallOfClaims$Labels" from hv_kV hz hW hv_mf155 rfl rfl (lw_g (lw_at lw_m6 72 rfl) rfl) (lw_g (lw_at lw_m6 74 rfl) rfl) (lw_g (lw_at lw_ms 42 rfl) rfl)
theorem hv_k14_46_11 (hz : hv_Z s0 a0) (hW : s0.WarmedH s.vm) : hv_LK l s args 14 (46, 11, 154) :=
  show hv_Link l s args "HallOfClaims$Labels" 3 46 154 "HallOfClaims$Labels" from hv_kV hz hW hv_mf154 rfl rfl (lw_g (lw_at lw_m6 67 rfl) rfl) (lw_g (lw_at lw_m6 69 rfl) rfl) (lw_g (lw_at lw_ms 41 rfl) rfl)
theorem hv_k14_49_11 (hz : hv_Z s0 a0) (hW : s0.WarmedH s.vm) : hv_LK l s args 14 (49, 11, 153) :=
  show hv_Link l s args "HallOfClaims$Labels" 3 49 153 "HallOfClaims$Labels" from hv_kV hz hW hv_mf153 rfl rfl (lw_g (lw_at lw_m6 63 rfl) rfl) (lw_g (lw_at lw_m6 65 rfl) rfl) (lw_g (lw_at lw_ms 40 rfl) rfl)
theorem hv_k14_65_8 (hz : hv_Z s0 a0) (hW : s0.WarmedH s.vm) : hv_LK l s args 14 (65, 8, 160) :=
  show hv_Link l s args "HallOfClaims$Labels" 3 65 160 "HallOfClaims$Frame" from hv_kV hz hW hv_mf160 rfl rfl (lw_g (lw_at lw_m6 92 rfl) rfl) (lw_g (lw_at lw_m6 93 rfl) rfl) (lw_g (lw_at lw_m6 94 rfl) rfl)
theorem hv_lk14 (hz : hv_Z s0 a0) (hW : s0.WarmedH s.vm) : ∀ q ∈ hv_ll 14, hv_LK l s args 14 q := by
  rw [show hv_ll 14 = [(26, 11, 152), (30, 0, 71), (39, 0, 102), (42, 11, 155), (46, 11, 154), (49, 11, 153), (65, 8, 160)] by decide +kernel]
  exact List.forall_mem_cons.mpr ⟨hv_k14_26_11 hz hW, List.forall_mem_cons.mpr ⟨hv_k14_30_0 hz hW, List.forall_mem_cons.mpr ⟨hv_k14_39_0 hz hW, List.forall_mem_cons.mpr ⟨hv_k14_42_11 hz hW, List.forall_mem_cons.mpr ⟨hv_k14_46_11 hz hW, List.forall_mem_cons.mpr ⟨hv_k14_49_11 hz hW, List.forall_mem_cons.mpr ⟨hv_k14_65_8 hz hW, fun _ h => absurd h List.not_mem_nil⟩⟩⟩⟩⟩⟩⟩
theorem hv_k15_21_0 (hz : hv_Z s0 a0) (hW : s0.WarmedH s.vm) : hv_LK l s args 15 (21, 0, 18) :=
  show hv_Link l s args "HallOfClaims$Shelf" 1 21 18 "HallOfClaims" from hv_kIN hz hW hv_mf18 rfl rfl rfl rfl (lw_at lw_m2 57 rfl) (lw_g (lw_at lw_m2 58 rfl) rfl)
theorem hv_k15_22_0 (hz : hv_Z s0 a0) (hW : s0.WarmedH s.vm) : hv_LK l s args 15 (22, 0, 19) :=
  show hv_Link l s args "HallOfClaims$Shelf" 1 22 19 "HallOfClaims" from hv_kI hz hW hv_mf19 rfl rfl rfl rfl (lw_g (lw_at lw_m2 62 rfl) rfl) (lw_g (lw_at lw_m2 63 rfl) rfl)
theorem hv_k15_29_0 (hz : hv_Z s0 a0) (hW : s0.WarmedH s.vm) : hv_LK l s args 15 (29, 0, 24) :=
  show hv_Link l s args "HallOfClaims$Shelf" 1 29 24 "HallOfClaims" from hv_kIN hz hW hv_mf24 rfl rfl rfl rfl (lw_at lw_m2 112 rfl) (lw_g (lw_at lw_m2 113 rfl) rfl)
theorem hv_k15_30_13 (hz : hv_Z s0 a0) (hW : s0.WarmedH s.vm) : hv_LK l s args 15 (30, 13, 126) :=
  show hv_Link l s args "HallOfClaims$Shelf" 3 30 126 "java/util/TreeSet" from hv_kV hz hW hv_mf126 rfl rfl (lw_g (lw_at lw_m5 173 rfl) rfl) (lw_g (lw_at lw_m5 174 rfl) rfl) (lw_g (lw_at lw_m5 175 rfl) rfl)
theorem hv_k15_33_8 (hz : hv_Z s0 a0) (hW : s0.WarmedH s.vm) : hv_LK l s args 15 (33, 8, 128) :=
  show hv_Link l s args "HallOfClaims$Shelf" 3 33 128 "HallOfClaims$Frame" from hv_kV hz hW hv_mf128 rfl rfl (lw_g (lw_at lw_m5 184 rfl) rfl) (lw_g (lw_at lw_m5 185 rfl) rfl) (lw_g (lw_at lw_m5 186 rfl) rfl)
theorem hv_k15_39_8 (hz : hv_Z s0 a0) (hW : s0.WarmedH s.vm) : hv_LK l s args 15 (39, 8, 129) :=
  show hv_Link l s args "HallOfClaims$Shelf" 3 39 129 "HallOfClaims$Frame" from hv_kV hz hW hv_mf129 rfl rfl (lw_g (lw_at lw_m5 188 rfl) rfl) (lw_g (lw_at lw_m5 189 rfl) rfl) (lw_g (lw_at lw_m5 190 rfl) rfl)
theorem hv_k15_42_16 (hz : hv_Z s0 a0) (hW : s0.WarmedH s.vm) : hv_LK l s args 15 (42, 16, 131) :=
  show hv_Link l s args "HallOfClaims$Shelf" 3 42 131 "HallOfClaims$Found" from hv_kV hz hW hv_mf131 rfl rfl (lw_g (lw_at lw_m5 197 rfl) rfl) (lw_g (lw_at lw_m5 198 rfl) rfl) (lw_g (lw_at lw_m5 199 rfl) rfl)
theorem hv_k15_46_13 (hz : hv_Z s0 a0) (hW : s0.WarmedH s.vm) : hv_LK l s args 15 (46, 13, 132) :=
  show hv_Link l s args "HallOfClaims$Shelf" 3 46 132 "java/util/TreeSet" from hv_kV hz hW hv_mf132 rfl rfl (lw_g (lw_at lw_m5 201 rfl) rfl) (lw_g (lw_at lw_m5 202 rfl) rfl) (lw_g (lw_at lw_m5 203 rfl) rfl)
theorem hv_k15_54_11 (hz : hv_Z s0 a0) (hW : s0.WarmedH s.vm) : hv_LK l s args 15 (54, 11, 151) :=
  show hv_Link l s args "HallOfClaims$Shelf" 3 54 151 "HallOfClaims$Labels" from hv_kV hz hW hv_mf151 rfl rfl (lw_g (lw_at lw_m6 55 rfl) rfl) (lw_g (lw_at lw_m6 56 rfl) rfl) (lw_g (lw_at lw_m6 57 rfl) rfl)
theorem hv_k15_67_0 (hz : hv_Z s0 a0) (hW : s0.WarmedH s.vm) : hv_LK l s args 15 (67, 0, 156) :=
  show hv_Link l s args "HallOfClaims$Shelf" 0 67 156 "HallOfClaims" from hv_kS hz hW hv_mf156 rfl rfl (lw_g (lw_at lw_m6 77 rfl) rfl) (lw_g (lw_at lw_m6 78 rfl) rfl)
theorem hv_k15_71_11 (hz : hv_Z s0 a0) (hW : s0.WarmedH s.vm) : hv_LK l s args 15 (71, 11, 157) :=
  show hv_Link l s args "HallOfClaims$Shelf" 3 71 157 "HallOfClaims$Labels" from hv_kV hz hW hv_mf157 rfl rfl (lw_g (lw_at lw_m6 80 rfl) rfl) (lw_g (lw_at lw_m6 81 rfl) rfl) (lw_g (lw_at lw_m6 82 rfl) rfl)
theorem hv_k15_74_8 (hz : hv_Z s0 a0) (hW : s0.WarmedH s.vm) : hv_LK l s args 15 (74, 8, 158) :=
  show hv_Link l s args "HallOfClaims$Shelf" 3 74 158 "HallOfClaims$Frame" from hv_kV hz hW hv_mf158 rfl rfl (lw_g (lw_at lw_m6 84 rfl) rfl) (lw_g (lw_at lw_m6 85 rfl) rfl) (lw_g (lw_at lw_m6 86 rfl) rfl)
theorem hv_k15_77_11 (hz : hv_Z s0 a0) (hW : s0.WarmedH s.vm) : hv_LK l s args 15 (77, 11, 159) :=
  show hv_Link l s args "HallOfClaims$Shelf" 3 77 159 "HallOfClaims$Labels" from hv_kV hz hW hv_mf159 rfl rfl (lw_g (lw_at lw_m6 88 rfl) rfl) (lw_g (lw_at lw_m6 89 rfl) rfl) (lw_g (lw_at lw_m6 90 rfl) rfl)
theorem hv_k15_80_13 (hz : hv_Z s0 a0) (hW : s0.WarmedH s.vm) : hv_LK l s args 15 (80, 13, 162) :=
  show hv_Link l s args "HallOfClaims$Shelf" 3 80 162 "java/util/TreeSet" from hv_kV hz hW hv_mf162 rfl rfl (lw_g (lw_at lw_m6 101 rfl) rfl) (lw_g (lw_at lw_m6 102 rfl) rfl) (lw_g (lw_at lw_m6 103 rfl) rfl)
theorem hv_k15_84_32 (hz : hv_Z s0 a0) (hW : s0.WarmedH s.vm) : hv_LK l s args 15 (84, 32, 170) :=
  show hv_Link l s args "HallOfClaims$Shelf" 4 84 170 "java/util/TreeMap$EntryIterator" from hv_kF (x := ⟨"java/util/Iterator", "hasNext", "()Z"⟩) hz hW hv_mf170 rfl rfl rfl (by decide +kernel) (lw_g (lw_at lw_m6 174 rfl) rfl) (lw_g (lw_at lw_m6 178 rfl) rfl) (lw_g (lw_at lw_m6 180 rfl) rfl) (lw_at lw_m6 176 rfl) (lw_at lw_m6 175 rfl) (lw_at lw_m6 181 rfl) (lw_at lw_m6 179 rfl) (lw_at lw_m6 177 rfl)
theorem hv_k15_84_29 (hz : hv_Z s0 a0) (hW : s0.WarmedH s.vm) : hv_LK l s args 15 (84, 29, 170) :=
  show hv_Link l s args "HallOfClaims$Shelf" 4 84 170 "java/util/TreeMap$KeyIterator" from hv_kF (x := ⟨"java/util/Iterator", "hasNext", "()Z"⟩) hz hW hv_mf170 rfl rfl rfl (by decide +kernel) (lw_g (lw_at lw_m6 174 rfl) rfl) (lw_g (lw_at lw_m6 184 rfl) rfl) (lw_g (lw_at lw_m6 180 rfl) rfl) (lw_at lw_m6 176 rfl) (lw_at lw_m6 175 rfl) (lw_at lw_m6 181 rfl) (lw_at lw_m6 185 rfl) (lw_at lw_m6 183 rfl)
theorem hv_k15_90_32 (hz : hv_Z s0 a0) (hW : s0.WarmedH s.vm) : hv_LK l s args 15 (90, 32, 171) :=
  show hv_Link l s args "HallOfClaims$Shelf" 4 90 171 "java/util/TreeMap$EntryIterator" from hv_kF (x := ⟨"java/util/Iterator", "next", "()Ljava/lang/Object;"⟩) hz hW hv_mf171 rfl rfl rfl (by decide +kernel) (lw_g (lw_at lw_m6 187 rfl) rfl) (lw_g (lw_at lw_m6 190 rfl) rfl) (lw_g (lw_at lw_m6 192 rfl) rfl) (lw_at lw_m6 189 rfl) (lw_at lw_m6 188 rfl) (lw_at lw_m6 193 rfl) (lw_at lw_m6 191 rfl) (lw_at lw_m6 177 rfl)
theorem hv_k15_90_29 (hz : hv_Z s0 a0) (hW : s0.WarmedH s.vm) : hv_LK l s args 15 (90, 29, 175) :=
  show hv_Link l s args "HallOfClaims$Shelf" 4 90 175 "java/util/TreeMap$KeyIterator" from hv_kF (x := ⟨"java/util/Iterator", "next", "()Ljava/lang/Object;"⟩) hz hW hv_mf175 rfl rfl rfl (by decide +kernel) (lw_g (lw_at lw_m6 187 rfl) rfl) (lw_g (lw_at lw_m6 208 rfl) rfl) (lw_g (lw_at lw_m6 210 rfl) rfl) (lw_at lw_m6 189 rfl) (lw_at lw_m6 188 rfl) (lw_at lw_m6 211 rfl) (lw_at lw_m6 209 rfl) (lw_at lw_m6 183 rfl)
theorem hv_lk15 (hz : hv_Z s0 a0) (hW : s0.WarmedH s.vm) : ∀ q ∈ hv_ll 15, hv_LK l s args 15 q := by
  rw [show hv_ll 15 = [(21, 0, 18), (22, 0, 19), (29, 0, 24), (30, 13, 126), (33, 8, 128), (39, 8, 129), (42, 16, 131), (46, 13, 132), (54, 11, 151), (67, 0, 156), (71, 11, 157), (74, 8, 158), (77, 11, 159), (80, 13, 162), (84, 32, 170), (84, 29, 170), (90, 32, 171), (90, 29, 175)] by decide +kernel]
  exact List.forall_mem_cons.mpr ⟨hv_k15_21_0 hz hW, List.forall_mem_cons.mpr ⟨hv_k15_22_0 hz hW, List.forall_mem_cons.mpr ⟨hv_k15_29_0 hz hW, List.forall_mem_cons.mpr ⟨hv_k15_30_13 hz hW, List.forall_mem_cons.mpr ⟨hv_k15_33_8 hz hW, List.forall_mem_cons.mpr ⟨hv_k15_39_8 hz hW, List.forall_mem_cons.mpr ⟨hv_k15_42_16 hz hW, List.forall_mem_cons.mpr ⟨hv_k15_46_13 hz hW, List.forall_mem_cons.mpr ⟨hv_k15_54_11 hz hW, List.forall_mem_cons.mpr ⟨hv_k15_67_0 hz hW, List.forall_mem_cons.mpr ⟨hv_k15_71_11 hz hW, List.forall_mem_cons.mpr ⟨hv_k15_74_8 hz hW, List.forall_mem_cons.mpr ⟨hv_k15_77_11 hz hW, List.forall_mem_cons.mpr ⟨hv_k15_80_13 hz hW, List.forall_mem_cons.mpr ⟨hv_k15_84_32 hz hW, List.forall_mem_cons.mpr ⟨hv_k15_84_29 hz hW, List.forall_mem_cons.mpr ⟨hv_k15_90_32 hz hW, List.forall_mem_cons.mpr ⟨hv_k15_90_29 hz hW, fun _ h => absurd h List.not_mem_nil⟩⟩⟩⟩⟩⟩⟩⟩⟩⟩⟩⟩⟩⟩⟩⟩⟩⟩
theorem hv_k16_13_0 (hz : hv_Z s0 a0) (hW : s0.WarmedH s.vm) : hv_LK l s args 16 (13, 0, 139) :=
  show hv_Link l s args "HallOfClaims$BySize" 0 13 139 "HallOfClaims" from hv_kSN hz hW hv_mf139 rfl rfl (lw_at lw_m5 69 rfl) (lw_g (lw_at lw_m5 70 rfl) rfl)
theorem hv_k16_19_0 (hz : hv_Z s0 a0) (hW : s0.WarmedH s.vm) : hv_LK l s args 16 (19, 0, 109) :=
  show hv_Link l s args "HallOfClaims$BySize" 0 19 109 "HallOfClaims" from hv_kS hz hW hv_mf109 rfl rfl (lw_g (lw_at lw_m5 72 rfl) rfl) (lw_g (lw_at lw_m5 73 rfl) rfl)
theorem hv_k16_25_14 (hz : hv_Z s0 a0) (hW : s0.WarmedH s.vm) : hv_LK l s args 16 (25, 14, 138) :=
  show hv_Link l s args "HallOfClaims$BySize" 3 25 138 "HallOfClaims$BySize" from hv_kV hz hW hv_mf138 rfl rfl (lw_g (lw_at lw_m5 65 rfl) rfl) (lw_g (lw_at lw_m5 66 rfl) rfl) (lw_g (lw_at lw_m5 67 rfl) rfl)
theorem hv_lk16 (hz : hv_Z s0 a0) (hW : s0.WarmedH s.vm) : ∀ q ∈ hv_ll 16, hv_LK l s args 16 q := by
  rw [show hv_ll 16 = [(13, 0, 139), (19, 0, 109), (25, 14, 138)] by decide +kernel]
  exact List.forall_mem_cons.mpr ⟨hv_k16_13_0 hz hW, List.forall_mem_cons.mpr ⟨hv_k16_19_0 hz hW, List.forall_mem_cons.mpr ⟨hv_k16_25_14 hz hW, fun _ h => absurd h List.not_mem_nil⟩⟩⟩
theorem hv_k17_1_0 (hz : hv_Z s0 a0) (hW : s0.WarmedH s.vm) : hv_LK l s args 17 (1, 0, 23) :=
  show hv_Link l s args "java/util/TreeSet" 1 1 23 "HallOfClaims" from hv_kI hz hW hv_mf23 rfl rfl rfl rfl (lw_g (lw_at lw_m2 103 rfl) rfl) (lw_g (lw_at lw_m2 104 rfl) rfl)
theorem hv_k17_16_0 (hz : hv_Z s0 a0) (hW : s0.WarmedH s.vm) : hv_LK l s args 17 (16, 0, 22) :=
  show hv_Link l s args "java/util/TreeSet" 1 16 22 "HallOfClaims" from hv_kI hz hW hv_mf22 rfl rfl rfl rfl (lw_g (lw_at lw_m2 100 rfl) rfl) (lw_g (lw_at lw_m2 101 rfl) rfl)
theorem hv_k17_19_0 (hz : hv_Z s0 a0) (hW : s0.WarmedH s.vm) : hv_LK l s args 17 (19, 0, 20) :=
  show hv_Link l s args "java/util/TreeSet" 1 19 20 "HallOfClaims" from hv_kI hz hW hv_mf20 rfl rfl rfl rfl (lw_g (lw_at lw_m2 67 rfl) rfl) (lw_g (lw_at lw_m2 68 rfl) rfl)
theorem hv_k17_34_15 (hz : hv_Z s0 a0) (hW : s0.WarmedH s.vm) : hv_LK l s args 17 (34, 15, 163) :=
  show hv_Link l s args "java/util/TreeSet" 4 34 163 "java/util/TreeMap" from hv_kF (x := ⟨"java/util/NavigableMap", "navigableKeySet", "()Ljava/util/NavigableSet;"⟩) hz hW hv_mf163 rfl rfl rfl (by decide +kernel) (lw_g (lw_at lw_m6 106 rfl) rfl) (lw_g (lw_at lw_m6 109 rfl) rfl) (lw_g (lw_at lw_m6 111 rfl) rfl) (lw_at lw_m6 108 rfl) (lw_at lw_m6 107 rfl) (lw_at lw_m6 112 rfl) (lw_at lw_m6 110 rfl) (lw_at lw_m5 131 rfl)
theorem hv_k17_40_28 (hz : hv_Z s0 a0) (hW : s0.WarmedH s.vm) : hv_LK l s args 17 (40, 28, 165) :=
  show hv_Link l s args "java/util/TreeSet" 4 40 165 "java/util/TreeMap$KeySet" from hv_kF (x := ⟨"java/util/NavigableSet", "iterator", "()Ljava/util/Iterator;"⟩) hz hW hv_mf165 rfl rfl rfl (by decide +kernel) (lw_g (lw_at lw_m6 125 rfl) rfl) (lw_g (lw_at lw_m6 129 rfl) rfl) (lw_g (lw_at lw_m6 131 rfl) rfl) (lw_at lw_m6 127 rfl) (lw_at lw_m6 126 rfl) (lw_at lw_m6 132 rfl) (lw_at lw_m6 130 rfl) (lw_at lw_m6 128 rfl)
theorem hv_k17_40_13 (hz : hv_Z s0 a0) (hW : s0.WarmedH s.vm) : hv_LK l s args 17 (40, 13, 162) :=
  show hv_Link l s args "java/util/TreeSet" 4 40 162 "java/util/TreeSet" from hv_kF (x := ⟨"java/util/NavigableSet", "iterator", "()Ljava/util/Iterator;"⟩) hz hW hv_mf162 rfl rfl rfl (by decide +kernel) (lw_g (lw_at lw_m6 125 rfl) rfl) (lw_g (lw_at lw_m6 170 rfl) rfl) (lw_g (lw_at lw_m6 102 rfl) rfl) (lw_at lw_m6 127 rfl) (lw_at lw_m6 126 rfl) (lw_at lw_m6 172 rfl) (lw_at lw_m6 171 rfl) (lw_at lw_m6 169 rfl)
theorem hv_k17_53_15 (hz : hv_Z s0 a0) (hW : s0.WarmedH s.vm) : hv_LK l s args 17 (53, 15, 115) :=
  show hv_Link l s args "java/util/TreeSet" 4 53 115 "java/util/TreeMap" from hv_kFU (x := ⟨"java/util/NavigableMap", "size", "()I"⟩) (J := "java/util/Map") hz hW hv_mf115 rfl rfl rfl (by decide +kernel) (by decide +kernel) (by decide +kernel) (by decide +kernel) (flat_of_before _ hz.2 _ (by decide +kernel)) rfl (flat_of_before _ hz.2 _ (by decide +kernel)) (lw_g (lw_at lw_m5 132 rfl) rfl) (lw_g (lw_at lw_m5 123 rfl) rfl) (lw_at lw_m5 130 rfl) (lw_at lw_m5 134 rfl) (lw_at lw_m5 133 rfl) (lw_at lw_m5 131 rfl)
theorem hv_k17_57_15 (hz : hv_Z s0 a0) (hW : s0.WarmedH s.vm) : hv_LK l s args 17 (57, 15, 180) :=
  show hv_Link l s args "java/util/TreeSet" 4 57 180 "java/util/TreeMap" from hv_kFU (x := ⟨"java/util/NavigableMap", "isEmpty", "()Z"⟩) (J := "java/util/Map") hz hW hv_mf180 rfl rfl rfl (by decide +kernel) (by decide +kernel) (by decide +kernel) (by decide +kernel) (flat_of_before _ hz.2 _ (by decide +kernel)) rfl (flat_of_before _ hz.2 _ (by decide +kernel)) (lw_g (lw_at lw_m6 233 rfl) rfl) (lw_g (lw_at lw_m6 235 rfl) rfl) (lw_at lw_m6 232 rfl) (lw_at lw_m6 236 rfl) (lw_at lw_m6 234 rfl) (lw_at lw_m5 131 rfl)
theorem hv_k17_69_15 (hz : hv_Z s0 a0) (hW : s0.WarmedH s.vm) : hv_LK l s args 17 (69, 15, 133) :=
  show hv_Link l s args "java/util/TreeSet" 4 69 133 "java/util/TreeMap" from hv_kFU (x := ⟨"java/util/NavigableMap", "put", "(Ljava/lang/Object;Ljava/lang/Object;)Ljava/lang/Object;"⟩) (J := "java/util/Map") hz hW hv_mf133 rfl rfl rfl (by decide +kernel) (by decide +kernel) (by decide +kernel) (by decide +kernel) (flat_of_before _ hz.2 _ (by decide +kernel)) rfl (flat_of_before _ hz.2 _ (by decide +kernel)) (lw_g (lw_at lw_m5 209 rfl) rfl) (lw_g (lw_at lw_m5 211 rfl) rfl) (lw_at lw_m5 208 rfl) (lw_at lw_m5 212 rfl) (lw_at lw_m5 210 rfl) (lw_at lw_m5 131 rfl)
theorem hv_k17_77_15 (hz : hv_Z s0 a0) (hW : s0.WarmedH s.vm) : hv_LK l s args 17 (77, 15, 127) :=
  show hv_Link l s args "java/util/TreeSet" 4 77 127 "java/util/TreeMap" from hv_kFU (x := ⟨"java/util/NavigableMap", "clear", "()V"⟩) (J := "java/util/Map") hz hW hv_mf127 rfl rfl rfl (by decide +kernel) (by decide +kernel) (by decide +kernel) (by decide +kernel) (flat_of_before _ hz.2 _ (by decide +kernel)) rfl (flat_of_before _ hz.2 _ (by decide +kernel)) (lw_g (lw_at lw_m5 179 rfl) rfl) (lw_g (lw_at lw_m5 181 rfl) rfl) (lw_at lw_m5 178 rfl) (lw_at lw_m5 182 rfl) (lw_at lw_m5 180 rfl) (lw_at lw_m5 131 rfl)
theorem hv_lk17 (hz : hv_Z s0 a0) (hW : s0.WarmedH s.vm) : ∀ q ∈ hv_ll 17, hv_LK l s args 17 q := by
  rw [show hv_ll 17 = [(1, 0, 23), (16, 0, 22), (19, 0, 20), (34, 15, 163), (40, 28, 165), (40, 13, 162), (53, 15, 115), (57, 15, 180), (69, 15, 133), (77, 15, 127)] by decide +kernel]
  exact List.forall_mem_cons.mpr ⟨hv_k17_1_0 hz hW, List.forall_mem_cons.mpr ⟨hv_k17_16_0 hz hW, List.forall_mem_cons.mpr ⟨hv_k17_19_0 hz hW, List.forall_mem_cons.mpr ⟨hv_k17_34_15 hz hW, List.forall_mem_cons.mpr ⟨hv_k17_40_28 hz hW, List.forall_mem_cons.mpr ⟨hv_k17_40_13 hz hW, List.forall_mem_cons.mpr ⟨hv_k17_53_15 hz hW, List.forall_mem_cons.mpr ⟨hv_k17_57_15 hz hW, List.forall_mem_cons.mpr ⟨hv_k17_69_15 hz hW, List.forall_mem_cons.mpr ⟨hv_k17_77_15 hz hW, fun _ h => absurd h List.not_mem_nil⟩⟩⟩⟩⟩⟩⟩⟩⟩⟩
theorem hv_k18_1_0 (hz : hv_Z s0 a0) (hW : s0.WarmedH s.vm) : hv_LK l s args 18 (1, 0, 21) :=
  show hv_Link l s args "java/util/TreeMap" 1 1 21 "HallOfClaims" from hv_kI hz hW hv_mf21 rfl rfl rfl rfl (lw_g (lw_at lw_m2 70 rfl) rfl) (lw_g (lw_at lw_m2 71 rfl) rfl)
theorem hv_k18_50_15 (hz : hv_Z s0 a0) (hW : s0.WarmedH s.vm) : hv_LK l s args 18 (50, 15, 213) :=
  show hv_Link l s args "java/util/TreeMap" 3 50 213 "java/util/TreeMap" from hv_kV hz hW hv_mf213 rfl rfl (lw_g (lw_at lw_m7 149 rfl) rfl) (lw_g (lw_at lw_m7 150 rfl) rfl) (lw_g (lw_at lw_m7 151 rfl) rfl)
theorem hv_k18_54_15 (hz : hv_Z s0 a0) (hW : s0.WarmedH s.vm) : hv_LK l s args 18 (54, 15, 167) :=
  show hv_Link l s args "java/util/TreeMap" 3 54 167 "java/util/TreeMap" from hv_kV hz hW hv_mf167 rfl rfl (lw_g (lw_at lw_m6 141 rfl) rfl) (lw_g (lw_at lw_m6 142 rfl) rfl) (lw_g (lw_at lw_m6 143 rfl) rfl)
theorem hv_k18_95_0 (hz : hv_Z s0 a0) (hW : s0.WarmedH s.vm) : hv_LK l s args 18 (95, 0, 141) :=
  show hv_Link l s args "java/util/TreeMap" 0 95 141 "HallOfClaims" from hv_kS hz hW hv_mf141 rfl rfl (lw_g (lw_at lw_m6 21 rfl) rfl) (lw_g (lw_at lw_m6 22 rfl) rfl)
theorem hv_k18_107_10 (hz : hv_Z s0 a0) (hW : s0.WarmedH s.vm) : hv_LK l s args 18 (107, 10, 107) :=
  show hv_Link l s args "java/util/TreeMap" 4 107 107 "HallOfClaims$Waiting" from hv_kF (x := ⟨"java/lang/Comparable", "compareTo", "(Ljava/lang/Object;)I"⟩) hz hW hv_mf107 rfl rfl rfl (by decide +kernel) (lw_g (lw_at lw_m5 228 rfl) rfl) (lw_g (lw_at lw_m5 84 rfl) rfl) (lw_g (lw_at lw_m5 86 rfl) rfl) (lw_at lw_m5 82 rfl) (lw_at lw_m5 81 rfl) (lw_at lw_m5 87 rfl) (lw_at lw_m5 85 rfl) (lw_at lw_m5 83 rfl)
theorem hv_k18_107_30 (hz : hv_Z s0 a0) (hW : s0.WarmedH s.vm) : hv_LK l s args 18 (107, 30, 110) :=
  show hv_Link l s args "java/util/TreeMap" 4 107 110 "java/lang/Integer" from hv_kF (x := ⟨"java/lang/Comparable", "compareTo", "(Ljava/lang/Object;)I"⟩) hz hW hv_mf110 rfl rfl rfl (by decide +kernel) (lw_g (lw_at lw_m5 228 rfl) rfl) (lw_g (lw_at lw_m5 96 rfl) rfl) (lw_g (lw_at lw_m5 98 rfl) rfl) (lw_at lw_m5 82 rfl) (lw_at lw_m5 81 rfl) (lw_at lw_m5 99 rfl) (lw_at lw_m5 97 rfl) (lw_at lw_m5 95 rfl)
theorem hv_k18_117_14 (hz : hv_Z s0 a0) (hW : s0.WarmedH s.vm) : hv_LK l s args 18 (117, 14, 137) :=
  show hv_Link l s args "java/util/TreeMap" 4 117 137 "HallOfClaims$BySize" from hv_kF (x := ⟨"java/util/Comparator", "compare", "(Ljava/lang/Object;Ljava/lang/Object;)I"⟩) hz hW hv_mf137 rfl rfl rfl (by decide +kernel) (lw_g (lw_at lw_m5 230 rfl) rfl) (lw_g (lw_at lw_m5 59 rfl) rfl) (lw_g (lw_at lw_m5 61 rfl) rfl) (lw_at lw_m5 57 rfl) (lw_at lw_m5 56 rfl) (lw_at lw_m5 62 rfl) (lw_at lw_m5 60 rfl) (lw_at lw_m5 58 rfl)
theorem hv_k18_123_15 (hz : hv_Z s0 a0) (hW : s0.WarmedH s.vm) : hv_LK l s args 18 (123, 15, 136) :=
  show hv_Link l s args "java/util/TreeMap" 3 123 136 "java/util/TreeMap" from hv_kV hz hW hv_mf136 rfl rfl (lw_g (lw_at lw_m5 222 rfl) rfl) (lw_g (lw_at lw_m5 223 rfl) rfl) (lw_g (lw_at lw_m5 224 rfl) rfl)
theorem hv_k18_127_15 (hz : hv_Z s0 a0) (hW : s0.WarmedH s.vm) : hv_LK l s args 18 (127, 15, 134) :=
  show hv_Link l s args "java/util/TreeMap" 3 127 134 "java/util/TreeMap" from hv_kV hz hW hv_mf134 rfl rfl (lw_g (lw_at lw_m5 214 rfl) rfl) (lw_g (lw_at lw_m5 216 rfl) rfl) (lw_g (lw_at lw_ms 33 rfl) rfl)
theorem hv_k18_135_15 (hz : hv_Z s0 a0) (hW : s0.WarmedH s.vm) : hv_LK l s args 18 (135, 15, 135) :=
  show hv_Link l s args "java/util/TreeMap" 3 135 135 "java/util/TreeMap" from hv_kV hz hW hv_mf135 rfl rfl (lw_g (lw_at lw_m5 218 rfl) rfl) (lw_g (lw_at lw_m5 220 rfl) rfl) (lw_g (lw_at lw_ms 34 rfl) rfl)
theorem hv_k18_139_15 (hz : hv_Z s0 a0) (hW : s0.WarmedH s.vm) : hv_LK l s args 18 (139, 15, 142) :=
  show hv_Link l s args "java/util/TreeMap" 3 139 142 "java/util/TreeMap" from hv_kV hz hW hv_mf142 rfl rfl (lw_g (lw_at lw_m6 24 rfl) rfl) (lw_g (lw_at lw_m6 26 rfl) rfl) (lw_g (lw_at lw_ms 35 rfl) rfl)
theorem hv_k18_167_0 (hz : hv_Z s0 a0) (hW : s0.WarmedH s.vm) : hv_LK l s args 18 (167, 0, 140) :=
  show hv_Link l s args "java/util/TreeMap" 1 167 140 "HallOfClaims" from hv_kI hz hW hv_mf140 rfl rfl rfl rfl (lw_g (lw_at lw_m5 233 rfl) rfl) (lw_g (lw_at lw_m5 234 rfl) rfl)
theorem hv_k18_170_15 (hz : hv_Z s0 a0) (hW : s0.WarmedH s.vm) : hv_LK l s args 18 (170, 15, 143) :=
  show hv_Link l s args "java/util/TreeMap" 3 170 143 "java/util/TreeMap" from hv_kV hz hW hv_mf143 rfl rfl (lw_g (lw_at lw_m6 28 rfl) rfl) (lw_g (lw_at lw_m6 30 rfl) rfl) (lw_g (lw_at lw_ms 36 rfl) rfl)
theorem hv_k18_224_0 (hz : hv_Z s0 a0) (hW : s0.WarmedH s.vm) : hv_LK l s args 18 (224, 0, 164) :=
  show hv_Link l s args "java/util/TreeMap" 1 224 164 "HallOfClaims" from hv_kI hz hW hv_mf164 rfl rfl rfl rfl (lw_g (lw_at lw_m6 116 rfl) rfl) (lw_g (lw_at lw_m6 117 rfl) rfl)
theorem hv_k18_244_0 (hz : hv_Z s0 a0) (hW : s0.WarmedH s.vm) : hv_LK l s args 18 (244, 0, 216) :=
  show hv_Link l s args "java/util/TreeMap" 1 244 216 "HallOfClaims" from hv_kI hz hW hv_mf216 rfl rfl rfl rfl (lw_g (lw_at lw_m7 170 rfl) rfl) (lw_g (lw_at lw_m7 171 rfl) rfl)
theorem hv_k18_271_0 (hz : hv_Z s0 a0) (hW : s0.WarmedH s.vm) : hv_LK l s args 18 (271, 0, 168) :=
  show hv_Link l s args "java/util/TreeMap" 1 271 168 "HallOfClaims" from hv_kI hz hW hv_mf168 rfl rfl rfl rfl (lw_g (lw_at lw_m6 145 rfl) rfl) (lw_g (lw_at lw_m6 146 rfl) rfl)
theorem hv_k18_294_0 (hz : hv_Z s0 a0) (hW : s0.WarmedH s.vm) : hv_LK l s args 18 (294, 0, 144) :=
  show hv_Link l s args "java/util/TreeMap" 0 294 144 "HallOfClaims" from hv_kS hz hW hv_mf144 rfl rfl (lw_g (lw_at lw_m6 32 rfl) rfl) (lw_g (lw_at lw_m6 33 rfl) rfl)
theorem hv_k18_297_0 (hz : hv_Z s0 a0) (hW : s0.WarmedH s.vm) : hv_LK l s args 18 (297, 0, 145) :=
  show hv_Link l s args "java/util/TreeMap" 0 297 145 "HallOfClaims" from hv_kS hz hW hv_mf145 rfl rfl (lw_g (lw_at lw_m6 35 rfl) rfl) (lw_g (lw_at lw_m6 36 rfl) rfl)
theorem hv_k18_300_0 (hz : hv_Z s0 a0) (hW : s0.WarmedH s.vm) : hv_LK l s args 18 (300, 0, 146) :=
  show hv_Link l s args "java/util/TreeMap" 0 300 146 "HallOfClaims" from hv_kS hz hW hv_mf146 rfl rfl (lw_g (lw_at lw_m6 38 rfl) rfl) (lw_g (lw_at lw_m6 39 rfl) rfl)
theorem hv_k18_303_0 (hz : hv_Z s0 a0) (hW : s0.WarmedH s.vm) : hv_LK l s args 18 (303, 0, 147) :=
  show hv_Link l s args "java/util/TreeMap" 0 303 147 "HallOfClaims" from hv_kS hz hW hv_mf147 rfl rfl (lw_g (lw_at lw_m6 41 rfl) rfl) (lw_g (lw_at lw_m6 42 rfl) rfl)
theorem hv_k18_307_0 (hz : hv_Z s0 a0) (hW : s0.WarmedH s.vm) : hv_LK l s args 18 (307, 0, 148) :=
  show hv_Link l s args "java/util/TreeMap" 0 307 148 "HallOfClaims" from hv_kS hz hW hv_mf148 rfl rfl (lw_g (lw_at lw_m6 44 rfl) rfl) (lw_g (lw_at lw_m6 45 rfl) rfl)
theorem hv_k18_311_15 (hz : hv_Z s0 a0) (hW : s0.WarmedH s.vm) : hv_LK l s args 18 (311, 15, 149) :=
  show hv_Link l s args "java/util/TreeMap" 3 311 149 "java/util/TreeMap" from hv_kV hz hW hv_mf149 rfl rfl (lw_g (lw_at lw_m6 47 rfl) rfl) (lw_g (lw_at lw_m6 49 rfl) rfl) (lw_g (lw_at lw_ms 37 rfl) rfl)
theorem hv_k18_314_15 (hz : hv_Z s0 a0) (hW : s0.WarmedH s.vm) : hv_LK l s args 18 (314, 15, 150) :=
  show hv_Link l s args "java/util/TreeMap" 3 314 150 "java/util/TreeMap" from hv_kV hz hW hv_mf150 rfl rfl (lw_g (lw_at lw_m6 51 rfl) rfl) (lw_g (lw_at lw_m6 53 rfl) rfl) (lw_g (lw_at lw_ms 38 rfl) rfl)
theorem hv_lk18 (hz : hv_Z s0 a0) (hW : s0.WarmedH s.vm) : ∀ q ∈ hv_ll 18, hv_LK l s args 18 q := by
  rw [show hv_ll 18 = [(1, 0, 21), (50, 15, 213), (54, 15, 167), (95, 0, 141), (107, 10, 107), (107, 30, 110), (117, 14, 137), (123, 15, 136), (127, 15, 134), (135, 15, 135), (139, 15, 142), (167, 0, 140), (170, 15, 143), (224, 0, 164), (244, 0, 216), (271, 0, 168), (294, 0, 144), (297, 0, 145), (300, 0, 146), (303, 0, 147), (307, 0, 148), (311, 15, 149), (314, 15, 150)] by decide +kernel]
  exact List.forall_mem_cons.mpr ⟨hv_k18_1_0 hz hW, List.forall_mem_cons.mpr ⟨hv_k18_50_15 hz hW, List.forall_mem_cons.mpr ⟨hv_k18_54_15 hz hW, List.forall_mem_cons.mpr ⟨hv_k18_95_0 hz hW, List.forall_mem_cons.mpr ⟨hv_k18_107_10 hz hW, List.forall_mem_cons.mpr ⟨hv_k18_107_30 hz hW, List.forall_mem_cons.mpr ⟨hv_k18_117_14 hz hW, List.forall_mem_cons.mpr ⟨hv_k18_123_15 hz hW, List.forall_mem_cons.mpr ⟨hv_k18_127_15 hz hW, List.forall_mem_cons.mpr ⟨hv_k18_135_15 hz hW, List.forall_mem_cons.mpr ⟨hv_k18_139_15 hz hW, List.forall_mem_cons.mpr ⟨hv_k18_167_0 hz hW, List.forall_mem_cons.mpr ⟨hv_k18_170_15 hz hW, List.forall_mem_cons.mpr ⟨hv_k18_224_0 hz hW, List.forall_mem_cons.mpr ⟨hv_k18_244_0 hz hW, List.forall_mem_cons.mpr ⟨hv_k18_271_0 hz hW, List.forall_mem_cons.mpr ⟨hv_k18_294_0 hz hW, List.forall_mem_cons.mpr ⟨hv_k18_297_0 hz hW, List.forall_mem_cons.mpr ⟨hv_k18_300_0 hz hW, List.forall_mem_cons.mpr ⟨hv_k18_303_0 hz hW, List.forall_mem_cons.mpr ⟨hv_k18_307_0 hz hW, List.forall_mem_cons.mpr ⟨hv_k18_311_15 hz hW, List.forall_mem_cons.mpr ⟨hv_k18_314_15 hz hW, fun _ h => absurd h List.not_mem_nil⟩⟩⟩⟩⟩⟩⟩⟩⟩⟩⟩⟩⟩⟩⟩⟩⟩⟩⟩⟩⟩⟩⟩
theorem hv_k19_19_15 (hz : hv_Z s0 a0) (hW : s0.WarmedH s.vm) : hv_LK l s args 19 (19, 15, 115) :=
  show hv_Link l s args "java/util/AbstractMap" 3 19 115 "java/util/TreeMap" from hv_kU (owner := "java/util/AbstractMap") (x := ⟨"java/util/AbstractMap", "size", "()I"⟩) hz hW hv_mf115 rfl rfl rfl (by decide +kernel) (lw_g (lw_at lw_m6 238 rfl) rfl) (lw_g (lw_at lw_m7 0 rfl) rfl) (va_Decl.abs (va_Nw.warmD hW (va_Nw.of rfl (hz.1 _ (lw_at lw_m7 2 rfl))))) (lw_g (lw_at lw_m7 1 rfl) rfl) (lw_g (lw_at lw_m5 123 rfl) rfl)
theorem hv_lk19 (hz : hv_Z s0 a0) (hW : s0.WarmedH s.vm) : ∀ q ∈ hv_ll 19, hv_LK l s args 19 q := by
  rw [show hv_ll 19 = [(19, 15, 115)] by decide +kernel]
  exact List.forall_mem_cons.mpr ⟨hv_k19_19_15 hz hW, fun _ h => absurd h List.not_mem_nil⟩
theorem hv_k20_1_0 (hz : hv_Z s0 a0) (hW : s0.WarmedH s.vm) : hv_LK l s args 20 (1, 0, 14) :=
  show hv_Link l s args "java/util/AbstractSet" 1 1 14 "HallOfClaims" from hv_kI hz hW hv_mf14 rfl rfl rfl rfl (lw_g (lw_at lw_m2 106 rfl) rfl) (lw_g (lw_at lw_m1 182 rfl) rfl)
theorem hv_lk20 (hz : hv_Z s0 a0) (hW : s0.WarmedH s.vm) : ∀ q ∈ hv_ll 20, hv_LK l s args 20 q := by
  rw [show hv_ll 20 = [(1, 0, 14)] by decide +kernel]
  exact List.forall_mem_cons.mpr ⟨hv_k20_1_0 hz hW, fun _ h => absurd h List.not_mem_nil⟩
theorem hv_lk21 (hz : hv_Z s0 a0) (hW : s0.WarmedH s.vm) : ∀ q ∈ hv_ll 21, hv_LK l s args 21 q := by
  rw [show hv_ll 21 = [] by decide +kernel]
  exact fun _ h => absurd h List.not_mem_nil
theorem hv_k22_35_0 (hz : hv_Z s0 a0) (hW : s0.WarmedH s.vm) : hv_LK l s args 22 (35, 0, 71) :=
  show hv_Link l s args "HallOfClaims$Game" 0 35 71 "HallOfClaims" from hv_kSN hz hW hv_mf71 rfl rfl (lw_at lw_m7 25 rfl) (lw_g (lw_at lw_m4 76 rfl) rfl)
theorem hv_k22_42_0 (hz : hv_Z s0 a0) (hW : s0.WarmedH s.vm) : hv_LK l s args 22 (42, 0, 102) :=
  show hv_Link l s args "HallOfClaims$Game" 0 42 102 "HallOfClaims" from hv_kSN hz hW hv_mf102 rfl rfl (lw_at lw_m7 26 rfl) (lw_g (lw_at lw_m4 213 rfl) rfl)
theorem hv_k22_45_17 (hz : hv_Z s0 a0) (hW : s0.WarmedH s.vm) : hv_LK l s args 22 (45, 17, 186) :=
  show hv_Link l s args "HallOfClaims$Game" 3 45 186 "HallOfClaims$Game" from hv_kV hz hW hv_mf186 rfl rfl (lw_g (lw_at lw_m7 27 rfl) rfl) (lw_g (lw_at lw_m7 29 rfl) rfl) (lw_g (lw_at lw_ms 47 rfl) rfl)
theorem hv_k22_52_17 (hz : hv_Z s0 a0) (hW : s0.WarmedH s.vm) : hv_LK l s args 22 (52, 17, 187) :=
  show hv_Link l s args "HallOfClaims$Game" 3 52 187 "HallOfClaims$Game" from hv_kV hz hW hv_mf187 rfl rfl (lw_g (lw_at lw_m7 31 rfl) rfl) (lw_g (lw_at lw_m7 32 rfl) rfl) (lw_g (lw_at lw_m7 33 rfl) rfl)
theorem hv_k22_56_0 (hz : hv_Z s0 a0) (hW : s0.WarmedH s.vm) : hv_LK l s args 22 (56, 0, 188) :=
  show hv_Link l s args "HallOfClaims$Game" 0 56 188 "HallOfClaims" from hv_kS hz hW hv_mf188 rfl rfl (lw_g (lw_at lw_m7 35 rfl) rfl) (lw_g (lw_at lw_m7 36 rfl) rfl)
theorem hv_k22_59_0 (hz : hv_Z s0 a0) (hW : s0.WarmedH s.vm) : hv_LK l s args 22 (59, 0, 189) :=
  show hv_Link l s args "HallOfClaims$Game" 0 59 189 "HallOfClaims" from hv_kS hz hW hv_mf189 rfl rfl (lw_g (lw_at lw_m7 38 rfl) rfl) (lw_g (lw_at lw_m4 231 rfl) rfl)
theorem hv_k22_64_17 (hz : hv_Z s0 a0) (hW : s0.WarmedH s.vm) : hv_LK l s args 22 (64, 17, 190) :=
  show hv_Link l s args "HallOfClaims$Game" 3 64 190 "HallOfClaims$Game" from hv_kV hz hW hv_mf190 rfl rfl (lw_g (lw_at lw_m7 39 rfl) rfl) (lw_g (lw_at lw_m7 41 rfl) rfl) (lw_g (lw_at lw_ms 48 rfl) rfl)
theorem hv_k22_70_0 (hz : hv_Z s0 a0) (hW : s0.WarmedH s.vm) : hv_LK l s args 22 (70, 0, 191) :=
  show hv_Link l s args "HallOfClaims$Game" 0 70 191 "HallOfClaims" from hv_kS hz hW hv_mf191 rfl rfl (lw_g (lw_at lw_m7 44 rfl) rfl) (lw_g (lw_at lw_m5 44 rfl) rfl)
theorem hv_lk22 (hz : hv_Z s0 a0) (hW : s0.WarmedH s.vm) : ∀ q ∈ hv_ll 22, hv_LK l s args 22 q := by
  rw [show hv_ll 22 = [(35, 0, 71), (42, 0, 102), (45, 17, 186), (52, 17, 187), (56, 0, 188), (59, 0, 189), (64, 17, 190), (70, 0, 191)] by decide +kernel]
  exact List.forall_mem_cons.mpr ⟨hv_k22_35_0 hz hW, List.forall_mem_cons.mpr ⟨hv_k22_42_0 hz hW, List.forall_mem_cons.mpr ⟨hv_k22_45_17 hz hW, List.forall_mem_cons.mpr ⟨hv_k22_52_17 hz hW, List.forall_mem_cons.mpr ⟨hv_k22_56_0 hz hW, List.forall_mem_cons.mpr ⟨hv_k22_59_0 hz hW, List.forall_mem_cons.mpr ⟨hv_k22_64_17 hz hW, List.forall_mem_cons.mpr ⟨hv_k22_70_0 hz hW, fun _ h => absurd h List.not_mem_nil⟩⟩⟩⟩⟩⟩⟩⟩
theorem hv_lk23 (hz : hv_Z s0 a0) (hW : s0.WarmedH s.vm) : ∀ q ∈ hv_ll 23, hv_LK l s args 23 q := by
  rw [show hv_ll 23 = [] by decide +kernel]
  exact fun _ h => absurd h List.not_mem_nil
theorem hv_k24_57_0 (hz : hv_Z s0 a0) (hW : s0.WarmedH s.vm) : hv_LK l s args 24 (57, 0, 228) :=
  show hv_Link l s args "HallOfClaimsModel" 0 57 228 "HallOfClaims" from hv_kS hz hW hv_mf228 rfl rfl (lw_g (lw_at lw_m8 234 rfl) rfl) (lw_g (lw_at lw_m8 235 rfl) rfl)
theorem hv_k24_61_0 (hz : hv_Z s0 a0) (hW : s0.WarmedH s.vm) : hv_LK l s args 24 (61, 0, 267) :=
  show hv_Link l s args "HallOfClaimsModel" 0 61 267 "HallOfClaims" from hv_kS hz hW hv_mf267 rfl rfl (lw_g (lw_at lw_m9 121 rfl) rfl) (lw_g (lw_at lw_m9 122 rfl) rfl)
theorem hv_k24_65_0 (hz : hv_Z s0 a0) (hW : s0.WarmedH s.vm) : hv_LK l s args 24 (65, 0, 241) :=
  show hv_Link l s args "HallOfClaimsModel" 0 65 241 "HallOfClaims" from hv_kS hz hW hv_mf241 rfl rfl (lw_g (lw_at lw_m9 43 rfl) rfl) (lw_g (lw_at lw_m9 44 rfl) rfl)
theorem hv_k24_69_33 (hz : hv_Z s0 a0) (hW : s0.WarmedH s.vm) : hv_LK l s args 24 (69, 33, 266) :=
  show hv_Link l s args "HallOfClaimsModel" 3 69 266 "HallOfClaimsModel" from hv_kV hz hW hv_mf266 rfl rfl (lw_g (lw_at lw_m9 117 rfl) rfl) (lw_g (lw_at lw_m9 119 rfl) rfl) (lw_g (lw_at lw_ms 90 rfl) rfl)
theorem hv_k24_73_33 (hz : hv_Z s0 a0) (hW : s0.WarmedH s.vm) : hv_LK l s args 24 (73, 33, 269) :=
  show hv_Link l s args "HallOfClaimsModel" 3 73 269 "HallOfClaimsModel" from hv_kV hz hW hv_mf269 rfl rfl (lw_g (lw_at lw_m9 128 rfl) rfl) (lw_g (lw_at lw_m9 130 rfl) rfl) (lw_g (lw_at lw_ms 92 rfl) rfl)
theorem hv_k24_76_33 (hz : hv_Z s0 a0) (hW : s0.WarmedH s.vm) : hv_LK l s args 24 (76, 33, 268) :=
  show hv_Link l s args "HallOfClaimsModel" 3 76 268 "HallOfClaimsModel" from hv_kV hz hW hv_mf268 rfl rfl (lw_g (lw_at lw_m9 124 rfl) rfl) (lw_g (lw_at lw_m9 126 rfl) rfl) (lw_g (lw_at lw_ms 91 rfl) rfl)
theorem hv_k24_86_33 (hz : hv_Z s0 a0) (hW : s0.WarmedH s.vm) : hv_LK l s args 24 (86, 33, 265) :=
  show hv_Link l s args "HallOfClaimsModel" 3 86 265 "HallOfClaimsModel" from hv_kV hz hW hv_mf265 rfl rfl (lw_g (lw_at lw_m9 113 rfl) rfl) (lw_g (lw_at lw_m9 115 rfl) rfl) (lw_g (lw_at lw_ms 89 rfl) rfl)
theorem hv_k24_92_33 (hz : hv_Z s0 a0) (hW : s0.WarmedH s.vm) : hv_LK l s args 24 (92, 33, 273) :=
  show hv_Link l s args "HallOfClaimsModel" 3 92 273 "HallOfClaimsModel" from hv_kV hz hW hv_mf273 rfl rfl (lw_g (lw_at lw_m9 140 rfl) rfl) (lw_g (lw_at lw_m9 142 rfl) rfl) (lw_g (lw_at lw_ms 94 rfl) rfl)
theorem hv_k24_96_33 (hz : hv_Z s0 a0) (hW : s0.WarmedH s.vm) : hv_LK l s args 24 (96, 33, 282) :=
  show hv_Link l s args "HallOfClaimsModel" 3 96 282 "HallOfClaimsModel" from hv_kV hz hW hv_mf282 rfl rfl (lw_g (lw_at lw_m9 168 rfl) rfl) (lw_g (lw_at lw_m9 170 rfl) rfl) (lw_g (lw_at lw_ms 99 rfl) rfl)
theorem hv_k24_100_33 (hz : hv_Z s0 a0) (hW : s0.WarmedH s.vm) : hv_LK l s args 24 (100, 33, 281) :=
  show hv_Link l s args "HallOfClaimsModel" 3 100 281 "HallOfClaimsModel" from hv_kV hz hW hv_mf281 rfl rfl (lw_g (lw_at lw_m9 164 rfl) rfl) (lw_g (lw_at lw_m9 166 rfl) rfl) (lw_g (lw_at lw_ms 98 rfl) rfl)
theorem hv_k24_103_33 (hz : hv_Z s0 a0) (hW : s0.WarmedH s.vm) : hv_LK l s args 24 (103, 33, 285) :=
  show hv_Link l s args "HallOfClaimsModel" 3 103 285 "HallOfClaimsModel" from hv_kV hz hW hv_mf285 rfl rfl (lw_g (lw_at lw_m9 180 rfl) rfl) (lw_g (lw_at lw_m9 182 rfl) rfl) (lw_g (lw_at lw_ms 102 rfl) rfl)
theorem hv_k24_106_33 (hz : hv_Z s0 a0) (hW : s0.WarmedH s.vm) : hv_LK l s args 24 (106, 33, 284) :=
  show hv_Link l s args "HallOfClaimsModel" 3 106 284 "HallOfClaimsModel" from hv_kV hz hW hv_mf284 rfl rfl (lw_g (lw_at lw_m9 176 rfl) rfl) (lw_g (lw_at lw_m9 178 rfl) rfl) (lw_g (lw_at lw_ms 101 rfl) rfl)
theorem hv_k24_109_33 (hz : hv_Z s0 a0) (hW : s0.WarmedH s.vm) : hv_LK l s args 24 (109, 33, 283) :=
  show hv_Link l s args "HallOfClaimsModel" 3 109 283 "HallOfClaimsModel" from hv_kV hz hW hv_mf283 rfl rfl (lw_g (lw_at lw_m9 172 rfl) rfl) (lw_g (lw_at lw_m9 174 rfl) rfl) (lw_g (lw_at lw_ms 100 rfl) rfl)
theorem hv_k24_112_33 (hz : hv_Z s0 a0) (hW : s0.WarmedH s.vm) : hv_LK l s args 24 (112, 33, 286) :=
  show hv_Link l s args "HallOfClaimsModel" 3 112 286 "HallOfClaimsModel" from hv_kV hz hW hv_mf286 rfl rfl (lw_g (lw_at lw_m9 184 rfl) rfl) (lw_g (lw_at lw_m9 186 rfl) rfl) (lw_g (lw_at lw_ms 103 rfl) rfl)
theorem hv_k24_115_33 (hz : hv_Z s0 a0) (hW : s0.WarmedH s.vm) : hv_LK l s args 24 (115, 33, 288) :=
  show hv_Link l s args "HallOfClaimsModel" 3 115 288 "HallOfClaimsModel" from hv_kV hz hW hv_mf288 rfl rfl (lw_g (lw_at lw_m9 192 rfl) rfl) (lw_g (lw_at lw_m9 194 rfl) rfl) (lw_g (lw_at lw_ms 105 rfl) rfl)
theorem hv_k24_119_33 (hz : hv_Z s0 a0) (hW : s0.WarmedH s.vm) : hv_LK l s args 24 (119, 33, 280) :=
  show hv_Link l s args "HallOfClaimsModel" 3 119 280 "HallOfClaimsModel" from hv_kV hz hW hv_mf280 rfl rfl (lw_g (lw_at lw_m9 160 rfl) rfl) (lw_g (lw_at lw_m9 162 rfl) rfl) (lw_g (lw_at lw_ms 97 rfl) rfl)
theorem hv_k24_123_33 (hz : hv_Z s0 a0) (hW : s0.WarmedH s.vm) : hv_LK l s args 24 (123, 33, 287) :=
  show hv_Link l s args "HallOfClaimsModel" 3 123 287 "HallOfClaimsModel" from hv_kV hz hW hv_mf287 rfl rfl (lw_g (lw_at lw_m9 188 rfl) rfl) (lw_g (lw_at lw_m9 190 rfl) rfl) (lw_g (lw_at lw_ms 104 rfl) rfl)
theorem hv_k24_127_0 (hz : hv_Z s0 a0) (hW : s0.WarmedH s.vm) : hv_LK l s args 24 (127, 0, 291) :=
  show hv_Link l s args "HallOfClaimsModel" 0 127 291 "HallOfClaims" from hv_kS hz hW hv_mf291 rfl rfl (lw_g (lw_at lw_m9 204 rfl) rfl) (lw_g (lw_at lw_m9 205 rfl) rfl)
theorem hv_k24_140_33 (hz : hv_Z s0 a0) (hW : s0.WarmedH s.vm) : hv_LK l s args 24 (140, 33, 234) :=
  show hv_Link l s args "HallOfClaimsModel" 3 140 234 "HallOfClaimsModel" from hv_kV hz hW hv_mf234 rfl rfl (lw_g (lw_at lw_m9 13 rfl) rfl) (lw_g (lw_at lw_m9 15 rfl) rfl) (lw_g (lw_at lw_ms 75 rfl) rfl)
theorem hv_k24_147_33 (hz : hv_Z s0 a0) (hW : s0.WarmedH s.vm) : hv_LK l s args 24 (147, 33, 235) :=
  show hv_Link l s args "HallOfClaimsModel" 3 147 235 "HallOfClaimsModel" from hv_kV hz hW hv_mf235 rfl rfl (lw_g (lw_at lw_m9 19 rfl) rfl) (lw_g (lw_at lw_m9 21 rfl) rfl) (lw_g (lw_at lw_ms 76 rfl) rfl)
theorem hv_k24_155_0 (hz : hv_Z s0 a0) (hW : s0.WarmedH s.vm) : hv_LK l s args 24 (155, 0, 238) :=
  show hv_Link l s args "HallOfClaimsModel" 0 155 238 "HallOfClaims" from hv_kS hz hW hv_mf238 rfl rfl (lw_g (lw_at lw_m9 33 rfl) rfl) (lw_g (lw_at lw_m9 34 rfl) rfl)
theorem hv_k24_158_0 (hz : hv_Z s0 a0) (hW : s0.WarmedH s.vm) : hv_LK l s args 24 (158, 0, 239) :=
  show hv_Link l s args "HallOfClaimsModel" 0 158 239 "HallOfClaims" from hv_kS hz hW hv_mf239 rfl rfl (lw_g (lw_at lw_m9 36 rfl) rfl) (lw_g (lw_at lw_m9 37 rfl) rfl)
theorem hv_k24_161_33 (hz : hv_Z s0 a0) (hW : s0.WarmedH s.vm) : hv_LK l s args 24 (161, 33, 236) :=
  show hv_Link l s args "HallOfClaimsModel" 3 161 236 "HallOfClaimsModel" from hv_kV hz hW hv_mf236 rfl rfl (lw_g (lw_at lw_m9 23 rfl) rfl) (lw_g (lw_at lw_m9 25 rfl) rfl) (lw_g (lw_at lw_ms 77 rfl) rfl)
theorem hv_k24_164_33 (hz : hv_Z s0 a0) (hW : s0.WarmedH s.vm) : hv_LK l s args 24 (164, 33, 237) :=
  show hv_Link l s args "HallOfClaimsModel" 3 164 237 "HallOfClaimsModel" from hv_kV hz hW hv_mf237 rfl rfl (lw_g (lw_at lw_m9 29 rfl) rfl) (lw_g (lw_at lw_m9 31 rfl) rfl) (lw_g (lw_at lw_ms 78 rfl) rfl)
theorem hv_k24_167_33 (hz : hv_Z s0 a0) (hW : s0.WarmedH s.vm) : hv_LK l s args 24 (167, 33, 245) :=
  show hv_Link l s args "HallOfClaimsModel" 3 167 245 "HallOfClaimsModel" from hv_kV hz hW hv_mf245 rfl rfl (lw_g (lw_at lw_m9 58 rfl) rfl) (lw_g (lw_at lw_m9 60 rfl) rfl) (lw_g (lw_at lw_ms 83 rfl) rfl)
theorem hv_k24_170_33 (hz : hv_Z s0 a0) (hW : s0.WarmedH s.vm) : hv_LK l s args 24 (170, 33, 243) :=
  show hv_Link l s args "HallOfClaimsModel" 3 170 243 "HallOfClaimsModel" from hv_kV hz hW hv_mf243 rfl rfl (lw_g (lw_at lw_m9 50 rfl) rfl) (lw_g (lw_at lw_m9 52 rfl) rfl) (lw_g (lw_at lw_ms 81 rfl) rfl)
theorem hv_k24_173_33 (hz : hv_Z s0 a0) (hW : s0.WarmedH s.vm) : hv_LK l s args 24 (173, 33, 244) :=
  show hv_Link l s args "HallOfClaimsModel" 3 173 244 "HallOfClaimsModel" from hv_kV hz hW hv_mf244 rfl rfl (lw_g (lw_at lw_m9 54 rfl) rfl) (lw_g (lw_at lw_m9 56 rfl) rfl) (lw_g (lw_at lw_ms 82 rfl) rfl)
theorem hv_k24_177_33 (hz : hv_Z s0 a0) (hW : s0.WarmedH s.vm) : hv_LK l s args 24 (177, 33, 246) :=
  show hv_Link l s args "HallOfClaimsModel" 3 177 246 "HallOfClaimsModel" from hv_kV hz hW hv_mf246 rfl rfl (lw_g (lw_at lw_m9 62 rfl) rfl) (lw_g (lw_at lw_m9 64 rfl) rfl) (lw_g (lw_at lw_ms 84 rfl) rfl)
theorem hv_k24_180_33 (hz : hv_Z s0 a0) (hW : s0.WarmedH s.vm) : hv_LK l s args 24 (180, 33, 247) :=
  show hv_Link l s args "HallOfClaimsModel" 3 180 247 "HallOfClaimsModel" from hv_kV hz hW hv_mf247 rfl rfl (lw_g (lw_at lw_m9 66 rfl) rfl) (lw_g (lw_at lw_m9 68 rfl) rfl) (lw_g (lw_at lw_ms 85 rfl) rfl)
theorem hv_k24_183_33 (hz : hv_Z s0 a0) (hW : s0.WarmedH s.vm) : hv_LK l s args 24 (183, 33, 233) :=
  show hv_Link l s args "HallOfClaimsModel" 3 183 233 "HallOfClaimsModel" from hv_kV hz hW hv_mf233 rfl rfl (lw_g (lw_at lw_m9 9 rfl) rfl) (lw_g (lw_at lw_m9 11 rfl) rfl) (lw_g (lw_at lw_ms 74 rfl) rfl)
theorem hv_k24_186_33 (hz : hv_Z s0 a0) (hW : s0.WarmedH s.vm) : hv_LK l s args 24 (186, 33, 240) :=
  show hv_Link l s args "HallOfClaimsModel" 3 186 240 "HallOfClaimsModel" from hv_kV hz hW hv_mf240 rfl rfl (lw_g (lw_at lw_m9 39 rfl) rfl) (lw_g (lw_at lw_m9 41 rfl) rfl) (lw_g (lw_at lw_ms 79 rfl) rfl)
theorem hv_k24_189_33 (hz : hv_Z s0 a0) (hW : s0.WarmedH s.vm) : hv_LK l s args 24 (189, 33, 242) :=
  show hv_Link l s args "HallOfClaimsModel" 3 189 242 "HallOfClaimsModel" from hv_kV hz hW hv_mf242 rfl rfl (lw_g (lw_at lw_m9 46 rfl) rfl) (lw_g (lw_at lw_m9 48 rfl) rfl) (lw_g (lw_at lw_ms 80 rfl) rfl)
theorem hv_k24_192_33 (hz : hv_Z s0 a0) (hW : s0.WarmedH s.vm) : hv_LK l s args 24 (192, 33, 248) :=
  show hv_Link l s args "HallOfClaimsModel" 3 192 248 "HallOfClaimsModel" from hv_kV hz hW hv_mf248 rfl rfl (lw_g (lw_at lw_m9 70 rfl) rfl) (lw_g (lw_at lw_m9 72 rfl) rfl) (lw_g (lw_at lw_ms 86 rfl) rfl)
theorem hv_k24_195_33 (hz : hv_Z s0 a0) (hW : s0.WarmedH s.vm) : hv_LK l s args 24 (195, 33, 249) :=
  show hv_Link l s args "HallOfClaimsModel" 3 195 249 "HallOfClaimsModel" from hv_kV hz hW hv_mf249 rfl rfl (lw_g (lw_at lw_m9 74 rfl) rfl) (lw_g (lw_at lw_m9 76 rfl) rfl) (lw_g (lw_at lw_ms 87 rfl) rfl)
theorem hv_k24_200_33 (hz : hv_Z s0 a0) (hW : s0.WarmedH s.vm) : hv_LK l s args 24 (200, 33, 229) :=
  show hv_Link l s args "HallOfClaimsModel" 3 200 229 "HallOfClaimsModel" from hv_kV hz hW hv_mf229 rfl rfl (lw_g (lw_at lw_m8 237 rfl) rfl) (lw_g (lw_at lw_m8 239 rfl) rfl) (lw_g (lw_at lw_ms 72 rfl) rfl)
theorem hv_k24_203_33 (hz : hv_Z s0 a0) (hW : s0.WarmedH s.vm) : hv_LK l s args 24 (203, 33, 232) :=
  show hv_Link l s args "HallOfClaimsModel" 3 203 232 "HallOfClaimsModel" from hv_kV hz hW hv_mf232 rfl rfl (lw_g (lw_at lw_m9 5 rfl) rfl) (lw_g (lw_at lw_m9 7 rfl) rfl) (lw_g (lw_at lw_ms 73 rfl) rfl)
theorem hv_k24_210_33 (hz : hv_Z s0 a0) (hW : s0.WarmedH s.vm) : hv_LK l s args 24 (210, 33, 258) :=
  show hv_Link l s args "HallOfClaimsModel" 3 210 258 "HallOfClaimsModel" from hv_kV hz hW hv_mf258 rfl rfl (lw_g (lw_at lw_m9 96 rfl) rfl) (lw_g (lw_at lw_m9 98 rfl) rfl) (lw_g (lw_at lw_ms 88 rfl) rfl)
theorem hv_k24_216_33 (hz : hv_Z s0 a0) (hW : s0.WarmedH s.vm) : hv_LK l s args 24 (216, 33, 272) :=
  show hv_Link l s args "HallOfClaimsModel" 3 216 272 "HallOfClaimsModel" from hv_kV hz hW hv_mf272 rfl rfl (lw_g (lw_at lw_m9 136 rfl) rfl) (lw_g (lw_at lw_m9 138 rfl) rfl) (lw_g (lw_at lw_ms 93 rfl) rfl)
theorem hv_k24_219_33 (hz : hv_Z s0 a0) (hW : s0.WarmedH s.vm) : hv_LK l s args 24 (219, 33, 274) :=
  show hv_Link l s args "HallOfClaimsModel" 3 219 274 "HallOfClaimsModel" from hv_kV hz hW hv_mf274 rfl rfl (lw_g (lw_at lw_m9 144 rfl) rfl) (lw_g (lw_at lw_m9 146 rfl) rfl) (lw_g (lw_at lw_ms 95 rfl) rfl)
theorem hv_k24_222_33 (hz : hv_Z s0 a0) (hW : s0.WarmedH s.vm) : hv_LK l s args 24 (222, 33, 279) :=
  show hv_Link l s args "HallOfClaimsModel" 3 222 279 "HallOfClaimsModel" from hv_kV hz hW hv_mf279 rfl rfl (lw_g (lw_at lw_m9 156 rfl) rfl) (lw_g (lw_at lw_m9 158 rfl) rfl) (lw_g (lw_at lw_ms 96 rfl) rfl)
theorem hv_k24_225_33 (hz : hv_Z s0 a0) (hW : s0.WarmedH s.vm) : hv_LK l s args 24 (225, 33, 289) :=
  show hv_Link l s args "HallOfClaimsModel" 3 225 289 "HallOfClaimsModel" from hv_kV hz hW hv_mf289 rfl rfl (lw_g (lw_at lw_m9 196 rfl) rfl) (lw_g (lw_at lw_m9 198 rfl) rfl) (lw_g (lw_at lw_ms 106 rfl) rfl)
theorem hv_k24_228_33 (hz : hv_Z s0 a0) (hW : s0.WarmedH s.vm) : hv_LK l s args 24 (228, 33, 290) :=
  show hv_Link l s args "HallOfClaimsModel" 3 228 290 "HallOfClaimsModel" from hv_kV hz hW hv_mf290 rfl rfl (lw_g (lw_at lw_m9 200 rfl) rfl) (lw_g (lw_at lw_m9 202 rfl) rfl) (lw_g (lw_at lw_ms 107 rfl) rfl)
theorem hv_k24_231_33 (hz : hv_Z s0 a0) (hW : s0.WarmedH s.vm) : hv_LK l s args 24 (231, 33, 301) :=
  show hv_Link l s args "HallOfClaimsModel" 3 231 301 "HallOfClaimsModel" from hv_kV hz hW hv_mf301 rfl rfl (lw_g (lw_at lw_m9 232 rfl) rfl) (lw_g (lw_at lw_m9 234 rfl) rfl) (lw_g (lw_at lw_ms 111 rfl) rfl)
theorem hv_k24_235_33 (hz : hv_Z s0 a0) (hW : s0.WarmedH s.vm) : hv_LK l s args 24 (235, 33, 300) :=
  show hv_Link l s args "HallOfClaimsModel" 3 235 300 "HallOfClaimsModel" from hv_kV hz hW hv_mf300 rfl rfl (lw_g (lw_at lw_m9 228 rfl) rfl) (lw_g (lw_at lw_m9 230 rfl) rfl) (lw_g (lw_at lw_ms 110 rfl) rfl)
theorem hv_k24_238_33 (hz : hv_Z s0 a0) (hW : s0.WarmedH s.vm) : hv_LK l s args 24 (238, 33, 299) :=
  show hv_Link l s args "HallOfClaimsModel" 3 238 299 "HallOfClaimsModel" from hv_kV hz hW hv_mf299 rfl rfl (lw_g (lw_at lw_m9 224 rfl) rfl) (lw_g (lw_at lw_m9 226 rfl) rfl) (lw_g (lw_at lw_ms 109 rfl) rfl)
theorem hv_k24_241_33 (hz : hv_Z s0 a0) (hW : s0.WarmedH s.vm) : hv_LK l s args 24 (241, 33, 302) :=
  show hv_Link l s args "HallOfClaimsModel" 3 241 302 "HallOfClaimsModel" from hv_kV hz hW hv_mf302 rfl rfl (lw_g (lw_at lw_m9 236 rfl) rfl) (lw_g (lw_at lw_m9 238 rfl) rfl) (lw_g (lw_at lw_ms 112 rfl) rfl)
theorem hv_k24_249_33 (hz : hv_Z s0 a0) (hW : s0.WarmedH s.vm) : hv_LK l s args 24 (249, 33, 298) :=
  show hv_Link l s args "HallOfClaimsModel" 3 249 298 "HallOfClaimsModel" from hv_kV hz hW hv_mf298 rfl rfl (lw_g (lw_at lw_m9 219 rfl) rfl) (lw_g (lw_at lw_m9 221 rfl) rfl) (lw_g (lw_at lw_ms 108 rfl) rfl)
theorem hv_k24_252_33 (hz : hv_Z s0 a0) (hW : s0.WarmedH s.vm) : hv_LK l s args 24 (252, 33, 307) :=
  show hv_Link l s args "HallOfClaimsModel" 3 252 307 "HallOfClaimsModel" from hv_kV hz hW hv_mf307 rfl rfl (lw_g (lw_at lw_m10 9 rfl) rfl) (lw_g (lw_at lw_m10 11 rfl) rfl) (lw_g (lw_at lw_ms 113 rfl) rfl)
theorem hv_k24_255_33 (hz : hv_Z s0 a0) (hW : s0.WarmedH s.vm) : hv_LK l s args 24 (255, 33, 312) :=
  show hv_Link l s args "HallOfClaimsModel" 3 255 312 "HallOfClaimsModel" from hv_kV hz hW hv_mf312 rfl rfl (lw_g (lw_at lw_m10 21 rfl) rfl) (lw_g (lw_at lw_m10 23 rfl) rfl) (lw_g (lw_at lw_ms 114 rfl) rfl)
theorem hv_k24_265_0 (hz : hv_Z s0 a0) (hW : s0.WarmedH s.vm) : hv_LK l s args 24 (265, 0, 318) :=
  show hv_Link l s args "HallOfClaimsModel" 0 265 318 "HallOfClaims" from hv_kS hz hW hv_mf318 rfl rfl (lw_g (lw_at lw_m10 32 rfl) rfl) (lw_g (lw_at lw_m10 33 rfl) rfl)
theorem hv_k24_272_33 (hz : hv_Z s0 a0) (hW : s0.WarmedH s.vm) : hv_LK l s args 24 (272, 33, 321) :=
  show hv_Link l s args "HallOfClaimsModel" 3 272 321 "HallOfClaimsModel" from hv_kV hz hW hv_mf321 rfl rfl (lw_g (lw_at lw_m10 39 rfl) rfl) (lw_g (lw_at lw_m10 41 rfl) rfl) (lw_g (lw_at lw_ms 115 rfl) rfl)
theorem hv_k24_275_33 (hz : hv_Z s0 a0) (hW : s0.WarmedH s.vm) : hv_LK l s args 24 (275, 33, 327) :=
  show hv_Link l s args "HallOfClaimsModel" 3 275 327 "HallOfClaimsModel" from hv_kV hz hW hv_mf327 rfl rfl (lw_g (lw_at lw_m10 55 rfl) rfl) (lw_g (lw_at lw_m10 57 rfl) rfl) (lw_g (lw_at lw_ms 117 rfl) rfl)
theorem hv_k24_278_33 (hz : hv_Z s0 a0) (hW : s0.WarmedH s.vm) : hv_LK l s args 24 (278, 33, 328) :=
  show hv_Link l s args "HallOfClaimsModel" 3 278 328 "HallOfClaimsModel" from hv_kV hz hW hv_mf328 rfl rfl (lw_g (lw_at lw_m10 59 rfl) rfl) (lw_g (lw_at lw_m10 61 rfl) rfl) (lw_g (lw_at lw_ms 118 rfl) rfl)
theorem hv_k24_281_33 (hz : hv_Z s0 a0) (hW : s0.WarmedH s.vm) : hv_LK l s args 24 (281, 33, 326) :=
  show hv_Link l s args "HallOfClaimsModel" 3 281 326 "HallOfClaimsModel" from hv_kV hz hW hv_mf326 rfl rfl (lw_g (lw_at lw_m10 51 rfl) rfl) (lw_g (lw_at lw_m10 53 rfl) rfl) (lw_g (lw_at lw_ms 116 rfl) rfl)
theorem hv_k24_284_33 (hz : hv_Z s0 a0) (hW : s0.WarmedH s.vm) : hv_LK l s args 24 (284, 33, 334) :=
  show hv_Link l s args "HallOfClaimsModel" 3 284 334 "HallOfClaimsModel" from hv_kV hz hW hv_mf334 rfl rfl (lw_g (lw_at lw_m10 75 rfl) rfl) (lw_g (lw_at lw_m10 77 rfl) rfl) (lw_g (lw_at lw_ms 120 rfl) rfl)
theorem hv_k24_287_33 (hz : hv_Z s0 a0) (hW : s0.WarmedH s.vm) : hv_LK l s args 24 (287, 33, 333) :=
  show hv_Link l s args "HallOfClaimsModel" 3 287 333 "HallOfClaimsModel" from hv_kV hz hW hv_mf333 rfl rfl (lw_g (lw_at lw_m10 71 rfl) rfl) (lw_g (lw_at lw_m10 73 rfl) rfl) (lw_g (lw_at lw_ms 119 rfl) rfl)
theorem hv_k24_290_33 (hz : hv_Z s0 a0) (hW : s0.WarmedH s.vm) : hv_LK l s args 24 (290, 33, 335) :=
  show hv_Link l s args "HallOfClaimsModel" 3 290 335 "HallOfClaimsModel" from hv_kV hz hW hv_mf335 rfl rfl (lw_g (lw_at lw_m10 79 rfl) rfl) (lw_g (lw_at lw_m10 81 rfl) rfl) (lw_g (lw_at lw_ms 121 rfl) rfl)
theorem hv_k24_293_33 (hz : hv_Z s0 a0) (hW : s0.WarmedH s.vm) : hv_LK l s args 24 (293, 33, 336) :=
  show hv_Link l s args "HallOfClaimsModel" 3 293 336 "HallOfClaimsModel" from hv_kV hz hW hv_mf336 rfl rfl (lw_g (lw_at lw_m10 83 rfl) rfl) (lw_g (lw_at lw_m10 85 rfl) rfl) (lw_g (lw_at lw_ms 122 rfl) rfl)
theorem hv_k24_302_33 (hz : hv_Z s0 a0) (hW : s0.WarmedH s.vm) : hv_LK l s args 24 (302, 33, 340) :=
  show hv_Link l s args "HallOfClaimsModel" 3 302 340 "HallOfClaimsModel" from hv_kV hz hW hv_mf340 rfl rfl (lw_g (lw_at lw_m10 95 rfl) rfl) (lw_g (lw_at lw_m10 97 rfl) rfl) (lw_g (lw_at lw_ms 124 rfl) rfl)
theorem hv_k24_305_33 (hz : hv_Z s0 a0) (hW : s0.WarmedH s.vm) : hv_LK l s args 24 (305, 33, 339) :=
  show hv_Link l s args "HallOfClaimsModel" 3 305 339 "HallOfClaimsModel" from hv_kV hz hW hv_mf339 rfl rfl (lw_g (lw_at lw_m10 91 rfl) rfl) (lw_g (lw_at lw_m10 93 rfl) rfl) (lw_g (lw_at lw_ms 123 rfl) rfl)
theorem hv_k24_311_33 (hz : hv_Z s0 a0) (hW : s0.WarmedH s.vm) : hv_LK l s args 24 (311, 33, 348) :=
  show hv_Link l s args "HallOfClaimsModel" 3 311 348 "HallOfClaimsModel" from hv_kV hz hW hv_mf348 rfl rfl (lw_g (lw_at lw_m10 114 rfl) rfl) (lw_g (lw_at lw_m10 116 rfl) rfl) (lw_g (lw_at lw_ms 125 rfl) rfl)
theorem hv_lk24 (hz : hv_Z s0 a0) (hW : s0.WarmedH s.vm) : ∀ q ∈ hv_ll 24, hv_LK l s args 24 q := by
  rw [show hv_ll 24 = [(57, 0, 228), (61, 0, 267), (65, 0, 241), (69, 33, 266), (73, 33, 269), (76, 33, 268), (86, 33, 265), (92, 33, 273), (96, 33, 282), (100, 33, 281), (103, 33, 285), (106, 33, 284), (109, 33, 283), (112, 33, 286), (115, 33, 288), (119, 33, 280), (123, 33, 287), (127, 0, 291), (140, 33, 234), (147, 33, 235), (155, 0, 238), (158, 0, 239), (161, 33, 236), (164, 33, 237), (167, 33, 245), (170, 33, 243), (173, 33, 244), (177, 33, 246), (180, 33, 247), (183, 33, 233), (186, 33, 240), (189, 33, 242), (192, 33, 248), (195, 33, 249), (200, 33, 229), (203, 33, 232), (210, 33, 258), (216, 33, 272), (219, 33, 274), (222, 33, 279), (225, 33, 289), (228, 33, 290), (231, 33, 301), (235, 33, 300), (238, 33, 299), (241, 33, 302), (249, 33, 298), (252, 33, 307), (255, 33, 312), (265, 0, 318), (272, 33, 321), (275, 33, 327), (278, 33, 328), (281, 33, 326), (284, 33, 334), (287, 33, 333), (290, 33, 335), (293, 33, 336), (302, 33, 340), (305, 33, 339), (311, 33, 348)] by decide +kernel]
  exact List.forall_mem_cons.mpr ⟨hv_k24_57_0 hz hW, List.forall_mem_cons.mpr ⟨hv_k24_61_0 hz hW, List.forall_mem_cons.mpr ⟨hv_k24_65_0 hz hW, List.forall_mem_cons.mpr ⟨hv_k24_69_33 hz hW, List.forall_mem_cons.mpr ⟨hv_k24_73_33 hz hW, List.forall_mem_cons.mpr ⟨hv_k24_76_33 hz hW, List.forall_mem_cons.mpr ⟨hv_k24_86_33 hz hW, List.forall_mem_cons.mpr ⟨hv_k24_92_33 hz hW, List.forall_mem_cons.mpr ⟨hv_k24_96_33 hz hW, List.forall_mem_cons.mpr ⟨hv_k24_100_33 hz hW, List.forall_mem_cons.mpr ⟨hv_k24_103_33 hz hW, List.forall_mem_cons.mpr ⟨hv_k24_106_33 hz hW, List.forall_mem_cons.mpr ⟨hv_k24_109_33 hz hW, List.forall_mem_cons.mpr ⟨hv_k24_112_33 hz hW, List.forall_mem_cons.mpr ⟨hv_k24_115_33 hz hW, List.forall_mem_cons.mpr ⟨hv_k24_119_33 hz hW, List.forall_mem_cons.mpr ⟨hv_k24_123_33 hz hW, List.forall_mem_cons.mpr ⟨hv_k24_127_0 hz hW, List.forall_mem_cons.mpr ⟨hv_k24_140_33 hz hW, List.forall_mem_cons.mpr ⟨hv_k24_147_33 hz hW, List.forall_mem_cons.mpr ⟨hv_k24_155_0 hz hW, List.forall_mem_cons.mpr ⟨hv_k24_158_0 hz hW, List.forall_mem_cons.mpr ⟨hv_k24_161_33 hz hW, List.forall_mem_cons.mpr ⟨hv_k24_164_33 hz hW, List.forall_mem_cons.mpr ⟨hv_k24_167_33 hz hW, List.forall_mem_cons.mpr ⟨hv_k24_170_33 hz hW, List.forall_mem_cons.mpr ⟨hv_k24_173_33 hz hW, List.forall_mem_cons.mpr ⟨hv_k24_177_33 hz hW, List.forall_mem_cons.mpr ⟨hv_k24_180_33 hz hW, List.forall_mem_cons.mpr ⟨hv_k24_183_33 hz hW, List.forall_mem_cons.mpr ⟨hv_k24_186_33 hz hW, List.forall_mem_cons.mpr ⟨hv_k24_189_33 hz hW, List.forall_mem_cons.mpr ⟨hv_k24_192_33 hz hW, List.forall_mem_cons.mpr ⟨hv_k24_195_33 hz hW, List.forall_mem_cons.mpr ⟨hv_k24_200_33 hz hW, List.forall_mem_cons.mpr ⟨hv_k24_203_33 hz hW, List.forall_mem_cons.mpr ⟨hv_k24_210_33 hz hW, List.forall_mem_cons.mpr ⟨hv_k24_216_33 hz hW, List.forall_mem_cons.mpr ⟨hv_k24_219_33 hz hW, List.forall_mem_cons.mpr ⟨hv_k24_222_33 hz hW, List.forall_mem_cons.mpr ⟨hv_k24_225_33 hz hW, List.forall_mem_cons.mpr ⟨hv_k24_228_33 hz hW, List.forall_mem_cons.mpr ⟨hv_k24_231_33 hz hW, List.forall_mem_cons.mpr ⟨hv_k24_235_33 hz hW, List.forall_mem_cons.mpr ⟨hv_k24_238_33 hz hW, List.forall_mem_cons.mpr ⟨hv_k24_241_33 hz hW, List.forall_mem_cons.mpr ⟨hv_k24_249_33 hz hW, List.forall_mem_cons.mpr ⟨hv_k24_252_33 hz hW, List.forall_mem_cons.mpr ⟨hv_k24_255_33 hz hW, List.forall_mem_cons.mpr ⟨hv_k24_265_0 hz hW, List.forall_mem_cons.mpr ⟨hv_k24_272_33 hz hW, List.forall_mem_cons.mpr ⟨hv_k24_275_33 hz hW, List.forall_mem_cons.mpr ⟨hv_k24_278_33 hz hW, List.forall_mem_cons.mpr ⟨hv_k24_281_33 hz hW, List.forall_mem_cons.mpr ⟨hv_k24_284_33 hz hW, List.forall_mem_cons.mpr ⟨hv_k24_287_33 hz hW, List.forall_mem_cons.mpr ⟨hv_k24_290_33 hz hW, List.forall_mem_cons.mpr ⟨hv_k24_293_33 hz hW, List.forall_mem_cons.mpr ⟨hv_k24_302_33 hz hW, List.forall_mem_cons.mpr ⟨hv_k24_305_33 hz hW, List.forall_mem_cons.mpr ⟨hv_k24_311_33 hz hW, fun _ h => absurd h List.not_mem_nil⟩⟩⟩⟩⟩⟩⟩⟩⟩⟩⟩⟩⟩⟩⟩⟩⟩⟩⟩⟩⟩⟩⟩⟩⟩⟩⟩⟩⟩⟩⟩⟩⟩⟩⟩⟩⟩⟩⟩⟩⟩⟩⟩⟩⟩⟩⟩⟩⟩⟩⟩⟩⟩⟩⟩⟩⟩⟩⟩⟩⟩
theorem hv_k25_1_0 (hz : hv_Z s0 a0) (hW : s0.WarmedH s.vm) : hv_LK l s args 25 (1, 0, 37) :=
  show hv_Link l s args "HallOfClaims$Refused" 1 1 37 "HallOfClaims" from hv_kIN hz hW hv_mf37 rfl rfl rfl rfl (lw_at lw_m3 60 rfl) (lw_g (lw_at lw_m3 61 rfl) rfl)
theorem hv_lk25 (hz : hv_Z s0 a0) (hW : s0.WarmedH s.vm) : ∀ q ∈ hv_ll 25, hv_LK l s args 25 q := by
  rw [show hv_ll 25 = [(1, 0, 37)] by decide +kernel]
  exact List.forall_mem_cons.mpr ⟨hv_k25_1_0 hz hW, fun _ h => absurd h List.not_mem_nil⟩
theorem hv_lk26 (hz : hv_Z s0 a0) (hW : s0.WarmedH s.vm) : ∀ q ∈ hv_ll 26, hv_LK l s args 26 q := by
  rw [show hv_ll 26 = [] by decide +kernel]
  exact fun _ h => absurd h List.not_mem_nil
theorem hv_k27_31_0 (hz : hv_Z s0 a0) (hW : s0.WarmedH s.vm) : hv_LK l s args 27 (31, 0, 46) :=
  show hv_Link l s args "HallOfClaims$Reader" 1 31 46 "HallOfClaims" from hv_kI hz hW hv_mf46 rfl rfl rfl rfl (lw_g (lw_at lw_m3 143 rfl) rfl) (lw_g (lw_at lw_m3 144 rfl) rfl)
theorem hv_k27_34_20 (hz : hv_Z s0 a0) (hW : s0.WarmedH s.vm) : hv_LK l s args 27 (34, 20, 42) :=
  show hv_Link l s args "HallOfClaims$Reader" 3 34 42 "HallOfClaims$Reader" from hv_kV hz hW hv_mf42 rfl rfl (lw_g (lw_at lw_m3 117 rfl) rfl) (lw_g (lw_at lw_m3 119 rfl) rfl) (lw_g (lw_at lw_ms 7 rfl) rfl)
theorem hv_k27_38_20 (hz : hv_Z s0 a0) (hW : s0.WarmedH s.vm) : hv_LK l s args 27 (38, 20, 45) :=
  show hv_Link l s args "HallOfClaims$Reader" 3 38 45 "HallOfClaims$Reader" from hv_kV hz hW hv_mf45 rfl rfl (lw_g (lw_at lw_m3 130 rfl) rfl) (lw_g (lw_at lw_m3 132 rfl) rfl) (lw_g (lw_at lw_ms 9 rfl) rfl)
theorem hv_k27_46_0 (hz : hv_Z s0 a0) (hW : s0.WarmedH s.vm) : hv_LK l s args 27 (46, 0, 44) :=
  show hv_Link l s args "HallOfClaims$Reader" 0 46 44 "HallOfClaims" from hv_kSN hz hW hv_mf44 rfl rfl (lw_at lw_m3 127 rfl) (lw_g (lw_at lw_m3 128 rfl) rfl)
theorem hv_k27_54_20 (hz : hv_Z s0 a0) (hW : s0.WarmedH s.vm) : hv_LK l s args 27 (54, 20, 51) :=
  show hv_Link l s args "HallOfClaims$Reader" 3 54 51 "HallOfClaims$Reader" from hv_kV hz hW hv_mf51 rfl rfl (lw_g (lw_at lw_m3 193 rfl) rfl) (lw_g (lw_at lw_m3 195 rfl) rfl) (lw_g (lw_at lw_ms 11 rfl) rfl)
theorem hv_k27_58_20 (hz : hv_Z s0 a0) (hW : s0.WarmedH s.vm) : hv_LK l s args 27 (58, 20, 41) :=
  show hv_Link l s args "HallOfClaims$Reader" 3 58 41 "HallOfClaims$Reader" from hv_kV hz hW hv_mf41 rfl rfl (lw_g (lw_at lw_m3 113 rfl) rfl) (lw_g (lw_at lw_m3 115 rfl) rfl) (lw_g (lw_at lw_ms 6 rfl) rfl)
theorem hv_k27_62_20 (hz : hv_Z s0 a0) (hW : s0.WarmedH s.vm) : hv_LK l s args 27 (62, 20, 58) :=
  show hv_Link l s args "HallOfClaims$Reader" 3 62 58 "HallOfClaims$Reader" from hv_kV hz hW hv_mf58 rfl rfl (lw_g (lw_at lw_m4 20 rfl) rfl) (lw_g (lw_at lw_m4 22 rfl) rfl) (lw_g (lw_at lw_ms 14 rfl) rfl)
theorem hv_k27_65_20 (hz : hv_Z s0 a0) (hW : s0.WarmedH s.vm) : hv_LK l s args 27 (65, 20, 43) :=
  show hv_Link l s args "HallOfClaims$Reader" 3 65 43 "HallOfClaims$Reader" from hv_kV hz hW hv_mf43 rfl rfl (lw_g (lw_at lw_m3 121 rfl) rfl) (lw_g (lw_at lw_m3 123 rfl) rfl) (lw_g (lw_at lw_ms 8 rfl) rfl)
theorem hv_k27_70_0 (hz : hv_Z s0 a0) (hW : s0.WarmedH s.vm) : hv_LK l s args 27 (70, 0, 47) :=
  show hv_Link l s args "HallOfClaims$Reader" 1 70 47 "HallOfClaims" from hv_kI hz hW hv_mf47 rfl rfl rfl rfl (lw_g (lw_at lw_m3 154 rfl) rfl) (lw_g (lw_at lw_m3 155 rfl) rfl)
theorem hv_k27_75_0 (hz : hv_Z s0 a0) (hW : s0.WarmedH s.vm) : hv_LK l s args 27 (75, 0, 49) :=
  show hv_Link l s args "HallOfClaims$Reader" 1 75 49 "HallOfClaims" from hv_kI hz hW hv_mf49 rfl rfl rfl rfl (lw_g (lw_at lw_m3 180 rfl) rfl) (lw_g (lw_at lw_m3 181 rfl) rfl)
theorem hv_k27_78_20 (hz : hv_Z s0 a0) (hW : s0.WarmedH s.vm) : hv_LK l s args 27 (78, 20, 50) :=
  show hv_Link l s args "HallOfClaims$Reader" 3 78 50 "HallOfClaims$Reader" from hv_kV hz hW hv_mf50 rfl rfl (lw_g (lw_at lw_m3 189 rfl) rfl) (lw_g (lw_at lw_m3 191 rfl) rfl) (lw_g (lw_at lw_ms 10 rfl) rfl)
theorem hv_k27_81_20 (hz : hv_Z s0 a0) (hW : s0.WarmedH s.vm) : hv_LK l s args 27 (81, 20, 52) :=
  show hv_Link l s args "HallOfClaims$Reader" 3 81 52 "HallOfClaims$Reader" from hv_kV hz hW hv_mf52 rfl rfl (lw_g (lw_at lw_m3 199 rfl) rfl) (lw_g (lw_at lw_m3 201 rfl) rfl) (lw_g (lw_at lw_ms 12 rfl) rfl)
theorem hv_k27_87_0 (hz : hv_Z s0 a0) (hW : s0.WarmedH s.vm) : hv_LK l s args 27 (87, 0, 53) :=
  show hv_Link l s args "HallOfClaims$Reader" 1 87 53 "HallOfClaims" from hv_kI hz hW hv_mf53 rfl rfl rfl rfl (lw_g (lw_at lw_m3 205 rfl) rfl) (lw_g (lw_at lw_m3 206 rfl) rfl)
theorem hv_k27_90_0 (hz : hv_Z s0 a0) (hW : s0.WarmedH s.vm) : hv_LK l s args 27 (90, 0, 54) :=
  show hv_Link l s args "HallOfClaims$Reader" 1 90 54 "HallOfClaims" from hv_kI hz hW hv_mf54 rfl rfl rfl rfl (lw_g (lw_at lw_m3 225 rfl) rfl) (lw_g (lw_at lw_m3 226 rfl) rfl)
theorem hv_k27_91_20 (hz : hv_Z s0 a0) (hW : s0.WarmedH s.vm) : hv_LK l s args 27 (91, 20, 55) :=
  show hv_Link l s args "HallOfClaims$Reader" 3 91 55 "HallOfClaims$Reader" from hv_kV hz hW hv_mf55 rfl rfl (lw_g (lw_at lw_m3 234 rfl) rfl) (lw_g (lw_at lw_m3 236 rfl) rfl) (lw_g (lw_at lw_ms 13 rfl) rfl)
theorem hv_k27_96_0 (hz : hv_Z s0 a0) (hW : s0.WarmedH s.vm) : hv_LK l s args 27 (96, 0, 56) :=
  show hv_Link l s args "HallOfClaims$Reader" 1 96 56 "HallOfClaims" from hv_kI hz hW hv_mf56 rfl rfl rfl rfl (lw_g (lw_at lw_m4 0 rfl) rfl) (lw_g (lw_at lw_m4 1 rfl) rfl)
theorem hv_k27_97_26 (hz : hv_Z s0 a0) (hW : s0.WarmedH s.vm) : hv_LK l s args 27 (97, 26, 57) :=
  show hv_Link l s args "HallOfClaims$Reader" 3 97 57 "HallOfClaims$RowTold" from hv_kV hz hW hv_mf57 rfl rfl (lw_g (lw_at lw_m4 16 rfl) rfl) (lw_g (lw_at lw_m4 17 rfl) rfl) (lw_g (lw_at lw_m4 18 rfl) rfl)
theorem hv_lk27 (hz : hv_Z s0 a0) (hW : s0.WarmedH s.vm) : ∀ q ∈ hv_ll 27, hv_LK l s args 27 q := by
  rw [show hv_ll 27 = [(31, 0, 46), (34, 20, 42), (38, 20, 45), (46, 0, 44), (54, 20, 51), (58, 20, 41), (62, 20, 58), (65, 20, 43), (70, 0, 47), (75, 0, 49), (78, 20, 50), (81, 20, 52), (87, 0, 53), (90, 0, 54), (91, 20, 55), (96, 0, 56), (97, 26, 57)] by decide +kernel]
  exact List.forall_mem_cons.mpr ⟨hv_k27_31_0 hz hW, List.forall_mem_cons.mpr ⟨hv_k27_34_20 hz hW, List.forall_mem_cons.mpr ⟨hv_k27_38_20 hz hW, List.forall_mem_cons.mpr ⟨hv_k27_46_0 hz hW, List.forall_mem_cons.mpr ⟨hv_k27_54_20 hz hW, List.forall_mem_cons.mpr ⟨hv_k27_58_20 hz hW, List.forall_mem_cons.mpr ⟨hv_k27_62_20 hz hW, List.forall_mem_cons.mpr ⟨hv_k27_65_20 hz hW, List.forall_mem_cons.mpr ⟨hv_k27_70_0 hz hW, List.forall_mem_cons.mpr ⟨hv_k27_75_0 hz hW, List.forall_mem_cons.mpr ⟨hv_k27_78_20 hz hW, List.forall_mem_cons.mpr ⟨hv_k27_81_20 hz hW, List.forall_mem_cons.mpr ⟨hv_k27_87_0 hz hW, List.forall_mem_cons.mpr ⟨hv_k27_90_0 hz hW, List.forall_mem_cons.mpr ⟨hv_k27_91_20 hz hW, List.forall_mem_cons.mpr ⟨hv_k27_96_0 hz hW, List.forall_mem_cons.mpr ⟨hv_k27_97_26 hz hW, fun _ h => absurd h List.not_mem_nil⟩⟩⟩⟩⟩⟩⟩⟩⟩⟩⟩⟩⟩⟩⟩⟩⟩
theorem hv_k28_1_0 (hz : hv_Z s0 a0) (hW : s0.WarmedH s.vm) : hv_LK l s args 28 (1, 0, 37) :=
  show hv_Link l s args "HallOfClaims$Fault" 1 1 37 "HallOfClaims" from hv_kIN hz hW hv_mf37 rfl rfl rfl rfl (lw_at lw_m3 146 rfl) (lw_g (lw_at lw_m3 61 rfl) rfl)
theorem hv_lk28 (hz : hv_Z s0 a0) (hW : s0.WarmedH s.vm) : ∀ q ∈ hv_ll 28, hv_LK l s args 28 q := by
  rw [show hv_ll 28 = [(1, 0, 37)] by decide +kernel]
  exact List.forall_mem_cons.mpr ⟨hv_k28_1_0 hz hW, fun _ h => absurd h List.not_mem_nil⟩
theorem hv_k29_9_0 (hz : hv_Z s0 a0) (hW : s0.WarmedH s.vm) : hv_LK l s args 29 (9, 0, 48) :=
  show hv_Link l s args "HallOfClaims$ClaimTold" 1 9 48 "HallOfClaims" from hv_kI hz hW hv_mf48 rfl rfl rfl rfl (lw_g (lw_at lw_m3 157 rfl) rfl) (lw_g (lw_at lw_m3 158 rfl) rfl)
theorem hv_k29_29_7 (hz : hv_Z s0 a0) (hW : s0.WarmedH s.vm) : hv_LK l s args 29 (29, 7, 61) :=
  show hv_Link l s args "HallOfClaims$ClaimTold" 3 29 61 "HallOfClaims$Hall" from hv_kV hz hW hv_mf61 rfl rfl (lw_g (lw_at lw_m4 37 rfl) rfl) (lw_g (lw_at lw_m4 38 rfl) rfl) (lw_g (lw_at lw_m4 39 rfl) rfl)
theorem hv_lk29 (hz : hv_Z s0 a0) (hW : s0.WarmedH s.vm) : ∀ q ∈ hv_ll 29, hv_LK l s args 29 q := by
  rw [show hv_ll 29 = [(9, 0, 48), (29, 7, 61)] by decide +kernel]
  exact List.forall_mem_cons.mpr ⟨hv_k29_9_0 hz hW, List.forall_mem_cons.mpr ⟨hv_k29_29_7 hz hW, fun _ h => absurd h List.not_mem_nil⟩⟩
theorem hv_lk30 (hz : hv_Z s0 a0) (hW : s0.WarmedH s.vm) : ∀ q ∈ hv_ll 30, hv_LK l s args 30 q := by
  rw [show hv_ll 30 = [] by decide +kernel]
  exact fun _ h => absurd h List.not_mem_nil
theorem hv_k31_3_0 (hz : hv_Z s0 a0) (hW : s0.WarmedH s.vm) : hv_LK l s args 31 (3, 0, 48) :=
  show hv_Link l s args "HallOfClaims$ModeTold" 1 3 48 "HallOfClaims" from hv_kI hz hW hv_mf48 rfl rfl rfl rfl (lw_g (lw_at lw_m3 183 rfl) rfl) (lw_g (lw_at lw_m3 158 rfl) rfl)
theorem hv_lk31 (hz : hv_Z s0 a0) (hW : s0.WarmedH s.vm) : ∀ q ∈ hv_ll 31, hv_LK l s args 31 q := by
  rw [show hv_ll 31 = [(3, 0, 48)] by decide +kernel]
  exact List.forall_mem_cons.mpr ⟨hv_k31_3_0 hz hW, fun _ h => absurd h List.not_mem_nil⟩
theorem hv_k32_9_0 (hz : hv_Z s0 a0) (hW : s0.WarmedH s.vm) : hv_LK l s args 32 (9, 0, 48) :=
  show hv_Link l s args "HallOfClaims$KindTold" 1 9 48 "HallOfClaims" from hv_kI hz hW hv_mf48 rfl rfl rfl rfl (lw_g (lw_at lw_m3 208 rfl) rfl) (lw_g (lw_at lw_m3 158 rfl) rfl)
theorem hv_lk32 (hz : hv_Z s0 a0) (hW : s0.WarmedH s.vm) : ∀ q ∈ hv_ll 32, hv_LK l s args 32 q := by
  rw [show hv_ll 32 = [(9, 0, 48)] by decide +kernel]
  exact List.forall_mem_cons.mpr ⟨hv_k32_9_0 hz hW, fun _ h => absurd h List.not_mem_nil⟩
theorem hv_k33_1_0 (hz : hv_Z s0 a0) (hW : s0.WarmedH s.vm) : hv_LK l s args 33 (1, 0, 48) :=
  show hv_Link l s args "HallOfClaims$TurnTold" 1 1 48 "HallOfClaims" from hv_kI hz hW hv_mf48 rfl rfl rfl rfl (lw_g (lw_at lw_m3 228 rfl) rfl) (lw_g (lw_at lw_m3 158 rfl) rfl)
theorem hv_lk33 (hz : hv_Z s0 a0) (hW : s0.WarmedH s.vm) : ∀ q ∈ hv_ll 33, hv_LK l s args 33 q := by
  rw [show hv_ll 33 = [(1, 0, 48)] by decide +kernel]
  exact List.forall_mem_cons.mpr ⟨hv_k33_1_0 hz hW, fun _ h => absurd h List.not_mem_nil⟩
theorem hv_k34_3_0 (hz : hv_Z s0 a0) (hW : s0.WarmedH s.vm) : hv_LK l s args 34 (3, 0, 48) :=
  show hv_Link l s args "HallOfClaims$RowTold" 1 3 48 "HallOfClaims" from hv_kI hz hW hv_mf48 rfl rfl rfl rfl (lw_g (lw_at lw_m4 3 rfl) rfl) (lw_g (lw_at lw_m3 158 rfl) rfl)
theorem hv_lk34 (hz : hv_Z s0 a0) (hW : s0.WarmedH s.vm) : ∀ q ∈ hv_ll 34, hv_LK l s args 34 q := by
  rw [show hv_ll 34 = [(3, 0, 48)] by decide +kernel]
  exact List.forall_mem_cons.mpr ⟨hv_k34_3_0 hz hW, fun _ h => absurd h List.not_mem_nil⟩
theorem hv_k35_259_0 (hz : hv_Z s0 a0) (hW : s0.WarmedH s.vm) : hv_LK l s args 35 (259, 0, 109) :=
  show hv_Link l s args "java/lang/Integer" 0 259 109 "HallOfClaims" from hv_kS hz hW hv_mf109 rfl rfl (lw_g (lw_at lw_m5 106 rfl) rfl) (lw_g (lw_at lw_m5 73 rfl) rfl)
theorem hv_k35_284_30 (hz : hv_Z s0 a0) (hW : s0.WarmedH s.vm) : hv_LK l s args 35 (284, 30, 111) :=
  show hv_Link l s args "java/lang/Integer" 3 284 111 "java/lang/Integer" from hv_kV hz hW hv_mf111 rfl rfl (lw_g (lw_at lw_m5 102 rfl) rfl) (lw_g (lw_at lw_m5 103 rfl) rfl) (lw_g (lw_at lw_m5 104 rfl) rfl)
theorem hv_lk35 (hz : hv_Z s0 a0) (hW : s0.WarmedH s.vm) : ∀ q ∈ hv_ll 35, hv_LK l s args 35 q := by
  rw [show hv_ll 35 = [(259, 0, 109), (284, 30, 111)] by decide +kernel]
  exact List.forall_mem_cons.mpr ⟨hv_k35_259_0 hz hW, List.forall_mem_cons.mpr ⟨hv_k35_284_30 hz hW, fun _ h => absurd h List.not_mem_nil⟩⟩
theorem hv_k36_7_0 (hz : hv_Z s0 a0) (hW : s0.WarmedH s.vm) : hv_LK l s args 36 (7, 0, 23) :=
  show hv_Link l s args "java/util/TreeMap$EntrySet" 1 7 23 "HallOfClaims" from hv_kI hz hW hv_mf23 rfl rfl rfl rfl (lw_g (lw_at lw_m7 173 rfl) rfl) (lw_g (lw_at lw_m2 104 rfl) rfl)
theorem hv_k36_15_15 (hz : hv_Z s0 a0) (hW : s0.WarmedH s.vm) : hv_LK l s args 36 (15, 15, 167) :=
  show hv_Link l s args "java/util/TreeMap$EntrySet" 3 15 167 "java/util/TreeMap" from hv_kV hz hW hv_mf167 rfl rfl (lw_g (lw_at lw_m7 190 rfl) rfl) (lw_g (lw_at lw_m6 142 rfl) rfl) (lw_g (lw_at lw_m6 143 rfl) rfl)
theorem hv_k36_21_0 (hz : hv_Z s0 a0) (hW : s0.WarmedH s.vm) : hv_LK l s args 36 (21, 0, 218) :=
  show hv_Link l s args "java/util/TreeMap$EntrySet" 1 21 218 "HallOfClaims" from hv_kI hz hW hv_mf218 rfl rfl rfl rfl (lw_g (lw_at lw_m7 191 rfl) rfl) (lw_g (lw_at lw_m7 192 rfl) rfl)
theorem hv_k36_48_15 (hz : hv_Z s0 a0) (hW : s0.WarmedH s.vm) : hv_LK l s args 36 (48, 15, 115) :=
  show hv_Link l s args "java/util/TreeMap$EntrySet" 3 48 115 "java/util/TreeMap" from hv_kV hz hW hv_mf115 rfl rfl (lw_g (lw_at lw_m5 122 rfl) rfl) (lw_g (lw_at lw_m5 123 rfl) rfl) (lw_g (lw_at lw_m5 124 rfl) rfl)
theorem hv_lk36 (hz : hv_Z s0 a0) (hW : s0.WarmedH s.vm) : ∀ q ∈ hv_ll 36, hv_LK l s args 36 q := by
  rw [show hv_ll 36 = [(7, 0, 23), (15, 15, 167), (21, 0, 218), (48, 15, 115)] by decide +kernel]
  exact List.forall_mem_cons.mpr ⟨hv_k36_7_0 hz hW, List.forall_mem_cons.mpr ⟨hv_k36_15_15 hz hW, List.forall_mem_cons.mpr ⟨hv_k36_21_0 hz hW, List.forall_mem_cons.mpr ⟨hv_k36_48_15 hz hW, fun _ h => absurd h List.not_mem_nil⟩⟩⟩⟩
theorem hv_k37_1_0 (hz : hv_Z s0 a0) (hW : s0.WarmedH s.vm) : hv_LK l s args 37 (1, 0, 23) :=
  show hv_Link l s args "java/util/TreeMap$KeySet" 1 1 23 "HallOfClaims" from hv_kI hz hW hv_mf23 rfl rfl rfl rfl (lw_g (lw_at lw_m6 119 rfl) rfl) (lw_g (lw_at lw_m2 104 rfl) rfl)
theorem hv_k37_15_15 (hz : hv_Z s0 a0) (hW : s0.WarmedH s.vm) : hv_LK l s args 37 (15, 15, 166) :=
  show hv_Link l s args "java/util/TreeMap$KeySet" 3 15 166 "java/util/TreeMap" from hv_kV hz hW hv_mf166 rfl rfl (lw_g (lw_at lw_m6 135 rfl) rfl) (lw_g (lw_at lw_m6 136 rfl) rfl) (lw_g (lw_at lw_m6 137 rfl) rfl)
theorem hv_lk37 (hz : hv_Z s0 a0) (hW : s0.WarmedH s.vm) : ∀ q ∈ hv_ll 37, hv_LK l s args 37 q := by
  rw [show hv_ll 37 = [(1, 0, 23), (15, 15, 166)] by decide +kernel]
  exact List.forall_mem_cons.mpr ⟨hv_k37_1_0 hz hW, List.forall_mem_cons.mpr ⟨hv_k37_15_15 hz hW, fun _ h => absurd h List.not_mem_nil⟩⟩
theorem hv_lk38 (hz : hv_Z s0 a0) (hW : s0.WarmedH s.vm) : ∀ q ∈ hv_ll 38, hv_LK l s args 38 q := by
  rw [show hv_ll 38 = [] by decide +kernel]
  exact fun _ h => absurd h List.not_mem_nil
theorem hv_lk39 (hz : hv_Z s0 a0) (hW : s0.WarmedH s.vm) : ∀ q ∈ hv_ll 39, hv_LK l s args 39 q := by
  rw [show hv_ll 39 = [] by decide +kernel]
  exact fun _ h => absurd h List.not_mem_nil
theorem hv_k40_1_0 (hz : hv_Z s0 a0) (hW : s0.WarmedH s.vm) : hv_LK l s args 40 (1, 0, 169) :=
  show hv_Link l s args "java/util/TreeMap$KeyIterator" 1 1 169 "HallOfClaims" from hv_kI hz hW hv_mf169 rfl rfl rfl rfl (lw_g (lw_at lw_m6 148 rfl) rfl) (lw_g (lw_at lw_m6 149 rfl) rfl)
theorem hv_k40_7_29 (hz : hv_Z s0 a0) (hW : s0.WarmedH s.vm) : hv_LK l s args 40 (7, 29, 173) :=
  show hv_Link l s args "java/util/TreeMap$KeyIterator" 3 7 173 "java/util/TreeMap$KeyIterator" from hv_kU (owner := "java/util/TreeMap$PrivateEntryIterator") (x := ⟨"java/util/TreeMap$KeyIterator", "nextEntry", "()Ljava/util/TreeMap$Entry;"⟩) hz hW hv_mf173 rfl rfl rfl (by decide +kernel) (lw_g (lw_at lw_m6 213 rfl) rfl) (lw_g (lw_at lw_m6 214 rfl) rfl) (va_Decl.abs (va_Nw.warmD hW (va_Nw.of rfl (hz.1 _ (lw_at lw_m6 201 rfl))))) (lw_g (lw_at lw_m6 215 rfl) rfl) (lw_g (lw_at lw_m6 203 rfl) rfl)
theorem hv_lk40 (hz : hv_Z s0 a0) (hW : s0.WarmedH s.vm) : ∀ q ∈ hv_ll 40, hv_LK l s args 40 q := by
  rw [show hv_ll 40 = [(1, 0, 169), (7, 29, 173)] by decide +kernel]
  exact List.forall_mem_cons.mpr ⟨hv_k40_1_0 hz hW, List.forall_mem_cons.mpr ⟨hv_k40_7_29 hz hW, fun _ h => absurd h List.not_mem_nil⟩⟩
theorem hv_k41_35_0 (hz : hv_Z s0 a0) (hW : s0.WarmedH s.vm) : hv_LK l s args 41 (35, 0, 174) :=
  show hv_Link l s args "java/util/TreeMap$PrivateEntryIterator" 0 35 174 "HallOfClaims" from hv_kS hz hW hv_mf174 rfl rfl (lw_g (lw_at lw_m6 205 rfl) rfl) (lw_g (lw_at lw_m6 206 rfl) rfl)
theorem hv_lk41 (hz : hv_Z s0 a0) (hW : s0.WarmedH s.vm) : ∀ q ∈ hv_ll 41, hv_LK l s args 41 q := by
  rw [show hv_ll 41 = [(35, 0, 174)] by decide +kernel]
  exact List.forall_mem_cons.mpr ⟨hv_k41_35_0 hz hW, fun _ h => absurd h List.not_mem_nil⟩
theorem hv_k42_1_0 (hz : hv_Z s0 a0) (hW : s0.WarmedH s.vm) : hv_LK l s args 42 (1, 0, 169) :=
  show hv_Link l s args "java/util/TreeMap$EntryIterator" 1 1 169 "HallOfClaims" from hv_kI hz hW hv_mf169 rfl rfl rfl rfl (lw_g (lw_at lw_m7 194 rfl) rfl) (lw_g (lw_at lw_m6 149 rfl) rfl)
theorem hv_k42_7_32 (hz : hv_Z s0 a0) (hW : s0.WarmedH s.vm) : hv_LK l s args 42 (7, 32, 173) :=
  show hv_Link l s args "java/util/TreeMap$EntryIterator" 3 7 173 "java/util/TreeMap$EntryIterator" from hv_kU (owner := "java/util/TreeMap$PrivateEntryIterator") (x := ⟨"java/util/TreeMap$EntryIterator", "nextEntry", "()Ljava/util/TreeMap$Entry;"⟩) hz hW hv_mf173 rfl rfl rfl (by decide +kernel) (lw_g (lw_at lw_m6 199 rfl) rfl) (lw_g (lw_at lw_m6 200 rfl) rfl) (va_Decl.abs (va_Nw.warmD hW (va_Nw.of rfl (hz.1 _ (lw_at lw_m6 201 rfl))))) (lw_g (lw_at lw_m6 202 rfl) rfl) (lw_g (lw_at lw_m6 203 rfl) rfl)
theorem hv_k42_13_32 (hz : hv_Z s0 a0) (hW : s0.WarmedH s.vm) : hv_LK l s args 42 (13, 32, 172) :=
  show hv_Link l s args "java/util/TreeMap$EntryIterator" 3 13 172 "java/util/TreeMap$EntryIterator" from hv_kV hz hW hv_mf172 rfl rfl (lw_g (lw_at lw_m6 195 rfl) rfl) (lw_g (lw_at lw_m6 196 rfl) rfl) (lw_g (lw_at lw_m6 197 rfl) rfl)
theorem hv_lk42 (hz : hv_Z s0 a0) (hW : s0.WarmedH s.vm) : ∀ q ∈ hv_ll 42, hv_LK l s args 42 q := by
  rw [show hv_ll 42 = [(1, 0, 169), (7, 32, 173), (13, 32, 172)] by decide +kernel]
  exact List.forall_mem_cons.mpr ⟨hv_k42_1_0 hz hW, List.forall_mem_cons.mpr ⟨hv_k42_7_32 hz hW, List.forall_mem_cons.mpr ⟨hv_k42_13_32 hz hW, fun _ h => absurd h List.not_mem_nil⟩⟩⟩
theorem hv_lk43 (hz : hv_Z s0 a0) (hW : s0.WarmedH s.vm) : ∀ q ∈ hv_ll 43, hv_LK l s args 43 q := by
  rw [show hv_ll 43 = [] by decide +kernel]
  exact fun _ h => absurd h List.not_mem_nil
theorem hv_lks (hz : hv_Z s0 a0) (hW : s0.WarmedH s.vm) (o : Nat) (q : Nat × Nat × Nat) (hq : q ∈ hv_ll o) : hv_LK l s args o q := by
  match o, hq with
  | 0, hq => exact hv_lk0 hz hW q hq
  | 1, hq => exact hv_lk1 hz hW q hq
  | 2, hq => exact hv_lk2 hz hW q hq
  | 3, hq => exact hv_lk3 hz hW q hq
  | 4, hq => exact hv_lk4 hz hW q hq
  | 5, hq => exact hv_lk5 hz hW q hq
  | 6, hq => exact hv_lk6 hz hW q hq
  | 7, hq => exact hv_lk7 hz hW q hq
  | 8, hq => exact hv_lk8 hz hW q hq
  | 9, hq => exact hv_lk9 hz hW q hq
  | 10, hq => exact hv_lk10 hz hW q hq
  | 11, hq => exact hv_lk11 hz hW q hq
  | 12, hq => exact hv_lk12 hz hW q hq
  | 13, hq => exact hv_lk13 hz hW q hq
  | 14, hq => exact hv_lk14 hz hW q hq
  | 15, hq => exact hv_lk15 hz hW q hq
  | 16, hq => exact hv_lk16 hz hW q hq
  | 17, hq => exact hv_lk17 hz hW q hq
  | 18, hq => exact hv_lk18 hz hW q hq
  | 19, hq => exact hv_lk19 hz hW q hq
  | 20, hq => exact hv_lk20 hz hW q hq
  | 21, hq => exact hv_lk21 hz hW q hq
  | 22, hq => exact hv_lk22 hz hW q hq
  | 23, hq => exact hv_lk23 hz hW q hq
  | 24, hq => exact hv_lk24 hz hW q hq
  | 25, hq => exact hv_lk25 hz hW q hq
  | 26, hq => exact hv_lk26 hz hW q hq
  | 27, hq => exact hv_lk27 hz hW q hq
  | 28, hq => exact hv_lk28 hz hW q hq
  | 29, hq => exact hv_lk29 hz hW q hq
  | 30, hq => exact hv_lk30 hz hW q hq
  | 31, hq => exact hv_lk31 hz hW q hq
  | 32, hq => exact hv_lk32 hz hW q hq
  | 33, hq => exact hv_lk33 hz hW q hq
  | 34, hq => exact hv_lk34 hz hW q hq
  | 35, hq => exact hv_lk35 hz hW q hq
  | 36, hq => exact hv_lk36 hz hW q hq
  | 37, hq => exact hv_lk37 hz hW q hq
  | 38, hq => exact hv_lk38 hz hW q hq
  | 39, hq => exact hv_lk39 hz hW q hq
  | 40, hq => exact hv_lk40 hz hW q hq
  | 41, hq => exact hv_lk41 hz hW q hq
  | 42, hq => exact hv_lk42 hz hW q hq
  | 43, hq => exact hv_lk43 hz hW q hq
  | o + 44, hq => exact absurd hq (by show ¬ q ∈ ([] : List _); exact List.not_mem_nil)
end
