theorem fX7_33_6 : zFld RX7 33 6 3 := ⟨_, rfl, by decide, _, Or.inl q1680, Or.inl rfl⟩
theorem fX7_36_6 : zFld RX7 36 6 4 := ⟨_, rfl, by decide, _, Or.inl q1681, Or.inl rfl⟩
theorem fX7_39_6 : zFld RX7 39 6 5 := ⟨_, rfl, by decide, _, Or.inl q1682, Or.inl rfl⟩
theorem fX7_42_6 : zFld RX7 42 6 6 := ⟨_, rfl, by decide, _, Or.inl q1683, Or.inl rfl⟩
theorem fX7_48_6 : zFld RX7 48 6 8 := ⟨_, rfl, by decide, _, Or.inl q1685, Or.inl rfl⟩
theorem fX7_50_6 : zFld RX7 50 6 9 := ⟨_, rfl, by decide, _, Or.inl q1686, Or.inl rfl⟩
theorem fX7_53_6 : zFld RX7 53 6 10 := ⟨_, rfl, by decide, _, Or.inl q1687, Or.inl rfl⟩
theorem fX7_56_6 : zFld RX7 56 6 11 := ⟨_, rfl, by decide, _, Or.inl q1688, Or.inl rfl⟩
theorem fX7_59_6 : zFld RX7 59 6 12 := ⟨_, rfl, by decide, _, Or.inl q1689, Or.inl rfl⟩
theorem fX7_72_6 : zFld RX7 72 6 25 := ⟨_, rfl, by decide, _, Or.inl q1702, Or.inl rfl⟩
theorem fX7_74_6 : zFld RX7 74 6 26 := ⟨_, rfl, by decide, _, Or.inl q1703, Or.inl rfl⟩
theorem fX7_77_6 : zFld RX7 77 6 27 := ⟨_, rfl, by decide, _, Or.inl q1704, Or.inl rfl⟩
theorem fX7_80_6 : zFld RX7 80 6 28 := ⟨_, rfl, by decide, _, Or.inl q1705, Or.inl rfl⟩
theorem fX7_83_6 : zFld RX7 83 6 29 := ⟨_, rfl, by decide, _, Or.inl q1706, Or.inl rfl⟩
theorem fX7_86_6 : zFld RX7 86 6 30 := ⟨_, rfl, by decide, _, Or.inl q1707, Or.inl rfl⟩
theorem fX7_88_6 : zFld RX7 88 6 31 := ⟨_, rfl, by decide, _, Or.inl q1708, Or.inl rfl⟩
theorem fX7_90_6 : zFld RX7 90 6 32 := ⟨_, rfl, by decide, _, Or.inl q1709, Or.inl rfl⟩
theorem fX7_93_6 : zFld RX7 93 6 33 := ⟨_, rfl, by decide, _, Or.inl q1710, Or.inl rfl⟩
theorem fX7_96_6 : zFld RX7 96 6 39 := ⟨_, rfl, by decide, _, Or.inl q1716, Or.inl rfl⟩
theorem fX7_99_6 : zFld RX7 99 6 40 := ⟨_, rfl, by decide, _, Or.inl q1717, Or.inl rfl⟩
theorem fX7_102_6 : zFld RX7 102 6 42 := ⟨_, rfl, by decide, _, Or.inl q1719, Or.inl rfl⟩
theorem fX7_105_6 : zFld RX7 105 6 43 := ⟨_, rfl, by decide, _, Or.inl q1720, Or.inl rfl⟩
theorem fX7_108_6 : zFld RX7 108 6 44 := ⟨_, rfl, by decide, _, Or.inl q1721, Or.inl rfl⟩
theorem fX7_111_6 : zFld RX7 111 6 45 := ⟨_, rfl, by decide, _, Or.inl q1722, Or.inl rfl⟩
theorem fX7_114_6 : zFld RX7 114 6 46 := ⟨_, rfl, by decide, _, Or.inl q1723, Or.inl rfl⟩
theorem fX7_117_6 : zFld RX7 117 6 47 := ⟨_, rfl, by decide, _, Or.inl q1724, Or.inl rfl⟩
theorem fX7_120_6 : zFld RX7 120 6 48 := ⟨_, rfl, by decide, _, Or.inl q1725, Or.inl rfl⟩
theorem fX7_123_6 : zFld RX7 123 6 49 := ⟨_, rfl, by decide, _, Or.inl q1726, Or.inl rfl⟩
theorem fX7_126_6 : zFld RX7 126 6 50 := ⟨_, rfl, by decide, _, Or.inl q1727, Or.inl rfl⟩
theorem fX7_129_6 : zFld RX7 129 6 51 := ⟨_, rfl, by decide, _, Or.inl q1728, Or.inl rfl⟩
theorem fX7_132_6 : zFld RX7 132 6 57 := ⟨_, rfl, by decide, _, Or.inl q1734, Or.inl rfl⟩
theorem fX7_135_6 : zFld RX7 135 6 58 := ⟨_, rfl, by decide, _, Or.inl q1735, Or.inl rfl⟩
theorem fX7_138_6 : zFld RX7 138 6 59 := ⟨_, rfl, by decide, _, Or.inl q1736, Or.inl rfl⟩
theorem fX7_141_6 : zFld RX7 141 6 60 := ⟨_, rfl, by decide, _, Or.inl q1737, Or.inl rfl⟩
theorem fX7_144_6 : zFld RX7 144 6 61 := ⟨_, rfl, by decide, _, Or.inl q1738, Or.inl rfl⟩
theorem fX7_147_6 : zFld RX7 147 6 62 := ⟨_, rfl, by decide, _, Or.inl q1739, Or.inl rfl⟩
theorem zlit_X7_11 : ((RX7, 11, "bows", 86) : String × Nat × String × Nat) ∈ zLit := List.mem_of_getElem? (i := 28) rfl
theorem zlit_X7_13 : ((RX7, 13, "sables", 88) : String × Nat × String × Nat) ∈ zLit := List.mem_of_getElem? (i := 29) rfl
theorem zlit_X7_15 : ((RX7, 15, "owes", 90) : String × Nat × String × Nat) ∈ zLit := List.mem_of_getElem? (i := 30) rfl
theorem zlit_X7_17 : ((RX7, 17, "due", 92) : String × Nat × String × Nat) ∈ zLit := List.mem_of_getElem? (i := 31) rfl
theorem zlit_X7_19 : ((RX7, 19, "year", 94) : String × Nat × String × Nat) ∈ zLit := List.mem_of_getElem? (i := 32) rfl
theorem zlit_X7_21 : ((RX7, 21, "store", 96) : String × Nat × String × Nat) ∈ zLit := List.mem_of_getElem? (i := 33) rfl
theorem zlit_X7_23 : ((RX7, 23, "others", 98) : String × Nat × String × Nat) ∈ zLit := List.mem_of_getElem? (i := 34) rfl
abbrev MX7_init : zM := (RX7, cX7_init, 1, none, "<init>", [])
set_option maxRecDepth 8000 in
noncomputable def F_X7_init (o0 : Nat) (h : zSt) : Option ((Nat × Nat) × (zSt)) := zpay (1, 7) (zg (zfree h) (zlet (hN h) (fun o_4 => zlet (znA h 69 7) (fun h_2 => zka (hK h_2) 86 15 (fun n_7 => zka (hK h_2) o_4 69 (fun n_8 => zg (zin 0 n_8) (zg (decide (600 ≤ o_4)) (zlet (zsF h_2 (zu (jF h_2) o_4 0 (some 86))) (fun h_12 => zka (hK h_12) 88 15 (fun n_15 => zka (hK h_12) o_4 69 (fun n_16 => zg (zin 1 n_16) (zlet (zsF h_12 (zu (jF h_12) o_4 1 (some 88))) (fun h_19 => zka (hK h_19) 90 15 (fun n_22 => zka (hK h_19) o_4 69 (fun n_23 => zg (zin 2 n_23) (zlet (zsF h_19 (zu (jF h_19) o_4 2 (some 90))) (fun h_26 => zka (hK h_26) 92 15 (fun n_29 => zka (hK h_26) o_4 69 (fun n_30 => zg (zin 3 n_30) (zlet (zsF h_26 (zu (jF h_26) o_4 3 (some 92))) (fun h_33 => zka (hK h_33) 94 15 (fun n_36 => zka (hK h_33) o_4 69 (fun n_37 => zg (zin 4 n_37) (zlet (zsF h_33 (zu (jF h_33) o_4 4 (some 94))) (fun h_40 => zka (hK h_40) 96 15 (fun n_43 => zka (hK h_40) o_4 69 (fun n_44 => zg (zin 5 n_44) (zlet (zsF h_40 (zu (jF h_40) o_4 5 (some 96))) (fun h_47 => zka (hK h_47) 98 15 (fun n_50 => zka (hK h_47) o_4 69 (fun n_51 => zg (zin 6 n_51) (zlet (zsF h_47 (zu (jF h_47) o_4 6 (some 98))) (fun h_54 => zka (hK h_54) o0 6 (fun n_56 => zg (decide (600 ≤ o0)) (zlet (zsF h_54 (zu (jF h_54) o0 0 (some o_4))) (fun h_59 => zpay (1, 16) (zg (zfree h_59) (zlet (hN h_59) (fun o_64 => zlet (znA h_59 64 16) (fun h_62 => zka (hK h_62) o0 6 (fun n_66 => zlet (zsF h_62 (zu (jF h_62) o0 2 (some o_64))) (fun h_68 => zpay (1, 16) (zg (zfree h_68) (zlet (hN h_68) (fun o_73 => zlet (znA h_68 64 16) (fun h_71 => zka (hK h_71) o0 6 (fun n_75 => zlet (zsF h_71 (zu (jF h_71) o0 3 (some o_73))) (fun h_77 => zpay (1, 16) (zg (zfree h_77) (zlet (hN h_77) (fun o_82 => zlet (znA h_77 64 16) (fun h_80 => zka (hK h_80) o0 6 (fun n_84 => zlet (zsF h_80 (zu (jF h_80) o0 4 (some o_82))) (fun h_86 => zpay (1, 16) (zg (zfree h_86) (zlet (hN h_86) (fun o_91 => zlet (znA h_86 64 16) (fun h_89 => zka (hK h_89) o0 6 (fun n_93 => zlet (zsF h_89 (zu (jF h_89) o0 5 (some o_91))) (fun h_95 => zpay (1, 16) (zg (zfree h_95) (zlet (hN h_95) (fun o_100 => zlet (znA h_95 64 16) (fun h_98 => zka (hK h_98) o0 6 (fun n_102 => zlet (zsF h_98 (zu (jF h_98) o0 6 (some o_100))) (fun h_104 => zpay (1, 128) (zg (zfree h_104) (zlet (hN h_104) (fun o_109 => zlet (znA h_104 64 128) (fun h_107 => zka (hK h_107) o0 6 (fun n_111 => zlet (zsF h_107 (zu (jF h_107) o0 7 (some o_109))) (fun h_113 => zpay (1, 12) (zg (zfree h_113) (zlet (hN h_113) (fun o_118 => zlet (znA h_113 64 12) (fun h_116 => zka (hK h_116) o0 6 (fun n_120 => zlet (zsF h_116 (zu (jF h_116) o0 8 (some o_118))) (fun h_122 => zpay (1, 12) (zg (zfree h_122) (zlet (hN h_122) (fun o_127 => zlet (znA h_122 64 12) (fun h_125 => zka (hK h_125) o0 6 (fun n_129 => zlet (zsF h_125 (zu (jF h_125) o0 9 (some o_127))) (fun h_131 => zpay (1, 12) (zg (zfree h_131) (zlet (hN h_131) (fun o_136 => zlet (znA h_131 64 12) (fun h_134 => zka (hK h_134) o0 6 (fun n_138 => zlet (zsF h_134 (zu (jF h_134) o0 10 (some o_136))) (fun h_140 => zpay (1, 6) (zg (zfree h_140) (zlet (hN h_140) (fun o_145 => zlet (znA h_140 64 6) (fun h_143 => zka (hK h_143) o0 6 (fun n_147 => zlet (zsF h_143 (zu (jF h_143) o0 11 (some o_145))) (fun h_149 => zpay (1, 1400) (zg (zfree h_149) (zlet (hN h_149) (fun o_154 => zlet (znA h_149 64 1400) (fun h_152 => zka (hK h_152) o0 6 (fun n_156 => zlet (zsF h_152 (zu (jF h_152) o0 12 (some o_154))) (fun h_158 => zpay (1, 3) (zg (zfree h_158) (zlet (hN h_158) (fun o_163 => zlet (znA h_158 64 3) (fun h_161 => zka (hK h_161) o0 6 (fun n_165 => zlet (zsF h_161 (zu (jF h_161) o0 13 (some o_163))) (fun h_167 => zpay (1, 700) (zg (zfree h_167) (zlet (hN h_167) (fun o_172 => zlet (znA h_167 64 700) (fun h_170 => zka (hK h_170) o0 6 (fun n_174 => zlet (zsF h_170 (zu (jF h_170) o0 14 (some o_172))) (fun h_176 => zka (hK h_176) o0 6 (fun n_178 => zlet (zsI h_176 (zu (hI h_176) o0 24 (-1))) (fun h_180 => zpay (1, 8) (zg (zfree h_180) (zlet (hN h_180) (fun o_185 => zlet (znA h_180 64 8) (fun h_183 => zka (hK h_183) o0 6 (fun n_187 => zlet (zsF h_183 (zu (jF h_183) o0 25 (some o_185))) (fun h_189 => zpay (1, 8) (zg (zfree h_189) (zlet (hN h_189) (fun o_194 => zlet (znA h_189 64 8) (fun h_192 => zka (hK h_192) o0 6 (fun n_196 => zlet (zsF h_192 (zu (jF h_192) o0 26 (some o_194))) (fun h_198 => zpay (1, 8) (zg (zfree h_198) (zlet (hN h_198) (fun o_203 => zlet (znA h_198 64 8) (fun h_201 => zka (hK h_201) o0 6 (fun n_205 => zlet (zsF h_201 (zu (jF h_201) o0 27 (some o_203))) (fun h_207 => zpay (1, 6) (zg (zfree h_207) (zlet (hN h_207) (fun o_212 => zlet (znA h_207 64 6) (fun h_210 => zka (hK h_210) o0 6 (fun n_214 => zlet (zsF h_210 (zu (jF h_210) o0 28 (some o_212))) (fun h_216 => zpay (1, 6) (zg (zfree h_216) (zlet (hN h_216) (fun o_221 => zlet (znA h_216 64 6) (fun h_219 => zka (hK h_219) o0 6 (fun n_223 => zlet (zsF h_219 (zu (jF h_219) o0 29 (some o_221))) (fun h_225 => zpay (1, 6) (zg (zfree h_225) (zlet (hN h_225) (fun o_230 => zlet (znA h_225 64 6) (fun h_228 => zka (hK h_228) o0 6 (fun n_232 => zlet (zsF h_228 (zu (jF h_228) o0 30 (some o_230))) (fun h_234 => zpay (1, 6) (zg (zfree h_234) (zlet (hN h_234) (fun o_239 => zlet (znA h_234 64 6) (fun h_237 => zka (hK h_237) o0 6 (fun n_241 => zlet (zsF h_237 (zu (jF h_237) o0 31 (some o_239))) (fun h_243 => zpay (1, 6) (zg (zfree h_243) (zlet (hN h_243) (fun o_248 => zlet (znA h_243 64 6) (fun h_246 => zka (hK h_246) o0 6 (fun n_250 => zlet (zsF h_246 (zu (jF h_246) o0 32 (some o_248))) (fun h_252 => zpay (1, 2280) (zg (zfree h_252) (zlet (hN h_252) (fun o_257 => zlet (znA h_252 64 2280) (fun h_255 => zka (hK h_255) o0 6 (fun n_259 => zlet (zsF h_255 (zu (jF h_255) o0 33 (some o_257))) (fun h_261 => zpay (1, 7) (zg (zfree h_261) (zlet (hN h_261) (fun o_266 => zlet (znA h_261 64 7) (fun h_264 => zka (hK h_264) o0 6 (fun n_268 => zlet (zsF h_264 (zu (jF h_264) o0 39 (some o_266))) (fun h_270 => zpay (1, 64) (zg (zfree h_270) (zlet (hN h_270) (fun o_275 => zlet (znA h_270 64 64) (fun h_273 => zka (hK h_273) o0 6 (fun n_277 => zlet (zsF h_273 (zu (jF h_273) o0 40 (some o_275))) (fun h_279 => zpay (1, 57) (zg (zfree h_279) (zlet (hN h_279) (fun o_284 => zlet (znA h_279 64 57) (fun h_282 => zka (hK h_282) o0 6 (fun n_286 => zlet (zsF h_282 (zu (jF h_282) o0 42 (some o_284))) (fun h_288 => zpay (1, 8) (zg (zfree h_288) (zlet (hN h_288) (fun o_293 => zlet (znA h_288 64 8) (fun h_291 => zka (hK h_291) o0 6 (fun n_295 => zlet (zsF h_291 (zu (jF h_291) o0 43 (some o_293))) (fun h_297 => zpay (1, 2048) (zg (zfree h_297) (zlet (hN h_297) (fun o_302 => zlet (znA h_297 64 2048) (fun h_300 => zka (hK h_300) o0 6 (fun n_304 => zlet (zsF h_300 (zu (jF h_300) o0 44 (some o_302))) (fun h_306 => zpay (1, 64) (zg (zfree h_306) (zlet (hN h_306) (fun o_311 => zlet (znA h_306 64 64) (fun h_309 => zka (hK h_309) o0 6 (fun n_313 => zlet (zsF h_309 (zu (jF h_309) o0 45 (some o_311))) (fun h_315 => zpay (1, 8) (zg (zfree h_315) (zlet (hN h_315) (fun o_320 => zlet (znA h_315 64 8) (fun h_318 => zka (hK h_318) o0 6 (fun n_322 => zlet (zsF h_318 (zu (jF h_318) o0 46 (some o_320))) (fun h_324 => zpay (1, 8) (zg (zfree h_324) (zlet (hN h_324) (fun o_329 => zlet (znA h_324 64 8) (fun h_327 => zka (hK h_327) o0 6 (fun n_331 => zlet (zsF h_327 (zu (jF h_327) o0 47 (some o_329))) (fun h_333 => zpay (1, 8) (zg (zfree h_333) (zlet (hN h_333) (fun o_338 => zlet (znA h_333 64 8) (fun h_336 => zka (hK h_336) o0 6 (fun n_340 => zlet (zsF h_336 (zu (jF h_336) o0 48 (some o_338))) (fun h_342 => zpay (1, 57) (zg (zfree h_342) (zlet (hN h_342) (fun o_347 => zlet (znA h_342 64 57) (fun h_345 => zka (hK h_345) o0 6 (fun n_349 => zlet (zsF h_345 (zu (jF h_345) o0 49 (some o_347))) (fun h_351 => zpay (1, 180) (zg (zfree h_351) (zlet (hN h_351) (fun o_356 => zlet (znA h_351 64 180) (fun h_354 => zka (hK h_354) o0 6 (fun n_358 => zlet (zsF h_354 (zu (jF h_354) o0 50 (some o_356))) (fun h_360 => zpay (1, 1080) (zg (zfree h_360) (zlet (hN h_360) (fun o_365 => zlet (znA h_360 64 1080) (fun h_363 => zka (hK h_363) o0 6 (fun n_367 => zlet (zsF h_363 (zu (jF h_363) o0 51 (some o_365))) (fun h_369 => zpay (1, 57) (zg (zfree h_369) (zlet (hN h_369) (fun o_374 => zlet (znA h_369 64 57) (fun h_372 => zka (hK h_372) o0 6 (fun n_376 => zlet (zsF h_372 (zu (jF h_372) o0 57 (some o_374))) (fun h_378 => zpay (1, 2280) (zg (zfree h_378) (zlet (hN h_378) (fun o_383 => zlet (znA h_378 64 2280) (fun h_381 => zka (hK h_381) o0 6 (fun n_385 => zlet (zsF h_381 (zu (jF h_381) o0 58 (some o_383))) (fun h_387 => zpay (1, 8) (zg (zfree h_387) (zlet (hN h_387) (fun o_392 => zlet (znA h_387 64 8) (fun h_390 => zka (hK h_390) o0 6 (fun n_394 => zlet (zsF h_390 (zu (jF h_390) o0 59 (some o_392))) (fun h_396 => zpay (1, 8) (zg (zfree h_396) (zlet (hN h_396) (fun o_401 => zlet (znA h_396 64 8) (fun h_399 => zka (hK h_399) o0 6 (fun n_403 => zlet (zsF h_399 (zu (jF h_399) o0 60 (some o_401))) (fun h_405 => zpay (1, 8) (zg (zfree h_405) (zlet (hN h_405) (fun o_410 => zlet (znA h_405 64 8) (fun h_408 => zka (hK h_408) o0 6 (fun n_412 => zlet (zsF h_408 (zu (jF h_408) o0 61 (some o_410))) (fun h_414 => zpay (1, 3) (zg (zfree h_414) (zlet (hN h_414) (fun o_419 => zlet (znA h_414 64 3) (fun h_417 => zka (hK h_417) o0 6 (fun n_421 => zlet (zsF h_417 (zu (jF h_417) o0 62 (some o_419))) (fun h_423 => zka (hK h_423) o0 6 (fun n_425 => zb1 ((jF h_423) o0 2) (fun o_427 => zka (hK h_423) o_427 64 (fun n_429 => zg (zin 4 n_429) (zg (decide (600 ≤ o_427)) (zlet (zsI h_423 (zu (hI h_423) o_427 4 2)) (fun h_433 => zka (hK h_433) o0 6 (fun n_435 => zb1 ((jF h_433) o0 2) (fun o_437 => zka (hK h_433) o_437 64 (fun n_439 => zg (zin 5 n_439) (zg (decide (600 ≤ o_437)) (zlet (zsI h_433 (zu (hI h_433) o_437 5 3)) (fun h_443 => zka (hK h_443) o0 6 (fun n_445 => zb1 ((jF h_443) o0 2) (fun o_447 => zka (hK h_443) o_447 64 (fun n_449 => zg (zin 6 n_449) (zg (decide (600 ≤ o_447)) (zlet (zsI h_443 (zu (hI h_443) o_447 6 20)) (fun h_453 => some ((0, 0), h_453)))))))))))))))))))))))))))))))))))))))))))))))))))))))))))))))))))))))))))))))))))))))))))))))))))))))))))))))))))))))))))))))))))))))))))))))))))))))))))))))))))))))))))))))))))))))))))))))))))))))))))))))))))))))))))))))))))))))))))))))))))))))))))))))))))))))))))))))))))))))))))))))))))))))))
set_option maxHeartbeats 1000000 in
set_option maxRecDepth 8000 in
theorem C_X7_init {l : Launch} {G : zGt} (htr : l.stackTraces = false) {o0 : Nat} {h : zSt} {cc : Nat × Nat} {r : zSt} (hF : F_X7_init o0 h = some (cc, r)) : zMet l G yX7_init (ws_ yX7_init cX7_init 1 none) 1 24 (cc.1 + 0) (cc.2 + 0) [.ref o0] (hK h) (jF h) (hI h) (hL h) (zQe (.inl none) (hK r) (jF r) (hI r) (hL r)) := by
  refine zMet.of (by decide +kernel) htr (Nat.le_of_ble_eq_true rfl) ?_
  change zW l G MX7_init 1 24 (cc.1 + 0) (cc.2 + 0) 0 [(0, .ref o0)] [] (hK h) (jF h) (hI h) (hL h) (zQe (.inl none) (hK r) (jF r) (hI r) (hL r))
  unfold F_X7_init at hF
  refine z_aload_n (n := 1) dX7_init_0 rfl 0 rfl rfl ?_
  refine z_objInit (n := 4) dX7_init_1 rfl q1667 q151 q152 (by decide) (Nat.le_of_ble_eq_true rfl) ?_
  refine z_aload_n (n := 5) dX7_init_4 rfl 0 rfl rfl ?_
  refine z_bipush (n := 7) (v := 7) dX7_init_5 rfl (by decide) ?_
  obtain ⟨cc, hF, hcc⟩ := zpay_some hF
  refine z_payE hcc ?_
  obtain ⟨hn_1, hF⟩ := zg_some hF
  obtain ⟨o_4, e_5, hF⟩ := zlet_ob hF
  obtain ⟨h_2, e_3, hF⟩ := zlet_ob hF
  refine z_anewT (t := 5) (n := 10) dX7_init_7 rfl (Or.inr ⟨rfl, rfl⟩) q1668 (by decide) (by decide) hn_1 e_5 e_3 ?_
  refine z_dup (n := 11) dX7_init_10 rfl rfl ?_
  refine z_iconst (n := 12) (v := 0) dX7_init_11 rfl (by decide) ?_
  obtain ⟨n_7, hk_6, hF⟩ := zka_some hF
  refine z_ldcS (n := 14) (j := 86) dX7_init_12 rfl zlit_X7_11 (by decide) (znn hk_6) ?_
  obtain ⟨n_8, hk_9, hF⟩ := zka_some hF
  obtain ⟨h_10, hF⟩ := zg_some hF
  obtain ⟨hb_11, hF⟩ := zg_some hF
  obtain ⟨h_12, e_13, hF⟩ := zlet_ob hF
  refine z_aastK (n := 15) 0 (by decide) dX7_init_14 rfl (Or.inr ⟨rfl, rfl⟩) hk_9 (zbig hb_11) hk_6 rfl (Or.inr rfl) (zin_ok h_10) ?_
  refine z_toF e_13 ?_
  refine z_dup (n := 16) dX7_init_15 rfl rfl ?_
  refine z_iconst (n := 17) (v := 1) dX7_init_16 rfl (by decide) ?_
  obtain ⟨n_15, hk_14, hF⟩ := zka_some hF
  refine z_ldcS (n := 19) (j := 88) dX7_init_17 rfl zlit_X7_13 (by decide) (znn hk_14) ?_
  obtain ⟨n_16, hk_17, hF⟩ := zka_some hF
  obtain ⟨h_18, hF⟩ := zg_some hF
  obtain ⟨h_19, e_20, hF⟩ := zlet_ob hF
  refine z_aastK (n := 20) 1 (by decide) dX7_init_19 rfl (Or.inr ⟨rfl, rfl⟩) hk_17 (zbig hb_11) hk_14 rfl (Or.inr rfl) (zin_ok h_18) ?_
  refine z_toF e_20 ?_
  refine z_dup (n := 21) dX7_init_20 rfl rfl ?_
  refine z_iconst (n := 22) (v := 2) dX7_init_21 rfl (by decide) ?_
  obtain ⟨n_22, hk_21, hF⟩ := zka_some hF
  refine z_ldcS (n := 24) (j := 90) dX7_init_22 rfl zlit_X7_15 (by decide) (znn hk_21) ?_
  obtain ⟨n_23, hk_24, hF⟩ := zka_some hF
  obtain ⟨h_25, hF⟩ := zg_some hF
  obtain ⟨h_26, e_27, hF⟩ := zlet_ob hF
  refine z_aastK (n := 25) 2 (by decide) dX7_init_24 rfl (Or.inr ⟨rfl, rfl⟩) hk_24 (zbig hb_11) hk_21 rfl (Or.inr rfl) (zin_ok h_25) ?_
  refine z_toF e_27 ?_
  refine z_dup (n := 26) dX7_init_25 rfl rfl ?_
  refine z_iconst (n := 27) (v := 3) dX7_init_26 rfl (by decide) ?_
  obtain ⟨n_29, hk_28, hF⟩ := zka_some hF
  refine z_ldcS (n := 29) (j := 92) dX7_init_27 rfl zlit_X7_17 (by decide) (znn hk_28) ?_
  obtain ⟨n_30, hk_31, hF⟩ := zka_some hF
  obtain ⟨h_32, hF⟩ := zg_some hF
  obtain ⟨h_33, e_34, hF⟩ := zlet_ob hF
  refine z_aastK (n := 30) 3 (by decide) dX7_init_29 rfl (Or.inr ⟨rfl, rfl⟩) hk_31 (zbig hb_11) hk_28 rfl (Or.inr rfl) (zin_ok h_32) ?_
  refine z_toF e_34 ?_
  refine z_dup (n := 31) dX7_init_30 rfl rfl ?_
  refine z_iconst (n := 32) (v := 4) dX7_init_31 rfl (by decide) ?_
  obtain ⟨n_36, hk_35, hF⟩ := zka_some hF
  refine z_ldcS (n := 34) (j := 94) dX7_init_32 rfl zlit_X7_19 (by decide) (znn hk_35) ?_
  obtain ⟨n_37, hk_38, hF⟩ := zka_some hF
  obtain ⟨h_39, hF⟩ := zg_some hF
  obtain ⟨h_40, e_41, hF⟩ := zlet_ob hF
  refine z_aastK (n := 35) 4 (by decide) dX7_init_34 rfl (Or.inr ⟨rfl, rfl⟩) hk_38 (zbig hb_11) hk_35 rfl (Or.inr rfl) (zin_ok h_39) ?_
  refine z_toF e_41 ?_
  refine z_dup (n := 36) dX7_init_35 rfl rfl ?_
  refine z_iconst (n := 37) (v := 5) dX7_init_36 rfl (by decide) ?_
  obtain ⟨n_43, hk_42, hF⟩ := zka_some hF
  refine z_ldcS (n := 39) (j := 96) dX7_init_37 rfl zlit_X7_21 (by decide) (znn hk_42) ?_
  obtain ⟨n_44, hk_45, hF⟩ := zka_some hF
  obtain ⟨h_46, hF⟩ := zg_some hF
  obtain ⟨h_47, e_48, hF⟩ := zlet_ob hF
  refine z_aastK (n := 40) 5 (by decide) dX7_init_39 rfl (Or.inr ⟨rfl, rfl⟩) hk_45 (zbig hb_11) hk_42 rfl (Or.inr rfl) (zin_ok h_46) ?_
  refine z_toF e_48 ?_
  refine z_dup (n := 41) dX7_init_40 rfl rfl ?_
  refine z_bipush (n := 43) (v := 6) dX7_init_41 rfl (by decide) ?_
  obtain ⟨n_50, hk_49, hF⟩ := zka_some hF
  refine z_ldcS (n := 45) (j := 98) dX7_init_43 rfl zlit_X7_23 (by decide) (znn hk_49) ?_
  obtain ⟨n_51, hk_52, hF⟩ := zka_some hF
  obtain ⟨h_53, hF⟩ := zg_some hF
  obtain ⟨h_54, e_55, hF⟩ := zlet_ob hF
  refine z_aastK (n := 46) 6 (by decide) dX7_init_45 rfl (Or.inr ⟨rfl, rfl⟩) hk_52 (zbig hb_11) hk_49 rfl (Or.inr rfl) (zin_ok h_53) ?_
  refine z_toF e_55 ?_
  obtain ⟨n_56, hk_57, hF⟩ := zka_some hF
  obtain ⟨hb_58, hF⟩ := zg_some hF
  obtain ⟨h_59, e_60, hF⟩ := zlet_ob hF
  refine z_putR (r := (some o_4)) (n := 49) dX7_init_46 rfl zok6 fX7_25_6 (Or.inr ⟨rfl, _, rfl, rfl, rfl⟩) rfl hk_57 (zbig hb_58) ?_
  refine z_toF e_60 ?_
  refine z_aload_n (n := 50) dX7_init_49 rfl 0 rfl rfl ?_
  refine z_bipush (n := 52) (v := 16) dX7_init_50 rfl (by decide) ?_
  obtain ⟨cc, hF, hcc⟩ := zpay_some hF
  refine z_payE hcc ?_
  obtain ⟨hn_61, hF⟩ := zg_some hF
  obtain ⟨o_64, e_65, hF⟩ := zlet_ob hF
  obtain ⟨h_62, e_63, hF⟩ := zlet_ob hF
  refine z_newaT (t := 0) (n := 54) .int dX7_init_52 rfl rfl (by decide) q521 (by decide) (by decide) (by decide) hn_61 e_65 e_63 ?_
  obtain ⟨n_66, hk_67, hF⟩ := zka_some hF
  obtain ⟨h_68, e_69, hF⟩ := zlet_ob hF
  refine z_putR (r := (some o_64)) (n := 57) dX7_init_54 rfl zok6 fX7_29_6 (Or.inr ⟨rfl, _, rfl, rfl, rfl⟩) rfl hk_67 (zbig hb_58) ?_
  refine z_toF e_69 ?_
  refine z_aload_n (n := 58) dX7_init_57 rfl 0 rfl rfl ?_
  refine z_bipush (n := 60) (v := 16) dX7_init_58 rfl (by decide) ?_
  obtain ⟨cc, hF, hcc⟩ := zpay_some hF
  refine z_payE hcc ?_
  obtain ⟨hn_70, hF⟩ := zg_some hF
  obtain ⟨o_73, e_74, hF⟩ := zlet_ob hF
  obtain ⟨h_71, e_72, hF⟩ := zlet_ob hF
  refine z_newaT (t := 0) (n := 62) .int dX7_init_60 rfl rfl (by decide) q521 (by decide) (by decide) (by decide) hn_70 e_74 e_72 ?_
  obtain ⟨n_75, hk_76, hF⟩ := zka_some hF
  obtain ⟨h_77, e_78, hF⟩ := zlet_ob hF
  refine z_putR (r := (some o_73)) (n := 65) dX7_init_62 rfl zok6 fX7_33_6 (Or.inr ⟨rfl, _, rfl, rfl, rfl⟩) rfl hk_76 (zbig hb_58) ?_
  refine z_toF e_78 ?_
  refine z_aload_n (n := 66) dX7_init_65 rfl 0 rfl rfl ?_
  refine z_bipush (n := 68) (v := 16) dX7_init_66 rfl (by decide) ?_
  obtain ⟨cc, hF, hcc⟩ := zpay_some hF
  refine z_payE hcc ?_
  obtain ⟨hn_79, hF⟩ := zg_some hF
  obtain ⟨o_82, e_83, hF⟩ := zlet_ob hF
  obtain ⟨h_80, e_81, hF⟩ := zlet_ob hF
  refine z_newaT (t := 0) (n := 70) .int dX7_init_68 rfl rfl (by decide) q521 (by decide) (by decide) (by decide) hn_79 e_83 e_81 ?_
  obtain ⟨n_84, hk_85, hF⟩ := zka_some hF
  obtain ⟨h_86, e_87, hF⟩ := zlet_ob hF
  refine z_putR (r := (some o_82)) (n := 73) dX7_init_70 rfl zok6 fX7_36_6 (Or.inr ⟨rfl, _, rfl, rfl, rfl⟩) rfl hk_85 (zbig hb_58) ?_
  refine z_toF e_87 ?_
  refine z_aload_n (n := 74) dX7_init_73 rfl 0 rfl rfl ?_
  refine z_bipush (n := 76) (v := 16) dX7_init_74 rfl (by decide) ?_
  obtain ⟨cc, hF, hcc⟩ := zpay_some hF
  refine z_payE hcc ?_
  obtain ⟨hn_88, hF⟩ := zg_some hF
  obtain ⟨o_91, e_92, hF⟩ := zlet_ob hF
  obtain ⟨h_89, e_90, hF⟩ := zlet_ob hF
  refine z_newaT (t := 0) (n := 78) .int dX7_init_76 rfl rfl (by decide) q521 (by decide) (by decide) (by decide) hn_88 e_92 e_90 ?_
  obtain ⟨n_93, hk_94, hF⟩ := zka_some hF
  obtain ⟨h_95, e_96, hF⟩ := zlet_ob hF
  refine z_putR (r := (some o_91)) (n := 81) dX7_init_78 rfl zok6 fX7_39_6 (Or.inr ⟨rfl, _, rfl, rfl, rfl⟩) rfl hk_94 (zbig hb_58) ?_
  refine z_toF e_96 ?_
  refine z_aload_n (n := 82) dX7_init_81 rfl 0 rfl rfl ?_
  refine z_bipush (n := 84) (v := 16) dX7_init_82 rfl (by decide) ?_
  obtain ⟨cc, hF, hcc⟩ := zpay_some hF
  refine z_payE hcc ?_
  obtain ⟨hn_97, hF⟩ := zg_some hF
  obtain ⟨o_100, e_101, hF⟩ := zlet_ob hF
  obtain ⟨h_98, e_99, hF⟩ := zlet_ob hF
  refine z_newaT (t := 0) (n := 86) .int dX7_init_84 rfl rfl (by decide) q521 (by decide) (by decide) (by decide) hn_97 e_101 e_99 ?_
  obtain ⟨n_102, hk_103, hF⟩ := zka_some hF
  obtain ⟨h_104, e_105, hF⟩ := zlet_ob hF
  refine z_putR (r := (some o_100)) (n := 89) dX7_init_86 rfl zok6 fX7_42_6 (Or.inr ⟨rfl, _, rfl, rfl, rfl⟩) rfl hk_103 (zbig hb_58) ?_
  refine z_toF e_105 ?_
  refine z_aload_n (n := 90) dX7_init_89 rfl 0 rfl rfl ?_
  refine z_sipush (n := 93) (v := 128) dX7_init_90 rfl (by decide) ?_
  obtain ⟨cc, hF, hcc⟩ := zpay_some hF
  refine z_payE hcc ?_
  obtain ⟨hn_106, hF⟩ := zg_some hF
  obtain ⟨o_109, e_110, hF⟩ := zlet_ob hF
  obtain ⟨h_107, e_108, hF⟩ := zlet_ob hF
  refine z_newaT (t := 0) (n := 95) .int dX7_init_93 rfl rfl (by decide) q521 (by decide) (by decide) (by decide) hn_106 e_110 e_108 ?_
  obtain ⟨n_111, hk_112, hF⟩ := zka_some hF
  obtain ⟨h_113, e_114, hF⟩ := zlet_ob hF
  refine z_putR (r := (some o_109)) (n := 98) dX7_init_95 rfl zok6 fX7_45_6 (Or.inr ⟨rfl, _, rfl, rfl, rfl⟩) rfl hk_112 (zbig hb_58) ?_
  refine z_toF e_114 ?_
  refine z_aload_n (n := 99) dX7_init_98 rfl 0 rfl rfl ?_
  refine z_bipush (n := 101) (v := 12) dX7_init_99 rfl (by decide) ?_
  obtain ⟨cc, hF, hcc⟩ := zpay_some hF
  refine z_payE hcc ?_
  obtain ⟨hn_115, hF⟩ := zg_some hF
  obtain ⟨o_118, e_119, hF⟩ := zlet_ob hF
  obtain ⟨h_116, e_117, hF⟩ := zlet_ob hF
  refine z_newaT (t := 0) (n := 103) .int dX7_init_101 rfl rfl (by decide) q521 (by decide) (by decide) (by decide) hn_115 e_119 e_117 ?_
  obtain ⟨n_120, hk_121, hF⟩ := zka_some hF
  obtain ⟨h_122, e_123, hF⟩ := zlet_ob hF
  refine z_putR (r := (some o_118)) (n := 106) dX7_init_103 rfl zok6 fX7_48_6 (Or.inr ⟨rfl, _, rfl, rfl, rfl⟩) rfl hk_121 (zbig hb_58) ?_
  refine z_toF e_123 ?_
  refine z_aload_n (n := 107) dX7_init_106 rfl 0 rfl rfl ?_
  refine z_bipush (n := 109) (v := 12) dX7_init_107 rfl (by decide) ?_
  obtain ⟨cc, hF, hcc⟩ := zpay_some hF
  refine z_payE hcc ?_
  obtain ⟨hn_124, hF⟩ := zg_some hF
  obtain ⟨o_127, e_128, hF⟩ := zlet_ob hF
  obtain ⟨h_125, e_126, hF⟩ := zlet_ob hF
  refine z_newaT (t := 0) (n := 111) .int dX7_init_109 rfl rfl (by decide) q521 (by decide) (by decide) (by decide) hn_124 e_128 e_126 ?_
  obtain ⟨n_129, hk_130, hF⟩ := zka_some hF
  obtain ⟨h_131, e_132, hF⟩ := zlet_ob hF
  refine z_putR (r := (some o_127)) (n := 114) dX7_init_111 rfl zok6 fX7_50_6 (Or.inr ⟨rfl, _, rfl, rfl, rfl⟩) rfl hk_130 (zbig hb_58) ?_
  refine z_toF e_132 ?_
  refine z_aload_n (n := 115) dX7_init_114 rfl 0 rfl rfl ?_
  refine z_bipush (n := 117) (v := 12) dX7_init_115 rfl (by decide) ?_
  obtain ⟨cc, hF, hcc⟩ := zpay_some hF
  refine z_payE hcc ?_
  obtain ⟨hn_133, hF⟩ := zg_some hF
  obtain ⟨o_136, e_137, hF⟩ := zlet_ob hF
  obtain ⟨h_134, e_135, hF⟩ := zlet_ob hF
  refine z_newaT (t := 0) (n := 119) .int dX7_init_117 rfl rfl (by decide) q521 (by decide) (by decide) (by decide) hn_133 e_137 e_135 ?_
  obtain ⟨n_138, hk_139, hF⟩ := zka_some hF
  obtain ⟨h_140, e_141, hF⟩ := zlet_ob hF
  refine z_putR (r := (some o_136)) (n := 122) dX7_init_119 rfl zok6 fX7_53_6 (Or.inr ⟨rfl, _, rfl, rfl, rfl⟩) rfl hk_139 (zbig hb_58) ?_
  refine z_toF e_141 ?_
  refine z_aload_n (n := 123) dX7_init_122 rfl 0 rfl rfl ?_
  refine z_bipush (n := 125) (v := 6) dX7_init_123 rfl (by decide) ?_
  obtain ⟨cc, hF, hcc⟩ := zpay_some hF
  refine z_payE hcc ?_
  obtain ⟨hn_142, hF⟩ := zg_some hF
  obtain ⟨o_145, e_146, hF⟩ := zlet_ob hF
  obtain ⟨h_143, e_144, hF⟩ := zlet_ob hF
  refine z_newaT (t := 0) (n := 127) .int dX7_init_125 rfl rfl (by decide) q521 (by decide) (by decide) (by decide) hn_142 e_146 e_144 ?_
  obtain ⟨n_147, hk_148, hF⟩ := zka_some hF
  obtain ⟨h_149, e_150, hF⟩ := zlet_ob hF
  refine z_putR (r := (some o_145)) (n := 130) dX7_init_127 rfl zok6 fX7_56_6 (Or.inr ⟨rfl, _, rfl, rfl, rfl⟩) rfl hk_148 (zbig hb_58) ?_
  refine z_toF e_150 ?_
  refine z_aload_n (n := 131) dX7_init_130 rfl 0 rfl rfl ?_
  refine z_sipush (n := 134) (v := 1400) dX7_init_131 rfl (by decide) ?_
  obtain ⟨cc, hF, hcc⟩ := zpay_some hF
  refine z_payE hcc ?_
  obtain ⟨hn_151, hF⟩ := zg_some hF
  obtain ⟨o_154, e_155, hF⟩ := zlet_ob hF
  obtain ⟨h_152, e_153, hF⟩ := zlet_ob hF
  refine z_newaT (t := 0) (n := 136) .int dX7_init_134 rfl rfl (by decide) q521 (by decide) (by decide) (by decide) hn_151 e_155 e_153 ?_
  obtain ⟨n_156, hk_157, hF⟩ := zka_some hF
  obtain ⟨h_158, e_159, hF⟩ := zlet_ob hF
  refine z_putR (r := (some o_154)) (n := 139) dX7_init_136 rfl zok6 fX7_59_6 (Or.inr ⟨rfl, _, rfl, rfl, rfl⟩) rfl hk_157 (zbig hb_58) ?_
  refine z_toF e_159 ?_
  refine z_aload_n (n := 140) dX7_init_139 rfl 0 rfl rfl ?_
  refine z_iconst (n := 141) (v := 3) dX7_init_140 rfl (by decide) ?_
  obtain ⟨cc, hF, hcc⟩ := zpay_some hF
  refine z_payE hcc ?_
  obtain ⟨hn_160, hF⟩ := zg_some hF
  obtain ⟨o_163, e_164, hF⟩ := zlet_ob hF
  obtain ⟨h_161, e_162, hF⟩ := zlet_ob hF
  refine z_newaT (t := 0) (n := 143) .int dX7_init_141 rfl rfl (by decide) q521 (by decide) (by decide) (by decide) hn_160 e_164 e_162 ?_
  obtain ⟨n_165, hk_166, hF⟩ := zka_some hF
  obtain ⟨h_167, e_168, hF⟩ := zlet_ob hF
  refine z_putR (r := (some o_163)) (n := 146) dX7_init_143 rfl zok6 fX7_62_6 (Or.inr ⟨rfl, _, rfl, rfl, rfl⟩) rfl hk_166 (zbig hb_58) ?_
  refine z_toF e_168 ?_
  refine z_aload_n (n := 147) dX7_init_146 rfl 0 rfl rfl ?_
  refine z_sipush (n := 150) (v := 700) dX7_init_147 rfl (by decide) ?_
  obtain ⟨cc, hF, hcc⟩ := zpay_some hF
  refine z_payE hcc ?_
  obtain ⟨hn_169, hF⟩ := zg_some hF
  obtain ⟨o_172, e_173, hF⟩ := zlet_ob hF
  obtain ⟨h_170, e_171, hF⟩ := zlet_ob hF
  refine z_newaT (t := 0) (n := 152) .int dX7_init_150 rfl rfl (by decide) q521 (by decide) (by decide) (by decide) hn_169 e_173 e_171 ?_
  obtain ⟨n_174, hk_175, hF⟩ := zka_some hF
  obtain ⟨h_176, e_177, hF⟩ := zlet_ob hF
  refine z_putR (r := (some o_172)) (n := 155) dX7_init_152 rfl zok6 fX7_65_6 (Or.inr ⟨rfl, _, rfl, rfl, rfl⟩) rfl hk_175 (zbig hb_58) ?_
  refine z_toF e_177 ?_
  refine z_aload_n (n := 156) dX7_init_155 rfl 0 rfl rfl ?_
  refine z_iconst (n := 157) (v := (-1)) dX7_init_156 rfl (by decide) ?_
  obtain ⟨n_178, hk_179, hF⟩ := zka_some hF
  obtain ⟨h_180, e_181, hF⟩ := zlet_ob hF
  refine z_putIE (n := 160) dX7_init_157 rfl zok6 fX7_68_6 (Or.inl ⟨_, rfl, rfl⟩) rfl ⟨rfl, rfl⟩ hk_179 (zbig hb_58) rfl ?_
  refine z_toI e_181 ?_
  refine z_aload_n (n := 161) dX7_init_160 rfl 0 rfl rfl ?_
  refine z_bipush (n := 163) (v := 8) dX7_init_161 rfl (by decide) ?_
  obtain ⟨cc, hF, hcc⟩ := zpay_some hF
  refine z_payE hcc ?_
  obtain ⟨hn_182, hF⟩ := zg_some hF
  obtain ⟨o_185, e_186, hF⟩ := zlet_ob hF
  obtain ⟨h_183, e_184, hF⟩ := zlet_ob hF
  refine z_newaT (t := 0) (n := 165) .int dX7_init_163 rfl rfl (by decide) q521 (by decide) (by decide) (by decide) hn_182 e_186 e_184 ?_
  obtain ⟨n_187, hk_188, hF⟩ := zka_some hF
  obtain ⟨h_189, e_190, hF⟩ := zlet_ob hF
  refine z_putR (r := (some o_185)) (n := 168) dX7_init_165 rfl zok6 fX7_72_6 (Or.inr ⟨rfl, _, rfl, rfl, rfl⟩) rfl hk_188 (zbig hb_58) ?_
  refine z_toF e_190 ?_
  refine z_aload_n (n := 169) dX7_init_168 rfl 0 rfl rfl ?_
  refine z_bipush (n := 171) (v := 8) dX7_init_169 rfl (by decide) ?_
  obtain ⟨cc, hF, hcc⟩ := zpay_some hF
  refine z_payE hcc ?_
  obtain ⟨hn_191, hF⟩ := zg_some hF
  obtain ⟨o_194, e_195, hF⟩ := zlet_ob hF
  obtain ⟨h_192, e_193, hF⟩ := zlet_ob hF
  refine z_newaT (t := 0) (n := 173) .int dX7_init_171 rfl rfl (by decide) q521 (by decide) (by decide) (by decide) hn_191 e_195 e_193 ?_
  obtain ⟨n_196, hk_197, hF⟩ := zka_some hF
  obtain ⟨h_198, e_199, hF⟩ := zlet_ob hF
  refine z_putR (r := (some o_194)) (n := 176) dX7_init_173 rfl zok6 fX7_74_6 (Or.inr ⟨rfl, _, rfl, rfl, rfl⟩) rfl hk_197 (zbig hb_58) ?_
  refine z_toF e_199 ?_
  refine z_aload_n (n := 177) dX7_init_176 rfl 0 rfl rfl ?_
  refine z_bipush (n := 179) (v := 8) dX7_init_177 rfl (by decide) ?_
  obtain ⟨cc, hF, hcc⟩ := zpay_some hF
  refine z_payE hcc ?_
  obtain ⟨hn_200, hF⟩ := zg_some hF
  obtain ⟨o_203, e_204, hF⟩ := zlet_ob hF
  obtain ⟨h_201, e_202, hF⟩ := zlet_ob hF
  refine z_newaT (t := 0) (n := 181) .int dX7_init_179 rfl rfl (by decide) q521 (by decide) (by decide) (by decide) hn_200 e_204 e_202 ?_
  obtain ⟨n_205, hk_206, hF⟩ := zka_some hF
  obtain ⟨h_207, e_208, hF⟩ := zlet_ob hF
  refine z_putR (r := (some o_203)) (n := 184) dX7_init_181 rfl zok6 fX7_77_6 (Or.inr ⟨rfl, _, rfl, rfl, rfl⟩) rfl hk_206 (zbig hb_58) ?_
  refine z_toF e_208 ?_
  refine z_aload_n (n := 185) dX7_init_184 rfl 0 rfl rfl ?_
  refine z_bipush (n := 187) (v := 6) dX7_init_185 rfl (by decide) ?_
  obtain ⟨cc, hF, hcc⟩ := zpay_some hF
  refine z_payE hcc ?_
  obtain ⟨hn_209, hF⟩ := zg_some hF
  obtain ⟨o_212, e_213, hF⟩ := zlet_ob hF
  obtain ⟨h_210, e_211, hF⟩ := zlet_ob hF
  refine z_newaT (t := 0) (n := 189) .int dX7_init_187 rfl rfl (by decide) q521 (by decide) (by decide) (by decide) hn_209 e_213 e_211 ?_
  obtain ⟨n_214, hk_215, hF⟩ := zka_some hF
  obtain ⟨h_216, e_217, hF⟩ := zlet_ob hF
  refine z_putR (r := (some o_212)) (n := 192) dX7_init_189 rfl zok6 fX7_80_6 (Or.inr ⟨rfl, _, rfl, rfl, rfl⟩) rfl hk_215 (zbig hb_58) ?_
  refine z_toF e_217 ?_
  refine z_aload_n (n := 193) dX7_init_192 rfl 0 rfl rfl ?_
  refine z_bipush (n := 195) (v := 6) dX7_init_193 rfl (by decide) ?_
  obtain ⟨cc, hF, hcc⟩ := zpay_some hF
  refine z_payE hcc ?_
  obtain ⟨hn_218, hF⟩ := zg_some hF
  obtain ⟨o_221, e_222, hF⟩ := zlet_ob hF
  obtain ⟨h_219, e_220, hF⟩ := zlet_ob hF
  refine z_newaT (t := 0) (n := 197) .int dX7_init_195 rfl rfl (by decide) q521 (by decide) (by decide) (by decide) hn_218 e_222 e_220 ?_
  obtain ⟨n_223, hk_224, hF⟩ := zka_some hF
  obtain ⟨h_225, e_226, hF⟩ := zlet_ob hF
  refine z_putR (r := (some o_221)) (n := 200) dX7_init_197 rfl zok6 fX7_83_6 (Or.inr ⟨rfl, _, rfl, rfl, rfl⟩) rfl hk_224 (zbig hb_58) ?_
  refine z_toF e_226 ?_
  refine z_aload_n (n := 201) dX7_init_200 rfl 0 rfl rfl ?_
  refine z_bipush (n := 203) (v := 6) dX7_init_201 rfl (by decide) ?_
  obtain ⟨cc, hF, hcc⟩ := zpay_some hF
  refine z_payE hcc ?_
  obtain ⟨hn_227, hF⟩ := zg_some hF
  obtain ⟨o_230, e_231, hF⟩ := zlet_ob hF
  obtain ⟨h_228, e_229, hF⟩ := zlet_ob hF
  refine z_newaT (t := 0) (n := 205) .int dX7_init_203 rfl rfl (by decide) q521 (by decide) (by decide) (by decide) hn_227 e_231 e_229 ?_
  obtain ⟨n_232, hk_233, hF⟩ := zka_some hF
  obtain ⟨h_234, e_235, hF⟩ := zlet_ob hF
  refine z_putR (r := (some o_230)) (n := 208) dX7_init_205 rfl zok6 fX7_86_6 (Or.inr ⟨rfl, _, rfl, rfl, rfl⟩) rfl hk_233 (zbig hb_58) ?_
  refine z_toF e_235 ?_
  refine z_aload_n (n := 209) dX7_init_208 rfl 0 rfl rfl ?_
  refine z_bipush (n := 211) (v := 6) dX7_init_209 rfl (by decide) ?_
  obtain ⟨cc, hF, hcc⟩ := zpay_some hF
  refine z_payE hcc ?_
  obtain ⟨hn_236, hF⟩ := zg_some hF
  obtain ⟨o_239, e_240, hF⟩ := zlet_ob hF
  obtain ⟨h_237, e_238, hF⟩ := zlet_ob hF
  refine z_newaT (t := 0) (n := 213) .int dX7_init_211 rfl rfl (by decide) q521 (by decide) (by decide) (by decide) hn_236 e_240 e_238 ?_
  obtain ⟨n_241, hk_242, hF⟩ := zka_some hF
  obtain ⟨h_243, e_244, hF⟩ := zlet_ob hF
  refine z_putR (r := (some o_239)) (n := 216) dX7_init_213 rfl zok6 fX7_88_6 (Or.inr ⟨rfl, _, rfl, rfl, rfl⟩) rfl hk_242 (zbig hb_58) ?_
  refine z_toF e_244 ?_
  refine z_aload_n (n := 217) dX7_init_216 rfl 0 rfl rfl ?_
  refine z_bipush (n := 219) (v := 6) dX7_init_217 rfl (by decide) ?_
  obtain ⟨cc, hF, hcc⟩ := zpay_some hF
  refine z_payE hcc ?_
  obtain ⟨hn_245, hF⟩ := zg_some hF
  obtain ⟨o_248, e_249, hF⟩ := zlet_ob hF
  obtain ⟨h_246, e_247, hF⟩ := zlet_ob hF
  refine z_newaT (t := 0) (n := 221) .int dX7_init_219 rfl rfl (by decide) q521 (by decide) (by decide) (by decide) hn_245 e_249 e_247 ?_
  obtain ⟨n_250, hk_251, hF⟩ := zka_some hF
  obtain ⟨h_252, e_253, hF⟩ := zlet_ob hF
  refine z_putR (r := (some o_248)) (n := 224) dX7_init_221 rfl zok6 fX7_90_6 (Or.inr ⟨rfl, _, rfl, rfl, rfl⟩) rfl hk_251 (zbig hb_58) ?_
  refine z_toF e_253 ?_
  refine z_aload_n (n := 225) dX7_init_224 rfl 0 rfl rfl ?_
  refine z_sipush (n := 228) (v := 2280) dX7_init_225 rfl (by decide) ?_
  obtain ⟨cc, hF, hcc⟩ := zpay_some hF
  refine z_payE hcc ?_
  obtain ⟨hn_254, hF⟩ := zg_some hF
  obtain ⟨o_257, e_258, hF⟩ := zlet_ob hF
  obtain ⟨h_255, e_256, hF⟩ := zlet_ob hF
  refine z_newaT (t := 0) (n := 230) .int dX7_init_228 rfl rfl (by decide) q521 (by decide) (by decide) (by decide) hn_254 e_258 e_256 ?_
  obtain ⟨n_259, hk_260, hF⟩ := zka_some hF
  obtain ⟨h_261, e_262, hF⟩ := zlet_ob hF
  refine z_putR (r := (some o_257)) (n := 233) dX7_init_230 rfl zok6 fX7_93_6 (Or.inr ⟨rfl, _, rfl, rfl, rfl⟩) rfl hk_260 (zbig hb_58) ?_
  refine z_toF e_262 ?_
  refine z_aload_n (n := 234) dX7_init_233 rfl 0 rfl rfl ?_
  refine z_bipush (n := 236) (v := 7) dX7_init_234 rfl (by decide) ?_
  obtain ⟨cc, hF, hcc⟩ := zpay_some hF
  refine z_payE hcc ?_
  obtain ⟨hn_263, hF⟩ := zg_some hF
  obtain ⟨o_266, e_267, hF⟩ := zlet_ob hF
  obtain ⟨h_264, e_265, hF⟩ := zlet_ob hF
  refine z_newaT (t := 0) (n := 238) .int dX7_init_236 rfl rfl (by decide) q521 (by decide) (by decide) (by decide) hn_263 e_267 e_265 ?_
  obtain ⟨n_268, hk_269, hF⟩ := zka_some hF
  obtain ⟨h_270, e_271, hF⟩ := zlet_ob hF
  refine z_putR (r := (some o_266)) (n := 241) dX7_init_238 rfl zok6 fX7_96_6 (Or.inr ⟨rfl, _, rfl, rfl, rfl⟩) rfl hk_269 (zbig hb_58) ?_
  refine z_toF e_271 ?_
  refine z_aload_n (n := 242) dX7_init_241 rfl 0 rfl rfl ?_
  refine z_bipush (n := 244) (v := 64) dX7_init_242 rfl (by decide) ?_
  obtain ⟨cc, hF, hcc⟩ := zpay_some hF
  refine z_payE hcc ?_
  obtain ⟨hn_272, hF⟩ := zg_some hF
  obtain ⟨o_275, e_276, hF⟩ := zlet_ob hF
  obtain ⟨h_273, e_274, hF⟩ := zlet_ob hF
  refine z_newaT (t := 0) (n := 246) .int dX7_init_244 rfl rfl (by decide) q521 (by decide) (by decide) (by decide) hn_272 e_276 e_274 ?_
  obtain ⟨n_277, hk_278, hF⟩ := zka_some hF
  obtain ⟨h_279, e_280, hF⟩ := zlet_ob hF
  refine z_putR (r := (some o_275)) (n := 249) dX7_init_246 rfl zok6 fX7_99_6 (Or.inr ⟨rfl, _, rfl, rfl, rfl⟩) rfl hk_278 (zbig hb_58) ?_
  refine z_toF e_280 ?_
  refine z_aload_n (n := 250) dX7_init_249 rfl 0 rfl rfl ?_
  refine z_bipush (n := 252) (v := 57) dX7_init_250 rfl (by decide) ?_
  obtain ⟨cc, hF, hcc⟩ := zpay_some hF
  refine z_payE hcc ?_
  obtain ⟨hn_281, hF⟩ := zg_some hF
  obtain ⟨o_284, e_285, hF⟩ := zlet_ob hF
  obtain ⟨h_282, e_283, hF⟩ := zlet_ob hF
  refine z_newaT (t := 0) (n := 254) .int dX7_init_252 rfl rfl (by decide) q521 (by decide) (by decide) (by decide) hn_281 e_285 e_283 ?_
  obtain ⟨n_286, hk_287, hF⟩ := zka_some hF
  obtain ⟨h_288, e_289, hF⟩ := zlet_ob hF
  refine z_putR (r := (some o_284)) (n := 257) dX7_init_254 rfl zok6 fX7_102_6 (Or.inr ⟨rfl, _, rfl, rfl, rfl⟩) rfl hk_287 (zbig hb_58) ?_
  refine z_toF e_289 ?_
  refine z_aload_n (n := 258) dX7_init_257 rfl 0 rfl rfl ?_
  refine z_bipush (n := 260) (v := 8) dX7_init_258 rfl (by decide) ?_
  obtain ⟨cc, hF, hcc⟩ := zpay_some hF
  refine z_payE hcc ?_
  obtain ⟨hn_290, hF⟩ := zg_some hF
  obtain ⟨o_293, e_294, hF⟩ := zlet_ob hF
  obtain ⟨h_291, e_292, hF⟩ := zlet_ob hF
  refine z_newaT (t := 0) (n := 262) .int dX7_init_260 rfl rfl (by decide) q521 (by decide) (by decide) (by decide) hn_290 e_294 e_292 ?_
  obtain ⟨n_295, hk_296, hF⟩ := zka_some hF
  obtain ⟨h_297, e_298, hF⟩ := zlet_ob hF
  refine z_putR (r := (some o_293)) (n := 265) dX7_init_262 rfl zok6 fX7_105_6 (Or.inr ⟨rfl, _, rfl, rfl, rfl⟩) rfl hk_296 (zbig hb_58) ?_
  refine z_toF e_298 ?_
  refine z_aload_n (n := 266) dX7_init_265 rfl 0 rfl rfl ?_
  refine z_sipush (n := 269) (v := 2048) dX7_init_266 rfl (by decide) ?_
  obtain ⟨cc, hF, hcc⟩ := zpay_some hF
  refine z_payE hcc ?_
  obtain ⟨hn_299, hF⟩ := zg_some hF
  obtain ⟨o_302, e_303, hF⟩ := zlet_ob hF
  obtain ⟨h_300, e_301, hF⟩ := zlet_ob hF
  refine z_newaT (t := 0) (n := 271) .int dX7_init_269 rfl rfl (by decide) q521 (by decide) (by decide) (by decide) hn_299 e_303 e_301 ?_
  obtain ⟨n_304, hk_305, hF⟩ := zka_some hF
  obtain ⟨h_306, e_307, hF⟩ := zlet_ob hF
  refine z_putR (r := (some o_302)) (n := 274) dX7_init_271 rfl zok6 fX7_108_6 (Or.inr ⟨rfl, _, rfl, rfl, rfl⟩) rfl hk_305 (zbig hb_58) ?_
  refine z_toF e_307 ?_
  refine z_aload_n (n := 275) dX7_init_274 rfl 0 rfl rfl ?_
  refine z_bipush (n := 277) (v := 64) dX7_init_275 rfl (by decide) ?_
  obtain ⟨cc, hF, hcc⟩ := zpay_some hF
  refine z_payE hcc ?_
  obtain ⟨hn_308, hF⟩ := zg_some hF
  obtain ⟨o_311, e_312, hF⟩ := zlet_ob hF
  obtain ⟨h_309, e_310, hF⟩ := zlet_ob hF
  refine z_newaT (t := 0) (n := 279) .int dX7_init_277 rfl rfl (by decide) q521 (by decide) (by decide) (by decide) hn_308 e_312 e_310 ?_
  obtain ⟨n_313, hk_314, hF⟩ := zka_some hF
  obtain ⟨h_315, e_316, hF⟩ := zlet_ob hF
  refine z_putR (r := (some o_311)) (n := 282) dX7_init_279 rfl zok6 fX7_111_6 (Or.inr ⟨rfl, _, rfl, rfl, rfl⟩) rfl hk_314 (zbig hb_58) ?_
  refine z_toF e_316 ?_
  refine z_aload_n (n := 283) dX7_init_282 rfl 0 rfl rfl ?_
  refine z_bipush (n := 285) (v := 8) dX7_init_283 rfl (by decide) ?_
  obtain ⟨cc, hF, hcc⟩ := zpay_some hF
  refine z_payE hcc ?_
  obtain ⟨hn_317, hF⟩ := zg_some hF
  obtain ⟨o_320, e_321, hF⟩ := zlet_ob hF
  obtain ⟨h_318, e_319, hF⟩ := zlet_ob hF
  refine z_newaT (t := 0) (n := 287) .int dX7_init_285 rfl rfl (by decide) q521 (by decide) (by decide) (by decide) hn_317 e_321 e_319 ?_
  obtain ⟨n_322, hk_323, hF⟩ := zka_some hF
  obtain ⟨h_324, e_325, hF⟩ := zlet_ob hF
  refine z_putR (r := (some o_320)) (n := 290) dX7_init_287 rfl zok6 fX7_114_6 (Or.inr ⟨rfl, _, rfl, rfl, rfl⟩) rfl hk_323 (zbig hb_58) ?_
  refine z_toF e_325 ?_
  refine z_aload_n (n := 291) dX7_init_290 rfl 0 rfl rfl ?_
  refine z_bipush (n := 293) (v := 8) dX7_init_291 rfl (by decide) ?_
  obtain ⟨cc, hF, hcc⟩ := zpay_some hF
  refine z_payE hcc ?_
  obtain ⟨hn_326, hF⟩ := zg_some hF
  obtain ⟨o_329, e_330, hF⟩ := zlet_ob hF
  obtain ⟨h_327, e_328, hF⟩ := zlet_ob hF
  refine z_newaT (t := 0) (n := 295) .int dX7_init_293 rfl rfl (by decide) q521 (by decide) (by decide) (by decide) hn_326 e_330 e_328 ?_
  obtain ⟨n_331, hk_332, hF⟩ := zka_some hF
  obtain ⟨h_333, e_334, hF⟩ := zlet_ob hF
  refine z_putR (r := (some o_329)) (n := 298) dX7_init_295 rfl zok6 fX7_117_6 (Or.inr ⟨rfl, _, rfl, rfl, rfl⟩) rfl hk_332 (zbig hb_58) ?_
  refine z_toF e_334 ?_
  refine z_aload_n (n := 299) dX7_init_298 rfl 0 rfl rfl ?_
  refine z_bipush (n := 301) (v := 8) dX7_init_299 rfl (by decide) ?_
  obtain ⟨cc, hF, hcc⟩ := zpay_some hF
  refine z_payE hcc ?_
  obtain ⟨hn_335, hF⟩ := zg_some hF
  obtain ⟨o_338, e_339, hF⟩ := zlet_ob hF
  obtain ⟨h_336, e_337, hF⟩ := zlet_ob hF
  refine z_newaT (t := 0) (n := 303) .int dX7_init_301 rfl rfl (by decide) q521 (by decide) (by decide) (by decide) hn_335 e_339 e_337 ?_
  obtain ⟨n_340, hk_341, hF⟩ := zka_some hF
  obtain ⟨h_342, e_343, hF⟩ := zlet_ob hF
  refine z_putR (r := (some o_338)) (n := 306) dX7_init_303 rfl zok6 fX7_120_6 (Or.inr ⟨rfl, _, rfl, rfl, rfl⟩) rfl hk_341 (zbig hb_58) ?_
  refine z_toF e_343 ?_
  refine z_aload_n (n := 307) dX7_init_306 rfl 0 rfl rfl ?_
  refine z_bipush (n := 309) (v := 57) dX7_init_307 rfl (by decide) ?_
  obtain ⟨cc, hF, hcc⟩ := zpay_some hF
  refine z_payE hcc ?_
  obtain ⟨hn_344, hF⟩ := zg_some hF
  obtain ⟨o_347, e_348, hF⟩ := zlet_ob hF
  obtain ⟨h_345, e_346, hF⟩ := zlet_ob hF
  refine z_newaT (t := 0) (n := 311) .int dX7_init_309 rfl rfl (by decide) q521 (by decide) (by decide) (by decide) hn_344 e_348 e_346 ?_
  obtain ⟨n_349, hk_350, hF⟩ := zka_some hF
  obtain ⟨h_351, e_352, hF⟩ := zlet_ob hF
  refine z_putR (r := (some o_347)) (n := 314) dX7_init_311 rfl zok6 fX7_123_6 (Or.inr ⟨rfl, _, rfl, rfl, rfl⟩) rfl hk_350 (zbig hb_58) ?_
  refine z_toF e_352 ?_
  refine z_aload_n (n := 315) dX7_init_314 rfl 0 rfl rfl ?_
  refine z_sipush (n := 318) (v := 180) dX7_init_315 rfl (by decide) ?_
  obtain ⟨cc, hF, hcc⟩ := zpay_some hF
  refine z_payE hcc ?_
  obtain ⟨hn_353, hF⟩ := zg_some hF
  obtain ⟨o_356, e_357, hF⟩ := zlet_ob hF
  obtain ⟨h_354, e_355, hF⟩ := zlet_ob hF
  refine z_newaT (t := 0) (n := 320) .int dX7_init_318 rfl rfl (by decide) q521 (by decide) (by decide) (by decide) hn_353 e_357 e_355 ?_
  obtain ⟨n_358, hk_359, hF⟩ := zka_some hF
  obtain ⟨h_360, e_361, hF⟩ := zlet_ob hF
  refine z_putR (r := (some o_356)) (n := 323) dX7_init_320 rfl zok6 fX7_126_6 (Or.inr ⟨rfl, _, rfl, rfl, rfl⟩) rfl hk_359 (zbig hb_58) ?_
  refine z_toF e_361 ?_
  refine z_aload_n (n := 324) dX7_init_323 rfl 0 rfl rfl ?_
  refine z_sipush (n := 327) (v := 1080) dX7_init_324 rfl (by decide) ?_
  obtain ⟨cc, hF, hcc⟩ := zpay_some hF
  refine z_payE hcc ?_
  obtain ⟨hn_362, hF⟩ := zg_some hF
  obtain ⟨o_365, e_366, hF⟩ := zlet_ob hF
  obtain ⟨h_363, e_364, hF⟩ := zlet_ob hF
  refine z_newaT (t := 0) (n := 329) .int dX7_init_327 rfl rfl (by decide) q521 (by decide) (by decide) (by decide) hn_362 e_366 e_364 ?_
  obtain ⟨n_367, hk_368, hF⟩ := zka_some hF
  obtain ⟨h_369, e_370, hF⟩ := zlet_ob hF
  refine z_putR (r := (some o_365)) (n := 332) dX7_init_329 rfl zok6 fX7_129_6 (Or.inr ⟨rfl, _, rfl, rfl, rfl⟩) rfl hk_368 (zbig hb_58) ?_
  refine z_toF e_370 ?_
  refine z_aload_n (n := 333) dX7_init_332 rfl 0 rfl rfl ?_
  refine z_bipush (n := 335) (v := 57) dX7_init_333 rfl (by decide) ?_
  obtain ⟨cc, hF, hcc⟩ := zpay_some hF
  refine z_payE hcc ?_
  obtain ⟨hn_371, hF⟩ := zg_some hF
  obtain ⟨o_374, e_375, hF⟩ := zlet_ob hF
  obtain ⟨h_372, e_373, hF⟩ := zlet_ob hF
  refine z_newaT (t := 0) (n := 337) .int dX7_init_335 rfl rfl (by decide) q521 (by decide) (by decide) (by decide) hn_371 e_375 e_373 ?_
  obtain ⟨n_376, hk_377, hF⟩ := zka_some hF
  obtain ⟨h_378, e_379, hF⟩ := zlet_ob hF
  refine z_putR (r := (some o_374)) (n := 340) dX7_init_337 rfl zok6 fX7_132_6 (Or.inr ⟨rfl, _, rfl, rfl, rfl⟩) rfl hk_377 (zbig hb_58) ?_
  refine z_toF e_379 ?_
  refine z_aload_n (n := 341) dX7_init_340 rfl 0 rfl rfl ?_
  refine z_sipush (n := 344) (v := 2280) dX7_init_341 rfl (by decide) ?_
  obtain ⟨cc, hF, hcc⟩ := zpay_some hF
  refine z_payE hcc ?_
  obtain ⟨hn_380, hF⟩ := zg_some hF
  obtain ⟨o_383, e_384, hF⟩ := zlet_ob hF
  obtain ⟨h_381, e_382, hF⟩ := zlet_ob hF
  refine z_newaT (t := 0) (n := 346) .int dX7_init_344 rfl rfl (by decide) q521 (by decide) (by decide) (by decide) hn_380 e_384 e_382 ?_
  obtain ⟨n_385, hk_386, hF⟩ := zka_some hF
  obtain ⟨h_387, e_388, hF⟩ := zlet_ob hF
  refine z_putR (r := (some o_383)) (n := 349) dX7_init_346 rfl zok6 fX7_135_6 (Or.inr ⟨rfl, _, rfl, rfl, rfl⟩) rfl hk_386 (zbig hb_58) ?_
  refine z_toF e_388 ?_
  refine z_aload_n (n := 350) dX7_init_349 rfl 0 rfl rfl ?_
  refine z_bipush (n := 352) (v := 8) dX7_init_350 rfl (by decide) ?_
  obtain ⟨cc, hF, hcc⟩ := zpay_some hF
  refine z_payE hcc ?_
  obtain ⟨hn_389, hF⟩ := zg_some hF
  obtain ⟨o_392, e_393, hF⟩ := zlet_ob hF
  obtain ⟨h_390, e_391, hF⟩ := zlet_ob hF
  refine z_newaT (t := 0) (n := 354) .int dX7_init_352 rfl rfl (by decide) q521 (by decide) (by decide) (by decide) hn_389 e_393 e_391 ?_
  obtain ⟨n_394, hk_395, hF⟩ := zka_some hF
  obtain ⟨h_396, e_397, hF⟩ := zlet_ob hF
  refine z_putR (r := (some o_392)) (n := 357) dX7_init_354 rfl zok6 fX7_138_6 (Or.inr ⟨rfl, _, rfl, rfl, rfl⟩) rfl hk_395 (zbig hb_58) ?_
  refine z_toF e_397 ?_
  refine z_aload_n (n := 358) dX7_init_357 rfl 0 rfl rfl ?_
  refine z_bipush (n := 360) (v := 8) dX7_init_358 rfl (by decide) ?_
  obtain ⟨cc, hF, hcc⟩ := zpay_some hF
  refine z_payE hcc ?_
  obtain ⟨hn_398, hF⟩ := zg_some hF
  obtain ⟨o_401, e_402, hF⟩ := zlet_ob hF
  obtain ⟨h_399, e_400, hF⟩ := zlet_ob hF
  refine z_newaT (t := 0) (n := 362) .int dX7_init_360 rfl rfl (by decide) q521 (by decide) (by decide) (by decide) hn_398 e_402 e_400 ?_
  obtain ⟨n_403, hk_404, hF⟩ := zka_some hF
  obtain ⟨h_405, e_406, hF⟩ := zlet_ob hF
  refine z_putR (r := (some o_401)) (n := 365) dX7_init_362 rfl zok6 fX7_141_6 (Or.inr ⟨rfl, _, rfl, rfl, rfl⟩) rfl hk_404 (zbig hb_58) ?_
  refine z_toF e_406 ?_
  refine z_aload_n (n := 366) dX7_init_365 rfl 0 rfl rfl ?_
  refine z_bipush (n := 368) (v := 8) dX7_init_366 rfl (by decide) ?_
  obtain ⟨cc, hF, hcc⟩ := zpay_some hF
  refine z_payE hcc ?_
  obtain ⟨hn_407, hF⟩ := zg_some hF
  obtain ⟨o_410, e_411, hF⟩ := zlet_ob hF
  obtain ⟨h_408, e_409, hF⟩ := zlet_ob hF
  refine z_newaT (t := 0) (n := 370) .int dX7_init_368 rfl rfl (by decide) q521 (by decide) (by decide) (by decide) hn_407 e_411 e_409 ?_
  obtain ⟨n_412, hk_413, hF⟩ := zka_some hF
  obtain ⟨h_414, e_415, hF⟩ := zlet_ob hF
  refine z_putR (r := (some o_410)) (n := 373) dX7_init_370 rfl zok6 fX7_144_6 (Or.inr ⟨rfl, _, rfl, rfl, rfl⟩) rfl hk_413 (zbig hb_58) ?_
  refine z_toF e_415 ?_
  refine z_aload_n (n := 374) dX7_init_373 rfl 0 rfl rfl ?_
  refine z_iconst (n := 375) (v := 3) dX7_init_374 rfl (by decide) ?_
  obtain ⟨cc, hF, hcc⟩ := zpay_some hF
  refine z_payE hcc ?_
  obtain ⟨hn_416, hF⟩ := zg_some hF
  obtain ⟨o_419, e_420, hF⟩ := zlet_ob hF
  obtain ⟨h_417, e_418, hF⟩ := zlet_ob hF
  refine z_newaT (t := 0) (n := 377) .int dX7_init_375 rfl rfl (by decide) q521 (by decide) (by decide) (by decide) hn_416 e_420 e_418 ?_
  obtain ⟨n_421, hk_422, hF⟩ := zka_some hF
  obtain ⟨h_423, e_424, hF⟩ := zlet_ob hF
  refine z_putR (r := (some o_419)) (n := 380) dX7_init_377 rfl zok6 fX7_147_6 (Or.inr ⟨rfl, _, rfl, rfl, rfl⟩) rfl hk_422 (zbig hb_58) ?_
  refine z_toF e_424 ?_
  refine z_aload_n (n := 381) dX7_init_380 rfl 0 rfl rfl ?_
  obtain ⟨n_425, hk_426, hF⟩ := zka_some hF
  obtain ⟨o_427, hr_428, hF⟩ := zb1_some hF
  refine z_getRS (n := 384) dX7_init_381 rfl zok6 fX7_29_6 rfl hk_426 (Or.inl (zbig hb_58)) hr_428 ?_
  refine z_iconst (n := 385) (v := 4) dX7_init_384 rfl (by decide) ?_
  refine z_iconst (n := 386) (v := 2) dX7_init_385 rfl (by decide) ?_
  obtain ⟨n_429, hk_430, hF⟩ := zka_some hF
  obtain ⟨h_431, hF⟩ := zg_some hF
  obtain ⟨hb_432, hF⟩ := zg_some hF
  obtain ⟨h_433, e_434, hF⟩ := zlet_ob hF
  refine z_iastK (n := 387) 4 (by decide) dX7_init_386 rfl hk_430 (zbig hb_432) (zin_ok h_431) rfl ?_
  refine z_toI e_434 ?_
  refine z_aload_n (n := 388) dX7_init_387 rfl 0 rfl rfl ?_
  obtain ⟨n_435, hk_436, hF⟩ := zka_some hF
  obtain ⟨o_437, hr_438, hF⟩ := zb1_some hF
  refine z_getRS (n := 391) dX7_init_388 rfl zok6 fX7_29_6 rfl hk_436 (Or.inl (zbig hb_58)) hr_438 ?_
  refine z_iconst (n := 392) (v := 5) dX7_init_391 rfl (by decide) ?_
  refine z_iconst (n := 393) (v := 3) dX7_init_392 rfl (by decide) ?_
  obtain ⟨n_439, hk_440, hF⟩ := zka_some hF
  obtain ⟨h_441, hF⟩ := zg_some hF
  obtain ⟨hb_442, hF⟩ := zg_some hF
  obtain ⟨h_443, e_444, hF⟩ := zlet_ob hF
  refine z_iastK (n := 394) 5 (by decide) dX7_init_393 rfl hk_440 (zbig hb_442) (zin_ok h_441) rfl ?_
  refine z_toI e_444 ?_
  refine z_aload_n (n := 395) dX7_init_394 rfl 0 rfl rfl ?_
  obtain ⟨n_445, hk_446, hF⟩ := zka_some hF
  obtain ⟨o_447, hr_448, hF⟩ := zb1_some hF
  refine z_getRS (n := 398) dX7_init_395 rfl zok6 fX7_29_6 rfl hk_446 (Or.inl (zbig hb_58)) hr_448 ?_
  refine z_bipush (n := 400) (v := 6) dX7_init_398 rfl (by decide) ?_
  refine z_bipush (n := 402) (v := 20) dX7_init_400 rfl (by decide) ?_
  obtain ⟨n_449, hk_450, hF⟩ := zka_some hF
  obtain ⟨h_451, hF⟩ := zg_some hF
  obtain ⟨hb_452, hF⟩ := zg_some hF
  obtain ⟨h_453, e_454, hF⟩ := zlet_ob hF
  refine z_iastK (n := 403) 6 (by decide) dX7_init_402 rfl hk_450 (zbig hb_452) (zin_ok h_451) rfl ?_
  refine z_toI e_454 ?_
  obtain ⟨rfl, rfl⟩ := zpair hF
  exact z_vret dX7_init_403 rfl ⟨rfl, rfl, rfl, rfl, rfl⟩
