/-! ALL ROWS of the table are right -/
set_option maxRecDepth 100000
theorem RW_0 : ∀ i, i < 20 → (vP (20 * 0 + i)).all (rowB (20 * 0 + i)) = true := fun i hi => match i, hi with
  | 0, _ => R_0
  | 1, _ => R_1
  | 2, _ => R_2
  | 3, _ => R_3
  | 4, _ => R_4
  | 5, _ => R_5
  | 6, _ => R_6
  | 7, _ => R_7
  | 8, _ => R_8
  | 9, _ => R_9
  | 10, _ => R_10
  | 11, _ => R_11
  | 12, _ => R_12
  | 13, _ => R_13
  | 14, _ => R_14
  | 15, _ => R_15
  | 16, _ => R_16
  | 17, _ => R_17
  | 18, _ => R_18
  | 19, _ => R_19
  | n + 20, h => absurd h (by omega)
theorem RW_1 : ∀ i, i < 20 → (vP (20 * 1 + i)).all (rowB (20 * 1 + i)) = true := fun i hi => match i, hi with
  | 0, _ => R_20
  | 1, _ => R_21
  | 2, _ => R_22
  | 3, _ => R_23
  | 4, _ => R_24
  | 5, _ => R_25
  | 6, _ => R_26
  | 7, _ => R_27
  | 8, _ => R_28
  | 9, _ => R_29
  | 10, _ => R_30
  | 11, _ => R_31
  | 12, _ => R_32
  | 13, _ => R_33
  | 14, _ => R_34
  | 15, _ => R_35
  | 16, _ => R_36
  | 17, _ => R_37
  | 18, _ => R_38
  | 19, _ => R_39
  | n + 20, h => absurd h (by omega)
theorem RW_2 : ∀ i, i < 20 → (vP (20 * 2 + i)).all (rowB (20 * 2 + i)) = true := fun i hi => match i, hi with
  | 0, _ => R_40
  | 1, _ => R_41
  | 2, _ => R_42
  | 3, _ => R_43
  | 4, _ => R_44
  | 5, _ => R_45
  | 6, _ => R_46
  | 7, _ => R_47
  | 8, _ => R_48
  | 9, _ => R_49
  | 10, _ => R_50
  | 11, _ => R_51
  | 12, _ => R_52
  | 13, _ => R_53
  | 14, _ => R_54
  | 15, _ => R_55
  | 16, _ => R_56
  | 17, _ => R_57
  | 18, _ => R_58
  | 19, _ => R_59
  | n + 20, h => absurd h (by omega)
theorem RW_3 : ∀ i, i < 20 → (vP (20 * 3 + i)).all (rowB (20 * 3 + i)) = true := fun i hi => match i, hi with
  | 0, _ => R_60
  | 1, _ => R_61
  | 2, _ => R_62
  | 3, _ => R_63
  | 4, _ => R_64
  | 5, _ => R_65
  | 6, _ => R_66
  | 7, _ => R_67
  | 8, _ => R_68
  | 9, _ => R_69
  | 10, _ => R_70
  | 11, _ => R_71
  | 12, _ => R_72
  | 13, _ => R_73
  | 14, _ => R_74
  | 15, _ => R_75
  | 16, _ => R_76
  | 17, _ => R_77
  | 18, _ => R_78
  | 19, _ => R_79
  | n + 20, h => absurd h (by omega)
theorem RW_4 : ∀ i, i < 20 → (vP (20 * 4 + i)).all (rowB (20 * 4 + i)) = true := fun i hi => match i, hi with
  | 0, _ => R_80
  | 1, _ => R_81
  | 2, _ => R_82
  | 3, _ => R_83
  | 4, _ => R_84
  | 5, _ => R_85
  | 6, _ => R_86
  | 7, _ => R_87
  | 8, _ => R_88
  | 9, _ => R_89
  | 10, _ => R_90
  | 11, _ => R_91
  | 12, _ => R_92
  | 13, _ => R_93
  | 14, _ => R_94
  | 15, _ => R_95
  | 16, _ => R_96
  | 17, _ => R_97
  | 18, _ => R_98
  | 19, _ => R_99
  | n + 20, h => absurd h (by omega)
theorem RW_5 : ∀ i, i < 20 → (vP (20 * 5 + i)).all (rowB (20 * 5 + i)) = true := fun i hi => match i, hi with
  | 0, _ => R_100
  | 1, _ => R_101
  | 2, _ => R_102
  | 3, _ => R_103
  | 4, _ => R_104
  | 5, _ => R_105
  | 6, _ => R_106
  | 7, _ => R_107
  | 8, _ => R_108
  | 9, _ => R_109
  | 10, _ => R_110
  | 11, _ => R_111
  | 12, _ => R_112
  | 13, _ => R_113
  | 14, _ => R_114
  | 15, _ => R_115
  | 16, _ => R_116
  | 17, _ => R_117
  | 18, _ => R_118
  | 19, _ => R_119
  | n + 20, h => absurd h (by omega)
theorem RW_6 : ∀ i, i < 20 → (vP (20 * 6 + i)).all (rowB (20 * 6 + i)) = true := fun i hi => match i, hi with
  | 0, _ => R_120
  | 1, _ => R_121
  | 2, _ => R_122
  | 3, _ => R_123
  | 4, _ => R_124
  | 5, _ => R_125
  | 6, _ => R_126
  | 7, _ => R_127
  | 8, _ => R_128
  | 9, _ => R_129
  | 10, _ => R_130
  | 11, _ => R_131
  | 12, _ => R_132
  | 13, _ => R_133
  | 14, _ => R_134
  | 15, _ => R_135
  | 16, _ => R_136
  | 17, _ => R_137
  | 18, _ => R_138
  | 19, _ => R_139
  | n + 20, h => absurd h (by omega)
theorem RW_7 : ∀ i, i < 20 → (vP (20 * 7 + i)).all (rowB (20 * 7 + i)) = true := fun i hi => match i, hi with
  | 0, _ => R_140
  | 1, _ => R_141
  | 2, _ => R_142
  | 3, _ => R_143
  | 4, _ => R_144
  | 5, _ => R_145
  | 6, _ => R_146
  | 7, _ => R_147
  | 8, _ => R_148
  | 9, _ => R_149
  | 10, _ => R_150
  | 11, _ => R_151
  | 12, _ => R_152
  | 13, _ => R_153
  | 14, _ => R_154
  | 15, _ => R_155
  | 16, _ => R_156
  | 17, _ => R_157
  | 18, _ => R_158
  | 19, _ => R_159
  | n + 20, h => absurd h (by omega)
theorem RW_8 : ∀ i, i < 20 → (vP (20 * 8 + i)).all (rowB (20 * 8 + i)) = true := fun i hi => match i, hi with
  | 0, _ => R_160
  | 1, _ => R_161
  | 2, _ => R_162
  | 3, _ => R_163
  | 4, _ => R_164
  | 5, _ => R_165
  | 6, _ => R_166
  | 7, _ => R_167
  | 8, _ => R_168
  | 9, _ => R_169
  | 10, _ => R_170
  | 11, _ => R_171
  | 12, _ => R_172
  | 13, _ => R_173
  | 14, _ => R_174
  | 15, _ => R_175
  | 16, _ => R_176
  | 17, _ => R_177
  | 18, _ => R_178
  | 19, _ => R_179
  | n + 20, h => absurd h (by omega)
theorem RW_9 : ∀ i, i < 20 → (vP (20 * 9 + i)).all (rowB (20 * 9 + i)) = true := fun i hi => match i, hi with
  | 0, _ => R_180
  | 1, _ => R_181
  | 2, _ => R_182
  | 3, _ => R_183
  | 4, _ => R_184
  | 5, _ => R_185
  | 6, _ => R_186
  | 7, _ => R_187
  | 8, _ => R_188
  | 9, _ => R_189
  | 10, _ => R_190
  | 11, _ => R_191
  | 12, _ => R_192
  | 13, _ => R_193
  | 14, _ => R_194
  | 15, _ => R_195
  | 16, _ => R_196
  | 17, _ => R_197
  | 18, _ => R_198
  | 19, _ => R_199
  | n + 20, h => absurd h (by omega)
theorem RW_10 : ∀ i, i < 20 → (vP (20 * 10 + i)).all (rowB (20 * 10 + i)) = true := fun i hi => match i, hi with
  | 0, _ => R_200
  | 1, _ => R_201
  | 2, _ => R_202
  | 3, _ => R_203
  | 4, _ => R_204
  | 5, _ => R_205
  | 6, _ => R_206
  | 7, _ => R_207
  | 8, _ => R_208
  | 9, _ => R_209
  | 10, _ => R_210
  | 11, _ => R_211
  | 12, _ => R_212
  | 13, _ => R_213
  | 14, _ => R_214
  | 15, _ => R_215
  | 16, _ => R_216
  | 17, _ => R_217
  | 18, _ => rfl
  | 19, _ => R_219
  | n + 20, h => absurd h (by omega)
theorem RW_11 : ∀ i, i < 20 → (vP (20 * 11 + i)).all (rowB (20 * 11 + i)) = true := fun i hi => match i, hi with
  | 0, _ => R_220
  | 1, _ => R_221
  | 2, _ => R_222
  | 3, _ => R_223
  | 4, _ => R_224
  | 5, _ => R_225
  | 6, _ => R_226
  | 7, _ => R_227
  | 8, _ => R_228
  | 9, _ => R_229
  | 10, _ => rfl
  | 11, _ => R_231
  | 12, _ => rfl
  | 13, _ => rfl
  | 14, _ => rfl
  | 15, _ => rfl
  | 16, _ => rfl
  | 17, _ => rfl
  | 18, _ => rfl
  | 19, _ => rfl
  | n + 20, h => absurd h (by omega)
theorem RW_12 : ∀ i, i < 20 → (vP (20 * 12 + i)).all (rowB (20 * 12 + i)) = true := fun i hi => match i, hi with
  | 0, _ => rfl
  | 1, _ => rfl
  | 2, _ => rfl
  | 3, _ => rfl
  | 4, _ => rfl
  | 5, _ => rfl
  | 6, _ => rfl
  | 7, _ => rfl
  | 8, _ => rfl
  | 9, _ => rfl
  | 10, _ => rfl
  | 11, _ => rfl
  | 12, _ => rfl
  | 13, _ => rfl
  | 14, _ => rfl
  | 15, _ => R_255
  | 16, _ => rfl
  | 17, _ => R_257
  | 18, _ => rfl
  | 19, _ => rfl
  | n + 20, h => absurd h (by omega)
theorem RW_13 : ∀ i, i < 20 → (vP (20 * 13 + i)).all (rowB (20 * 13 + i)) = true := fun i hi => match i, hi with
  | 0, _ => rfl
  | 1, _ => R_261
  | 2, _ => R_262
  | 3, _ => R_263
  | 4, _ => R_264
  | 5, _ => R_265
  | 6, _ => R_266
  | 7, _ => rfl
  | 8, _ => R_268
  | 9, _ => R_269
  | 10, _ => rfl
  | 11, _ => R_271
  | 12, _ => R_272
  | 13, _ => R_273
  | 14, _ => R_274
  | 15, _ => R_275
  | 16, _ => R_276
  | 17, _ => R_277
  | 18, _ => R_278
  | 19, _ => R_279
  | n + 20, h => absurd h (by omega)
theorem RW_14 : ∀ i, i < 20 → (vP (20 * 14 + i)).all (rowB (20 * 14 + i)) = true := fun i hi => match i, hi with
  | 0, _ => R_280
  | 1, _ => R_281
  | 2, _ => R_282
  | 3, _ => R_283
  | 4, _ => R_284
  | 5, _ => R_285
  | 6, _ => rfl
  | 7, _ => R_287
  | 8, _ => R_288
  | 9, _ => R_289
  | 10, _ => R_290
  | 11, _ => R_291
  | 12, _ => R_292
  | 13, _ => R_293
  | 14, _ => R_294
  | 15, _ => R_295
  | 16, _ => R_296
  | 17, _ => R_297
  | 18, _ => R_298
  | 19, _ => R_299
  | n + 20, h => absurd h (by omega)
theorem RW_15 : ∀ i, i < 20 → (vP (20 * 15 + i)).all (rowB (20 * 15 + i)) = true := fun i hi => match i, hi with
  | 0, _ => R_300
  | 1, _ => R_301
  | 2, _ => R_302
  | 3, _ => R_303
  | 4, _ => rfl
  | 5, _ => R_305
  | 6, _ => R_306
  | 7, _ => R_307
  | 8, _ => R_308
  | 9, _ => R_309
  | 10, _ => R_310
  | 11, _ => R_311
  | 12, _ => R_312
  | 13, _ => R_313
  | 14, _ => R_314
  | 15, _ => R_315
  | 16, _ => R_316
  | 17, _ => R_317
  | 18, _ => R_318
  | 19, _ => R_319
  | n + 20, h => absurd h (by omega)
theorem RW_16 : ∀ i, i < 20 → (vP (20 * 16 + i)).all (rowB (20 * 16 + i)) = true := fun i hi => match i, hi with
  | 0, _ => R_320
  | 1, _ => R_321
  | 2, _ => R_322
  | 3, _ => R_323
  | 4, _ => R_324
  | 5, _ => R_325
  | 6, _ => R_326
  | 7, _ => R_327
  | 8, _ => R_328
  | 9, _ => R_329
  | 10, _ => R_330
  | 11, _ => R_331
  | 12, _ => R_332
  | 13, _ => R_333
  | 14, _ => R_334
  | 15, _ => R_335
  | 16, _ => R_336
  | 17, _ => R_337
  | 18, _ => R_338
  | 19, _ => R_339
  | n + 20, h => absurd h (by omega)
theorem RW_17 : ∀ i, i < 20 → (vP (20 * 17 + i)).all (rowB (20 * 17 + i)) = true := fun i hi => match i, hi with
  | 0, _ => R_340
  | 1, _ => R_341
  | 2, _ => R_342
  | 3, _ => R_343
  | 4, _ => R_344
  | 5, _ => R_345
  | 6, _ => R_346
  | 7, _ => R_347
  | 8, _ => R_348
  | 9, _ => R_349
  | 10, _ => R_350
  | 11, _ => R_351
  | 12, _ => R_352
  | 13, _ => rfl
  | 14, _ => rfl
  | 15, _ => R_355
  | 16, _ => R_356
  | 17, _ => R_357
  | 18, _ => R_358
  | 19, _ => R_359
  | n + 20, h => absurd h (by omega)
theorem RW_18 : ∀ i, i < 20 → (vP (20 * 18 + i)).all (rowB (20 * 18 + i)) = true := fun i hi => match i, hi with
  | 0, _ => R_360
  | 1, _ => R_361
  | 2, _ => R_362
  | 3, _ => R_363
  | 4, _ => rfl
  | 5, _ => rfl
  | 6, _ => R_366
  | 7, _ => rfl
  | 8, _ => rfl
  | 9, _ => rfl
  | 10, _ => rfl
  | 11, _ => rfl
  | 12, _ => rfl
  | 13, _ => rfl
  | 14, _ => rfl
  | 15, _ => rfl
  | 16, _ => rfl
  | 17, _ => rfl
  | 18, _ => rfl
  | 19, _ => rfl
  | n + 20, h => absurd h (by omega)
theorem RW : ∀ c, c < 19 → ∀ i, i < 20 → (vP (20 * c + i)).all (rowB (20 * c + i)) = true := fun c hc => match c, hc with
  | 0, _ => RW_0
  | 1, _ => RW_1
  | 2, _ => RW_2
  | 3, _ => RW_3
  | 4, _ => RW_4
  | 5, _ => RW_5
  | 6, _ => RW_6
  | 7, _ => RW_7
  | 8, _ => RW_8
  | 9, _ => RW_9
  | 10, _ => RW_10
  | 11, _ => RW_11
  | 12, _ => RW_12
  | 13, _ => RW_13
  | 14, _ => RW_14
  | 15, _ => RW_15
  | 16, _ => RW_16
  | 17, _ => RW_17
  | 18, _ => RW_18
  | n + 19, h => absurd h (by omega)
theorem MB : (List.range 367).all (fun y => (vP y).isEmpty || mB y) = true := by decide +kernel
theorem vP_lt {y pc : Nat} (h : VV y pc) : y < 367 := by
  by_cases hy : y < 367
  · exact hy
  · have e : vP y = [] := by
      unfold vP
      have hb : Nat.ble y 366 = false := by
        cases hc : Nat.ble y 366 with
        | false => rfl
        | true => exact absurd (Nat.le_of_ble_eq_true hc) (by omega)
      rw [hb]
      rfl
    unfold VV at h
    rw [e] at h
    cases h
theorem row_of {y pc : Nat} (h : VV y pc) : rowB y pc = true := by
  have hy := vP_lt h
  have hc : y / 20 < 19 := by omega
  have h1 := RW (y / 20) hc (y % 20) (Nat.mod_lt _ (by omega))
  rw [Nat.div_add_mod] at h1
  exact List.all_eq_true.mp h1 pc (m_has_mem h)
theorem fact_of {X : gX} (hO : gO (g0 X)) {y pc : Nat} (h : VV y pc) : ∀ q ∈ fcN (cNo y), fm (g0 X) (gnm (g0 X) y).cls q := by
  have h1 := List.all_eq_true.mp MB y (List.mem_range.mpr (vP_lt h))
  have hne : (vP y).isEmpty = false := by
    cases hv : vP y with
    | nil => unfold VV at h; rw [hv] at h; cases h
    | cons a r => rfl
  rw [hne, Bool.false_or] at h1
  obtain ⟨h2, h3⟩ := two h1
  have h2 : (gnm (g0 X) y).cls = clsN (cNo y) := of_decide_eq_true h2
  rw [h2]
  exact allF_mem (fN hO (cNo y) (Nat.le_of_ble_eq_true h3))
/-- THE MINI-VM IS SOUND for the tables -/
theorem Lsound {X : gX} (hG : gG (g0 X)) (hO : gO (g0 X)) (hC : gCk (g0 X)) {d y : Nat} {g : mG mM} {Q : mQ mM} (h : Rn rO rK tQ tU d y g Q) (hv : VV y g.1) : Zs (g0 X) d y g Q := by
  refine Rn.ind (Z := fun d y g Q => VV y g.1 → Zs (g0 X) d y g Q) (sound (V := VV) (P := tQ) hC (fun y pc hv => ?_)) h hv
  have hr := row_of hv
  have hF := fact_of (X := X) hO hv
  obtain ⟨h1, h2⟩ := two hr
  obtain ⟨h2, h3⟩ := two h2
  refine ⟨ssB_ok hG hF h1, fun q hq => List.all_eq_true.mp h2 q hq, fun k np tg au cz e => ?_⟩
  rw [e] at h3
  exact crB_ok hF h3
