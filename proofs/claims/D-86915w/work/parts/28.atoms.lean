/-! the words of the exceptions: printed by tools/gen_atoms.py -/
set_option maxRecDepth 100000
theorem g_atN {D : va_G} {dT : Nat → ClassId} {A : Nat → Prop} {t0 : Nat × Nat} {s : State} {args : Array Value} (hts : ∀ w ∈ lw_all, w.before args s = true) (hK : g_K D dT A t0 s) : ∀ a ∈ Bundle.npeArmAtoms 8, a.before args s = true := by
  intro a ha
  simp only [Bundle.npeArmAtoms, Bundle.throwableAtoms, Bundle.npeAtoms, Bundle.passAtoms, List.mem_append, List.mem_cons, List.not_mem_nil, or_false, or_assoc] at ha
  rcases ha with rfl | rfl | rfl | rfl | rfl | rfl | rfl | rfl | rfl | rfl | rfl | rfl | rfl | rfl | rfl | rfl | rfl | rfl | rfl | rfl | rfl | rfl | rfl | rfl | rfl | rfl | rfl | rfl | rfl | rfl | rfl | rfl | rfl | rfl | rfl | rfl | rfl | rfl | rfl | rfl | rfl | rfl | rfl | rfl | rfl | rfl | rfl | rfl | rfl | rfl | rfl | rfl | rfl | rfl | rfl | rfl | rfl | rfl | rfl | rfl
  · exact hts _ q83
  · exact hts _ q1235
  · exact hts _ q1174
  · exact hts _ q1192
  · exact hts _ q1195
  · exact hts _ q1197
  · exact hts _ q1166
  · exact hts _ q1167
  · exact hts _ q99
  · exact hts _ q100
  · exact hts _ q1168
  · exact hts _ q1173
  · exact hts _ q1193
  · exact hts _ q1202
  · exact hts _ q1229
  · exact hts _ q1203
  · exact hts _ q1230
  · exact hts _ q1204
  · exact hts _ q1231
  · exact hts _ q1169
  · exact hK.stat q1170
  · exact hts _ q1171
  · exact hK.stat q1172
  · exact hts _ q1232
  · exact hts _ q1189
  · exact hts _ q1180
  · exact hts _ q1181
  · exact hts _ q1198
  · exact hts _ q1205
  · exact hts _ q1186
  · exact hts _ q1187
  · exact va_Nw.use (A := args) rfl (hK.cast q1236)
  · exact hts _ q1157
  · exact hts _ q1158
  · exact hts _ q1159
  · exact hts _ q1160
  · exact va_Nw.use (A := args) rfl (hK.decl q1222)
  · exact hts _ q1160
  · exact hts _ q1161
  · exact hts _ q1162
  · exact hts _ q1163
  · exact va_Nw.use (A := args) rfl (hK.decl q1224)
  · exact hts _ q1163
  · exact hts _ q1164
  · exact hts _ q1165
  · exact hts _ q1166
  · exact va_Nw.use (A := args) rfl (hK.decl q1226)
  · exact hts _ q86
  · exact hts _ q1156
  · exact va_Nw.use (A := args) rfl (hK.cast q1221)
  · exact hts _ q1228
  · exact hts _ q1179
  · exact hts _ q1213
  · exact hts _ q1215
  · exact hts _ q1219
  · exact hK.statRef q1170 (by decide +kernel)
  · exact hK.statRef q1172 (by decide +kernel)
  · exact hts _ q1234
  · exact hts _ q1233
  · exact hts _ q1209
theorem g_atI {D : va_G} {dT : Nat → ClassId} {A : Nat → Prop} {t0 : Nat × Nat} {s : State} {args : Array Value} (hts : ∀ w ∈ lw_all, w.before args s = true) (hK : g_K D dT A t0 s) : ∀ a ∈ Bundle.messageArmAtoms "java/lang/ArrayIndexOutOfBoundsException" ["java/lang/IndexOutOfBoundsException", "java/lang/RuntimeException", "java/lang/Exception"], a.before args s = true := by
  intro a ha
  simp only [Bundle.messageArmAtoms, Bundle.throwableAtoms, Bundle.throwableSAtoms, Bundle.chainSAtoms, Bundle.passSAtoms, Bundle.stringAtoms, List.mem_append, List.mem_cons, List.not_mem_nil, or_false, or_assoc] at ha
  rcases ha with rfl | rfl | rfl | rfl | rfl | rfl | rfl | rfl | rfl | rfl | rfl | rfl | rfl | rfl | rfl | rfl | rfl | rfl | rfl | rfl | rfl | rfl | rfl | rfl | rfl | rfl | rfl | rfl | rfl | rfl | rfl | rfl | rfl | rfl | rfl | rfl | rfl | rfl | rfl | rfl | rfl | rfl | rfl | rfl | rfl | rfl | rfl | rfl | rfl | rfl | rfl | rfl | rfl | rfl | rfl | rfl | rfl | rfl | rfl | rfl | rfl | rfl | rfl | rfl | rfl | rfl | rfl | rfl | rfl
  · exact hts _ q83
  · exact hts _ q1235
  · exact hts _ q1174
  · exact hts _ q1192
  · exact hts _ q1195
  · exact hts _ q1197
  · exact hts _ q1166
  · exact hts _ q1167
  · exact hts _ q99
  · exact hts _ q100
  · exact hts _ q1168
  · exact hts _ q1173
  · exact hts _ q1193
  · exact hts _ q1202
  · exact hts _ q1229
  · exact hts _ q1203
  · exact hts _ q1230
  · exact hts _ q1204
  · exact hts _ q1231
  · exact hts _ q1169
  · exact hK.stat q1170
  · exact hts _ q1171
  · exact hK.stat q1172
  · exact hts _ q1232
  · exact hts _ q1251
  · exact hts _ q1252
  · exact hts _ q1201
  · exact hts _ q1232
  · exact hts _ q1239
  · exact hts _ q1240
  · exact hts _ q1241
  · exact hts _ q1242
  · exact va_Nw.use (A := args) rfl (hK.decl q1262)
  · exact hts _ q1242
  · exact hts _ q1243
  · exact hts _ q1244
  · exact hts _ q1245
  · exact va_Nw.use (A := args) rfl (hK.decl q1223)
  · exact hts _ q1245
  · exact hts _ q1246
  · exact hts _ q1247
  · exact hts _ q1248
  · exact va_Nw.use (A := args) rfl (hK.decl q1225)
  · exact hts _ q1248
  · exact hts _ q1249
  · exact hts _ q1250
  · exact hts _ q1251
  · exact va_Nw.use (A := args) rfl (hK.decl q1227)
  · exact hts _ q88
  · exact hts _ q1264
  · exact hts _ q1265
  · exact hts _ q1266
  · exact hts _ q1268
  · exact hts _ q1267
  · exact hts _ q1269
  · exact hts _ q91
  · exact hts _ q1238
  · exact va_Nw.use (A := args) rfl (hK.cast q1260)
  · exact hts _ q1263
  · exact hts _ q1176
  · exact hts _ q1255
  · exact hts _ q1256
  · exact hts _ q1258
  · exact hts _ q1254
  · exact hK.statRef q1170 (by decide +kernel)
  · exact hK.statRef q1172 (by decide +kernel)
  · exact hts _ q1234
  · exact hts _ q1233
  · exact hts _ q1253
theorem g_atC {D : va_G} {dT : Nat → ClassId} {A : Nat → Prop} {t0 : Nat × Nat} {s : State} {args : Array Value} (hts : ∀ w ∈ lw_all, w.before args s = true) (hK : g_K D dT A t0 s) : ∀ a ∈ Bundle.messageArmAtoms "java/lang/ClassCastException" ["java/lang/RuntimeException", "java/lang/Exception"], a.before args s = true := by
  intro a ha
  simp only [Bundle.messageArmAtoms, Bundle.throwableAtoms, Bundle.throwableSAtoms, Bundle.chainSAtoms, Bundle.passSAtoms, Bundle.stringAtoms, List.mem_append, List.mem_cons, List.not_mem_nil, or_false, or_assoc] at ha
  rcases ha with rfl | rfl | rfl | rfl | rfl | rfl | rfl | rfl | rfl | rfl | rfl | rfl | rfl | rfl | rfl | rfl | rfl | rfl | rfl | rfl | rfl | rfl | rfl | rfl | rfl | rfl | rfl | rfl | rfl | rfl | rfl | rfl | rfl | rfl | rfl | rfl | rfl | rfl | rfl | rfl | rfl | rfl | rfl | rfl | rfl | rfl | rfl | rfl | rfl | rfl | rfl | rfl | rfl | rfl | rfl | rfl | rfl | rfl | rfl | rfl | rfl | rfl | rfl | rfl
  · exact hts _ q83
  · exact hts _ q1235
  · exact hts _ q1174
  · exact hts _ q1192
  · exact hts _ q1195
  · exact hts _ q1197
  · exact hts _ q1166
  · exact hts _ q1167
  · exact hts _ q99
  · exact hts _ q100
  · exact hts _ q1168
  · exact hts _ q1173
  · exact hts _ q1193
  · exact hts _ q1202
  · exact hts _ q1229
  · exact hts _ q1203
  · exact hts _ q1230
  · exact hts _ q1204
  · exact hts _ q1231
  · exact hts _ q1169
  · exact hK.stat q1170
  · exact hts _ q1171
  · exact hK.stat q1172
  · exact hts _ q1232
  · exact hts _ q1251
  · exact hts _ q1252
  · exact hts _ q1201
  · exact hts _ q1232
  · exact hts _ q1272
  · exact hts _ q1273
  · exact hts _ q1274
  · exact hts _ q1245
  · exact va_Nw.use (A := args) rfl (hK.decl q1223)
  · exact hts _ q1245
  · exact hts _ q1246
  · exact hts _ q1247
  · exact hts _ q1248
  · exact va_Nw.use (A := args) rfl (hK.decl q1225)
  · exact hts _ q1248
  · exact hts _ q1249
  · exact hts _ q1250
  · exact hts _ q1251
  · exact va_Nw.use (A := args) rfl (hK.decl q1227)
  · exact hts _ q88
  · exact hts _ q1264
  · exact hts _ q1265
  · exact hts _ q1266
  · exact hts _ q1268
  · exact hts _ q1267
  · exact hts _ q1269
  · exact hts _ q87
  · exact hts _ q1271
  · exact va_Nw.use (A := args) rfl (hK.cast q1282)
  · exact hts _ q1283
  · exact hts _ q1177
  · exact hts _ q1277
  · exact hts _ q1278
  · exact hts _ q1280
  · exact hts _ q1276
  · exact hK.statRef q1170 (by decide +kernel)
  · exact hK.statRef q1172 (by decide +kernel)
  · exact hts _ q1234
  · exact hts _ q1233
  · exact hts _ q1275
theorem g_atZ {D : va_G} {dT : Nat → ClassId} {A : Nat → Prop} {t0 : Nat × Nat} {s : State} {args : Array Value} (hts : ∀ w ∈ lw_all, w.before args s = true) (hK : g_K D dT A t0 s) : ∀ a ∈ Bundle.messageArmAtoms "java/lang/NegativeArraySizeException" ["java/lang/RuntimeException", "java/lang/Exception"], a.before args s = true := by
  intro a ha
  simp only [Bundle.messageArmAtoms, Bundle.throwableAtoms, Bundle.throwableSAtoms, Bundle.chainSAtoms, Bundle.passSAtoms, Bundle.stringAtoms, List.mem_append, List.mem_cons, List.not_mem_nil, or_false, or_assoc] at ha
  rcases ha with rfl | rfl | rfl | rfl | rfl | rfl | rfl | rfl | rfl | rfl | rfl | rfl | rfl | rfl | rfl | rfl | rfl | rfl | rfl | rfl | rfl | rfl | rfl | rfl | rfl | rfl | rfl | rfl | rfl | rfl | rfl | rfl | rfl | rfl | rfl | rfl | rfl | rfl | rfl | rfl | rfl | rfl | rfl | rfl | rfl | rfl | rfl | rfl | rfl | rfl | rfl | rfl | rfl | rfl | rfl | rfl | rfl | rfl | rfl | rfl | rfl | rfl | rfl | rfl
  · exact hts _ q83
  · exact hts _ q1235
  · exact hts _ q1174
  · exact hts _ q1192
  · exact hts _ q1195
  · exact hts _ q1197
  · exact hts _ q1166
  · exact hts _ q1167
  · exact hts _ q99
  · exact hts _ q100
  · exact hts _ q1168
  · exact hts _ q1173
  · exact hts _ q1193
  · exact hts _ q1202
  · exact hts _ q1229
  · exact hts _ q1203
  · exact hts _ q1230
  · exact hts _ q1204
  · exact hts _ q1231
  · exact hts _ q1169
  · exact hK.stat q1170
  · exact hts _ q1171
  · exact hK.stat q1172
  · exact hts _ q1232
  · exact hts _ q1251
  · exact hts _ q1252
  · exact hts _ q1201
  · exact hts _ q1232
  · exact hts _ q1286
  · exact hts _ q1287
  · exact hts _ q1288
  · exact hts _ q1245
  · exact va_Nw.use (A := args) rfl (hK.decl q1223)
  · exact hts _ q1245
  · exact hts _ q1246
  · exact hts _ q1247
  · exact hts _ q1248
  · exact va_Nw.use (A := args) rfl (hK.decl q1225)
  · exact hts _ q1248
  · exact hts _ q1249
  · exact hts _ q1250
  · exact hts _ q1251
  · exact va_Nw.use (A := args) rfl (hK.decl q1227)
  · exact hts _ q88
  · exact hts _ q1264
  · exact hts _ q1265
  · exact hts _ q1266
  · exact hts _ q1268
  · exact hts _ q1267
  · exact hts _ q1269
  · exact hts _ q92
  · exact hts _ q1285
  · exact va_Nw.use (A := args) rfl (hK.cast q1296)
  · exact hts _ q1297
  · exact hts _ q1178
  · exact hts _ q1291
  · exact hts _ q1292
  · exact hts _ q1294
  · exact hts _ q1290
  · exact hK.statRef q1170 (by decide +kernel)
  · exact hK.statRef q1172 (by decide +kernel)
  · exact hts _ q1234
  · exact hts _ q1233
  · exact hts _ q1289
