/-! THE FACTS of the constant pools (printed by tools/rows.py) -/
set_option maxRecDepth 100000
set_option maxHeartbeats 800000
theorem ws_1 : ∀ w ∈ u_ws "TrustDesk" T_1 24, w ∈ lw_all := ws_of (fun k hk => match k, hk with
  | 0, _ => q871
  | 1, _ => q873
  | 2, _ => q875
  | 3, _ => q877
  | 4, _ => q879
  | 5, _ => q881
  | 6, _ => q883
  | 7, _ => q885
  | 8, _ => q887
  | 9, _ => q889
  | 10, _ => q891
  | 11, _ => q893
  | 12, _ => q895
  | 13, _ => q897
  | 14, _ => q899
  | 15, _ => q901
  | 16, _ => q903
  | 17, _ => q905
  | 18, _ => q907
  | 19, _ => q909
  | 20, _ => q911
  | 21, _ => q913
  | 22, _ => q915
  | 23, _ => q917
  | n + 24, h => absurd h (by omega))
theorem df_1 : ∀ j, j < 24 → defaultValue (ty_1 j) = gvv (fun _ => 0) (mtag (tgOf (ty_1 j)) 0) := fun j hj => match j, hj with
  | 0, _ => rfl
  | 1, _ => rfl
  | 2, _ => rfl
  | 3, _ => rfl
  | 4, _ => rfl
  | 5, _ => rfl
  | 6, _ => rfl
  | 7, _ => rfl
  | 8, _ => rfl
  | 9, _ => rfl
  | 10, _ => rfl
  | 11, _ => rfl
  | 12, _ => rfl
  | 13, _ => rfl
  | 14, _ => rfl
  | 15, _ => rfl
  | 16, _ => rfl
  | 17, _ => rfl
  | 18, _ => rfl
  | 19, _ => rfl
  | 20, _ => rfl
  | 21, _ => rfl
  | 22, _ => rfl
  | 23, _ => rfl
  | n + 24, h => absurd h (by omega)
theorem cl_1 (X : gX) : clOk (g0 X) 1 "TrustDesk" T_1 24 ty_1 := ⟨rfl, rfl, ws_1, by decide +kernel, by decide +kernel, by decide, by decide⟩
theorem isc_1 (X : gX) : isC (g0 X) 1 "TrustDesk" := Or.inl ⟨_, _, _, cl_1 X⟩
theorem ws_2 : ∀ w ∈ u_ws "TrustDeskModel" T_2 72, w ∈ lw_all := ws_of (fun k hk => match k, hk with
  | 0, _ => q2076
  | 1, _ => q2078
  | 2, _ => q2080
  | 3, _ => q2082
  | 4, _ => q2084
  | 5, _ => q2086
  | 6, _ => q2088
  | 7, _ => q2090
  | 8, _ => q2092
  | 9, _ => q2094
  | 10, _ => q2096
  | 11, _ => q2098
  | 12, _ => q2100
  | 13, _ => q2102
  | 14, _ => q2104
  | 15, _ => q2106
  | 16, _ => q2108
  | 17, _ => q2110
  | 18, _ => q2112
  | 19, _ => q2114
  | 20, _ => q2116
  | 21, _ => q2118
  | 22, _ => q2120
  | 23, _ => q2122
  | 24, _ => q2124
  | 25, _ => q2126
  | 26, _ => q2128
  | 27, _ => q2130
  | 28, _ => q2132
  | 29, _ => q2134
  | 30, _ => q2136
  | 31, _ => q2138
  | 32, _ => q2140
  | 33, _ => q2142
  | 34, _ => q2144
  | 35, _ => q2146
  | 36, _ => q2148
  | 37, _ => q2150
  | 38, _ => q2152
  | 39, _ => q2154
  | 40, _ => q2156
  | 41, _ => q2158
  | 42, _ => q2160
  | 43, _ => q2162
  | 44, _ => q2164
  | 45, _ => q2166
  | 46, _ => q2168
  | 47, _ => q2170
  | 48, _ => q2172
  | 49, _ => q2174
  | 50, _ => q2176
  | 51, _ => q2178
  | 52, _ => q2180
  | 53, _ => q2182
  | 54, _ => q2184
  | 55, _ => q2186
  | 56, _ => q2188
  | 57, _ => q2190
  | 58, _ => q2192
  | 59, _ => q2194
  | 60, _ => q2196
  | 61, _ => q2198
  | 62, _ => q2200
  | 63, _ => q2202
  | 64, _ => q2204
  | 65, _ => q2206
  | 66, _ => q2208
  | 67, _ => q2210
  | 68, _ => q2212
  | 69, _ => q2214
  | 70, _ => q2216
  | 71, _ => q2218
  | n + 72, h => absurd h (by omega))
theorem df_2 : ∀ j, j < 72 → defaultValue (ty_2 j) = gvv (fun _ => 0) (mtag (tgOf (ty_2 j)) 0) := fun j hj => match j, hj with
  | 0, _ => rfl
  | 1, _ => rfl
  | 2, _ => rfl
  | 3, _ => rfl
  | 4, _ => rfl
  | 5, _ => rfl
  | 6, _ => rfl
  | 7, _ => rfl
  | 8, _ => rfl
  | 9, _ => rfl
  | 10, _ => rfl
  | 11, _ => rfl
  | 12, _ => rfl
  | 13, _ => rfl
  | 14, _ => rfl
  | 15, _ => rfl
  | 16, _ => rfl
  | 17, _ => rfl
  | 18, _ => rfl
  | 19, _ => rfl
  | 20, _ => rfl
  | 21, _ => rfl
  | 22, _ => rfl
  | 23, _ => rfl
  | 24, _ => rfl
  | 25, _ => rfl
  | 26, _ => rfl
  | 27, _ => rfl
  | 28, _ => rfl
  | 29, _ => rfl
  | 30, _ => rfl
  | 31, _ => rfl
  | 32, _ => rfl
  | 33, _ => rfl
  | 34, _ => rfl
  | 35, _ => rfl
  | 36, _ => rfl
  | 37, _ => rfl
  | 38, _ => rfl
  | 39, _ => rfl
  | 40, _ => rfl
  | 41, _ => rfl
  | 42, _ => rfl
  | 43, _ => rfl
  | 44, _ => rfl
  | 45, _ => rfl
  | 46, _ => rfl
  | 47, _ => rfl
  | 48, _ => rfl
  | 49, _ => rfl
  | 50, _ => rfl
  | 51, _ => rfl
  | 52, _ => rfl
  | 53, _ => rfl
  | 54, _ => rfl
  | 55, _ => rfl
  | 56, _ => rfl
  | 57, _ => rfl
  | 58, _ => rfl
  | 59, _ => rfl
  | 60, _ => rfl
  | 61, _ => rfl
  | 62, _ => rfl
  | 63, _ => rfl
  | 64, _ => rfl
  | 65, _ => rfl
  | 66, _ => rfl
  | 67, _ => rfl
  | 68, _ => rfl
  | 69, _ => rfl
  | 70, _ => rfl
  | 71, _ => rfl
  | n + 72, h => absurd h (by omega)
theorem cl_2 (X : gX) : clOk (g0 X) 2 "TrustDeskModel" T_2 72 ty_2 := ⟨rfl, rfl, ws_2, by decide +kernel, by decide +kernel, by decide, by decide⟩
theorem isc_2 (X : gX) : isC (g0 X) 2 "TrustDeskModel" := Or.inl ⟨_, _, _, cl_2 X⟩
theorem ws_3 : ∀ w ∈ u_ws "TrustDesk$Act" T_3 4, w ∈ lw_all := ws_of (fun k hk => match k, hk with
  | 0, _ => q302
  | 1, _ => q304
  | 2, _ => q306
  | 3, _ => q308
  | n + 4, h => absurd h (by omega))
theorem df_3 : ∀ j, j < 4 → defaultValue (ty_3 j) = gvv (fun _ => 0) (mtag (tgOf (ty_3 j)) 0) := fun j hj => match j, hj with
  | 0, _ => rfl
  | 1, _ => rfl
  | 2, _ => rfl
  | 3, _ => rfl
  | n + 4, h => absurd h (by omega)
theorem cl_3 (X : gX) : clOk (g0 X) 3 "TrustDesk$Act" T_3 4 ty_3 := ⟨rfl, rfl, ws_3, by decide +kernel, by decide +kernel, by decide, by decide⟩
theorem isc_3 (X : gX) : isC (g0 X) 3 "TrustDesk$Act" := Or.inl ⟨_, _, _, cl_3 X⟩
theorem ws_4 : ∀ w ∈ u_ws "TrustDesk$Reader" T_4 10, w ∈ lw_all := ws_of (fun k hk => match k, hk with
  | 0, _ => q232
  | 1, _ => q234
  | 2, _ => q236
  | 3, _ => q238
  | 4, _ => q240
  | 5, _ => q242
  | 6, _ => q244
  | 7, _ => q246
  | 8, _ => q248
  | 9, _ => q250
  | n + 10, h => absurd h (by omega))
theorem df_4 : ∀ j, j < 10 → defaultValue (ty_4 j) = gvv (fun _ => 0) (mtag (tgOf (ty_4 j)) 0) := fun j hj => match j, hj with
  | 0, _ => rfl
  | 1, _ => rfl
  | 2, _ => rfl
  | 3, _ => rfl
  | 4, _ => rfl
  | 5, _ => rfl
  | 6, _ => rfl
  | 7, _ => rfl
  | 8, _ => rfl
  | 9, _ => rfl
  | n + 10, h => absurd h (by omega)
theorem cl_4 (X : gX) : clOk (g0 X) 4 "TrustDesk$Reader" T_4 10 ty_4 := ⟨rfl, rfl, ws_4, by decide +kernel, by decide +kernel, by decide, by decide⟩
theorem isc_4 (X : gX) : isC (g0 X) 4 "TrustDesk$Reader" := Or.inl ⟨_, _, _, cl_4 X⟩
theorem ws_5 : ∀ w ∈ u_ws "TrustDesk$Wrong" T_5 8, w ∈ lw_all := ws_of (fun k hk => match k, hk with
  | 0, _ => q515
  | 1, _ => q517
  | 2, _ => q519
  | 3, _ => q521
  | 4, _ => q523
  | 5, _ => q570
  | 6, _ => q562
  | 7, _ => q564
  | n + 8, h => absurd h (by omega))
theorem df_5 : ∀ j, j < 8 → defaultValue (ty_5 j) = gvv (fun _ => 0) (mtag (tgOf (ty_5 j)) 0) := fun j hj => match j, hj with
  | 0, _ => rfl
  | 1, _ => rfl
  | 2, _ => rfl
  | 3, _ => rfl
  | 4, _ => rfl
  | 5, _ => rfl
  | 6, _ => rfl
  | 7, _ => rfl
  | n + 8, h => absurd h (by omega)
theorem cl_5 (X : gX) : clOk (g0 X) 5 "TrustDesk$Wrong" T_5 8 ty_5 := ⟨rfl, rfl, ws_5, by decide +kernel, by decide +kernel, by decide, by decide⟩
theorem isc_5 (X : gX) : isC (g0 X) 5 "TrustDesk$Wrong" := Or.inl ⟨_, _, _, cl_5 X⟩
theorem ws_6 : ∀ w ∈ u_ws "java/util/NoSuchElementException" T_6 6, w ∈ lw_all := ws_of (fun k hk => match k, hk with
  | 0, _ => q1977
  | 1, _ => q1978
  | 2, _ => q1979
  | 3, _ => q1980
  | 4, _ => q1981
  | 5, _ => q1992
  | n + 6, h => absurd h (by omega))
theorem df_6 : ∀ j, j < 6 → defaultValue (ty_6 j) = gvv (fun _ => 0) (mtag (tgOf (ty_6 j)) 0) := fun j hj => match j, hj with
  | 0, _ => rfl
  | 1, _ => rfl
  | 2, _ => rfl
  | 3, _ => rfl
  | 4, _ => rfl
  | 5, _ => rfl
  | n + 6, h => absurd h (by omega)
theorem cl_6 (X : gX) : clOk (g0 X) 6 "java/util/NoSuchElementException" T_6 6 ty_6 := ⟨rfl, rfl, ws_6, by decide +kernel, by decide +kernel, by decide, by decide⟩
theorem isc_6 (X : gX) : isC (g0 X) 6 "java/util/NoSuchElementException" := Or.inl ⟨_, _, _, cl_6 X⟩
theorem ws_7 : ∀ w ∈ u_ws "TrustDesk$Bar" T_7 2, w ∈ lw_all := ws_of (fun k hk => match k, hk with
  | 0, _ => q794
  | 1, _ => q796
  | n + 2, h => absurd h (by omega))
theorem df_7 : ∀ j, j < 2 → defaultValue (ty_7 j) = gvv (fun _ => 0) (mtag (tgOf (ty_7 j)) 0) := fun j hj => match j, hj with
  | 0, _ => rfl
  | 1, _ => rfl
  | n + 2, h => absurd h (by omega)
theorem cl_7 (X : gX) : clOk (g0 X) 7 "TrustDesk$Bar" T_7 2 ty_7 := ⟨rfl, rfl, ws_7, by decide +kernel, by decide +kernel, by decide, by decide⟩
theorem isc_7 (X : gX) : isC (g0 X) 7 "TrustDesk$Bar" := Or.inl ⟨_, _, _, cl_7 X⟩
theorem ws_8 : ∀ w ∈ u_ws "TrustDesk$Plain" T_8 1, w ∈ lw_all := ws_of (fun k hk => match k, hk with
  | 0, _ => q667
  | n + 1, h => absurd h (by omega))
theorem df_8 : ∀ j, j < 1 → defaultValue (ty_8 j) = gvv (fun _ => 0) (mtag (tgOf (ty_8 j)) 0) := fun j hj => match j, hj with
  | 0, _ => rfl
  | n + 1, h => absurd h (by omega)
theorem cl_8 (X : gX) : clOk (g0 X) 8 "TrustDesk$Plain" T_8 1 ty_8 := ⟨rfl, rfl, ws_8, by decide +kernel, by decide +kernel, by decide, by decide⟩
theorem isc_8 (X : gX) : isC (g0 X) 8 "TrustDesk$Plain" := Or.inl ⟨_, _, _, cl_8 X⟩
theorem ws_9 : ∀ w ∈ u_ws "TrustDesk$Fact" T_9 1, w ∈ lw_all := ws_of (fun k hk => match k, hk with
  | 0, _ => q653
  | n + 1, h => absurd h (by omega))
theorem df_9 : ∀ j, j < 1 → defaultValue (ty_9 j) = gvv (fun _ => 0) (mtag (tgOf (ty_9 j)) 0) := fun j hj => match j, hj with
  | 0, _ => rfl
  | n + 1, h => absurd h (by omega)
theorem cl_9 (X : gX) : clOk (g0 X) 9 "TrustDesk$Fact" T_9 1 ty_9 := ⟨rfl, rfl, ws_9, by decide +kernel, by decide +kernel, by decide, by decide⟩
theorem isc_9 (X : gX) : isC (g0 X) 9 "TrustDesk$Fact" := Or.inl ⟨_, _, _, cl_9 X⟩
theorem ws_10 : ∀ w ∈ u_ws "TrustDesk$Worked" T_10 3, w ∈ lw_all := ws_of (fun k hk => match k, hk with
  | 0, _ => q680
  | 1, _ => q682
  | 2, _ => q684
  | n + 3, h => absurd h (by omega))
theorem df_10 : ∀ j, j < 3 → defaultValue (ty_10 j) = gvv (fun _ => 0) (mtag (tgOf (ty_10 j)) 0) := fun j hj => match j, hj with
  | 0, _ => rfl
  | 1, _ => rfl
  | 2, _ => rfl
  | n + 3, h => absurd h (by omega)
theorem cl_10 (X : gX) : clOk (g0 X) 10 "TrustDesk$Worked" T_10 3 ty_10 := ⟨rfl, rfl, ws_10, by decide +kernel, by decide +kernel, by decide, by decide⟩
theorem isc_10 (X : gX) : isC (g0 X) 10 "TrustDesk$Worked" := Or.inl ⟨_, _, _, cl_10 X⟩
theorem ws_11 : ∀ w ∈ u_ws "TrustDesk$Compared" T_11 3, w ∈ lw_all := ws_of (fun k hk => match k, hk with
  | 0, _ => q701
  | 1, _ => q703
  | 2, _ => q705
  | n + 3, h => absurd h (by omega))
theorem df_11 : ∀ j, j < 3 → defaultValue (ty_11 j) = gvv (fun _ => 0) (mtag (tgOf (ty_11 j)) 0) := fun j hj => match j, hj with
  | 0, _ => rfl
  | 1, _ => rfl
  | 2, _ => rfl
  | n + 3, h => absurd h (by omega)
theorem cl_11 (X : gX) : clOk (g0 X) 11 "TrustDesk$Compared" T_11 3 ty_11 := ⟨rfl, rfl, ws_11, by decide +kernel, by decide +kernel, by decide, by decide⟩
theorem isc_11 (X : gX) : isC (g0 X) 11 "TrustDesk$Compared" := Or.inl ⟨_, _, _, cl_11 X⟩
theorem ws_12 : ∀ w ∈ u_ws "TrustDesk$Some" T_12 2, w ∈ lw_all := ws_of (fun k hk => match k, hk with
  | 0, _ => q600
  | 1, _ => q602
  | n + 2, h => absurd h (by omega))
theorem df_12 : ∀ j, j < 2 → defaultValue (ty_12 j) = gvv (fun _ => 0) (mtag (tgOf (ty_12 j)) 0) := fun j hj => match j, hj with
  | 0, _ => rfl
  | 1, _ => rfl
  | n + 2, h => absurd h (by omega)
theorem cl_12 (X : gX) : clOk (g0 X) 12 "TrustDesk$Some" T_12 2 ty_12 := ⟨rfl, rfl, ws_12, by decide +kernel, by decide +kernel, by decide, by decide⟩
theorem isc_12 (X : gX) : isC (g0 X) 12 "TrustDesk$Some" := Or.inl ⟨_, _, _, cl_12 X⟩
theorem ws_13 : ∀ w ∈ u_ws "TrustDesk$Not" T_13 1, w ∈ lw_all := ws_of (fun k hk => match k, hk with
  | 0, _ => q781
  | n + 1, h => absurd h (by omega))
theorem df_13 : ∀ j, j < 1 → defaultValue (ty_13 j) = gvv (fun _ => 0) (mtag (tgOf (ty_13 j)) 0) := fun j hj => match j, hj with
  | 0, _ => rfl
  | n + 1, h => absurd h (by omega)
theorem cl_13 (X : gX) : clOk (g0 X) 13 "TrustDesk$Not" T_13 1 ty_13 := ⟨rfl, rfl, ws_13, by decide +kernel, by decide +kernel, by decide, by decide⟩
theorem isc_13 (X : gX) : isC (g0 X) 13 "TrustDesk$Not" := Or.inl ⟨_, _, _, cl_13 X⟩
theorem ws_14 : ∀ w ∈ u_ws "TrustDesk$Fund" T_14 12, w ∈ lw_all := ws_of (fun k hk => match k, hk with
  | 0, _ => q1191
  | 1, _ => q1193
  | 2, _ => q1195
  | 3, _ => q1197
  | 4, _ => q1199
  | 5, _ => q1201
  | 6, _ => q1203
  | 7, _ => q1205
  | 8, _ => q1207
  | 9, _ => q1209
  | 10, _ => q1211
  | 11, _ => q1213
  | n + 12, h => absurd h (by omega))
theorem df_14 : ∀ j, j < 12 → defaultValue (ty_14 j) = gvv (fun _ => 0) (mtag (tgOf (ty_14 j)) 0) := fun j hj => match j, hj with
  | 0, _ => rfl
  | 1, _ => rfl
  | 2, _ => rfl
  | 3, _ => rfl
  | 4, _ => rfl
  | 5, _ => rfl
  | 6, _ => rfl
  | 7, _ => rfl
  | 8, _ => rfl
  | 9, _ => rfl
  | 10, _ => rfl
  | 11, _ => rfl
  | n + 12, h => absurd h (by omega)
theorem cl_14 (X : gX) : clOk (g0 X) 14 "TrustDesk$Fund" T_14 12 ty_14 := ⟨rfl, rfl, ws_14, by decide +kernel, by decide +kernel, by decide, by decide⟩
theorem isc_14 (X : gX) : isC (g0 X) 14 "TrustDesk$Fund" := Or.inl ⟨_, _, _, cl_14 X⟩
theorem ws_15 : ∀ w ∈ u_ws "TrustDesk$Deed" T_15 4, w ∈ lw_all := ws_of (fun k hk => match k, hk with
  | 0, _ => q951
  | 1, _ => q953
  | 2, _ => q955
  | 3, _ => q957
  | n + 4, h => absurd h (by omega))
theorem df_15 : ∀ j, j < 4 → defaultValue (ty_15 j) = gvv (fun _ => 0) (mtag (tgOf (ty_15 j)) 0) := fun j hj => match j, hj with
  | 0, _ => rfl
  | 1, _ => rfl
  | 2, _ => rfl
  | 3, _ => rfl
  | n + 4, h => absurd h (by omega)
theorem cl_15 (X : gX) : clOk (g0 X) 15 "TrustDesk$Deed" T_15 4 ty_15 := ⟨rfl, rfl, ws_15, by decide +kernel, by decide +kernel, by decide, by decide⟩
theorem isc_15 (X : gX) : isC (g0 X) 15 "TrustDesk$Deed" := Or.inl ⟨_, _, _, cl_15 X⟩
theorem ws_16 : ∀ w ∈ u_ws "TrustDesk$Aim" T_16 5, w ∈ lw_all := ws_of (fun k hk => match k, hk with
  | 0, _ => q1101
  | 1, _ => q1103
  | 2, _ => q1105
  | 3, _ => q1107
  | 4, _ => q1109
  | n + 5, h => absurd h (by omega))
theorem df_16 : ∀ j, j < 5 → defaultValue (ty_16 j) = gvv (fun _ => 0) (mtag (tgOf (ty_16 j)) 0) := fun j hj => match j, hj with
  | 0, _ => rfl
  | 1, _ => rfl
  | 2, _ => rfl
  | 3, _ => rfl
  | 4, _ => rfl
  | n + 5, h => absurd h (by omega)
theorem cl_16 (X : gX) : clOk (g0 X) 16 "TrustDesk$Aim" T_16 5 ty_16 := ⟨rfl, rfl, ws_16, by decide +kernel, by decide +kernel, by decide, by decide⟩
theorem isc_16 (X : gX) : isC (g0 X) 16 "TrustDesk$Aim" := Or.inl ⟨_, _, _, cl_16 X⟩
theorem ws_17 : ∀ w ∈ u_ws "TrustDesk$End" T_17 4, w ∈ lw_all := ws_of (fun k hk => match k, hk with
  | 0, _ => q1145
  | 1, _ => q1147
  | 2, _ => q1149
  | 3, _ => q1151
  | n + 4, h => absurd h (by omega))
theorem df_17 : ∀ j, j < 4 → defaultValue (ty_17 j) = gvv (fun _ => 0) (mtag (tgOf (ty_17 j)) 0) := fun j hj => match j, hj with
  | 0, _ => rfl
  | 1, _ => rfl
  | 2, _ => rfl
  | 3, _ => rfl
  | n + 4, h => absurd h (by omega)
theorem cl_17 (X : gX) : clOk (g0 X) 17 "TrustDesk$End" T_17 4 ty_17 := ⟨rfl, rfl, ws_17, by decide +kernel, by decide +kernel, by decide, by decide⟩
theorem isc_17 (X : gX) : isC (g0 X) 17 "TrustDesk$End" := Or.inl ⟨_, _, _, cl_17 X⟩
theorem ws_18 : ∀ w ∈ u_ws "TrustDesk$Near" T_18 2, w ∈ lw_all := ws_of (fun k hk => match k, hk with
  | 0, _ => q1235
  | 1, _ => q1237
  | n + 2, h => absurd h (by omega))
theorem df_18 : ∀ j, j < 2 → defaultValue (ty_18 j) = gvv (fun _ => 0) (mtag (tgOf (ty_18 j)) 0) := fun j hj => match j, hj with
  | 0, _ => rfl
  | 1, _ => rfl
  | n + 2, h => absurd h (by omega)
theorem cl_18 (X : gX) : clOk (g0 X) 18 "TrustDesk$Near" T_18 2 ty_18 := ⟨rfl, rfl, ws_18, by decide +kernel, by decide +kernel, by decide, by decide⟩
theorem isc_18 (X : gX) : isC (g0 X) 18 "TrustDesk$Near" := Or.inl ⟨_, _, _, cl_18 X⟩
theorem ws_19 : ∀ w ∈ u_ws "TrustDesk$Nearer" T_19 11, w ∈ lw_all := ws_of (fun k hk => match k, hk with
  | 0, _ => q1484
  | 1, _ => q1486
  | 2, _ => q1488
  | 3, _ => q1490
  | 4, _ => q1492
  | 5, _ => q1494
  | 6, _ => q1496
  | 7, _ => q1498
  | 8, _ => q1500
  | 9, _ => q1502
  | 10, _ => q1482
  | n + 11, h => absurd h (by omega))
theorem df_19 : ∀ j, j < 11 → defaultValue (ty_19 j) = gvv (fun _ => 0) (mtag (tgOf (ty_19 j)) 0) := fun j hj => match j, hj with
  | 0, _ => rfl
  | 1, _ => rfl
  | 2, _ => rfl
  | 3, _ => rfl
  | 4, _ => rfl
  | 5, _ => rfl
  | 6, _ => rfl
  | 7, _ => rfl
  | 8, _ => rfl
  | 9, _ => rfl
  | 10, _ => rfl
  | n + 11, h => absurd h (by omega)
theorem cl_19 (X : gX) : clOk (g0 X) 19 "TrustDesk$Nearer" T_19 11 ty_19 := ⟨rfl, rfl, ws_19, by decide +kernel, by decide +kernel, by decide, by decide⟩
theorem isc_19 (X : gX) : isC (g0 X) 19 "TrustDesk$Nearer" := Or.inl ⟨_, _, _, cl_19 X⟩
theorem ws_20 : ∀ w ∈ u_ws "TrustDesk$Join" T_20 12, w ∈ lw_all := ws_of (fun k hk => match k, hk with
  | 0, _ => q1519
  | 1, _ => q1520
  | 2, _ => q1521
  | 3, _ => q1522
  | 4, _ => q1523
  | 5, _ => q1524
  | 6, _ => q1525
  | 7, _ => q1526
  | 8, _ => q1527
  | 9, _ => q1528
  | 10, _ => q1515
  | 11, _ => q1517
  | n + 12, h => absurd h (by omega))
theorem df_20 : ∀ j, j < 12 → defaultValue (ty_20 j) = gvv (fun _ => 0) (mtag (tgOf (ty_20 j)) 0) := fun j hj => match j, hj with
  | 0, _ => rfl
  | 1, _ => rfl
  | 2, _ => rfl
  | 3, _ => rfl
  | 4, _ => rfl
  | 5, _ => rfl
  | 6, _ => rfl
  | 7, _ => rfl
  | 8, _ => rfl
  | 9, _ => rfl
  | 10, _ => rfl
  | 11, _ => rfl
  | n + 12, h => absurd h (by omega)
theorem cl_20 (X : gX) : clOk (g0 X) 20 "TrustDesk$Join" T_20 12 ty_20 := ⟨rfl, rfl, ws_20, by decide +kernel, by decide +kernel, by decide, by decide⟩
theorem isc_20 (X : gX) : isC (g0 X) 20 "TrustDesk$Join" := Or.inl ⟨_, _, _, cl_20 X⟩
theorem ws_21 : ∀ w ∈ u_ws "TrustDesk$Sale" T_21 11, w ∈ lw_all := ws_of (fun k hk => match k, hk with
  | 0, _ => q1539
  | 1, _ => q1540
  | 2, _ => q1541
  | 3, _ => q1542
  | 4, _ => q1543
  | 5, _ => q1544
  | 6, _ => q1545
  | 7, _ => q1546
  | 8, _ => q1547
  | 9, _ => q1548
  | 10, _ => q1537
  | n + 11, h => absurd h (by omega))
theorem df_21 : ∀ j, j < 11 → defaultValue (ty_21 j) = gvv (fun _ => 0) (mtag (tgOf (ty_21 j)) 0) := fun j hj => match j, hj with
  | 0, _ => rfl
  | 1, _ => rfl
  | 2, _ => rfl
  | 3, _ => rfl
  | 4, _ => rfl
  | 5, _ => rfl
  | 6, _ => rfl
  | 7, _ => rfl
  | 8, _ => rfl
  | 9, _ => rfl
  | 10, _ => rfl
  | n + 11, h => absurd h (by omega)
theorem cl_21 (X : gX) : clOk (g0 X) 21 "TrustDesk$Sale" T_21 11 ty_21 := ⟨rfl, rfl, ws_21, by decide +kernel, by decide +kernel, by decide, by decide⟩
theorem isc_21 (X : gX) : isC (g0 X) 21 "TrustDesk$Sale" := Or.inl ⟨_, _, _, cl_21 X⟩
theorem ws_22 : ∀ w ∈ u_ws "TrustDesk$Strike" T_22 11, w ∈ lw_all := ws_of (fun k hk => match k, hk with
  | 0, _ => q1559
  | 1, _ => q1560
  | 2, _ => q1561
  | 3, _ => q1562
  | 4, _ => q1563
  | 5, _ => q1564
  | 6, _ => q1565
  | 7, _ => q1566
  | 8, _ => q1567
  | 9, _ => q1568
  | 10, _ => q1557
  | n + 11, h => absurd h (by omega))
theorem df_22 : ∀ j, j < 11 → defaultValue (ty_22 j) = gvv (fun _ => 0) (mtag (tgOf (ty_22 j)) 0) := fun j hj => match j, hj with
  | 0, _ => rfl
  | 1, _ => rfl
  | 2, _ => rfl
  | 3, _ => rfl
  | 4, _ => rfl
  | 5, _ => rfl
  | 6, _ => rfl
  | 7, _ => rfl
  | 8, _ => rfl
  | 9, _ => rfl
  | 10, _ => rfl
  | n + 11, h => absurd h (by omega)
theorem cl_22 (X : gX) : clOk (g0 X) 22 "TrustDesk$Strike" T_22 11 ty_22 := ⟨rfl, rfl, ws_22, by decide +kernel, by decide +kernel, by decide, by decide⟩
theorem isc_22 (X : gX) : isC (g0 X) 22 "TrustDesk$Strike" := Or.inl ⟨_, _, _, cl_22 X⟩
theorem ws_23 : ∀ w ∈ u_ws "TrustDesk$Groups" T_23 12, w ∈ lw_all := ws_of (fun k hk => match k, hk with
  | 0, _ => q1883
  | 1, _ => q1885
  | 2, _ => q1887
  | 3, _ => q1889
  | 4, _ => q1891
  | 5, _ => q1893
  | 6, _ => q1895
  | 7, _ => q1897
  | 8, _ => q1899
  | 9, _ => q1901
  | 10, _ => q1903
  | 11, _ => q1905
  | n + 12, h => absurd h (by omega))
theorem df_23 : ∀ j, j < 12 → defaultValue (ty_23 j) = gvv (fun _ => 0) (mtag (tgOf (ty_23 j)) 0) := fun j hj => match j, hj with
  | 0, _ => rfl
  | 1, _ => rfl
  | 2, _ => rfl
  | 3, _ => rfl
  | 4, _ => rfl
  | 5, _ => rfl
  | 6, _ => rfl
  | 7, _ => rfl
  | 8, _ => rfl
  | 9, _ => rfl
  | 10, _ => rfl
  | 11, _ => rfl
  | n + 12, h => absurd h (by omega)
theorem cl_23 (X : gX) : clOk (g0 X) 23 "TrustDesk$Groups" T_23 12 ty_23 := ⟨rfl, rfl, ws_23, by decide +kernel, by decide +kernel, by decide, by decide⟩
theorem isc_23 (X : gX) : isC (g0 X) 23 "TrustDesk$Groups" := Or.inl ⟨_, _, _, cl_23 X⟩
theorem ws_24 : ∀ w ∈ u_ws "java/util/ArrayList" T_24 3, w ∈ lw_all := ws_of (fun k hk => match k, hk with
  | 0, _ => q288
  | 1, _ => q284
  | 2, _ => q286
  | n + 3, h => absurd h (by omega))
theorem df_24 : ∀ j, j < 3 → defaultValue (ty_24 j) = gvv (fun _ => 0) (mtag (tgOf (ty_24 j)) 0) := fun j hj => match j, hj with
  | 0, _ => rfl
  | 1, _ => rfl
  | 2, _ => rfl
  | n + 3, h => absurd h (by omega)
theorem cl_24 (X : gX) : clOk (g0 X) 24 "java/util/ArrayList" T_24 3 ty_24 := ⟨rfl, rfl, ws_24, by decide +kernel, by decide +kernel, by decide, by decide⟩
theorem isc_24 (X : gX) : isC (g0 X) 24 "java/util/ArrayList" := Or.inl ⟨_, _, _, cl_24 X⟩
theorem ws_25 : ∀ w ∈ u_ws "java/lang/StringBuilder" T_25 4, w ∈ lw_all := ws_of (fun k hk => match k, hk with
  | 0, _ => q985
  | 1, _ => q987
  | 2, _ => q989
  | 3, _ => q991
  | n + 4, h => absurd h (by omega))
theorem df_25 : ∀ j, j < 4 → defaultValue (ty_25 j) = gvv (fun _ => 0) (mtag (tgOf (ty_25 j)) 0) := fun j hj => match j, hj with
  | 0, _ => rfl
  | 1, _ => rfl
  | 2, _ => rfl
  | 3, _ => rfl
  | n + 4, h => absurd h (by omega)
theorem cl_25 (X : gX) : clOk (g0 X) 25 "java/lang/StringBuilder" T_25 4 ty_25 := ⟨rfl, rfl, ws_25, by decide +kernel, by decide +kernel, by decide, by decide⟩
theorem isc_25 (X : gX) : isC (g0 X) 25 "java/lang/StringBuilder" := Or.inl ⟨_, _, _, cl_25 X⟩
theorem ws_26 : ∀ w ∈ u_ws "java/lang/Integer" T_26 1, w ∈ lw_all := ws_of (fun k hk => match k, hk with
  | 0, _ => q1382
  | n + 1, h => absurd h (by omega))
theorem df_26 : ∀ j, j < 1 → defaultValue (ty_26 j) = gvv (fun _ => 0) (mtag (tgOf (ty_26 j)) 0) := fun j hj => match j, hj with
  | 0, _ => rfl
  | n + 1, h => absurd h (by omega)
theorem cl_26 (X : gX) : clOk (g0 X) 26 "java/lang/Integer" T_26 1 ty_26 := ⟨rfl, rfl, ws_26, by decide +kernel, by decide +kernel, by decide, by decide⟩
theorem isc_26 (X : gX) : isC (g0 X) 26 "java/lang/Integer" := Or.inl ⟨_, _, _, cl_26 X⟩
theorem ws_27 : ∀ w ∈ u_ws "java/lang/String" T_27 4, w ∈ lw_all := ws_of (fun k hk => match k, hk with
  | 0, _ => q437
  | 1, _ => q439
  | 2, _ => q441
  | 3, _ => q443
  | n + 4, h => absurd h (by omega))
theorem df_27 : ∀ j, j < 4 → defaultValue (ty_27 j) = gvv (fun _ => 0) (mtag (tgOf (ty_27 j)) 0) := fun j hj => match j, hj with
  | 0, _ => rfl
  | 1, _ => rfl
  | 2, _ => rfl
  | 3, _ => rfl
  | n + 4, h => absurd h (by omega)
theorem cl_27 (X : gX) : clOk (g0 X) 27 "java/lang/String" T_27 4 ty_27 := ⟨rfl, rfl, ws_27, by decide +kernel, by decide +kernel, by decide, by decide⟩
theorem isc_27 (X : gX) : isC (g0 X) 27 "java/lang/String" := Or.inl ⟨_, _, _, cl_27 X⟩
theorem pl_0 : plainName "TrustDeskLaw" = true := by decide +kernel
theorem nh_0 : ("TrustDeskLaw" : String) ≠ "java/lang/invoke/MethodHandle" ∧ ("TrustDeskLaw" : String) ≠ "java/lang/invoke/VarHandle" := ⟨by decide +kernel, by decide +kernel⟩
theorem pl_1 : plainName "TrustDesk" = true := by decide +kernel
theorem nh_1 : ("TrustDesk" : String) ≠ "java/lang/invoke/MethodHandle" ∧ ("TrustDesk" : String) ≠ "java/lang/invoke/VarHandle" := ⟨by decide +kernel, by decide +kernel⟩
theorem pl_2 : plainName "java/util/AbstractCollection" = true := by decide +kernel
theorem nh_2 : ("java/util/AbstractCollection" : String) ≠ "java/lang/invoke/MethodHandle" ∧ ("java/util/AbstractCollection" : String) ≠ "java/lang/invoke/VarHandle" := ⟨by decide +kernel, by decide +kernel⟩
theorem pl_3 : plainName "java/util/AbstractList" = true := by decide +kernel
theorem nh_3 : ("java/util/AbstractList" : String) ≠ "java/lang/invoke/MethodHandle" ∧ ("java/util/AbstractList" : String) ≠ "java/lang/invoke/VarHandle" := ⟨by decide +kernel, by decide +kernel⟩
theorem pl_4 : plainName "java/util/ArrayList" = true := by decide +kernel
theorem nh_4 : ("java/util/ArrayList" : String) ≠ "java/lang/invoke/MethodHandle" ∧ ("java/util/ArrayList" : String) ≠ "java/lang/invoke/VarHandle" := ⟨by decide +kernel, by decide +kernel⟩
theorem pl_5 : plainName "TrustDesk$Act" = true := by decide +kernel
theorem nh_5 : ("TrustDesk$Act" : String) ≠ "java/lang/invoke/MethodHandle" ∧ ("TrustDesk$Act" : String) ≠ "java/lang/invoke/VarHandle" := ⟨by decide +kernel, by decide +kernel⟩
theorem pl_6 : plainName "TrustDeskModel" = true := by decide +kernel
theorem nh_6 : ("TrustDeskModel" : String) ≠ "java/lang/invoke/MethodHandle" ∧ ("TrustDeskModel" : String) ≠ "java/lang/invoke/VarHandle" := ⟨by decide +kernel, by decide +kernel⟩
theorem pl_7 : plainName "TrustDesk$Reader" = true := by decide +kernel
theorem nh_7 : ("TrustDesk$Reader" : String) ≠ "java/lang/invoke/MethodHandle" ∧ ("TrustDesk$Reader" : String) ≠ "java/lang/invoke/VarHandle" := ⟨by decide +kernel, by decide +kernel⟩
theorem pl_8 : plainName "java/lang/String" = true := by decide +kernel
theorem nh_8 : ("java/lang/String" : String) ≠ "java/lang/invoke/MethodHandle" ∧ ("java/lang/String" : String) ≠ "java/lang/invoke/VarHandle" := ⟨by decide +kernel, by decide +kernel⟩
theorem pl_9 : plainName "java/lang/StringLatin1" = true := by decide +kernel
theorem nh_9 : ("java/lang/StringLatin1" : String) ≠ "java/lang/invoke/MethodHandle" ∧ ("java/lang/StringLatin1" : String) ≠ "java/lang/invoke/VarHandle" := ⟨by decide +kernel, by decide +kernel⟩
theorem pl_10 : plainName "jdk/internal/util/Preconditions" = true := by decide +kernel
theorem nh_10 : ("jdk/internal/util/Preconditions" : String) ≠ "java/lang/invoke/MethodHandle" ∧ ("jdk/internal/util/Preconditions" : String) ≠ "java/lang/invoke/VarHandle" := ⟨by decide +kernel, by decide +kernel⟩
theorem pl_11 : plainName "java/util/Arrays" = true := by decide +kernel
theorem nh_11 : ("java/util/Arrays" : String) ≠ "java/lang/invoke/MethodHandle" ∧ ("java/util/Arrays" : String) ≠ "java/lang/invoke/VarHandle" := ⟨by decide +kernel, by decide +kernel⟩
theorem pl_12 : plainName "java/lang/Throwable" = true := by decide +kernel
theorem nh_12 : ("java/lang/Throwable" : String) ≠ "java/lang/invoke/MethodHandle" ∧ ("java/lang/Throwable" : String) ≠ "java/lang/invoke/VarHandle" := ⟨by decide +kernel, by decide +kernel⟩
theorem pl_13 : plainName "java/lang/Exception" = true := by decide +kernel
theorem nh_13 : ("java/lang/Exception" : String) ≠ "java/lang/invoke/MethodHandle" ∧ ("java/lang/Exception" : String) ≠ "java/lang/invoke/VarHandle" := ⟨by decide +kernel, by decide +kernel⟩
theorem pl_14 : plainName "TrustDesk$Wrong" = true := by decide +kernel
theorem nh_14 : ("TrustDesk$Wrong" : String) ≠ "java/lang/invoke/MethodHandle" ∧ ("TrustDesk$Wrong" : String) ≠ "java/lang/invoke/VarHandle" := ⟨by decide +kernel, by decide +kernel⟩
theorem pl_15 : plainName "TrustDesk$Bar" = true := by decide +kernel
theorem nh_15 : ("TrustDesk$Bar" : String) ≠ "java/lang/invoke/MethodHandle" ∧ ("TrustDesk$Bar" : String) ≠ "java/lang/invoke/VarHandle" := ⟨by decide +kernel, by decide +kernel⟩
theorem pl_16 : plainName "TrustDesk$Cond" = true := by decide +kernel
theorem nh_16 : ("TrustDesk$Cond" : String) ≠ "java/lang/invoke/MethodHandle" ∧ ("TrustDesk$Cond" : String) ≠ "java/lang/invoke/VarHandle" := ⟨by decide +kernel, by decide +kernel⟩
theorem pl_17 : plainName "TrustDesk$Some" = true := by decide +kernel
theorem nh_17 : ("TrustDesk$Some" : String) ≠ "java/lang/invoke/MethodHandle" ∧ ("TrustDesk$Some" : String) ≠ "java/lang/invoke/VarHandle" := ⟨by decide +kernel, by decide +kernel⟩
theorem pl_18 : plainName "TrustDesk$Sum" = true := by decide +kernel
theorem nh_18 : ("TrustDesk$Sum" : String) ≠ "java/lang/invoke/MethodHandle" ∧ ("TrustDesk$Sum" : String) ≠ "java/lang/invoke/VarHandle" := ⟨by decide +kernel, by decide +kernel⟩
theorem pl_19 : plainName "TrustDesk$Fact" = true := by decide +kernel
theorem nh_19 : ("TrustDesk$Fact" : String) ≠ "java/lang/invoke/MethodHandle" ∧ ("TrustDesk$Fact" : String) ≠ "java/lang/invoke/VarHandle" := ⟨by decide +kernel, by decide +kernel⟩
theorem pl_20 : plainName "TrustDesk$Plain" = true := by decide +kernel
theorem nh_20 : ("TrustDesk$Plain" : String) ≠ "java/lang/invoke/MethodHandle" ∧ ("TrustDesk$Plain" : String) ≠ "java/lang/invoke/VarHandle" := ⟨by decide +kernel, by decide +kernel⟩
theorem pl_21 : plainName "TrustDesk$Worked" = true := by decide +kernel
theorem nh_21 : ("TrustDesk$Worked" : String) ≠ "java/lang/invoke/MethodHandle" ∧ ("TrustDesk$Worked" : String) ≠ "java/lang/invoke/VarHandle" := ⟨by decide +kernel, by decide +kernel⟩
theorem pl_22 : plainName "TrustDesk$Compared" = true := by decide +kernel
theorem nh_22 : ("TrustDesk$Compared" : String) ≠ "java/lang/invoke/MethodHandle" ∧ ("TrustDesk$Compared" : String) ≠ "java/lang/invoke/VarHandle" := ⟨by decide +kernel, by decide +kernel⟩
theorem pl_23 : plainName "jdk/internal/util/ArraysSupport" = true := by decide +kernel
theorem nh_23 : ("jdk/internal/util/ArraysSupport" : String) ≠ "java/lang/invoke/MethodHandle" ∧ ("jdk/internal/util/ArraysSupport" : String) ≠ "java/lang/invoke/VarHandle" := ⟨by decide +kernel, by decide +kernel⟩
theorem pl_24 : plainName "TrustDesk$Not" = true := by decide +kernel
theorem nh_24 : ("TrustDesk$Not" : String) ≠ "java/lang/invoke/MethodHandle" ∧ ("TrustDesk$Not" : String) ≠ "java/lang/invoke/VarHandle" := ⟨by decide +kernel, by decide +kernel⟩
theorem pl_25 : plainName "java/util/Objects" = true := by decide +kernel
theorem nh_25 : ("java/util/Objects" : String) ≠ "java/lang/invoke/MethodHandle" ∧ ("java/util/Objects" : String) ≠ "java/lang/invoke/VarHandle" := ⟨by decide +kernel, by decide +kernel⟩
theorem pl_26 : plainName "TrustDesk$Fund" = true := by decide +kernel
theorem nh_26 : ("TrustDesk$Fund" : String) ≠ "java/lang/invoke/MethodHandle" ∧ ("TrustDesk$Fund" : String) ≠ "java/lang/invoke/VarHandle" := ⟨by decide +kernel, by decide +kernel⟩
theorem pl_27 : plainName "TrustDesk$Deed" = true := by decide +kernel
theorem nh_27 : ("TrustDesk$Deed" : String) ≠ "java/lang/invoke/MethodHandle" ∧ ("TrustDesk$Deed" : String) ≠ "java/lang/invoke/VarHandle" := ⟨by decide +kernel, by decide +kernel⟩
theorem pl_28 : plainName "java/lang/AbstractStringBuilder" = true := by decide +kernel
theorem nh_28 : ("java/lang/AbstractStringBuilder" : String) ≠ "java/lang/invoke/MethodHandle" ∧ ("java/lang/AbstractStringBuilder" : String) ≠ "java/lang/invoke/VarHandle" := ⟨by decide +kernel, by decide +kernel⟩
theorem pl_29 : plainName "java/lang/StringBuilder" = true := by decide +kernel
theorem nh_29 : ("java/lang/StringBuilder" : String) ≠ "java/lang/invoke/MethodHandle" ∧ ("java/lang/StringBuilder" : String) ≠ "java/lang/invoke/VarHandle" := ⟨by decide +kernel, by decide +kernel⟩
theorem pl_30 : plainName "TrustDesk$Aim" = true := by decide +kernel
theorem nh_30 : ("TrustDesk$Aim" : String) ≠ "java/lang/invoke/MethodHandle" ∧ ("TrustDesk$Aim" : String) ≠ "java/lang/invoke/VarHandle" := ⟨by decide +kernel, by decide +kernel⟩
theorem pl_31 : plainName "TrustDesk$End" = true := by decide +kernel
theorem nh_31 : ("TrustDesk$End" : String) ≠ "java/lang/invoke/MethodHandle" ∧ ("TrustDesk$End" : String) ≠ "java/lang/invoke/VarHandle" := ⟨by decide +kernel, by decide +kernel⟩
theorem pl_32 : plainName "TrustDesk$Near" = true := by decide +kernel
theorem nh_32 : ("TrustDesk$Near" : String) ≠ "java/lang/invoke/MethodHandle" ∧ ("TrustDesk$Near" : String) ≠ "java/lang/invoke/VarHandle" := ⟨by decide +kernel, by decide +kernel⟩
theorem pl_33 : plainName "java/lang/Number" = true := by decide +kernel
theorem nh_33 : ("java/lang/Number" : String) ≠ "java/lang/invoke/MethodHandle" ∧ ("java/lang/Number" : String) ≠ "java/lang/invoke/VarHandle" := ⟨by decide +kernel, by decide +kernel⟩
theorem pl_34 : plainName "java/lang/Integer" = true := by decide +kernel
theorem nh_34 : ("java/lang/Integer" : String) ≠ "java/lang/invoke/MethodHandle" ∧ ("java/lang/Integer" : String) ≠ "java/lang/invoke/VarHandle" := ⟨by decide +kernel, by decide +kernel⟩
theorem pl_35 : plainName "TrustDesk$Scheme" = true := by decide +kernel
theorem nh_35 : ("TrustDesk$Scheme" : String) ≠ "java/lang/invoke/MethodHandle" ∧ ("TrustDesk$Scheme" : String) ≠ "java/lang/invoke/VarHandle" := ⟨by decide +kernel, by decide +kernel⟩
theorem pl_36 : plainName "TrustDesk$Nearer" = true := by decide +kernel
theorem nh_36 : ("TrustDesk$Nearer" : String) ≠ "java/lang/invoke/MethodHandle" ∧ ("TrustDesk$Nearer" : String) ≠ "java/lang/invoke/VarHandle" := ⟨by decide +kernel, by decide +kernel⟩
theorem pl_37 : plainName "TrustDesk$Join" = true := by decide +kernel
theorem nh_37 : ("TrustDesk$Join" : String) ≠ "java/lang/invoke/MethodHandle" ∧ ("TrustDesk$Join" : String) ≠ "java/lang/invoke/VarHandle" := ⟨by decide +kernel, by decide +kernel⟩
theorem pl_38 : plainName "TrustDesk$Sale" = true := by decide +kernel
theorem nh_38 : ("TrustDesk$Sale" : String) ≠ "java/lang/invoke/MethodHandle" ∧ ("TrustDesk$Sale" : String) ≠ "java/lang/invoke/VarHandle" := ⟨by decide +kernel, by decide +kernel⟩
theorem pl_39 : plainName "TrustDesk$Strike" = true := by decide +kernel
theorem nh_39 : ("TrustDesk$Strike" : String) ≠ "java/lang/invoke/MethodHandle" ∧ ("TrustDesk$Strike" : String) ≠ "java/lang/invoke/VarHandle" := ⟨by decide +kernel, by decide +kernel⟩
theorem pl_40 : plainName "TrustDesk$Groups" = true := by decide +kernel
theorem nh_40 : ("TrustDesk$Groups" : String) ≠ "java/lang/invoke/MethodHandle" ∧ ("TrustDesk$Groups" : String) ≠ "java/lang/invoke/VarHandle" := ⟨by decide +kernel, by decide +kernel⟩
theorem ck_0 (X : gX) : ckOk (g0 X) 0 := ⟨pl_0, q1965, q112, Nat.le_of_ble_eq_true rfl, nh_0⟩
theorem ck_1 (X : gX) : ckOk (g0 X) 1 := ⟨pl_1, q163, q113, Nat.le_of_ble_eq_true rfl, nh_1⟩
theorem ck_2 (X : gX) : ckOk (g0 X) 2 := ⟨pl_1, q166, q113, Nat.le_of_ble_eq_true rfl, nh_1⟩
theorem ck_3 (X : gX) : ckOk (g0 X) 3 := ⟨pl_1, q169, q113, Nat.le_of_ble_eq_true rfl, nh_1⟩
theorem ck_4 (X : gX) : ckOk (g0 X) 4 := ⟨pl_1, q173, q113, Nat.le_of_ble_eq_true rfl, nh_1⟩
theorem ck_5 (X : gX) : ckOk (g0 X) 5 := ⟨pl_1, q178, q113, Nat.le_of_ble_eq_true rfl, nh_1⟩
theorem ck_6 (X : gX) : ckOk (g0 X) 6 := ⟨pl_1, q182, q113, Nat.le_of_ble_eq_true rfl, nh_1⟩
theorem ck_7 (X : gX) : ckOk (g0 X) 7 := ⟨pl_1, q186, q113, Nat.le_of_ble_eq_true rfl, nh_1⟩
theorem ck_8 (X : gX) : ckOk (g0 X) 8 := ⟨pl_1, q190, q113, Nat.le_of_ble_eq_true rfl, nh_1⟩
theorem ck_9 (X : gX) : ckOk (g0 X) 9 := ⟨pl_1, q194, q113, Nat.le_of_ble_eq_true rfl, nh_1⟩
theorem ck_10 (X : gX) : ckOk (g0 X) 10 := ⟨pl_1, q204, q113, Nat.le_of_ble_eq_true rfl, nh_1⟩
theorem ck_11 (X : gX) : ckOk (g0 X) 11 := ⟨pl_1, q810, q113, Nat.le_of_ble_eq_true rfl, nh_1⟩
theorem ck_12 (X : gX) : ckOk (g0 X) 12 := ⟨pl_1, q814, q113, Nat.le_of_ble_eq_true rfl, nh_1⟩
theorem ck_13 (X : gX) : ckOk (g0 X) 13 := ⟨pl_1, q818, q113, Nat.le_of_ble_eq_true rfl, nh_1⟩
theorem ck_14 (X : gX) : ckOk (g0 X) 14 := ⟨pl_1, q835, q113, Nat.le_of_ble_eq_true rfl, nh_1⟩
theorem ck_15 (X : gX) : ckOk (g0 X) 15 := ⟨pl_1, q924, q113, Nat.le_of_ble_eq_true rfl, nh_1⟩
theorem ck_16 (X : gX) : ckOk (g0 X) 16 := ⟨pl_1, q1219, q113, Nat.le_of_ble_eq_true rfl, nh_1⟩
theorem ck_17 (X : gX) : ckOk (g0 X) 17 := ⟨pl_1, q1243, q113, Nat.le_of_ble_eq_true rfl, nh_1⟩
theorem ck_18 (X : gX) : ckOk (g0 X) 18 := ⟨pl_1, q1247, q113, Nat.le_of_ble_eq_true rfl, nh_1⟩
theorem ck_19 (X : gX) : ckOk (g0 X) 19 := ⟨pl_1, q1251, q113, Nat.le_of_ble_eq_true rfl, nh_1⟩
theorem ck_20 (X : gX) : ckOk (g0 X) 20 := ⟨pl_1, q1255, q113, Nat.le_of_ble_eq_true rfl, nh_1⟩
theorem ck_21 (X : gX) : ckOk (g0 X) 21 := ⟨pl_1, q1258, q113, Nat.le_of_ble_eq_true rfl, nh_1⟩
theorem ck_22 (X : gX) : ckOk (g0 X) 22 := ⟨pl_1, q1275, q113, Nat.le_of_ble_eq_true rfl, nh_1⟩
theorem ck_23 (X : gX) : ckOk (g0 X) 23 := ⟨pl_1, q1280, q113, Nat.le_of_ble_eq_true rfl, nh_1⟩
theorem ck_24 (X : gX) : ckOk (g0 X) 24 := ⟨pl_1, q1284, q113, Nat.le_of_ble_eq_true rfl, nh_1⟩
theorem ck_25 (X : gX) : ckOk (g0 X) 25 := ⟨pl_1, q1318, q113, Nat.le_of_ble_eq_true rfl, nh_1⟩
theorem ck_26 (X : gX) : ckOk (g0 X) 26 := ⟨pl_1, q1347, q113, Nat.le_of_ble_eq_true rfl, nh_1⟩
theorem ck_27 (X : gX) : ckOk (g0 X) 27 := ⟨pl_1, q1352, q113, Nat.le_of_ble_eq_true rfl, nh_1⟩
theorem ck_28 (X : gX) : ckOk (g0 X) 28 := ⟨pl_1, q1356, q113, Nat.le_of_ble_eq_true rfl, nh_1⟩
theorem ck_29 (X : gX) : ckOk (g0 X) 29 := ⟨pl_1, q1360, q113, Nat.le_of_ble_eq_true rfl, nh_1⟩
theorem ck_30 (X : gX) : ckOk (g0 X) 30 := ⟨pl_1, q1437, q113, Nat.le_of_ble_eq_true rfl, nh_1⟩
theorem ck_31 (X : gX) : ckOk (g0 X) 31 := ⟨pl_1, q1441, q113, Nat.le_of_ble_eq_true rfl, nh_1⟩
theorem ck_32 (X : gX) : ckOk (g0 X) 32 := ⟨pl_1, q1573, q113, Nat.le_of_ble_eq_true rfl, nh_1⟩
theorem ck_33 (X : gX) : ckOk (g0 X) 33 := ⟨pl_1, q1577, q113, Nat.le_of_ble_eq_true rfl, nh_1⟩
theorem ck_34 (X : gX) : ckOk (g0 X) 34 := ⟨pl_1, q1583, q113, Nat.le_of_ble_eq_true rfl, nh_1⟩
theorem ck_35 (X : gX) : ckOk (g0 X) 35 := ⟨pl_1, q1597, q113, Nat.le_of_ble_eq_true rfl, nh_1⟩
theorem ck_36 (X : gX) : ckOk (g0 X) 36 := ⟨pl_1, q1626, q113, Nat.le_of_ble_eq_true rfl, nh_1⟩
theorem ck_37 (X : gX) : ckOk (g0 X) 37 := ⟨pl_1, q1774, q113, Nat.le_of_ble_eq_true rfl, nh_1⟩
theorem ck_38 (X : gX) : ckOk (g0 X) 38 := ⟨pl_1, q1786, q113, Nat.le_of_ble_eq_true rfl, nh_1⟩
theorem ck_39 (X : gX) : ckOk (g0 X) 39 := ⟨pl_1, q1791, q113, Nat.le_of_ble_eq_true rfl, nh_1⟩
theorem ck_40 (X : gX) : ckOk (g0 X) 40 := ⟨pl_1, q1795, q113, Nat.le_of_ble_eq_true rfl, nh_1⟩
theorem ck_41 (X : gX) : ckOk (g0 X) 41 := ⟨pl_1, q1799, q113, Nat.le_of_ble_eq_true rfl, nh_1⟩
theorem ck_42 (X : gX) : ckOk (g0 X) 42 := ⟨pl_1, q1803, q113, Nat.le_of_ble_eq_true rfl, nh_1⟩
theorem ck_43 (X : gX) : ckOk (g0 X) 43 := ⟨pl_1, q1807, q113, Nat.le_of_ble_eq_true rfl, nh_1⟩
theorem ck_44 (X : gX) : ckOk (g0 X) 44 := ⟨pl_1, q1812, q113, Nat.le_of_ble_eq_true rfl, nh_1⟩
theorem ck_45 (X : gX) : ckOk (g0 X) 45 := ⟨pl_1, q1816, q113, Nat.le_of_ble_eq_true rfl, nh_1⟩
theorem ck_46 (X : gX) : ckOk (g0 X) 46 := ⟨pl_1, q1828, q113, Nat.le_of_ble_eq_true rfl, nh_1⟩
theorem ck_47 (X : gX) : ckOk (g0 X) 47 := ⟨pl_1, q1832, q113, Nat.le_of_ble_eq_true rfl, nh_1⟩
theorem ck_48 (X : gX) : ckOk (g0 X) 48 := ⟨pl_1, q1835, q113, Nat.le_of_ble_eq_true rfl, nh_1⟩
theorem ck_49 (X : gX) : ckOk (g0 X) 49 := ⟨pl_1, q1839, q113, Nat.le_of_ble_eq_true rfl, nh_1⟩
theorem ck_50 (X : gX) : ckOk (g0 X) 50 := ⟨pl_1, q1843, q113, Nat.le_of_ble_eq_true rfl, nh_1⟩
theorem ck_51 (X : gX) : ckOk (g0 X) 51 := ⟨pl_1, q1847, q113, Nat.le_of_ble_eq_true rfl, nh_1⟩
theorem ck_52 (X : gX) : ckOk (g0 X) 52 := ⟨pl_1, q1936, q113, Nat.le_of_ble_eq_true rfl, nh_1⟩
theorem ck_53 (X : gX) : ckOk (g0 X) 53 := ⟨pl_1, q1944, q113, Nat.le_of_ble_eq_true rfl, nh_1⟩
theorem ck_54 (X : gX) : ckOk (g0 X) 54 := ⟨pl_1, q1948, q113, Nat.le_of_ble_eq_true rfl, nh_1⟩
theorem ck_55 (X : gX) : ckOk (g0 X) 55 := ⟨pl_1, q1957, q113, Nat.le_of_ble_eq_true rfl, nh_1⟩
theorem ck_56 (X : gX) : ckOk (g0 X) 56 := ⟨pl_1, q1962, q113, Nat.le_of_ble_eq_true rfl, nh_1⟩
theorem ck_57 (X : gX) : ckOk (g0 X) 57 := ⟨pl_1, q1970, q113, Nat.le_of_ble_eq_true rfl, nh_1⟩
theorem ck_58 (X : gX) : ckOk (g0 X) 58 := ⟨pl_2, q273, q114, Nat.le_of_ble_eq_true rfl, nh_2⟩
theorem ck_59 (X : gX) : ckOk (g0 X) 59 := ⟨pl_3, q270, q115, Nat.le_of_ble_eq_true rfl, nh_3⟩
theorem ck_60 (X : gX) : ckOk (g0 X) 60 := ⟨pl_4, q200, q116, Nat.le_of_ble_eq_true rfl, nh_4⟩
theorem ck_61 (X : gX) : ckOk (g0 X) 61 := ⟨pl_4, q267, q116, Nat.le_of_ble_eq_true rfl, nh_4⟩
theorem ck_62 (X : gX) : ckOk (g0 X) 62 := ⟨pl_4, q711, q116, Nat.le_of_ble_eq_true rfl, nh_4⟩
theorem ck_63 (X : gX) : ckOk (g0 X) 63 := ⟨pl_4, q715, q116, Nat.le_of_ble_eq_true rfl, nh_4⟩
theorem ck_64 (X : gX) : ckOk (g0 X) 64 := ⟨pl_4, q719, q116, Nat.le_of_ble_eq_true rfl, nh_4⟩
theorem ck_65 (X : gX) : ckOk (g0 X) 65 := ⟨pl_4, q723, q116, Nat.le_of_ble_eq_true rfl, nh_4⟩
theorem ck_66 (X : gX) : ckOk (g0 X) 66 := ⟨pl_4, q822, q116, Nat.le_of_ble_eq_true rfl, nh_4⟩
theorem ck_67 (X : gX) : ckOk (g0 X) 67 := ⟨pl_4, q830, q116, Nat.le_of_ble_eq_true rfl, nh_4⟩
theorem ck_68 (X : gX) : ckOk (g0 X) 68 := ⟨pl_4, q1388, q116, Nat.le_of_ble_eq_true rfl, nh_4⟩
theorem ck_69 (X : gX) : ckOk (g0 X) 69 := ⟨pl_4, q1392, q116, Nat.le_of_ble_eq_true rfl, nh_4⟩
theorem ck_70 (X : gX) : ckOk (g0 X) 70 := ⟨pl_4, q1396, q116, Nat.le_of_ble_eq_true rfl, nh_4⟩
theorem ck_71 (X : gX) : ckOk (g0 X) 71 := ⟨pl_4, q1588, q116, Nat.le_of_ble_eq_true rfl, nh_4⟩
theorem ck_72 (X : gX) : ckOk (g0 X) 72 := ⟨pl_4, q1592, q116, Nat.le_of_ble_eq_true rfl, nh_4⟩
theorem ck_73 (X : gX) : ckOk (g0 X) 73 := ⟨pl_4, q1727, q116, Nat.le_of_ble_eq_true rfl, nh_4⟩
theorem ck_74 (X : gX) : ckOk (g0 X) 74 := ⟨pl_4, q1753, q116, Nat.le_of_ble_eq_true rfl, nh_4⟩
theorem ck_75 (X : gX) : ckOk (g0 X) 75 := ⟨pl_5, q261, q117, Nat.le_of_ble_eq_true rfl, nh_5⟩
theorem ck_76 (X : gX) : ckOk (g0 X) 76 := ⟨pl_5, q1683, q117, Nat.le_of_ble_eq_true rfl, nh_5⟩
theorem ck_77 (X : gX) : ckOk (g0 X) 77 := ⟨pl_6, q1997, q118, Nat.le_of_ble_eq_true rfl, nh_6⟩
theorem ck_78 (X : gX) : ckOk (g0 X) 78 := ⟨pl_6, q2002, q118, Nat.le_of_ble_eq_true rfl, nh_6⟩
theorem ck_79 (X : gX) : ckOk (g0 X) 79 := ⟨pl_6, q2225, q118, Nat.le_of_ble_eq_true rfl, nh_6⟩
theorem ck_80 (X : gX) : ckOk (g0 X) 80 := ⟨pl_6, q2229, q118, Nat.le_of_ble_eq_true rfl, nh_6⟩
theorem ck_81 (X : gX) : ckOk (g0 X) 81 := ⟨pl_6, q2232, q118, Nat.le_of_ble_eq_true rfl, nh_6⟩
theorem ck_82 (X : gX) : ckOk (g0 X) 82 := ⟨pl_6, q2237, q118, Nat.le_of_ble_eq_true rfl, nh_6⟩
theorem ck_83 (X : gX) : ckOk (g0 X) 83 := ⟨pl_6, q2241, q118, Nat.le_of_ble_eq_true rfl, nh_6⟩
theorem ck_84 (X : gX) : ckOk (g0 X) 84 := ⟨pl_6, q2245, q118, Nat.le_of_ble_eq_true rfl, nh_6⟩
theorem ck_85 (X : gX) : ckOk (g0 X) 85 := ⟨pl_6, q2249, q118, Nat.le_of_ble_eq_true rfl, nh_6⟩
theorem ck_86 (X : gX) : ckOk (g0 X) 86 := ⟨pl_6, q2253, q118, Nat.le_of_ble_eq_true rfl, nh_6⟩
theorem ck_87 (X : gX) : ckOk (g0 X) 87 := ⟨pl_6, q2257, q118, Nat.le_of_ble_eq_true rfl, nh_6⟩
theorem ck_88 (X : gX) : ckOk (g0 X) 88 := ⟨pl_6, q2261, q118, Nat.le_of_ble_eq_true rfl, nh_6⟩
theorem ck_89 (X : gX) : ckOk (g0 X) 89 := ⟨pl_6, q2266, q118, Nat.le_of_ble_eq_true rfl, nh_6⟩
theorem ck_90 (X : gX) : ckOk (g0 X) 90 := ⟨pl_6, q2270, q118, Nat.le_of_ble_eq_true rfl, nh_6⟩
theorem ck_91 (X : gX) : ckOk (g0 X) 91 := ⟨pl_6, q2273, q118, Nat.le_of_ble_eq_true rfl, nh_6⟩
theorem ck_92 (X : gX) : ckOk (g0 X) 92 := ⟨pl_6, q2277, q118, Nat.le_of_ble_eq_true rfl, nh_6⟩
theorem ck_93 (X : gX) : ckOk (g0 X) 93 := ⟨pl_6, q2280, q118, Nat.le_of_ble_eq_true rfl, nh_6⟩
theorem ck_94 (X : gX) : ckOk (g0 X) 94 := ⟨pl_6, q2284, q118, Nat.le_of_ble_eq_true rfl, nh_6⟩
theorem ck_95 (X : gX) : ckOk (g0 X) 95 := ⟨pl_6, q2288, q118, Nat.le_of_ble_eq_true rfl, nh_6⟩
theorem ck_96 (X : gX) : ckOk (g0 X) 96 := ⟨pl_6, q2292, q118, Nat.le_of_ble_eq_true rfl, nh_6⟩
theorem ck_97 (X : gX) : ckOk (g0 X) 97 := ⟨pl_6, q2297, q118, Nat.le_of_ble_eq_true rfl, nh_6⟩
theorem ck_98 (X : gX) : ckOk (g0 X) 98 := ⟨pl_6, q2309, q118, Nat.le_of_ble_eq_true rfl, nh_6⟩
theorem ck_99 (X : gX) : ckOk (g0 X) 99 := ⟨pl_6, q2313, q118, Nat.le_of_ble_eq_true rfl, nh_6⟩
theorem ck_100 (X : gX) : ckOk (g0 X) 100 := ⟨pl_6, q2322, q118, Nat.le_of_ble_eq_true rfl, nh_6⟩
theorem ck_101 (X : gX) : ckOk (g0 X) 101 := ⟨pl_6, q2326, q118, Nat.le_of_ble_eq_true rfl, nh_6⟩
theorem ck_102 (X : gX) : ckOk (g0 X) 102 := ⟨pl_6, q2330, q118, Nat.le_of_ble_eq_true rfl, nh_6⟩
theorem ck_103 (X : gX) : ckOk (g0 X) 103 := ⟨pl_6, q2334, q118, Nat.le_of_ble_eq_true rfl, nh_6⟩
theorem ck_104 (X : gX) : ckOk (g0 X) 104 := ⟨pl_6, q2339, q118, Nat.le_of_ble_eq_true rfl, nh_6⟩
theorem ck_105 (X : gX) : ckOk (g0 X) 105 := ⟨pl_6, q2343, q118, Nat.le_of_ble_eq_true rfl, nh_6⟩
theorem ck_106 (X : gX) : ckOk (g0 X) 106 := ⟨pl_6, q2347, q118, Nat.le_of_ble_eq_true rfl, nh_6⟩
theorem ck_107 (X : gX) : ckOk (g0 X) 107 := ⟨pl_6, q2351, q118, Nat.le_of_ble_eq_true rfl, nh_6⟩
theorem ck_108 (X : gX) : ckOk (g0 X) 108 := ⟨pl_6, q2355, q118, Nat.le_of_ble_eq_true rfl, nh_6⟩
theorem ck_109 (X : gX) : ckOk (g0 X) 109 := ⟨pl_6, q2359, q118, Nat.le_of_ble_eq_true rfl, nh_6⟩
theorem ck_110 (X : gX) : ckOk (g0 X) 110 := ⟨pl_6, q2363, q118, Nat.le_of_ble_eq_true rfl, nh_6⟩
theorem ck_111 (X : gX) : ckOk (g0 X) 111 := ⟨pl_6, q2367, q118, Nat.le_of_ble_eq_true rfl, nh_6⟩
theorem ck_112 (X : gX) : ckOk (g0 X) 112 := ⟨pl_6, q2371, q118, Nat.le_of_ble_eq_true rfl, nh_6⟩
theorem ck_113 (X : gX) : ckOk (g0 X) 113 := ⟨pl_6, q2390, q118, Nat.le_of_ble_eq_true rfl, nh_6⟩
theorem ck_114 (X : gX) : ckOk (g0 X) 114 := ⟨pl_6, q2394, q118, Nat.le_of_ble_eq_true rfl, nh_6⟩
theorem ck_115 (X : gX) : ckOk (g0 X) 115 := ⟨pl_6, q2398, q118, Nat.le_of_ble_eq_true rfl, nh_6⟩
theorem ck_116 (X : gX) : ckOk (g0 X) 116 := ⟨pl_6, q2403, q118, Nat.le_of_ble_eq_true rfl, nh_6⟩
theorem ck_117 (X : gX) : ckOk (g0 X) 117 := ⟨pl_6, q2407, q118, Nat.le_of_ble_eq_true rfl, nh_6⟩
theorem ck_118 (X : gX) : ckOk (g0 X) 118 := ⟨pl_6, q2411, q118, Nat.le_of_ble_eq_true rfl, nh_6⟩
theorem ck_119 (X : gX) : ckOk (g0 X) 119 := ⟨pl_6, q2417, q118, Nat.le_of_ble_eq_true rfl, nh_6⟩
theorem ck_120 (X : gX) : ckOk (g0 X) 120 := ⟨pl_6, q2424, q118, Nat.le_of_ble_eq_true rfl, nh_6⟩
theorem ck_121 (X : gX) : ckOk (g0 X) 121 := ⟨pl_6, q2428, q118, Nat.le_of_ble_eq_true rfl, nh_6⟩
theorem ck_122 (X : gX) : ckOk (g0 X) 122 := ⟨pl_6, q2434, q118, Nat.le_of_ble_eq_true rfl, nh_6⟩
theorem ck_123 (X : gX) : ckOk (g0 X) 123 := ⟨pl_6, q2438, q118, Nat.le_of_ble_eq_true rfl, nh_6⟩
theorem ck_124 (X : gX) : ckOk (g0 X) 124 := ⟨pl_6, q2443, q118, Nat.le_of_ble_eq_true rfl, nh_6⟩
theorem ck_125 (X : gX) : ckOk (g0 X) 125 := ⟨pl_6, q2448, q118, Nat.le_of_ble_eq_true rfl, nh_6⟩
theorem ck_126 (X : gX) : ckOk (g0 X) 126 := ⟨pl_6, q2452, q118, Nat.le_of_ble_eq_true rfl, nh_6⟩
theorem ck_127 (X : gX) : ckOk (g0 X) 127 := ⟨pl_6, q2456, q118, Nat.le_of_ble_eq_true rfl, nh_6⟩
theorem ck_128 (X : gX) : ckOk (g0 X) 128 := ⟨pl_6, q2460, q118, Nat.le_of_ble_eq_true rfl, nh_6⟩
theorem ck_129 (X : gX) : ckOk (g0 X) 129 := ⟨pl_6, q2464, q118, Nat.le_of_ble_eq_true rfl, nh_6⟩
theorem ck_130 (X : gX) : ckOk (g0 X) 130 := ⟨pl_6, q2467, q118, Nat.le_of_ble_eq_true rfl, nh_6⟩
theorem ck_131 (X : gX) : ckOk (g0 X) 131 := ⟨pl_6, q2475, q118, Nat.le_of_ble_eq_true rfl, nh_6⟩
theorem ck_132 (X : gX) : ckOk (g0 X) 132 := ⟨pl_6, q2478, q118, Nat.le_of_ble_eq_true rfl, nh_6⟩
theorem ck_133 (X : gX) : ckOk (g0 X) 133 := ⟨pl_6, q2482, q118, Nat.le_of_ble_eq_true rfl, nh_6⟩
theorem ck_134 (X : gX) : ckOk (g0 X) 134 := ⟨pl_6, q2486, q118, Nat.le_of_ble_eq_true rfl, nh_6⟩
theorem ck_135 (X : gX) : ckOk (g0 X) 135 := ⟨pl_6, q2489, q118, Nat.le_of_ble_eq_true rfl, nh_6⟩
theorem ck_136 (X : gX) : ckOk (g0 X) 136 := ⟨pl_6, q2494, q118, Nat.le_of_ble_eq_true rfl, nh_6⟩
theorem ck_137 (X : gX) : ckOk (g0 X) 137 := ⟨pl_6, q2498, q118, Nat.le_of_ble_eq_true rfl, nh_6⟩
theorem ck_138 (X : gX) : ckOk (g0 X) 138 := ⟨pl_6, q2504, q118, Nat.le_of_ble_eq_true rfl, nh_6⟩
theorem ck_139 (X : gX) : ckOk (g0 X) 139 := ⟨pl_6, q2509, q118, Nat.le_of_ble_eq_true rfl, nh_6⟩
theorem ck_140 (X : gX) : ckOk (g0 X) 140 := ⟨pl_6, q2514, q118, Nat.le_of_ble_eq_true rfl, nh_6⟩
theorem ck_141 (X : gX) : ckOk (g0 X) 141 := ⟨pl_6, q2518, q118, Nat.le_of_ble_eq_true rfl, nh_6⟩
theorem ck_142 (X : gX) : ckOk (g0 X) 142 := ⟨pl_6, q2523, q118, Nat.le_of_ble_eq_true rfl, nh_6⟩
theorem ck_143 (X : gX) : ckOk (g0 X) 143 := ⟨pl_6, q2527, q118, Nat.le_of_ble_eq_true rfl, nh_6⟩
theorem ck_144 (X : gX) : ckOk (g0 X) 144 := ⟨pl_6, q2530, q118, Nat.le_of_ble_eq_true rfl, nh_6⟩
theorem ck_145 (X : gX) : ckOk (g0 X) 145 := ⟨pl_6, q2534, q118, Nat.le_of_ble_eq_true rfl, nh_6⟩
theorem ck_146 (X : gX) : ckOk (g0 X) 146 := ⟨pl_6, q2538, q118, Nat.le_of_ble_eq_true rfl, nh_6⟩
theorem ck_147 (X : gX) : ckOk (g0 X) 147 := ⟨pl_6, q2543, q118, Nat.le_of_ble_eq_true rfl, nh_6⟩
theorem ck_148 (X : gX) : ckOk (g0 X) 148 := ⟨pl_6, q2547, q118, Nat.le_of_ble_eq_true rfl, nh_6⟩
theorem ck_149 (X : gX) : ckOk (g0 X) 149 := ⟨pl_6, q2551, q118, Nat.le_of_ble_eq_true rfl, nh_6⟩
theorem ck_150 (X : gX) : ckOk (g0 X) 150 := ⟨pl_6, q2555, q118, Nat.le_of_ble_eq_true rfl, nh_6⟩
theorem ck_151 (X : gX) : ckOk (g0 X) 151 := ⟨pl_6, q2559, q118, Nat.le_of_ble_eq_true rfl, nh_6⟩
theorem ck_152 (X : gX) : ckOk (g0 X) 152 := ⟨pl_6, q2563, q118, Nat.le_of_ble_eq_true rfl, nh_6⟩
theorem ck_153 (X : gX) : ckOk (g0 X) 153 := ⟨pl_6, q2567, q118, Nat.le_of_ble_eq_true rfl, nh_6⟩
theorem ck_154 (X : gX) : ckOk (g0 X) 154 := ⟨pl_6, q2571, q118, Nat.le_of_ble_eq_true rfl, nh_6⟩
theorem ck_155 (X : gX) : ckOk (g0 X) 155 := ⟨pl_6, q2575, q118, Nat.le_of_ble_eq_true rfl, nh_6⟩
theorem ck_156 (X : gX) : ckOk (g0 X) 156 := ⟨pl_6, q2579, q118, Nat.le_of_ble_eq_true rfl, nh_6⟩
theorem ck_157 (X : gX) : ckOk (g0 X) 157 := ⟨pl_6, q2583, q118, Nat.le_of_ble_eq_true rfl, nh_6⟩
theorem ck_158 (X : gX) : ckOk (g0 X) 158 := ⟨pl_6, q2587, q118, Nat.le_of_ble_eq_true rfl, nh_6⟩
theorem ck_159 (X : gX) : ckOk (g0 X) 159 := ⟨pl_6, q2591, q118, Nat.le_of_ble_eq_true rfl, nh_6⟩
theorem ck_160 (X : gX) : ckOk (g0 X) 160 := ⟨pl_6, q2595, q118, Nat.le_of_ble_eq_true rfl, nh_6⟩
theorem ck_161 (X : gX) : ckOk (g0 X) 161 := ⟨pl_6, q2599, q118, Nat.le_of_ble_eq_true rfl, nh_6⟩
theorem ck_162 (X : gX) : ckOk (g0 X) 162 := ⟨pl_6, q2603, q118, Nat.le_of_ble_eq_true rfl, nh_6⟩
theorem ck_163 (X : gX) : ckOk (g0 X) 163 := ⟨pl_6, q2607, q118, Nat.le_of_ble_eq_true rfl, nh_6⟩
theorem ck_164 (X : gX) : ckOk (g0 X) 164 := ⟨pl_6, q2616, q118, Nat.le_of_ble_eq_true rfl, nh_6⟩
theorem ck_165 (X : gX) : ckOk (g0 X) 165 := ⟨pl_6, q2620, q118, Nat.le_of_ble_eq_true rfl, nh_6⟩
theorem ck_166 (X : gX) : ckOk (g0 X) 166 := ⟨pl_6, q2624, q118, Nat.le_of_ble_eq_true rfl, nh_6⟩
theorem ck_167 (X : gX) : ckOk (g0 X) 167 := ⟨pl_6, q2628, q118, Nat.le_of_ble_eq_true rfl, nh_6⟩
theorem ck_168 (X : gX) : ckOk (g0 X) 168 := ⟨pl_6, q2632, q118, Nat.le_of_ble_eq_true rfl, nh_6⟩
theorem ck_169 (X : gX) : ckOk (g0 X) 169 := ⟨pl_6, q2636, q118, Nat.le_of_ble_eq_true rfl, nh_6⟩
theorem ck_170 (X : gX) : ckOk (g0 X) 170 := ⟨pl_6, q2640, q118, Nat.le_of_ble_eq_true rfl, nh_6⟩
theorem ck_171 (X : gX) : ckOk (g0 X) 171 := ⟨pl_6, q2644, q118, Nat.le_of_ble_eq_true rfl, nh_6⟩
theorem ck_172 (X : gX) : ckOk (g0 X) 172 := ⟨pl_6, q2648, q118, Nat.le_of_ble_eq_true rfl, nh_6⟩
theorem ck_173 (X : gX) : ckOk (g0 X) 173 := ⟨pl_6, q2652, q118, Nat.le_of_ble_eq_true rfl, nh_6⟩
theorem ck_174 (X : gX) : ckOk (g0 X) 174 := ⟨pl_6, q2659, q118, Nat.le_of_ble_eq_true rfl, nh_6⟩
theorem ck_175 (X : gX) : ckOk (g0 X) 175 := ⟨pl_6, q2663, q118, Nat.le_of_ble_eq_true rfl, nh_6⟩
theorem ck_176 (X : gX) : ckOk (g0 X) 176 := ⟨pl_6, q2667, q118, Nat.le_of_ble_eq_true rfl, nh_6⟩
theorem ck_177 (X : gX) : ckOk (g0 X) 177 := ⟨pl_6, q2671, q118, Nat.le_of_ble_eq_true rfl, nh_6⟩
theorem ck_178 (X : gX) : ckOk (g0 X) 178 := ⟨pl_6, q2675, q118, Nat.le_of_ble_eq_true rfl, nh_6⟩
theorem ck_179 (X : gX) : ckOk (g0 X) 179 := ⟨pl_6, q2680, q118, Nat.le_of_ble_eq_true rfl, nh_6⟩
theorem ck_180 (X : gX) : ckOk (g0 X) 180 := ⟨pl_6, q2684, q118, Nat.le_of_ble_eq_true rfl, nh_6⟩
theorem ck_181 (X : gX) : ckOk (g0 X) 181 := ⟨pl_6, q2688, q118, Nat.le_of_ble_eq_true rfl, nh_6⟩
theorem ck_182 (X : gX) : ckOk (g0 X) 182 := ⟨pl_6, q2692, q118, Nat.le_of_ble_eq_true rfl, nh_6⟩
theorem ck_183 (X : gX) : ckOk (g0 X) 183 := ⟨pl_6, q2696, q118, Nat.le_of_ble_eq_true rfl, nh_6⟩
theorem ck_184 (X : gX) : ckOk (g0 X) 184 := ⟨pl_6, q2700, q118, Nat.le_of_ble_eq_true rfl, nh_6⟩
theorem ck_185 (X : gX) : ckOk (g0 X) 185 := ⟨pl_6, q2704, q118, Nat.le_of_ble_eq_true rfl, nh_6⟩
theorem ck_186 (X : gX) : ckOk (g0 X) 186 := ⟨pl_6, q2708, q118, Nat.le_of_ble_eq_true rfl, nh_6⟩
theorem ck_187 (X : gX) : ckOk (g0 X) 187 := ⟨pl_6, q2712, q118, Nat.le_of_ble_eq_true rfl, nh_6⟩
theorem ck_188 (X : gX) : ckOk (g0 X) 188 := ⟨pl_7, q209, q119, Nat.le_of_ble_eq_true rfl, nh_7⟩
theorem ck_189 (X : gX) : ckOk (g0 X) 189 := ⟨pl_7, q216, q119, Nat.le_of_ble_eq_true rfl, nh_7⟩
theorem ck_190 (X : gX) : ckOk (g0 X) 190 := ⟨pl_7, q220, q119, Nat.le_of_ble_eq_true rfl, nh_7⟩
theorem ck_191 (X : gX) : ckOk (g0 X) 191 := ⟨pl_7, q256, q119, Nat.le_of_ble_eq_true rfl, nh_7⟩
theorem ck_192 (X : gX) : ckOk (g0 X) 192 := ⟨pl_7, q316, q119, Nat.le_of_ble_eq_true rfl, nh_7⟩
theorem ck_193 (X : gX) : ckOk (g0 X) 193 := ⟨pl_7, q480, q119, Nat.le_of_ble_eq_true rfl, nh_7⟩
theorem ck_194 (X : gX) : ckOk (g0 X) 194 := ⟨pl_7, q505, q119, Nat.le_of_ble_eq_true rfl, nh_7⟩
theorem ck_195 (X : gX) : ckOk (g0 X) 195 := ⟨pl_7, q579, q119, Nat.le_of_ble_eq_true rfl, nh_7⟩
theorem ck_196 (X : gX) : ckOk (g0 X) 196 := ⟨pl_7, q585, q119, Nat.le_of_ble_eq_true rfl, nh_7⟩
theorem ck_197 (X : gX) : ckOk (g0 X) 197 := ⟨pl_7, q608, q119, Nat.le_of_ble_eq_true rfl, nh_7⟩
theorem ck_198 (X : gX) : ckOk (g0 X) 198 := ⟨pl_7, q612, q119, Nat.le_of_ble_eq_true rfl, nh_7⟩
theorem ck_199 (X : gX) : ckOk (g0 X) 199 := ⟨pl_7, q618, q119, Nat.le_of_ble_eq_true rfl, nh_7⟩
theorem ck_200 (X : gX) : ckOk (g0 X) 200 := ⟨pl_7, q623, q119, Nat.le_of_ble_eq_true rfl, nh_7⟩
theorem ck_201 (X : gX) : ckOk (g0 X) 201 := ⟨pl_7, q627, q119, Nat.le_of_ble_eq_true rfl, nh_7⟩
theorem ck_202 (X : gX) : ckOk (g0 X) 202 := ⟨pl_7, q631, q119, Nat.le_of_ble_eq_true rfl, nh_7⟩
theorem ck_203 (X : gX) : ckOk (g0 X) 203 := ⟨pl_7, q635, q119, Nat.le_of_ble_eq_true rfl, nh_7⟩
theorem ck_204 (X : gX) : ckOk (g0 X) 204 := ⟨pl_7, q639, q119, Nat.le_of_ble_eq_true rfl, nh_7⟩
theorem ck_205 (X : gX) : ckOk (g0 X) 205 := ⟨pl_7, q661, q119, Nat.le_of_ble_eq_true rfl, nh_7⟩
theorem ck_206 (X : gX) : ckOk (g0 X) 206 := ⟨pl_7, q801, q119, Nat.le_of_ble_eq_true rfl, nh_7⟩
theorem ck_207 (X : gX) : ckOk (g0 X) 207 := ⟨pl_7, q804, q119, Nat.le_of_ble_eq_true rfl, nh_7⟩
theorem ck_208 (X : gX) : ckOk (g0 X) 208 := ⟨pl_7, q931, q119, Nat.le_of_ble_eq_true rfl, nh_7⟩
theorem ck_209 (X : gX) : ckOk (g0 X) 209 := ⟨pl_7, q967, q119, Nat.le_of_ble_eq_true rfl, nh_7⟩
theorem ck_210 (X : gX) : ckOk (g0 X) 210 := ⟨pl_7, q1225, q119, Nat.le_of_ble_eq_true rfl, nh_7⟩
theorem ck_211 (X : gX) : ckOk (g0 X) 211 := ⟨pl_8, q320, q120, Nat.le_of_ble_eq_true rfl, nh_8⟩
theorem ck_212 (X : gX) : ckOk (g0 X) 212 := ⟨pl_8, q324, q120, Nat.le_of_ble_eq_true rfl, nh_8⟩
theorem ck_213 (X : gX) : ckOk (g0 X) 213 := ⟨pl_8, q330, q120, Nat.le_of_ble_eq_true rfl, nh_8⟩
theorem ck_214 (X : gX) : ckOk (g0 X) 214 := ⟨pl_8, q334, q120, Nat.le_of_ble_eq_true rfl, nh_8⟩
theorem ck_215 (X : gX) : ckOk (g0 X) 215 := ⟨pl_8, q368, q120, Nat.le_of_ble_eq_true rfl, nh_8⟩
theorem ck_216 (X : gX) : ckOk (g0 X) 216 := ⟨pl_8, q403, q120, Nat.le_of_ble_eq_true rfl, nh_8⟩
theorem ck_217 (X : gX) : ckOk (g0 X) 217 := ⟨pl_8, q433, q120, Nat.le_of_ble_eq_true rfl, nh_8⟩
theorem ck_219 (X : gX) : ckOk (g0 X) 219 := ⟨pl_8, q484, q120, Nat.le_of_ble_eq_true rfl, nh_8⟩
theorem ck_220 (X : gX) : ckOk (g0 X) 220 := ⟨pl_8, q490, q120, Nat.le_of_ble_eq_true rfl, nh_8⟩
theorem ck_221 (X : gX) : ckOk (g0 X) 221 := ⟨pl_8, q1045, q120, Nat.le_of_ble_eq_true rfl, nh_8⟩
theorem ck_222 (X : gX) : ckOk (g0 X) 222 := ⟨pl_8, q1048, q120, Nat.le_of_ble_eq_true rfl, nh_8⟩
theorem ck_223 (X : gX) : ckOk (g0 X) 223 := ⟨pl_8, q1076, q120, Nat.le_of_ble_eq_true rfl, nh_8⟩
theorem ck_224 (X : gX) : ckOk (g0 X) 224 := ⟨pl_9, q338, q121, Nat.le_of_ble_eq_true rfl, nh_9⟩
theorem ck_225 (X : gX) : ckOk (g0 X) 225 := ⟨pl_9, q341, q121, Nat.le_of_ble_eq_true rfl, nh_9⟩
theorem ck_226 (X : gX) : ckOk (g0 X) 226 := ⟨pl_9, q350, q121, Nat.le_of_ble_eq_true rfl, nh_9⟩
theorem ck_227 (X : gX) : ckOk (g0 X) 227 := ⟨pl_9, q407, q121, Nat.le_of_ble_eq_true rfl, nh_9⟩
theorem ck_228 (X : gX) : ckOk (g0 X) 228 := ⟨pl_9, q487, q121, Nat.le_of_ble_eq_true rfl, nh_9⟩
theorem ck_229 (X : gX) : ckOk (g0 X) 229 := ⟨pl_9, q1021, q121, Nat.le_of_ble_eq_true rfl, nh_9⟩
theorem ck_231 (X : gX) : ckOk (g0 X) 231 := ⟨pl_9, q1080, q121, Nat.le_of_ble_eq_true rfl, nh_9⟩
theorem ck_255 (X : gX) : ckOk (g0 X) 255 := ⟨pl_10, q373, q124, Nat.le_of_ble_eq_true rfl, nh_10⟩
theorem ck_257 (X : gX) : ckOk (g0 X) 257 := ⟨pl_10, q493, q124, Nat.le_of_ble_eq_true rfl, nh_10⟩
theorem ck_261 (X : gX) : ckOk (g0 X) 261 := ⟨pl_11, q413, q126, Nat.le_of_ble_eq_true rfl, nh_11⟩
theorem ck_262 (X : gX) : ckOk (g0 X) 262 := ⟨pl_11, q416, q126, Nat.le_of_ble_eq_true rfl, nh_11⟩
theorem ck_263 (X : gX) : ckOk (g0 X) 263 := ⟨pl_11, q419, q126, Nat.le_of_ble_eq_true rfl, nh_11⟩
theorem ck_264 (X : gX) : ckOk (g0 X) 264 := ⟨pl_11, q736, q126, Nat.le_of_ble_eq_true rfl, nh_11⟩
theorem ck_265 (X : gX) : ckOk (g0 X) 265 := ⟨pl_11, q770, q126, Nat.le_of_ble_eq_true rfl, nh_11⟩
theorem ck_266 (X : gX) : ckOk (g0 X) 266 := ⟨pl_11, q1013, q126, Nat.le_of_ble_eq_true rfl, nh_11⟩
theorem ck_268 (X : gX) : ckOk (g0 X) 268 := ⟨pl_12, q552, q128, Nat.le_of_ble_eq_true rfl, nh_12⟩
theorem ck_269 (X : gX) : ckOk (g0 X) 269 := ⟨pl_13, q549, q129, Nat.le_of_ble_eq_true rfl, nh_13⟩
theorem ck_271 (X : gX) : ckOk (g0 X) 271 := ⟨pl_14, q546, q130, Nat.le_of_ble_eq_true rfl, nh_14⟩
theorem ck_272 (X : gX) : ckOk (g0 X) 272 := ⟨pl_15, q788, q131, Nat.le_of_ble_eq_true rfl, nh_15⟩
theorem ck_273 (X : gX) : ckOk (g0 X) 273 := ⟨pl_16, q593, q132, Nat.le_of_ble_eq_true rfl, nh_16⟩
theorem ck_274 (X : gX) : ckOk (g0 X) 274 := ⟨pl_17, q590, q133, Nat.le_of_ble_eq_true rfl, nh_17⟩
theorem ck_275 (X : gX) : ckOk (g0 X) 275 := ⟨pl_17, q1328, q133, Nat.le_of_ble_eq_true rfl, nh_17⟩
theorem ck_276 (X : gX) : ckOk (g0 X) 276 := ⟨pl_18, q650, q134, Nat.le_of_ble_eq_true rfl, nh_18⟩
theorem ck_277 (X : gX) : ckOk (g0 X) 277 := ⟨pl_19, q647, q135, Nat.le_of_ble_eq_true rfl, nh_19⟩
theorem ck_278 (X : gX) : ckOk (g0 X) 278 := ⟨pl_19, q1308, q135, Nat.le_of_ble_eq_true rfl, nh_19⟩
theorem ck_279 (X : gX) : ckOk (g0 X) 279 := ⟨pl_20, q664, q136, Nat.le_of_ble_eq_true rfl, nh_20⟩
theorem ck_280 (X : gX) : ckOk (g0 X) 280 := ⟨pl_20, q1311, q136, Nat.le_of_ble_eq_true rfl, nh_20⟩
theorem ck_281 (X : gX) : ckOk (g0 X) 281 := ⟨pl_21, q675, q137, Nat.le_of_ble_eq_true rfl, nh_21⟩
theorem ck_282 (X : gX) : ckOk (g0 X) 282 := ⟨pl_21, q1314, q137, Nat.le_of_ble_eq_true rfl, nh_21⟩
theorem ck_283 (X : gX) : ckOk (g0 X) 283 := ⟨pl_22, q696, q138, Nat.le_of_ble_eq_true rfl, nh_22⟩
theorem ck_284 (X : gX) : ckOk (g0 X) 284 := ⟨pl_22, q1302, q138, Nat.le_of_ble_eq_true rfl, nh_22⟩
theorem ck_285 (X : gX) : ckOk (g0 X) 285 := ⟨pl_23, q728, q139, Nat.le_of_ble_eq_true rfl, nh_23⟩
theorem ck_287 (X : gX) : ckOk (g0 X) 287 := ⟨pl_24, q778, q140, Nat.le_of_ble_eq_true rfl, nh_24⟩
theorem ck_288 (X : gX) : ckOk (g0 X) 288 := ⟨pl_24, q1325, q140, Nat.le_of_ble_eq_true rfl, nh_24⟩
theorem ck_289 (X : gX) : ckOk (g0 X) 289 := ⟨pl_25, q825, q141, Nat.le_of_ble_eq_true rfl, nh_25⟩
theorem ck_290 (X : gX) : ckOk (g0 X) 290 := ⟨pl_26, q1116, q142, Nat.le_of_ble_eq_true rfl, nh_26⟩
theorem ck_291 (X : gX) : ckOk (g0 X) 291 := ⟨pl_26, q1262, q142, Nat.le_of_ble_eq_true rfl, nh_26⟩
theorem ck_292 (X : gX) : ckOk (g0 X) 292 := ⟨pl_26, q1267, q142, Nat.le_of_ble_eq_true rfl, nh_26⟩
theorem ck_293 (X : gX) : ckOk (g0 X) 293 := ⟨pl_26, q1290, q142, Nat.le_of_ble_eq_true rfl, nh_26⟩
theorem ck_294 (X : gX) : ckOk (g0 X) 294 := ⟨pl_26, q1364, q142, Nat.le_of_ble_eq_true rfl, nh_26⟩
theorem ck_295 (X : gX) : ckOk (g0 X) 295 := ⟨pl_26, q1651, q142, Nat.le_of_ble_eq_true rfl, nh_26⟩
theorem ck_296 (X : gX) : ckOk (g0 X) 296 := ⟨pl_26, q1746, q142, Nat.le_of_ble_eq_true rfl, nh_26⟩
theorem ck_297 (X : gX) : ckOk (g0 X) 297 := ⟨pl_27, q936, q143, Nat.le_of_ble_eq_true rfl, nh_27⟩
theorem ck_298 (X : gX) : ckOk (g0 X) 298 := ⟨pl_27, q1069, q143, Nat.le_of_ble_eq_true rfl, nh_27⟩
theorem ck_299 (X : gX) : ckOk (g0 X) 299 := ⟨pl_28, q975, q144, Nat.le_of_ble_eq_true rfl, nh_28⟩
theorem ck_300 (X : gX) : ckOk (g0 X) 300 := ⟨pl_28, q1000, q144, Nat.le_of_ble_eq_true rfl, nh_28⟩
theorem ck_301 (X : gX) : ckOk (g0 X) 301 := ⟨pl_28, q1004, q144, Nat.le_of_ble_eq_true rfl, nh_28⟩
theorem ck_302 (X : gX) : ckOk (g0 X) 302 := ⟨pl_28, q1008, q144, Nat.le_of_ble_eq_true rfl, nh_28⟩
theorem ck_303 (X : gX) : ckOk (g0 X) 303 := ⟨pl_28, q1018, q144, Nat.le_of_ble_eq_true rfl, nh_28⟩
theorem ck_305 (X : gX) : ckOk (g0 X) 305 := ⟨pl_28, q1053, q144, Nat.le_of_ble_eq_true rfl, nh_28⟩
theorem ck_306 (X : gX) : ckOk (g0 X) 306 := ⟨pl_28, q1061, q144, Nat.le_of_ble_eq_true rfl, nh_28⟩
theorem ck_307 (X : gX) : ckOk (g0 X) 307 := ⟨pl_29, q972, q145, Nat.le_of_ble_eq_true rfl, nh_29⟩
theorem ck_308 (X : gX) : ckOk (g0 X) 308 := ⟨pl_29, q997, q145, Nat.le_of_ble_eq_true rfl, nh_29⟩
theorem ck_309 (X : gX) : ckOk (g0 X) 309 := ⟨pl_29, q1041, q145, Nat.le_of_ble_eq_true rfl, nh_29⟩
theorem ck_310 (X : gX) : ckOk (g0 X) 310 := ⟨pl_29, q1059, q145, Nat.le_of_ble_eq_true rfl, nh_29⟩
theorem ck_311 (X : gX) : ckOk (g0 X) 311 := ⟨pl_30, q1085, q146, Nat.le_of_ble_eq_true rfl, nh_30⟩
theorem ck_312 (X : gX) : ckOk (g0 X) 312 := ⟨pl_30, q1337, q146, Nat.le_of_ble_eq_true rfl, nh_30⟩
theorem ck_313 (X : gX) : ckOk (g0 X) 313 := ⟨pl_30, q1820, q146, Nat.le_of_ble_eq_true rfl, nh_30⟩
theorem ck_314 (X : gX) : ckOk (g0 X) 314 := ⟨pl_31, q1128, q147, Nat.le_of_ble_eq_true rfl, nh_31⟩
theorem ck_315 (X : gX) : ckOk (g0 X) 315 := ⟨pl_31, q1343, q147, Nat.le_of_ble_eq_true rfl, nh_31⟩
theorem ck_316 (X : gX) : ckOk (g0 X) 316 := ⟨pl_31, q1760, q147, Nat.le_of_ble_eq_true rfl, nh_31⟩
theorem ck_317 (X : gX) : ckOk (g0 X) 317 := ⟨pl_32, q1228, q148, Nat.le_of_ble_eq_true rfl, nh_32⟩
theorem ck_318 (X : gX) : ckOk (g0 X) 318 := ⟨pl_33, q1379, q149, Nat.le_of_ble_eq_true rfl, nh_33⟩
theorem ck_319 (X : gX) : ckOk (g0 X) 319 := ⟨pl_34, q1293, q150, Nat.le_of_ble_eq_true rfl, nh_34⟩
theorem ck_320 (X : gX) : ckOk (g0 X) 320 := ⟨pl_34, q1367, q150, Nat.le_of_ble_eq_true rfl, nh_34⟩
theorem ck_321 (X : gX) : ckOk (g0 X) 321 := ⟨pl_34, q1376, q150, Nat.le_of_ble_eq_true rfl, nh_34⟩
theorem ck_322 (X : gX) : ckOk (g0 X) 322 := ⟨pl_34, q1425, q150, Nat.le_of_ble_eq_true rfl, nh_34⟩
theorem ck_323 (X : gX) : ckOk (g0 X) 323 := ⟨pl_34, q1429, q150, Nat.le_of_ble_eq_true rfl, nh_34⟩
theorem ck_324 (X : gX) : ckOk (g0 X) 324 := ⟨pl_35, q1449, q152, Nat.le_of_ble_eq_true rfl, nh_35⟩
theorem ck_325 (X : gX) : ckOk (g0 X) 325 := ⟨pl_35, q1609, q152, Nat.le_of_ble_eq_true rfl, nh_35⟩
theorem ck_326 (X : gX) : ckOk (g0 X) 326 := ⟨pl_35, q1618, q152, Nat.le_of_ble_eq_true rfl, nh_35⟩
theorem ck_327 (X : gX) : ckOk (g0 X) 327 := ⟨pl_35, q1634, q152, Nat.le_of_ble_eq_true rfl, nh_35⟩
theorem ck_328 (X : gX) : ckOk (g0 X) 328 := ⟨pl_35, q1701, q152, Nat.le_of_ble_eq_true rfl, nh_35⟩
theorem ck_329 (X : gX) : ckOk (g0 X) 329 := ⟨pl_35, q1715, q152, Nat.le_of_ble_eq_true rfl, nh_35⟩
theorem ck_330 (X : gX) : ckOk (g0 X) 330 := ⟨pl_35, q1722, q152, Nat.le_of_ble_eq_true rfl, nh_35⟩
theorem ck_331 (X : gX) : ckOk (g0 X) 331 := ⟨pl_35, q1782, q152, Nat.le_of_ble_eq_true rfl, nh_35⟩
theorem ck_332 (X : gX) : ckOk (g0 X) 332 := ⟨pl_36, q1446, q153, Nat.le_of_ble_eq_true rfl, nh_36⟩
theorem ck_333 (X : gX) : ckOk (g0 X) 333 := ⟨pl_36, q1646, q153, Nat.le_of_ble_eq_true rfl, nh_36⟩
theorem ck_334 (X : gX) : ckOk (g0 X) 334 := ⟨pl_36, q1671, q153, Nat.le_of_ble_eq_true rfl, nh_36⟩
theorem ck_335 (X : gX) : ckOk (g0 X) 335 := ⟨pl_36, q1696, q153, Nat.le_of_ble_eq_true rfl, nh_36⟩
theorem ck_336 (X : gX) : ckOk (g0 X) 336 := ⟨pl_36, q1756, q153, Nat.le_of_ble_eq_true rfl, nh_36⟩
theorem ck_337 (X : gX) : ckOk (g0 X) 337 := ⟨pl_37, q1509, q154, Nat.le_of_ble_eq_true rfl, nh_37⟩
theorem ck_338 (X : gX) : ckOk (g0 X) 338 := ⟨pl_37, q1603, q154, Nat.le_of_ble_eq_true rfl, nh_37⟩
theorem ck_339 (X : gX) : ckOk (g0 X) 339 := ⟨pl_37, q1640, q154, Nat.le_of_ble_eq_true rfl, nh_37⟩
theorem ck_340 (X : gX) : ckOk (g0 X) 340 := ⟨pl_37, q1668, q154, Nat.le_of_ble_eq_true rfl, nh_37⟩
theorem ck_341 (X : gX) : ckOk (g0 X) 341 := ⟨pl_37, q1693, q154, Nat.le_of_ble_eq_true rfl, nh_37⟩
theorem ck_342 (X : gX) : ckOk (g0 X) 342 := ⟨pl_37, q1708, q154, Nat.le_of_ble_eq_true rfl, nh_37⟩
theorem ck_343 (X : gX) : ckOk (g0 X) 343 := ⟨pl_37, q1733, q154, Nat.le_of_ble_eq_true rfl, nh_37⟩
theorem ck_344 (X : gX) : ckOk (g0 X) 344 := ⟨pl_37, q1737, q154, Nat.le_of_ble_eq_true rfl, nh_37⟩
theorem ck_345 (X : gX) : ckOk (g0 X) 345 := ⟨pl_38, q1534, q155, Nat.le_of_ble_eq_true rfl, nh_38⟩
theorem ck_346 (X : gX) : ckOk (g0 X) 346 := ⟨pl_38, q1654, q155, Nat.le_of_ble_eq_true rfl, nh_38⟩
theorem ck_347 (X : gX) : ckOk (g0 X) 347 := ⟨pl_38, q1674, q155, Nat.le_of_ble_eq_true rfl, nh_38⟩
theorem ck_348 (X : gX) : ckOk (g0 X) 348 := ⟨pl_38, q1763, q155, Nat.le_of_ble_eq_true rfl, nh_38⟩
theorem ck_349 (X : gX) : ckOk (g0 X) 349 := ⟨pl_39, q1554, q156, Nat.le_of_ble_eq_true rfl, nh_39⟩
theorem ck_350 (X : gX) : ckOk (g0 X) 350 := ⟨pl_39, q1658, q156, Nat.le_of_ble_eq_true rfl, nh_39⟩
theorem ck_351 (X : gX) : ckOk (g0 X) 351 := ⟨pl_39, q1677, q156, Nat.le_of_ble_eq_true rfl, nh_39⟩
theorem ck_352 (X : gX) : ckOk (g0 X) 352 := ⟨pl_39, q1770, q156, Nat.le_of_ble_eq_true rfl, nh_39⟩
theorem ck_355 (X : gX) : ckOk (g0 X) 355 := ⟨pl_40, q1852, q159, Nat.le_of_ble_eq_true rfl, nh_40⟩
theorem ck_356 (X : gX) : ckOk (g0 X) 356 := ⟨pl_40, q1865, q159, Nat.le_of_ble_eq_true rfl, nh_40⟩
theorem ck_357 (X : gX) : ckOk (g0 X) 357 := ⟨pl_40, q1911, q159, Nat.le_of_ble_eq_true rfl, nh_40⟩
theorem ck_358 (X : gX) : ckOk (g0 X) 358 := ⟨pl_40, q1915, q159, Nat.le_of_ble_eq_true rfl, nh_40⟩
theorem ck_359 (X : gX) : ckOk (g0 X) 359 := ⟨pl_40, q1919, q159, Nat.le_of_ble_eq_true rfl, nh_40⟩
theorem ck_360 (X : gX) : ckOk (g0 X) 360 := ⟨pl_40, q1925, q159, Nat.le_of_ble_eq_true rfl, nh_40⟩
theorem ck_361 (X : gX) : ckOk (g0 X) 361 := ⟨pl_40, q1932, q159, Nat.le_of_ble_eq_true rfl, nh_40⟩
theorem ck_362 (X : gX) : ckOk (g0 X) 362 := ⟨pl_40, q1940, q159, Nat.le_of_ble_eq_true rfl, nh_40⟩
theorem ck_363 (X : gX) : ckOk (g0 X) 363 := ⟨pl_40, q1952, q159, Nat.le_of_ble_eq_true rfl, nh_40⟩
theorem ds_0 : dsl "(II)I" 2 := by unfold dsl; decide +kernel
theorem ds_1 : dsl "(III)Z" 3 := by unfold dsl; decide +kernel
theorem ds_2 : dsl "(I)Z" 1 := by unfold dsl; decide +kernel
theorem ds_3 : dsl "(III)I" 3 := by unfold dsl; decide +kernel
theorem ds_4 : dsl "()I" 0 := by unfold dsl; decide +kernel
theorem ds_5 : dsl "(I)LTrustDesk$Reader;" 1 := by unfold dsl; decide +kernel
theorem ds_6 : dsl "()LTrustDesk$Act;" 0 := by unfold dsl; decide +kernel
theorem ds_7 : dsl "(Ljava/lang/Object;)Z" 1 := by unfold dsl; decide +kernel
theorem ds_8 : dsl "(LTrustDesk$Wrong;)I" 1 := by unfold dsl; decide +kernel
theorem ds_9 : dsl "([BII)V" 3 := by unfold dsl; decide +kernel
theorem ds_10 : dsl "(I)LTrustDesk$Act;" 1 := by unfold dsl; decide +kernel
theorem ds_11 : dsl "(I)Ljava/lang/Object;" 1 := by unfold dsl; decide +kernel
theorem ds_12 : dsl "(I)V" 1 := by unfold dsl; decide +kernel
theorem ds_13 : dsl "()V" 0 := by unfold dsl; decide +kernel
theorem ds_14 : dsl "()LTrustDesk$Deed;" 0 := by unfold dsl; decide +kernel
theorem ds_15 : dsl "(ILTrustDesk$Deed;II)V" 4 := by unfold dsl; decide +kernel
theorem ds_16 : dsl "()LTrustDesk$Aim;" 0 := by unfold dsl; decide +kernel
theorem ds_17 : dsl "(LTrustDesk$Aim;I)V" 2 := by unfold dsl; decide +kernel
theorem ds_18 : dsl "(I)I" 1 := by unfold dsl; decide +kernel
theorem ds_19 : dsl "()Z" 0 := by unfold dsl; decide +kernel
theorem ds_20 : dsl "(J)V" 1 := by unfold dsl; decide +kernel
theorem ds_21 : dsl "(LTrustDesk$Fund;II)I" 3 := by unfold dsl; decide +kernel
theorem ds_22 : dsl "(LTrustDesk$Fund;III)V" 4 := by unfold dsl; decide +kernel
theorem ds_23 : dsl "(LTrustDesk$Fund;II)[J" 3 := by unfold dsl; decide +kernel
theorem ds_24 : dsl "([J)Z" 1 := by unfold dsl; decide +kernel
theorem ds_25 : dsl "([J)I" 1 := by unfold dsl; decide +kernel
theorem ds_26 : dsl "(ZII)V" 3 := by unfold dsl; decide +kernel
theorem ds_27 : dsl "(LTrustDesk$Fund;I)V" 2 := by unfold dsl; decide +kernel
theorem ds_28 : dsl "(I)LTrustDesk$Fund;" 1 := by unfold dsl; decide +kernel
theorem ds_29 : dsl "(I)Ljava/lang/Integer;" 1 := by unfold dsl; decide +kernel
theorem ds_30 : dsl "(ILTrustDesk$Fund;I)LTrustDesk$Scheme;" 3 := by unfold dsl; decide +kernel
theorem ds_31 : dsl "(LTrustDesk;LTrustDesk$Fund;I)V" 3 := by unfold dsl; decide +kernel
theorem ds_32 : dsl "(I)LTrustDesk$Scheme;" 1 := by unfold dsl; decide +kernel
theorem ds_33 : dsl "(Ljava/lang/Object;)I" 1 := by unfold dsl; decide +kernel
theorem ds_34 : dsl "(IZ)V" 2 := by unfold dsl; decide +kernel
theorem ds_35 : dsl "(II)LTrustDesk$End;" 2 := by unfold dsl; decide +kernel
theorem ds_36 : dsl "(LTrustDesk$Fund;LTrustDesk$Near;)I" 2 := by unfold dsl; decide +kernel
theorem ds_37 : dsl "(LTrustDesk;I)V" 2 := by unfold dsl; decide +kernel
theorem ds_38 : dsl "(II)V" 2 := by unfold dsl; decide +kernel
theorem ds_39 : dsl "()J" 0 := by unfold dsl; decide +kernel
theorem ds_40 : dsl "(Ljava/lang/Object;[Ljava/lang/Object;I)V" 3 := by unfold dsl; decide +kernel
theorem ds_41 : dsl "()[Ljava/lang/Object;" 0 := by unfold dsl; decide +kernel
theorem ds_42 : dsl "(I)[Ljava/lang/Object;" 1 := by unfold dsl; decide +kernel
theorem ds_43 : dsl "([Ljava/lang/Object;I)[Ljava/lang/Object;" 2 := by unfold dsl; decide +kernel
theorem ds_44 : dsl "(Ljava/lang/Object;II)I" 3 := by unfold dsl; decide +kernel
theorem ds_45 : dsl "([Ljava/lang/Object;I)V" 2 := by unfold dsl; decide +kernel
theorem ds_46 : dsl "(JJJ)Z" 3 := by unfold dsl; decide +kernel
theorem ds_47 : dsl "(Z)V" 1 := by unfold dsl; decide +kernel
theorem ds_48 : dsl "(Ljava/lang/String;)Z" 1 := by unfold dsl; decide +kernel
theorem ds_49 : dsl "(Ljava/lang/String;)V" 1 := by unfold dsl; decide +kernel
theorem ds_50 : dsl "(I)C" 1 := by unfold dsl; decide +kernel
theorem ds_51 : dsl "(IIIIII)V" 6 := by unfold dsl; decide +kernel
theorem ds_52 : dsl "(II)Z" 2 := by unfold dsl; decide +kernel
theorem ds_53 : dsl "(III)V" 3 := by unfold dsl; decide +kernel
theorem ds_54 : dsl "(J)I" 1 := by unfold dsl; decide +kernel
theorem ds_55 : dsl "(IJ)V" 2 := by unfold dsl; decide +kernel
theorem ds_56 : dsl "(IIII)V" 4 := by unfold dsl; decide +kernel
theorem ds_57 : dsl "(I)J" 1 := by unfold dsl; decide +kernel
theorem ds_58 : dsl "([I)J" 1 := by unfold dsl; decide +kernel
theorem ds_59 : dsl "(Ljava/lang/String;I)I" 2 := by unfold dsl; decide +kernel
theorem ds_60 : dsl "(ZI)V" 2 := by unfold dsl; decide +kernel
theorem ds_61 : dsl "()LTrustDesk$Cond;" 0 := by unfold dsl; decide +kernel
theorem ds_62 : dsl "(ILTrustDesk$Cond;)V" 2 := by unfold dsl; decide +kernel
theorem ds_63 : dsl "(II)Ljava/lang/String;" 2 := by unfold dsl; decide +kernel
theorem ds_64 : dsl "()LTrustDesk$Compared;" 0 := by unfold dsl; decide +kernel
theorem ds_65 : dsl "(LTrustDesk$Cond;)V" 1 := by unfold dsl; decide +kernel
theorem ds_66 : dsl "()LTrustDesk$Sum;" 0 := by unfold dsl; decide +kernel
theorem ds_67 : dsl "(CLTrustDesk$Sum;LTrustDesk$Sum;)V" 3 := by unfold dsl; decide +kernel
theorem ds_68 : dsl "(LTrustDesk$Deed;)LTrustDesk$Aim;" 1 := by unfold dsl; decide +kernel
theorem ds_69 : dsl "(C)Ljava/lang/StringBuilder;" 1 := by unfold dsl; decide +kernel
theorem ds_70 : dsl "()Ljava/lang/String;" 0 := by unfold dsl; decide +kernel
theorem ds_71 : dsl "()B" 0 := by unfold dsl; decide +kernel
theorem ds_72 : dsl "([BIII)I" 4 := by unfold dsl; decide +kernel
theorem ds_73 : dsl "(IIILjava/util/function/BiFunction;)I" 4 := by unfold dsl; decide +kernel
theorem ds_74 : dsl "([BII)Ljava/lang/String;" 3 := by unfold dsl; decide +kernel
theorem ds_75 : dsl "([BI)C" 2 := by unfold dsl; decide +kernel
theorem ds_76 : dsl "(IILjava/util/function/BiFunction;)I" 3 := by unfold dsl; decide +kernel
theorem ds_77 : dsl "(Ljava/lang/AbstractStringBuilder;Ljava/lang/Void;)V" 2 := by unfold dsl; decide +kernel
theorem ds_78 : dsl "()[B" 0 := by unfold dsl; decide +kernel
theorem ds_79 : dsl "([BII)[B" 3 := by unfold dsl; decide +kernel
theorem ds_80 : dsl "([B[B)Z" 2 := by unfold dsl; decide +kernel
theorem ds_81 : dsl "([BB)V" 2 := by unfold dsl; decide +kernel
theorem ds_82 : dsl "([Ljava/lang/Object;ILjava/lang/Class;)[Ljava/lang/Object;" 3 := by unfold dsl; decide +kernel
theorem ds_83 : dsl "(Ljava/lang/String;Ljava/lang/Throwable;ZZ)V" 4 := by unfold dsl; decide +kernel
theorem ds_84 : dsl "([J)J" 1 := by unfold dsl; decide +kernel
theorem ds_85 : dsl "(J)J" 1 := by unfold dsl; decide +kernel
theorem ds_86 : dsl "(LTrustDesk$Aim;)V" 1 := by unfold dsl; decide +kernel
theorem ds_87 : dsl "(C)Z" 1 := by unfold dsl; decide +kernel
theorem ds_88 : dsl "([BI)[B" 2 := by unfold dsl; decide +kernel
theorem ds_89 : dsl "(C)Ljava/lang/AbstractStringBuilder;" 1 := by unfold dsl; decide +kernel
theorem ds_90 : dsl "(Ljava/lang/StringBuilder;)V" 1 := by unfold dsl; decide +kernel
theorem ds_91 : dsl "(I[J)Z" 2 := by unfold dsl; decide +kernel
theorem ds_92 : dsl "(LTrustDesk$Fund;)I" 1 := by unfold dsl; decide +kernel
theorem ds_93 : dsl "()LTrustDesk$End;" 0 := by unfold dsl; decide +kernel
theorem ds_94 : dsl "(LTrustDesk$Fund;)J" 1 := by unfold dsl; decide +kernel
theorem ds_95 : dsl "(LTrustDesk$Fund;JJ)V" 3 := by unfold dsl; decide +kernel
theorem ds_96 : dsl "(IIIII)I" 5 := by unfold dsl; decide +kernel
theorem ds_97 : dsl "(IIZ)Z" 3 := by unfold dsl; decide +kernel
theorem ds_98 : dsl "(LTrustDesk;II[J)I" 4 := by unfold dsl; decide +kernel
theorem ds_99 : dsl "(IIII)I" 4 := by unfold dsl; decide +kernel
theorem f_0_0 {X : gX} (hO : gO (g0 X)) : fm (g0 X) "TrustDeskLaw" [4, 8, 1, 24] := ⟨_, _, _, cl_1 X, df_1, q832, q177, q113⟩
theorem f_0_1 {X : gX} (hO : gO (g0 X)) : fm (g0 X) "TrustDeskLaw" [4, 16, 2, 72] := ⟨_, _, _, cl_2 X, df_2, q1998, q1999, q118⟩
theorem f_0_2 {X : gX} (hO : gO (g0 X)) : fm (g0 X) "TrustDeskLaw" [20, 94, 4, 0] := co_S (ck_0 X) q1963 q1964 ds_98
theorem f_0_3 {X : gX} (hO : gO (g0 X)) : fm (g0 X) "TrustDeskLaw" [21, 7, 3, 57, 1, 1, 1] := co_V (n := 2) (ck_57 X) q1967 q1968 (kO1 (by decide) (isc_1 X) (q1969)) ds_0
theorem f_0_4 {X : gX} (hO : gO (g0 X)) : fm (g0 X) "TrustDeskLaw" [21, 19, 4, 1, 1, 1, 1] := co_V (n := 3) (ck_1 X) q160 q161 (kO1 (by decide) (isc_1 X) (q162)) ds_1
theorem f_0_5 {X : gX} (hO : gO (g0 X)) : fm (g0 X) "TrustDeskLaw" [21, 23, 4, 79, 2, 2, 2] := co_V (n := 3) (ck_79 X) q2222 q2223 (kO1 (by decide) (isc_2 X) (q2224)) ds_1
theorem f_0_6 {X : gX} (hO : gO (g0 X)) : fm (g0 X) "TrustDeskLaw" [21, 24, 4, 4, 1, 1, 1] := co_V (n := 3) (ck_4 X) q170 q171 (kO1 (by decide) (isc_1 X) (q172)) ds_3
theorem f_0_7 {X : gX} (hO : gO (g0 X)) : fm (g0 X) "TrustDeskLaw" [21, 28, 4, 82, 2, 2, 2] := co_V (n := 3) (ck_82 X) q2234 q2235 (kO1 (by decide) (isc_2 X) (q2236)) ds_3
theorem f_0_8 {X : gX} (hO : gO (g0 X)) : fm (g0 X) "TrustDeskLaw" [21, 29, 6, 7, 1, 1, 1] := co_V (n := 5) (ck_7 X) q183 q184 (kO1 (by decide) (isc_1 X) (q185)) ds_96
theorem f_0_9 {X : gX} (hO : gO (g0 X)) : fm (g0 X) "TrustDeskLaw" [21, 33, 6, 85, 2, 2, 2] := co_V (n := 5) (ck_85 X) q2246 q2247 (kO1 (by decide) (isc_2 X) (q2248)) ds_96
theorem f_0_10 {X : gX} (hO : gO (g0 X)) : fm (g0 X) "TrustDeskLaw" [21, 34, 2, 8, 1, 1, 1] := co_V (n := 1) (ck_8 X) q187 q188 (kO1 (by decide) (isc_1 X) (q189)) ds_18
theorem f_0_11 {X : gX} (hO : gO (g0 X)) : fm (g0 X) "TrustDeskLaw" [21, 38, 2, 86, 2, 2, 2] := co_V (n := 1) (ck_86 X) q2250 q2251 (kO1 (by decide) (isc_2 X) (q2252)) ds_18
theorem f_0_12 {X : gX} (hO : gO (g0 X)) : fm (g0 X) "TrustDeskLaw" [21, 39, 2, 9, 1, 1, 1] := co_V (n := 1) (ck_9 X) q191 q192 (kO1 (by decide) (isc_1 X) (q193)) ds_18
theorem f_0_13 {X : gX} (hO : gO (g0 X)) : fm (g0 X) "TrustDeskLaw" [21, 42, 2, 88, 2, 2, 2] := co_V (n := 1) (ck_88 X) q2258 q2259 (kO1 (by decide) (isc_2 X) (q2260)) ds_18
theorem f_0_14 {X : gX} (hO : gO (g0 X)) : fm (g0 X) "TrustDeskLaw" [21, 43, 3, 12, 1, 1, 1] := co_V (n := 2) (ck_12 X) q811 q812 (kO1 (by decide) (isc_1 X) (q813)) ds_0
theorem f_0_15 {X : gX} (hO : gO (g0 X)) : fm (g0 X) "TrustDeskLaw" [21, 46, 3, 115, 2, 2, 2] := co_V (n := 2) (ck_115 X) q2395 q2396 (kO1 (by decide) (isc_2 X) (q2397)) ds_0
theorem f_0_16 {X : gX} (hO : gO (g0 X)) : fm (g0 X) "TrustDeskLaw" [21, 47, 3, 15, 1, 1, 1] := co_V (n := 2) (ck_15 X) q921 q922 (kO1 (by decide) (isc_1 X) (q923)) ds_0
theorem f_0_17 {X : gX} (hO : gO (g0 X)) : fm (g0 X) "TrustDeskLaw" [21, 50, 3, 118, 2, 2, 2] := co_V (n := 2) (ck_118 X) q2408 q2409 (kO1 (by decide) (isc_2 X) (q2410)) ds_0
theorem f_0_18 {X : gX} (hO : gO (g0 X)) : fm (g0 X) "TrustDeskLaw" [21, 51, 2, 16, 1, 1, 1] := co_V (n := 1) (ck_16 X) q1216 q1217 (kO1 (by decide) (isc_1 X) (q1218)) ds_18
theorem f_0_19 {X : gX} (hO : gO (g0 X)) : fm (g0 X) "TrustDeskLaw" [21, 54, 2, 124, 2, 2, 2] := co_V (n := 1) (ck_124 X) q2440 q2441 (kO1 (by decide) (isc_2 X) (q2442)) ds_18
theorem f_0_20 {X : gX} (hO : gO (g0 X)) : fm (g0 X) "TrustDeskLaw" [21, 55, 1, 17, 1, 1, 1] := co_V (n := 0) (ck_17 X) q1240 q1241 (kO1 (by decide) (isc_1 X) (q1242)) ds_4
theorem f_0_21 {X : gX} (hO : gO (g0 X)) : fm (g0 X) "TrustDeskLaw" [21, 59, 1, 87, 2, 2, 2] := co_V (n := 0) (ck_87 X) q2254 q2255 (kO1 (by decide) (isc_2 X) (q2256)) ds_4
theorem f_0_22 {X : gX} (hO : gO (g0 X)) : fm (g0 X) "TrustDeskLaw" [21, 60, 2, 18, 1, 1, 1] := co_V (n := 1) (ck_18 X) q1244 q1245 (kO1 (by decide) (isc_1 X) (q1246)) ds_18
theorem f_0_23 {X : gX} (hO : gO (g0 X)) : fm (g0 X) "TrustDeskLaw" [21, 63, 2, 137, 2, 2, 2] := co_V (n := 1) (ck_137 X) q2495 q2496 (kO1 (by decide) (isc_2 X) (q2497)) ds_18
theorem f_0_24 {X : gX} (hO : gO (g0 X)) : fm (g0 X) "TrustDeskLaw" [21, 64, 3, 27, 1, 1, 1] := co_V (n := 2) (ck_27 X) q1349 q1350 (kO1 (by decide) (isc_1 X) (q1351)) ds_52
theorem f_0_25 {X : gX} (hO : gO (g0 X)) : fm (g0 X) "TrustDeskLaw" [21, 68, 3, 142, 2, 2, 2] := co_V (n := 2) (ck_142 X) q2520 q2521 (kO1 (by decide) (isc_2 X) (q2522)) ds_52
theorem f_0_26 {X : gX} (hO : gO (g0 X)) : fm (g0 X) "TrustDeskLaw" [21, 69, 4, 30, 1, 1, 1] := co_V (n := 3) (ck_30 X) q1434 q1435 (kO1 (by decide) (isc_1 X) (q1436)) ds_3
theorem f_0_27 {X : gX} (hO : gO (g0 X)) : fm (g0 X) "TrustDeskLaw" [21, 72, 4, 146, 2, 2, 2] := co_V (n := 3) (ck_146 X) q2535 q2536 (kO1 (by decide) (isc_2 X) (q2537)) ds_3
theorem f_0_28 {X : gX} (hO : gO (g0 X)) : fm (g0 X) "TrustDeskLaw" [21, 73, 3, 32, 1, 1, 1] := co_V (n := 2) (ck_32 X) q1570 q1571 (kO1 (by decide) (isc_1 X) (q1572)) ds_52
theorem f_0_29 {X : gX} (hO : gO (g0 X)) : fm (g0 X) "TrustDeskLaw" [21, 76, 3, 147, 2, 2, 2] := co_V (n := 2) (ck_147 X) q2540 q2541 (kO1 (by decide) (isc_2 X) (q2542)) ds_52
theorem f_0_30 {X : gX} (hO : gO (g0 X)) : fm (g0 X) "TrustDeskLaw" [21, 77, 3, 34, 1, 1, 1] := co_V (n := 2) (ck_34 X) q1580 q1581 (kO1 (by decide) (isc_1 X) (q1582)) ds_52
theorem f_0_31 {X : gX} (hO : gO (g0 X)) : fm (g0 X) "TrustDeskLaw" [21, 80, 3, 151, 2, 2, 2] := co_V (n := 2) (ck_151 X) q2556 q2557 (kO1 (by decide) (isc_2 X) (q2558)) ds_52
theorem f_0_32 {X : gX} (hO : gO (g0 X)) : fm (g0 X) "TrustDeskLaw" [21, 81, 4, 35, 1, 1, 1] := co_V (n := 3) (ck_35 X) q1594 q1595 (kO1 (by decide) (isc_1 X) (q1596)) ds_97
theorem f_0_33 {X : gX} (hO : gO (g0 X)) : fm (g0 X) "TrustDeskLaw" [21, 85, 4, 152, 2, 2, 2] := co_V (n := 3) (ck_152 X) q2560 q2561 (kO1 (by decide) (isc_2 X) (q2562)) ds_97
theorem f_0_34 {X : gX} (hO : gO (g0 X)) : fm (g0 X) "TrustDeskLaw" [21, 86, 2, 36, 1, 1, 1] := co_V (n := 1) (ck_36 X) q1623 q1624 (kO1 (by decide) (isc_1 X) (q1625)) ds_18
theorem f_0_35 {X : gX} (hO : gO (g0 X)) : fm (g0 X) "TrustDeskLaw" [21, 89, 2, 153, 2, 2, 2] := co_V (n := 1) (ck_153 X) q2564 q2565 (kO1 (by decide) (isc_2 X) (q2566)) ds_18
theorem f_0_36 {X : gX} (hO : gO (g0 X)) : fm (g0 X) "TrustDeskLaw" [21, 90, 3, 37, 1, 1, 1] := co_V (n := 2) (ck_37 X) q1771 q1772 (kO1 (by decide) (isc_1 X) (q1773)) ds_0
theorem f_0_37 {X : gX} (hO : gO (g0 X)) : fm (g0 X) "TrustDeskLaw" [21, 93, 3, 164, 2, 2, 2] := co_V (n := 2) (ck_164 X) q2613 q2614 (kO1 (by decide) (isc_2 X) (q2615)) ds_0
theorem f_0_38 {X : gX} (hO : gO (g0 X)) : fm (g0 X) "TrustDeskLaw" [21, 99, 3, 178, 2, 2, 2] := co_V (n := 2) (ck_178 X) q2672 q2673 (kO1 (by decide) (isc_2 X) (q2674)) ds_0
theorem f_0_39 {X : gX} (hO : gO (g0 X)) : fm (g0 X) "TrustDeskLaw" [21, 100, 1, 77, 2, 2, 2] := co_V (n := 0) (ck_77 X) q1994 q1995 (kO1 (by decide) (isc_2 X) (q1996)) ds_4
theorem f_0_40 {X : gX} (hO : gO (g0 X)) : fm (g0 X) "TrustDeskLaw" [21, 103, 2, 38, 1, 1, 1] := co_V (n := 1) (ck_38 X) q1783 q1784 (kO1 (by decide) (isc_1 X) (q1785)) ds_57
theorem f_0_41 {X : gX} (hO : gO (g0 X)) : fm (g0 X) "TrustDeskLaw" [21, 107, 2, 179, 2, 2, 2] := co_V (n := 1) (ck_179 X) q2677 q2678 (kO1 (by decide) (isc_2 X) (q2679)) ds_57
theorem f_0_42 {X : gX} (hO : gO (g0 X)) : fm (g0 X) "TrustDeskLaw" [21, 108, 4, 39, 1, 1, 1] := co_V (n := 3) (ck_39 X) q1788 q1789 (kO1 (by decide) (isc_1 X) (q1790)) ds_3
theorem f_0_43 {X : gX} (hO : gO (g0 X)) : fm (g0 X) "TrustDeskLaw" [21, 111, 4, 180, 2, 2, 2] := co_V (n := 3) (ck_180 X) q2681 q2682 (kO1 (by decide) (isc_2 X) (q2683)) ds_3
theorem f_0_44 {X : gX} (hO : gO (g0 X)) : fm (g0 X) "TrustDeskLaw" [21, 112, 3, 40, 1, 1, 1] := co_V (n := 2) (ck_40 X) q1792 q1793 (kO1 (by decide) (isc_1 X) (q1794)) ds_0
theorem f_0_45 {X : gX} (hO : gO (g0 X)) : fm (g0 X) "TrustDeskLaw" [21, 115, 3, 181, 2, 2, 2] := co_V (n := 2) (ck_181 X) q2685 q2686 (kO1 (by decide) (isc_2 X) (q2687)) ds_0
theorem f_0_46 {X : gX} (hO : gO (g0 X)) : fm (g0 X) "TrustDeskLaw" [21, 116, 2, 41, 1, 1, 1] := co_V (n := 1) (ck_41 X) q1796 q1797 (kO1 (by decide) (isc_1 X) (q1798)) ds_57
theorem f_0_47 {X : gX} (hO : gO (g0 X)) : fm (g0 X) "TrustDeskLaw" [21, 119, 2, 182, 2, 2, 2] := co_V (n := 1) (ck_182 X) q2689 q2690 (kO1 (by decide) (isc_2 X) (q2691)) ds_57
theorem f_0_48 {X : gX} (hO : gO (g0 X)) : fm (g0 X) "TrustDeskLaw" [21, 120, 4, 42, 1, 1, 1] := co_V (n := 3) (ck_42 X) q1800 q1801 (kO1 (by decide) (isc_1 X) (q1802)) ds_3
theorem f_0_49 {X : gX} (hO : gO (g0 X)) : fm (g0 X) "TrustDeskLaw" [21, 123, 4, 183, 2, 2, 2] := co_V (n := 3) (ck_183 X) q2693 q2694 (kO1 (by decide) (isc_2 X) (q2695)) ds_3
theorem f_0_50 {X : gX} (hO : gO (g0 X)) : fm (g0 X) "TrustDeskLaw" [21, 124, 5, 44, 1, 1, 1] := co_V (n := 4) (ck_44 X) q1809 q1810 (kO1 (by decide) (isc_1 X) (q1811)) ds_99
theorem f_0_51 {X : gX} (hO : gO (g0 X)) : fm (g0 X) "TrustDeskLaw" [21, 128, 5, 125, 2, 2, 2] := co_V (n := 4) (ck_125 X) q2445 q2446 (kO1 (by decide) (isc_2 X) (q2447)) ds_99
theorem f_0_52 {X : gX} (hO : gO (g0 X)) : fm (g0 X) "TrustDeskLaw" [21, 129, 5, 45, 1, 1, 1] := co_V (n := 4) (ck_45 X) q1813 q1814 (kO1 (by decide) (isc_1 X) (q1815)) ds_99
theorem f_0_53 {X : gX} (hO : gO (g0 X)) : fm (g0 X) "TrustDeskLaw" [21, 132, 5, 136, 2, 2, 2] := co_V (n := 4) (ck_136 X) q2491 q2492 (kO1 (by decide) (isc_2 X) (q2493)) ds_99
theorem f_0_54 {X : gX} (hO : gO (g0 X)) : fm (g0 X) "TrustDeskLaw" [21, 133, 3, 46, 1, 1, 1] := co_V (n := 2) (ck_46 X) q1825 q1826 (kO1 (by decide) (isc_1 X) (q1827)) ds_0
theorem f_0_55 {X : gX} (hO : gO (g0 X)) : fm (g0 X) "TrustDeskLaw" [21, 136, 3, 184, 2, 2, 2] := co_V (n := 2) (ck_184 X) q2697 q2698 (kO1 (by decide) (isc_2 X) (q2699)) ds_0
theorem f_0_56 {X : gX} (hO : gO (g0 X)) : fm (g0 X) "TrustDeskLaw" [21, 137, 2, 47, 1, 1, 1] := co_V (n := 1) (ck_47 X) q1829 q1830 (kO1 (by decide) (isc_1 X) (q1831)) ds_18
theorem f_0_57 {X : gX} (hO : gO (g0 X)) : fm (g0 X) "TrustDeskLaw" [21, 140, 2, 166, 2, 2, 2] := co_V (n := 1) (ck_166 X) q2621 q2622 (kO1 (by decide) (isc_2 X) (q2623)) ds_18
theorem f_0_58 {X : gX} (hO : gO (g0 X)) : fm (g0 X) "TrustDeskLaw" [21, 141, 4, 49, 1, 1, 1] := co_V (n := 3) (ck_49 X) q1836 q1837 (kO1 (by decide) (isc_1 X) (q1838)) ds_3
theorem f_0_59 {X : gX} (hO : gO (g0 X)) : fm (g0 X) "TrustDeskLaw" [21, 144, 4, 167, 2, 2, 2] := co_V (n := 3) (ck_167 X) q2625 q2626 (kO1 (by decide) (isc_2 X) (q2627)) ds_3
theorem f_0_60 {X : gX} (hO : gO (g0 X)) : fm (g0 X) "TrustDeskLaw" [21, 145, 2, 50, 1, 1, 1] := co_V (n := 1) (ck_50 X) q1840 q1841 (kO1 (by decide) (isc_1 X) (q1842)) ds_57
theorem f_0_61 {X : gX} (hO : gO (g0 X)) : fm (g0 X) "TrustDeskLaw" [21, 148, 2, 168, 2, 2, 2] := co_V (n := 1) (ck_168 X) q2629 q2630 (kO1 (by decide) (isc_2 X) (q2631)) ds_57
theorem f_0_62 {X : gX} (hO : gO (g0 X)) : fm (g0 X) "TrustDeskLaw" [21, 149, 3, 52, 1, 1, 1] := co_V (n := 2) (ck_52 X) q1933 q1934 (kO1 (by decide) (isc_1 X) (q1935)) ds_0
theorem f_0_63 {X : gX} (hO : gO (g0 X)) : fm (g0 X) "TrustDeskLaw" [21, 152, 3, 174, 2, 2, 2] := co_V (n := 2) (ck_174 X) q2656 q2657 (kO1 (by decide) (isc_2 X) (q2658)) ds_0
theorem f_0_64 {X : gX} (hO : gO (g0 X)) : fm (g0 X) "TrustDeskLaw" [21, 153, 3, 53, 1, 1, 1] := co_V (n := 2) (ck_53 X) q1941 q1942 (kO1 (by decide) (isc_1 X) (q1943)) ds_52
theorem f_0_65 {X : gX} (hO : gO (g0 X)) : fm (g0 X) "TrustDeskLaw" [21, 156, 3, 175, 2, 2, 2] := co_V (n := 2) (ck_175 X) q2660 q2661 (kO1 (by decide) (isc_2 X) (q2662)) ds_52
theorem f_0_66 {X : gX} (hO : gO (g0 X)) : fm (g0 X) "TrustDeskLaw" [21, 157, 2, 54, 1, 1, 1] := co_V (n := 1) (ck_54 X) q1945 q1946 (kO1 (by decide) (isc_1 X) (q1947)) ds_57
theorem f_0_67 {X : gX} (hO : gO (g0 X)) : fm (g0 X) "TrustDeskLaw" [21, 160, 2, 176, 2, 2, 2] := co_V (n := 1) (ck_176 X) q2664 q2665 (kO1 (by decide) (isc_2 X) (q2666)) ds_57
theorem f_0_68 {X : gX} (hO : gO (g0 X)) : fm (g0 X) "TrustDeskLaw" [21, 161, 3, 55, 1, 1, 1] := co_V (n := 2) (ck_55 X) q1954 q1955 (kO1 (by decide) (isc_1 X) (q1956)) ds_0
theorem f_0_69 {X : gX} (hO : gO (g0 X)) : fm (g0 X) "TrustDeskLaw" [21, 164, 3, 177, 2, 2, 2] := co_V (n := 2) (ck_177 X) q2668 q2669 (kO1 (by decide) (isc_2 X) (q2670)) ds_0
theorem f_0_70 {X : gX} (hO : gO (g0 X)) : fm (g0 X) "TrustDeskLaw" [21, 165, 2, 56, 1, 1, 1] := co_V (n := 1) (ck_56 X) q1959 q1960 (kO1 (by decide) (isc_1 X) (q1961)) ds_18
theorem f_0_71 {X : gX} (hO : gO (g0 X)) : fm (g0 X) "TrustDeskLaw" [21, 168, 2, 185, 2, 2, 2] := co_V (n := 1) (ck_185 X) q2701 q2702 (kO1 (by decide) (isc_2 X) (q2703)) ds_18
theorem f_0_72 {X : gX} (hO : gO (g0 X)) : fm (g0 X) "TrustDeskLaw" [22, 15, 1, 14, 1, 1, 1] := co_I (n := 0) (G := fun k => (1 ≤ k ∧ k ≤ 1) ∨ k = 1) (ck_14 X) rfl q835 q833 q834 (fun k h => by omega) ds_13
theorem f_0_73 {X : gX} (hO : gO (g0 X)) : fm (g0 X) "TrustDeskLaw" [22, 18, 1, 78, 2, 2, 2] := co_I (n := 0) (G := fun k => (2 ≤ k ∧ k ≤ 2) ∨ k = 2) (ck_78 X) rfl q2002 q2000 q2001 (fun k h => by omega) ds_13
theorem f_0_74 {X : gX} (hO : gO (g0 X)) : fm (g0 X) "TrustDeskLaw" [30, 13, 6] := ⟨_, _, isc_6 X, q1973, q1966⟩
theorem fo_0 {X : gX} (hO : gO (g0 X)) : allF (g0 X) "TrustDeskLaw" fc_0 := And.intro (f_0_0 hO) (And.intro (f_0_1 hO) (And.intro (f_0_2 hO) (And.intro (f_0_3 hO) (And.intro (f_0_4 hO) (And.intro (f_0_5 hO) (And.intro (f_0_6 hO) (And.intro (f_0_7 hO) (And.intro (f_0_8 hO) (And.intro (f_0_9 hO) (And.intro (f_0_10 hO) (And.intro (f_0_11 hO) (And.intro (f_0_12 hO) (And.intro (f_0_13 hO) (And.intro (f_0_14 hO) (And.intro (f_0_15 hO) (And.intro (f_0_16 hO) (And.intro (f_0_17 hO) (And.intro (f_0_18 hO) (And.intro (f_0_19 hO) (And.intro (f_0_20 hO) (And.intro (f_0_21 hO) (And.intro (f_0_22 hO) (And.intro (f_0_23 hO) (And.intro (f_0_24 hO) (And.intro (f_0_25 hO) (And.intro (f_0_26 hO) (And.intro (f_0_27 hO) (And.intro (f_0_28 hO) (And.intro (f_0_29 hO) (And.intro (f_0_30 hO) (And.intro (f_0_31 hO) (And.intro (f_0_32 hO) (And.intro (f_0_33 hO) (And.intro (f_0_34 hO) (And.intro (f_0_35 hO) (And.intro (f_0_36 hO) (And.intro (f_0_37 hO) (And.intro (f_0_38 hO) (And.intro (f_0_39 hO) (And.intro (f_0_40 hO) (And.intro (f_0_41 hO) (And.intro (f_0_42 hO) (And.intro (f_0_43 hO) (And.intro (f_0_44 hO) (And.intro (f_0_45 hO) (And.intro (f_0_46 hO) (And.intro (f_0_47 hO) (And.intro (f_0_48 hO) (And.intro (f_0_49 hO) (And.intro (f_0_50 hO) (And.intro (f_0_51 hO) (And.intro (f_0_52 hO) (And.intro (f_0_53 hO) (And.intro (f_0_54 hO) (And.intro (f_0_55 hO) (And.intro (f_0_56 hO) (And.intro (f_0_57 hO) (And.intro (f_0_58 hO) (And.intro (f_0_59 hO) (And.intro (f_0_60 hO) (And.intro (f_0_61 hO) (And.intro (f_0_62 hO) (And.intro (f_0_63 hO) (And.intro (f_0_64 hO) (And.intro (f_0_65 hO) (And.intro (f_0_66 hO) (And.intro (f_0_67 hO) (And.intro (f_0_68 hO) (And.intro (f_0_69 hO) (And.intro (f_0_70 hO) (And.intro (f_0_71 hO) (And.intro (f_0_72 hO) (And.intro (f_0_73 hO) (And.intro (f_0_74 hO) (True.intro)))))))))))))))))))))))))))))))))))))))))))))))))))))))))))))))))))))))))))
theorem f_1_0 {X : gX} (hO : gO (g0 X)) : fm (g0 X) "TrustDesk" [0, 20, 5, 0, 1, 1] := rk1 (⟨_, _, _, _, _, cl_1 X, by decide, rfl, Or.inl q847, Or.inl rfl⟩)
theorem f_1_1 {X : gX} (hO : gO (g0 X)) : fm (g0 X) "TrustDesk" [0, 28, 4, 0, 1, 1] := rk1 (⟨_, _, _, _, _, cl_1 X, by decide, rfl, Or.inl q844, Or.inl rfl⟩)
theorem f_1_2 {X : gX} (hO : gO (g0 X)) : fm (g0 X) "TrustDesk" [0, 31, 0, 2, 1, 1] := rk1 (⟨_, _, _, _, _, cl_1 X, by decide, rfl, Or.inl q840, Or.inl rfl⟩)
theorem f_1_3 {X : gX} (hO : gO (g0 X)) : fm (g0 X) "TrustDesk" [0, 35, 1, 2, 1, 1] := rk1 (⟨_, _, _, _, _, cl_1 X, by decide, rfl, Or.inl q841, Or.inl rfl⟩)
theorem f_1_4 {X : gX} (hO : gO (g0 X)) : fm (g0 X) "TrustDesk" [0, 38, 2, 2, 1, 1] := rk1 (⟨_, _, _, _, _, cl_1 X, by decide, rfl, Or.inl q842, Or.inl rfl⟩)
theorem f_1_5 {X : gX} (hO : gO (g0 X)) : fm (g0 X) "TrustDesk" [0, 41, 3, 2, 1, 1] := rk1 (⟨_, _, _, _, _, cl_1 X, by decide, rfl, Or.inl q843, Or.inl rfl⟩)
theorem f_1_6 {X : gX} (hO : gO (g0 X)) : fm (g0 X) "TrustDesk" [0, 51, 7, 0, 1, 1] := rk1 (⟨_, _, _, _, _, cl_1 X, by decide, rfl, Or.inl q851, Or.inl rfl⟩)
theorem f_1_7 {X : gX} (hO : gO (g0 X)) : fm (g0 X) "TrustDesk" [0, 54, 6, 2, 1, 1] := rk1 (⟨_, _, _, _, _, cl_1 X, by decide, rfl, Or.inl q850, Or.inl rfl⟩)
theorem f_1_8 {X : gX} (hO : gO (g0 X)) : fm (g0 X) "TrustDesk" [0, 58, 7, 0, 5, 5] := rk1 (⟨_, _, _, _, _, cl_5 X, by decide, rfl, Or.inr ⟨_, q556⟩, Or.inl rfl⟩)
theorem f_1_9 {X : gX} (hO : gO (g0 X)) : fm (g0 X) "TrustDesk" [0, 63, 8, 0, 1, 1] := rk1 (⟨_, _, _, _, _, cl_1 X, by decide, rfl, Or.inl q852, Or.inl rfl⟩)
theorem f_1_10 {X : gX} (hO : gO (g0 X)) : fm (g0 X) "TrustDesk" [0, 64, 6, 0, 5, 5] := rk1 (⟨_, _, _, _, _, cl_5 X, by decide, rfl, Or.inr ⟨_, q554⟩, Or.inl rfl⟩)
theorem f_1_11 {X : gX} (hO : gO (g0 X)) : fm (g0 X) "TrustDesk" [0, 74, 9, 2, 1, 1] := rk1 (⟨_, _, _, _, _, cl_1 X, by decide, rfl, Or.inl q853, Or.inl rfl⟩)
theorem f_1_12 {X : gX} (hO : gO (g0 X)) : fm (g0 X) "TrustDesk" [0, 92, 2, 0, 3, 3] := rk1 (⟨_, _, _, _, _, cl_3 X, by decide, rfl, Or.inr ⟨_, q299⟩, Or.inl rfl⟩)
theorem f_1_13 {X : gX} (hO : gO (g0 X)) : fm (g0 X) "TrustDesk" [0, 101, 3, 0, 3, 3] := rk1 (⟨_, _, _, _, _, cl_3 X, by decide, rfl, Or.inr ⟨_, q300⟩, Or.inl rfl⟩)
theorem f_1_14 {X : gX} (hO : gO (g0 X)) : fm (g0 X) "TrustDesk" [0, 108, 10, 2, 1, 1] := rk1 (⟨_, _, _, _, _, cl_1 X, by decide, rfl, Or.inl q854, Or.inl rfl⟩)
theorem f_1_15 {X : gX} (hO : gO (g0 X)) : fm (g0 X) "TrustDesk" [0, 120, 1, 2, 3, 3] := rk1 (⟨_, _, _, _, _, cl_3 X, by decide, rfl, Or.inr ⟨_, q298⟩, Or.inl rfl⟩)
theorem f_1_16 {X : gX} (hO : gO (g0 X)) : fm (g0 X) "TrustDesk" [0, 132, 11, 2, 1, 1] := rk1 (⟨_, _, _, _, _, cl_1 X, by decide, rfl, Or.inl q857, Or.inl rfl⟩)
theorem f_1_17 {X : gX} (hO : gO (g0 X)) : fm (g0 X) "TrustDesk" [0, 135, 12, 2, 1, 1] := rk1 (⟨_, _, _, _, _, cl_1 X, by decide, rfl, Or.inl q859, Or.inl rfl⟩)
theorem f_1_18 {X : gX} (hO : gO (g0 X)) : fm (g0 X) "TrustDesk" [0, 138, 13, 2, 1, 1] := rk1 (⟨_, _, _, _, _, cl_1 X, by decide, rfl, Or.inl q860, Or.inl rfl⟩)
theorem f_1_19 {X : gX} (hO : gO (g0 X)) : fm (g0 X) "TrustDesk" [0, 142, 14, 2, 1, 1] := rk1 (⟨_, _, _, _, _, cl_1 X, by decide, rfl, Or.inl q861, Or.inl rfl⟩)
theorem f_1_20 {X : gX} (hO : gO (g0 X)) : fm (g0 X) "TrustDesk" [0, 145, 15, 2, 1, 1] := rk1 (⟨_, _, _, _, _, cl_1 X, by decide, rfl, Or.inl q862, Or.inl rfl⟩)
theorem f_1_21 {X : gX} (hO : gO (g0 X)) : fm (g0 X) "TrustDesk" [0, 148, 16, 2, 1, 1] := rk1 (⟨_, _, _, _, _, cl_1 X, by decide, rfl, Or.inl q863, Or.inl rfl⟩)
theorem f_1_22 {X : gX} (hO : gO (g0 X)) : fm (g0 X) "TrustDesk" [0, 151, 17, 2, 1, 1] := rk1 (⟨_, _, _, _, _, cl_1 X, by decide, rfl, Or.inl q864, Or.inl rfl⟩)
theorem f_1_23 {X : gX} (hO : gO (g0 X)) : fm (g0 X) "TrustDesk" [0, 154, 19, 2, 1, 1] := rk1 (⟨_, _, _, _, _, cl_1 X, by decide, rfl, Or.inl q866, Or.inl rfl⟩)
theorem f_1_24 {X : gX} (hO : gO (g0 X)) : fm (g0 X) "TrustDesk" [0, 157, 20, 2, 1, 1] := rk1 (⟨_, _, _, _, _, cl_1 X, by decide, rfl, Or.inl q867, Or.inl rfl⟩)
theorem f_1_25 {X : gX} (hO : gO (g0 X)) : fm (g0 X) "TrustDesk" [0, 160, 21, 2, 1, 1] := rk1 (⟨_, _, _, _, _, cl_1 X, by decide, rfl, Or.inl q868, Or.inl rfl⟩)
theorem f_1_26 {X : gX} (hO : gO (g0 X)) : fm (g0 X) "TrustDesk" [0, 163, 22, 2, 1, 1] := rk1 (⟨_, _, _, _, _, cl_1 X, by decide, rfl, Or.inl q869, Or.inl rfl⟩)
theorem f_1_27 {X : gX} (hO : gO (g0 X)) : fm (g0 X) "TrustDesk" [0, 193, 6, 0, 14, 14] := rk1 (⟨_, _, _, _, _, cl_14 X, by decide, rfl, Or.inr ⟨_, q1176⟩, Or.inl rfl⟩)
theorem f_1_28 {X : gX} (hO : gO (g0 X)) : fm (g0 X) "TrustDesk" [0, 196, 7, 0, 14, 14] := rk1 (⟨_, _, _, _, _, cl_14 X, by decide, rfl, Or.inr ⟨_, q1178⟩, Or.inl rfl⟩)
theorem f_1_29 {X : gX} (hO : gO (g0 X)) : fm (g0 X) "TrustDesk" [0, 203, 10, 1, 14, 14] := rk1 (⟨_, _, _, _, _, cl_14 X, by decide, rfl, Or.inr ⟨_, q1188⟩, Or.inl rfl⟩)
theorem f_1_30 {X : gX} (hO : gO (g0 X)) : fm (g0 X) "TrustDesk" [0, 211, 8, 0, 14, 14] := rk1 (⟨_, _, _, _, _, cl_14 X, by decide, rfl, Or.inr ⟨_, q1183⟩, Or.inl rfl⟩)
theorem f_1_31 {X : gX} (hO : gO (g0 X)) : fm (g0 X) "TrustDesk" [0, 228, 3, 2, 14, 14] := rk1 (⟨_, _, _, _, _, cl_14 X, by decide, rfl, Or.inr ⟨_, q1169⟩, Or.inl rfl⟩)
theorem f_1_32 {X : gX} (hO : gO (g0 X)) : fm (g0 X) "TrustDesk" [0, 233, 1, 0, 17, 17] := rk1 (⟨_, _, _, _, _, cl_17 X, by decide, rfl, Or.inr ⟨_, q1138⟩, Or.inl rfl⟩)
theorem f_1_33 {X : gX} (hO : gO (g0 X)) : fm (g0 X) "TrustDesk" [0, 244, 0, 2, 17, 17] := rk1 (⟨_, _, _, _, _, cl_17 X, by decide, rfl, Or.inr ⟨_, q1133⟩, Or.inl rfl⟩)
theorem f_1_34 {X : gX} (hO : gO (g0 X)) : fm (g0 X) "TrustDesk" [0, 248, 2, 2, 16, 16] := rk1 (⟨_, _, _, _, _, cl_16 X, by decide, rfl, Or.inr ⟨_, q1096⟩, Or.inl rfl⟩)
theorem f_1_35 {X : gX} (hO : gO (g0 X)) : fm (g0 X) "TrustDesk" [0, 263, 3, 0, 16, 16] := rk1 (⟨_, _, _, _, _, cl_16 X, by decide, rfl, Or.inr ⟨_, q1098⟩, Or.inl rfl⟩)
theorem f_1_36 {X : gX} (hO : gO (g0 X)) : fm (g0 X) "TrustDesk" [0, 275, 18, 0, 1, 1] := rk1 (⟨_, _, _, _, _, cl_1 X, by decide, rfl, Or.inl q865, Or.inl rfl⟩)
theorem f_1_37 {X : gX} (hO : gO (g0 X)) : fm (g0 X) "TrustDesk" [0, 278, 0, 0, 14, 14] := rk1 (⟨_, _, _, _, _, cl_14 X, by decide, rfl, Or.inr ⟨_, q1158⟩, Or.inl rfl⟩)
theorem f_1_38 {X : gX} (hO : gO (g0 X)) : fm (g0 X) "TrustDesk" [0, 281, 5, 2, 14, 14] := rk1 (⟨_, _, _, _, _, cl_14 X, by decide, rfl, Or.inr ⟨_, q1173⟩, Or.inl rfl⟩)
theorem f_1_39 {X : gX} (hO : gO (g0 X)) : fm (g0 X) "TrustDesk" [0, 297, 4, 2, 14, 14] := rk1 (⟨_, _, _, _, _, cl_14 X, by decide, rfl, Or.inr ⟨_, q1171⟩, Or.inl rfl⟩)
theorem f_1_40 {X : gX} (hO : gO (g0 X)) : fm (g0 X) "TrustDesk" [0, 300, 1, 0, 14, 14] := rk1 (⟨_, _, _, _, _, cl_14 X, by decide, rfl, Or.inr ⟨_, q1160⟩, Or.inl rfl⟩)
theorem f_1_41 {X : gX} (hO : gO (g0 X)) : fm (g0 X) "TrustDesk" [0, 327, 7, 0, 19, 22] := rk4 (⟨_, _, _, _, _, cl_19 X, by decide, rfl, Or.inr ⟨_, q1479⟩, Or.inl rfl⟩) (⟨_, _, _, _, _, cl_20 X, by decide, rfl, Or.inr ⟨_, q1479⟩, Or.inl rfl⟩) (⟨_, _, _, _, _, cl_21 X, by decide, rfl, Or.inr ⟨_, q1479⟩, Or.inl rfl⟩) (⟨_, _, _, _, _, cl_22 X, by decide, rfl, Or.inr ⟨_, q1479⟩, Or.inl rfl⟩)
theorem f_1_42 {X : gX} (hO : gO (g0 X)) : fm (g0 X) "TrustDesk" [0, 332, 3, 0, 19, 22] := rk4 (⟨_, _, _, _, _, cl_19 X, by decide, rfl, Or.inl q1473, Or.inl rfl⟩) (⟨_, _, _, _, _, cl_20 X, by decide, rfl, Or.inl q1473, Or.inl rfl⟩) (⟨_, _, _, _, _, cl_21 X, by decide, rfl, Or.inl q1473, Or.inl rfl⟩) (⟨_, _, _, _, _, cl_22 X, by decide, rfl, Or.inl q1473, Or.inl rfl⟩)
theorem f_1_43 {X : gX} (hO : gO (g0 X)) : fm (g0 X) "TrustDesk" [0, 335, 4, 2, 19, 22] := rk4 (⟨_, _, _, _, _, cl_19 X, by decide, rfl, Or.inr ⟨_, q1475⟩, Or.inl rfl⟩) (⟨_, _, _, _, _, cl_20 X, by decide, rfl, Or.inr ⟨_, q1475⟩, Or.inl rfl⟩) (⟨_, _, _, _, _, cl_21 X, by decide, rfl, Or.inr ⟨_, q1475⟩, Or.inl rfl⟩) (⟨_, _, _, _, _, cl_22 X, by decide, rfl, Or.inr ⟨_, q1475⟩, Or.inl rfl⟩)
theorem f_1_44 {X : gX} (hO : gO (g0 X)) : fm (g0 X) "TrustDesk" [0, 364, 11, 2, 14, 14] := rk1 (⟨_, _, _, _, _, cl_14 X, by decide, rfl, Or.inr ⟨_, q1190⟩, Or.inl rfl⟩)
theorem f_1_45 {X : gX} (hO : gO (g0 X)) : fm (g0 X) "TrustDesk" [0, 368, 2, 0, 14, 14] := rk1 (⟨_, _, _, _, _, cl_14 X, by decide, rfl, Or.inr ⟨_, q1164⟩, Or.inl rfl⟩)
theorem f_1_46 {X : gX} (hO : gO (g0 X)) : fm (g0 X) "TrustDesk" [0, 377, 2, 0, 17, 17] := rk1 (⟨_, _, _, _, _, cl_17 X, by decide, rfl, Or.inr ⟨_, q1141⟩, Or.inl rfl⟩)
theorem f_1_47 {X : gX} (hO : gO (g0 X)) : fm (g0 X) "TrustDesk" [0, 380, 3, 0, 17, 17] := rk1 (⟨_, _, _, _, _, cl_17 X, by decide, rfl, Or.inr ⟨_, q1144⟩, Or.inl rfl⟩)
theorem f_1_48 {X : gX} (hO : gO (g0 X)) : fm (g0 X) "TrustDesk" [0, 383, 0, 2, 16, 16] := rk1 (⟨_, _, _, _, _, cl_16 X, by decide, rfl, Or.inr ⟨_, q1091⟩, Or.inl rfl⟩)
theorem f_1_49 {X : gX} (hO : gO (g0 X)) : fm (g0 X) "TrustDesk" [0, 395, 1, 0, 18, 18] := rk1 (⟨_, _, _, _, _, cl_18 X, by decide, rfl, Or.inr ⟨_, q1234⟩, Or.inl rfl⟩)
theorem f_1_50 {X : gX} (hO : gO (g0 X)) : fm (g0 X) "TrustDesk" [0, 412, 10, 1, 23, 23] := rk1 (⟨_, _, _, _, _, cl_23 X, by decide, rfl, Or.inr ⟨_, q1881⟩, Or.inl rfl⟩)
theorem f_1_51 {X : gX} (hO : gO (g0 X)) : fm (g0 X) "TrustDesk" [0, 425, 23, 0, 1, 1] := rk1 (⟨_, _, _, _, _, cl_1 X, by decide, rfl, Or.inl q870, Or.inl rfl⟩)
theorem f_1_52 {X : gX} (hO : gO (g0 X)) : fm (g0 X) "TrustDesk" [1, 20, 5, 0, 1, 1] := fun _ => rk1 (⟨_, _, _, _, _, cl_1 X, by decide, rfl, Or.inl ⟨q847, Or.inl rfl⟩, Or.inl rfl⟩)
theorem f_1_53 {X : gX} (hO : gO (g0 X)) : fm (g0 X) "TrustDesk" [1, 28, 4, 0, 1, 1] := fun _ => rk1 (⟨_, _, _, _, _, cl_1 X, by decide, rfl, Or.inl ⟨q844, Or.inl rfl⟩, Or.inl rfl⟩)
theorem f_1_54 {X : gX} (hO : gO (g0 X)) : fm (g0 X) "TrustDesk" [1, 51, 7, 0, 1, 1] := fun _ => rk1 (⟨_, _, _, _, _, cl_1 X, by decide, rfl, Or.inl ⟨q851, Or.inl rfl⟩, Or.inl rfl⟩)
theorem f_1_55 {X : gX} (hO : gO (g0 X)) : fm (g0 X) "TrustDesk" [1, 63, 8, 0, 1, 1] := fun _ => rk1 (⟨_, _, _, _, _, cl_1 X, by decide, rfl, Or.inl ⟨q852, Or.inl rfl⟩, Or.inl rfl⟩)
theorem f_1_56 {X : gX} (hO : gO (g0 X)) : fm (g0 X) "TrustDesk" [1, 92, 2, 0, 3, 3] := fun _ => rk1 (⟨_, _, _, _, _, cl_3 X, by decide, rfl, Or.inr ⟨_, q299, rfl⟩, Or.inl rfl⟩)
theorem f_1_57 {X : gX} (hO : gO (g0 X)) : fm (g0 X) "TrustDesk" [1, 203, 10, 1, 14, 14] := fun _ => rk1 (⟨_, _, _, _, _, cl_14 X, by decide, rfl, Or.inr ⟨_, q1188, rfl⟩, Or.inl rfl⟩)
theorem f_1_58 {X : gX} (hO : gO (g0 X)) : fm (g0 X) "TrustDesk" [1, 275, 18, 0, 1, 1] := fun _ => rk1 (⟨_, _, _, _, _, cl_1 X, by decide, rfl, Or.inl ⟨q865, Or.inl rfl⟩, Or.inl rfl⟩)
theorem f_1_59 {X : gX} (hO : gO (g0 X)) : fm (g0 X) "TrustDesk" [1, 418, 9, 0, 14, 14] := fun _ => rk1 (⟨_, _, _, _, _, cl_14 X, by decide, rfl, Or.inr ⟨_, q1185, rfl⟩, Or.inl rfl⟩)
theorem f_1_60 {X : gX} (hO : gO (g0 X)) : fm (g0 X) "TrustDesk" [1, 425, 23, 0, 1, 1] := fun _ => rk1 (⟨_, _, _, _, _, cl_1 X, by decide, rfl, Or.inl ⟨q870, Or.inl rfl⟩, Or.inl rfl⟩)
theorem f_1_61 {X : gX} (hO : gO (g0 X)) : fm (g0 X) "TrustDesk" [2, 31, 0, 2, 1, 1] := rk1 (⟨_, _, _, _, _, cl_1 X, by decide, Or.inr ⟨_, rfl⟩, Or.inl ⟨q840, Or.inr ⟨rfl, rfl⟩⟩, Or.inl rfl⟩)
theorem f_1_62 {X : gX} (hO : gO (g0 X)) : fm (g0 X) "TrustDesk" [2, 35, 1, 2, 1, 1] := rk1 (⟨_, _, _, _, _, cl_1 X, by decide, Or.inr ⟨_, rfl⟩, Or.inl ⟨q841, Or.inr ⟨rfl, rfl⟩⟩, Or.inl rfl⟩)
theorem f_1_63 {X : gX} (hO : gO (g0 X)) : fm (g0 X) "TrustDesk" [2, 38, 2, 2, 1, 1] := rk1 (⟨_, _, _, _, _, cl_1 X, by decide, Or.inr ⟨_, rfl⟩, Or.inl ⟨q842, Or.inr ⟨rfl, rfl⟩⟩, Or.inl rfl⟩)
theorem f_1_64 {X : gX} (hO : gO (g0 X)) : fm (g0 X) "TrustDesk" [2, 41, 3, 2, 1, 1] := rk1 (⟨_, _, _, _, _, cl_1 X, by decide, Or.inr ⟨_, rfl⟩, Or.inl ⟨q843, Or.inr ⟨rfl, rfl⟩⟩, Or.inl rfl⟩)
theorem f_1_65 {X : gX} (hO : gO (g0 X)) : fm (g0 X) "TrustDesk" [2, 54, 6, 2, 1, 1] := rk1 (⟨_, _, _, _, _, cl_1 X, by decide, Or.inr ⟨_, rfl⟩, Or.inl ⟨q850, Or.inr ⟨rfl, rfl⟩⟩, Or.inl rfl⟩)
theorem f_1_66 {X : gX} (hO : gO (g0 X)) : fm (g0 X) "TrustDesk" [2, 74, 9, 2, 1, 1] := rk1 (⟨_, _, _, _, _, cl_1 X, by decide, Or.inl ⟨_, rfl⟩, Or.inl ⟨q853, Or.inr ⟨rfl, rfl⟩⟩, Or.inl rfl⟩)
theorem f_1_67 {X : gX} (hO : gO (g0 X)) : fm (g0 X) "TrustDesk" [2, 108, 10, 2, 1, 1] := rk1 (⟨_, _, _, _, _, cl_1 X, by decide, Or.inl ⟨_, rfl⟩, Or.inl ⟨q854, Or.inr ⟨rfl, rfl⟩⟩, Or.inl rfl⟩)
theorem f_1_68 {X : gX} (hO : gO (g0 X)) : fm (g0 X) "TrustDesk" [2, 132, 11, 2, 1, 1] := rk1 (⟨_, _, _, _, _, cl_1 X, by decide, Or.inl ⟨_, rfl⟩, Or.inl ⟨q857, Or.inr ⟨rfl, rfl⟩⟩, Or.inl rfl⟩)
theorem f_1_69 {X : gX} (hO : gO (g0 X)) : fm (g0 X) "TrustDesk" [2, 135, 12, 2, 1, 1] := rk1 (⟨_, _, _, _, _, cl_1 X, by decide, Or.inl ⟨_, rfl⟩, Or.inl ⟨q859, Or.inr ⟨rfl, rfl⟩⟩, Or.inl rfl⟩)
theorem f_1_70 {X : gX} (hO : gO (g0 X)) : fm (g0 X) "TrustDesk" [2, 138, 13, 2, 1, 1] := rk1 (⟨_, _, _, _, _, cl_1 X, by decide, Or.inr ⟨_, rfl⟩, Or.inl ⟨q860, Or.inr ⟨rfl, rfl⟩⟩, Or.inl rfl⟩)
theorem f_1_71 {X : gX} (hO : gO (g0 X)) : fm (g0 X) "TrustDesk" [2, 142, 14, 2, 1, 1] := rk1 (⟨_, _, _, _, _, cl_1 X, by decide, Or.inr ⟨_, rfl⟩, Or.inl ⟨q861, Or.inr ⟨rfl, rfl⟩⟩, Or.inl rfl⟩)
theorem f_1_72 {X : gX} (hO : gO (g0 X)) : fm (g0 X) "TrustDesk" [2, 145, 15, 2, 1, 1] := rk1 (⟨_, _, _, _, _, cl_1 X, by decide, Or.inr ⟨_, rfl⟩, Or.inl ⟨q862, Or.inr ⟨rfl, rfl⟩⟩, Or.inl rfl⟩)
theorem f_1_73 {X : gX} (hO : gO (g0 X)) : fm (g0 X) "TrustDesk" [2, 148, 16, 2, 1, 1] := rk1 (⟨_, _, _, _, _, cl_1 X, by decide, Or.inr ⟨_, rfl⟩, Or.inl ⟨q863, Or.inr ⟨rfl, rfl⟩⟩, Or.inl rfl⟩)
theorem f_1_74 {X : gX} (hO : gO (g0 X)) : fm (g0 X) "TrustDesk" [2, 151, 17, 2, 1, 1] := rk1 (⟨_, _, _, _, _, cl_1 X, by decide, Or.inr ⟨_, rfl⟩, Or.inl ⟨q864, Or.inr ⟨rfl, rfl⟩⟩, Or.inl rfl⟩)
theorem f_1_75 {X : gX} (hO : gO (g0 X)) : fm (g0 X) "TrustDesk" [2, 154, 19, 2, 1, 1] := rk1 (⟨_, _, _, _, _, cl_1 X, by decide, Or.inr ⟨_, rfl⟩, Or.inl ⟨q866, Or.inr ⟨rfl, rfl⟩⟩, Or.inl rfl⟩)
theorem f_1_76 {X : gX} (hO : gO (g0 X)) : fm (g0 X) "TrustDesk" [2, 157, 20, 2, 1, 1] := rk1 (⟨_, _, _, _, _, cl_1 X, by decide, Or.inl ⟨_, rfl⟩, Or.inl ⟨q867, Or.inr ⟨rfl, rfl⟩⟩, Or.inl rfl⟩)
theorem f_1_77 {X : gX} (hO : gO (g0 X)) : fm (g0 X) "TrustDesk" [2, 160, 21, 2, 1, 1] := rk1 (⟨_, _, _, _, _, cl_1 X, by decide, Or.inr ⟨_, rfl⟩, Or.inl ⟨q868, Or.inr ⟨rfl, rfl⟩⟩, Or.inl rfl⟩)
theorem f_1_78 {X : gX} (hO : gO (g0 X)) : fm (g0 X) "TrustDesk" [2, 163, 22, 2, 1, 1] := rk1 (⟨_, _, _, _, _, cl_1 X, by decide, Or.inr ⟨_, rfl⟩, Or.inl ⟨q869, Or.inr ⟨rfl, rfl⟩⟩, Or.inl rfl⟩)
theorem f_1_79 {X : gX} (hO : gO (g0 X)) : fm (g0 X) "TrustDesk" [4, 67, 4, 10] := ⟨_, _, _, cl_4 X, df_4, q205, q206, q119⟩
theorem f_1_80 {X : gX} (hO : gO (g0 X)) : fm (g0 X) "TrustDesk" [4, 79, 24, 3] := ⟨_, _, _, cl_24 X, df_24, q837, q264, q116⟩
theorem f_1_81 {X : gX} (hO : gO (g0 X)) : fm (g0 X) "TrustDesk" [4, 93, 3, 4] := ⟨_, _, _, cl_3 X, df_3, q831, q258, q117⟩
theorem f_1_82 {X : gX} (hO : gO (g0 X)) : fm (g0 X) "TrustDesk" [4, 166, 14, 12] := ⟨_, _, _, cl_14 X, df_14, q926, q927, q142⟩
theorem f_1_83 {X : gX} (hO : gO (g0 X)) : fm (g0 X) "TrustDesk" [4, 184, 18, 2] := ⟨_, _, _, cl_18 X, df_18, q1220, q1221, q148⟩
theorem f_1_84 {X : gX} (hO : gO (g0 X)) : fm (g0 X) "TrustDesk" [4, 307, 19, 11] := ⟨_, _, _, cl_19 X, df_19, q1442, q1443, q153⟩
theorem f_1_85 {X : gX} (hO : gO (g0 X)) : fm (g0 X) "TrustDesk" [4, 312, 20, 12] := ⟨_, _, _, cl_20 X, df_20, q1505, q1506, q154⟩
theorem f_1_86 {X : gX} (hO : gO (g0 X)) : fm (g0 X) "TrustDesk" [4, 315, 21, 11] := ⟨_, _, _, cl_21 X, df_21, q1530, q1531, q155⟩
theorem f_1_87 {X : gX} (hO : gO (g0 X)) : fm (g0 X) "TrustDesk" [4, 318, 22, 11] := ⟨_, _, _, cl_22 X, df_22, q1550, q1551, q156⟩
theorem f_1_88 {X : gX} (hO : gO (g0 X)) : fm (g0 X) "TrustDesk" [4, 403, 23, 12] := ⟨_, _, _, cl_23 X, df_23, q1848, q1849, q159⟩
theorem f_1_89 {X : gX} (hO : gO (g0 X)) : fm (g0 X) "TrustDesk" [5, 93, 3, 3, 3] := ⟨_, rc1 (⟨_, isc_3 X, Or.inr ⟨rfl, 2, _, _, rfl⟩⟩), q831⟩
theorem f_1_90 {X : gX} (hO : gO (g0 X)) : fm (g0 X) "TrustDesk" [5, 166, 14, 14, 14] := ⟨_, rc1 (⟨_, isc_14 X, Or.inr ⟨rfl, 13, _, _, rfl⟩⟩), q926⟩
theorem f_1_91 {X : gX} (hO : gO (g0 X)) : fm (g0 X) "TrustDesk" [5, 184, 18, 18, 18] := ⟨_, rc1 (⟨_, isc_18 X, Or.inr ⟨rfl, 17, _, _, rfl⟩⟩), q1220⟩
theorem f_1_92 {X : gX} (hO : gO (g0 X)) : fm (g0 X) "TrustDesk" [5, 231, 17, 17, 17] := ⟨_, rc1 (⟨_, isc_17 X, Or.inr ⟨rfl, 16, _, _, rfl⟩⟩), q1276⟩
theorem f_1_93 {X : gX} (hO : gO (g0 X)) : fm (g0 X) "TrustDesk" [5, 325, 19, 22, 19] := ⟨_, rc4r (⟨_, isc_19 X, Or.inl q2728⟩) (⟨_, isc_20 X, Or.inl q2727⟩) (⟨_, isc_21 X, Or.inl q2729⟩) (⟨_, isc_22 X, Or.inl q2730⟩), q1578⟩
theorem f_1_94 {X : gX} (hO : gO (g0 X)) : fm (g0 X) "TrustDesk" [7, 73, 36000, 0] := ⟨_, q196, ⟨by decide, by decide⟩, by decide⟩
theorem f_1_95 {X : gX} (hO : gO (g0 X)) : fm (g0 X) "TrustDesk" [7, 176, 99999, 0] := ⟨_, q925, ⟨by decide, by decide⟩, by decide⟩
theorem f_1_96 {X : gX} (hO : gO (g0 X)) : fm (g0 X) "TrustDesk" [8, 3, 0, 1000000000] := ⟨_, q1319, ⟨by decide, by decide⟩, by decide⟩
theorem f_1_97 {X : gX} (hO : gO (g0 X)) : fm (g0 X) "TrustDesk" [8, 5, 1000000000, 0] := ⟨_, q1285, ⟨by decide, by decide⟩, by decide⟩
theorem f_1_98 {X : gX} (hO : gO (g0 X)) : fm (g0 X) "TrustDesk" [8, 222, 100, 0] := ⟨_, q1263, ⟨by decide, by decide⟩, by decide⟩
theorem f_1_99 {X : gX} (hO : gO (g0 X)) : fm (g0 X) "TrustDesk" [8, 284, 1000000, 0] := ⟨_, q1348, ⟨by decide, by decide⟩, by decide⟩
theorem f_1_100 {X : gX} (hO : gO (g0 X)) : fm (g0 X) "TrustDesk" [8, 371, 0, 1] := ⟨_, q1787, ⟨by decide, by decide⟩, by decide⟩
theorem f_1_101 {X : gX} (hO : gO (g0 X)) : fm (g0 X) "TrustDesk" [13, 123] := q836
theorem f_1_102 {X : gX} (hO : gO (g0 X)) : fm (g0 X) "TrustDesk" [17, 361, 363] := ⟨q1971, q1982⟩
theorem f_1_103 {X : gX} (hO : gO (g0 X)) : fm (g0 X) "TrustDesk" [19, 7, 3] := q1286
theorem f_1_104 {X : gX} (hO : gO (g0 X)) : fm (g0 X) "TrustDesk" [19, 13, 2] := q1320
theorem f_1_105 {X : gX} (hO : gO (g0 X)) : fm (g0 X) "TrustDesk" [19, 428, 0] := q1958
theorem f_1_106 {X : gX} (hO : gO (g0 X)) : fm (g0 X) "TrustDesk" [20, 16, 3, 2] := co_S (ck_2 X) q164 q165 ds_1
theorem f_1_107 {X : gX} (hO : gO (g0 X)) : fm (g0 X) "TrustDesk" [20, 24, 1, 3] := co_S (ck_3 X) q167 q168 ds_2
theorem f_1_108 {X : gX} (hO : gO (g0 X)) : fm (g0 X) "TrustDesk" [20, 214, 1, 319] := co_S (ck_319 X) q1291 q1292 ds_18
theorem f_1_109 {X : gX} (hO : gO (g0 X)) : fm (g0 X) "TrustDesk" [20, 219, 1, 21] := co_S (ck_21 X) q1256 q1257 ds_18
theorem f_1_110 {X : gX} (hO : gO (g0 X)) : fm (g0 X) "TrustDesk" [20, 303, 1, 320] := co_S (ck_320 X) q1433 q1366 ds_29
theorem f_1_111 {X : gX} (hO : gO (g0 X)) : fm (g0 X) "TrustDesk" [20, 396, 2, 48] := co_S (ck_48 X) q1833 q1834 ds_36
theorem f_1_112 {X : gX} (hO : gO (g0 X)) : fm (g0 X) "TrustDesk" [21, 44, 2, 5, 1, 1, 1] := co_V (n := 1) (ck_5 X) q174 q176 (kO1 (by decide) (isc_1 X) (qs0)) ds_2
theorem f_1_113 {X : gX} (hO : gO (g0 X)) : fm (g0 X) "TrustDesk" [21, 47, 4, 6, 1, 1, 1] := co_V (n := 3) (ck_6 X) q179 q181 (kO1 (by decide) (isc_1 X) (qs1)) ds_3
theorem f_1_114 {X : gX} (hO : gO (g0 X)) : fm (g0 X) "TrustDesk" [21, 78, 1, 60, 24, 24, 24] := co_V (n := 0) (ck_60 X) q197 q198 (kO1 (by decide) (isc_24 X) (q199)) ds_4
theorem f_1_115 {X : gX} (hO : gO (g0 X)) : fm (g0 X) "TrustDesk" [21, 84, 2, 10, 1, 1, 1] := co_V (n := 1) (ck_10 X) q201 q203 (kO1 (by decide) (isc_1 X) (qs2)) ds_5
theorem f_1_116 {X : gX} (hO : gO (g0 X)) : fm (g0 X) "TrustDesk" [21, 88, 1, 191, 4, 4, 4] := co_V (n := 0) (ck_191 X) q253 q254 (kO1 (by decide) (isc_4 X) (q255)) ds_6
theorem f_1_117 {X : gX} (hO : gO (g0 X)) : fm (g0 X) "TrustDesk" [21, 97, 2, 62, 24, 24, 24] := co_V (n := 1) (ck_62 X) q806 q709 (kO1 (by decide) (isc_24 X) (q710)) ds_7
theorem f_1_118 {X : gX} (hO : gO (g0 X)) : fm (g0 X) "TrustDesk" [21, 104, 2, 11, 1, 1, 1] := co_V (n := 1) (ck_11 X) q807 q809 (kO1 (by decide) (isc_1 X) (qs23)) ds_8
theorem f_1_119 {X : gX} (hO : gO (g0 X)) : fm (g0 X) "TrustDesk" [21, 112, 2, 66, 24, 24, 24] := co_V (n := 1) (ck_66 X) q819 q820 (kO1 (by decide) (isc_24 X) (q821)) ds_11
theorem f_1_120 {X : gX} (hO : gO (g0 X)) : fm (g0 X) "TrustDesk" [21, 116, 2, 13, 1, 1, 1] := co_V (n := 1) (ck_13 X) q815 q817 (kO1 (by decide) (isc_1 X) (qs24)) ds_10
theorem f_1_121 {X : gX} (hO : gO (g0 X)) : fm (g0 X) "TrustDesk" [21, 168, 2, 29, 1, 1, 1] := co_V (n := 1) (ck_29 X) q1357 q1359 (kO1 (by decide) (isc_1 X) (qs33)) ds_28
theorem f_1_122 {X : gX} (hO : gO (g0 X)) : fm (g0 X) "TrustDesk" [21, 172, 1, 291, 14, 14, 14] := co_V (n := 0) (ck_291 X) q1259 q1260 (kO1 (by decide) (isc_14 X) (q1261)) ds_19
theorem f_1_123 {X : gX} (hO : gO (g0 X)) : fm (g0 X) "TrustDesk" [21, 177, 1, 208, 4, 4, 4] := co_V (n := 0) (ck_208 X) q928 q929 (kO1 (by decide) (isc_4 X) (q930)) ds_14
theorem f_1_124 {X : gX} (hO : gO (g0 X)) : fm (g0 X) "TrustDesk" [21, 186, 1, 210, 4, 4, 4] := co_V (n := 0) (ck_210 X) q1222 q1223 (kO1 (by decide) (isc_4 X) (q1224)) ds_16
theorem f_1_125 {X : gX} (hO : gO (g0 X)) : fm (g0 X) "TrustDesk" [21, 199, 4, 22, 1, 1, 1] := co_V (n := 3) (ck_22 X) q1272 q1274 (kO1 (by decide) (isc_1 X) (qs28)) ds_21
theorem f_1_126 {X : gX} (hO : gO (g0 X)) : fm (g0 X) "TrustDesk" [21, 207, 2, 293, 14, 14, 14] := co_V (n := 1) (ck_293 X) q1287 q1288 (kO1 (by decide) (isc_14 X) (q1289)) ds_18
theorem f_1_127 {X : gX} (hO : gO (g0 X)) : fm (g0 X) "TrustDesk" [21, 224, 2, 292, 14, 14, 14] := co_V (n := 1) (ck_292 X) q1264 q1265 (kO1 (by decide) (isc_14 X) (q1266)) ds_20
theorem f_1_128 {X : gX} (hO : gO (g0 X)) : fm (g0 X) "TrustDesk" [21, 236, 5, 23, 1, 1, 1] := co_V (n := 4) (ck_23 X) q1277 q1279 (kO1 (by decide) (isc_1 X) (qs29)) ds_22
theorem f_1_129 {X : gX} (hO : gO (g0 X)) : fm (g0 X) "TrustDesk" [21, 240, 4, 24, 1, 1, 1] := co_V (n := 3) (ck_24 X) q1281 q1283 (kO1 (by decide) (isc_1 X) (qs30)) ds_23
theorem f_1_130 {X : gX} (hO : gO (g0 X)) : fm (g0 X) "TrustDesk" [21, 259, 2, 312, 16, 16, 16] := co_V (n := 1) (ck_312 X) q1334 q1335 (kO1 (by decide) (isc_16 X) (q1336)) ds_25
theorem f_1_131 {X : gX} (hO : gO (g0 X)) : fm (g0 X) "TrustDesk" [21, 267, 4, 315, 17, 17, 17] := co_V (n := 3) (ck_315 X) q1340 q1341 (kO1 (by decide) (isc_17 X) (q1342)) ds_26
theorem f_1_132 {X : gX} (hO : gO (g0 X)) : fm (g0 X) "TrustDesk" [21, 271, 3, 26, 1, 1, 1] := co_V (n := 2) (ck_26 X) q1344 q1346 (kO1 (by decide) (isc_1 X) (qs31)) ds_27
theorem f_1_133 {X : gX} (hO : gO (g0 X)) : fm (g0 X) "TrustDesk" [21, 286, 1, 19, 1, 1, 1] := co_V (n := 0) (ck_19 X) q1248 q1250 (kO1 (by decide) (isc_1 X) (qs26)) ds_4
theorem f_1_134 {X : gX} (hO : gO (g0 X)) : fm (g0 X) "TrustDesk" [21, 289, 2, 20, 1, 1, 1] := co_V (n := 1) (ck_20 X) q1252 q1254 (kO1 (by decide) (isc_1 X) (qs27)) ds_12
theorem f_1_135 {X : gX} (hO : gO (g0 X)) : fm (g0 X) "TrustDesk" [21, 291, 2, 28, 1, 1, 1] := co_V (n := 1) (ck_28 X) q1353 q1355 (kO1 (by decide) (isc_1 X) (qs32)) ds_28
theorem f_1_136 {X : gX} (hO : gO (g0 X)) : fm (g0 X) "TrustDesk" [21, 294, 2, 294, 14, 14, 14] := co_V (n := 1) (ck_294 X) q1361 q1362 (kO1 (by decide) (isc_14 X) (q1363)) ds_2
theorem f_1_137 {X : gX} (hO : gO (g0 X)) : fm (g0 X) "TrustDesk" [21, 321, 4, 31, 1, 1, 1] := co_V (n := 3) (ck_31 X) q1438 q1440 (kO1 (by decide) (isc_1 X) (qs34)) ds_30
theorem f_1_138 {X : gX} (hO : gO (g0 X)) : fm (g0 X) "TrustDesk" [21, 328, 2, 33, 1, 1, 1] := co_V (n := 1) (ck_33 X) q1574 q1576 (kO1 (by decide) (isc_1 X) (qs35)) ds_32
theorem f_1_139 {X : gX} (hO : gO (g0 X)) : fm (g0 X) "TrustDesk" [21, 338, 2, 68, 24, 24, 24] := co_V (n := 1) (ck_68 X) q1579 q1386 (kO1 (by decide) (isc_24 X) (q1387)) ds_7
theorem f_1_140 {X : gX} (hO : gO (g0 X)) : fm (g0 X) "TrustDesk" [21, 341, 2, 69, 24, 24, 24] := co_V (n := 1) (ck_69 X) q1584 q1390 (kO1 (by decide) (isc_24 X) (q1391)) ds_33
theorem f_1_141 {X : gX} (hO : gO (g0 X)) : fm (g0 X) "TrustDesk" [21, 345, 2, 71, 24, 24, 24] := co_V (n := 1) (ck_71 X) q1585 q1586 (kO1 (by decide) (isc_24 X) (q1587)) ds_11
theorem f_1_142 {X : gX} (hO : gO (g0 X)) : fm (g0 X) "TrustDesk" [21, 351, 3, 326, 19, 22, 19] := co_V (n := 2) (ck_326 X) q1611 q1612 (kR4 (by decide) (isc_19 X) (q1615) (isc_20 X) (q1614) (isc_21 X) (q1616) (isc_22 X) (q1617)) ds_34
theorem f_1_143 {X : gX} (hO : gO (g0 X)) : fm (g0 X) "TrustDesk" [21, 355, 1, 327, 19, 22, 19] := co_V (n := 0) (ck_327 X) q1627 q1628 (kR4 (by decide) (isc_19 X) (q1631) (isc_20 X) (q1630) (isc_21 X) (q1632) (isc_22 X) (q1633)) ds_4
theorem f_1_144 {X : gX} (hO : gO (g0 X)) : fm (g0 X) "TrustDesk" [21, 358, 2, 331, 19, 22, 19] := co_V (n := 1) (ck_331 X) q1775 q1776 (kR4 (by decide) (isc_19 X) (q1779) (isc_20 X) (q1778) (isc_21 X) (q1780) (isc_22 X) (q1781)) ds_18
theorem f_1_145 {X : gX} (hO : gO (g0 X)) : fm (g0 X) "TrustDesk" [21, 373, 3, 43, 1, 1, 1] := co_V (n := 2) (ck_43 X) q1804 q1806 (kO1 (by decide) (isc_1 X) (qs38)) ds_35
theorem f_1_146 {X : gX} (hO : gO (g0 X)) : fm (g0 X) "TrustDesk" [21, 387, 1, 211, 27, 27, 28] := co_V (n := 0) (ck_211 X) q1808 q318 (kO2 (by decide) (by decide) (isc_27 X) (q319) (hO.s28) (q319)) ds_4
theorem f_1_147 {X : gX} (hO : gO (g0 X)) : fm (g0 X) "TrustDesk" [21, 392, 2, 313, 16, 16, 16] := co_V (n := 1) (ck_313 X) q1817 q1818 (kO1 (by decide) (isc_16 X) (q1819)) ds_25
theorem f_1_148 {X : gX} (hO : gO (g0 X)) : fm (g0 X) "TrustDesk" [21, 400, 2, 51, 1, 1, 1] := co_V (n := 1) (ck_51 X) q1844 q1846 (kO1 (by decide) (isc_1 X) (qs39)) ds_2
theorem f_1_149 {X : gX} (hO : gO (g0 X)) : fm (g0 X) "TrustDesk" [21, 408, 3, 357, 23, 23, 23] := co_V (n := 2) (ck_357 X) q1908 q1909 (kO1 (by decide) (isc_23 X) (q1910)) ds_38
theorem f_1_150 {X : gX} (hO : gO (g0 X)) : fm (g0 X) "TrustDesk" [21, 415, 2, 362, 23, 23, 23] := co_V (n := 1) (ck_362 X) q1937 q1938 (kO1 (by decide) (isc_23 X) (q1939)) ds_18
theorem f_1_151 {X : gX} (hO : gO (g0 X)) : fm (g0 X) "TrustDesk" [21, 421, 1, 363, 23, 23, 23] := co_V (n := 0) (ck_363 X) q1949 q1950 (kO1 (by decide) (isc_23 X) (q1951)) ds_39
theorem f_1_152 {X : gX} (hO : gO (g0 X)) : fm (g0 X) "TrustDesk" [22, 69, 4, 188, 4, 4, 4] := co_I (n := 3) (G := fun k => (4 ≤ k ∧ k ≤ 4) ∨ k = 4) (ck_188 X) rfl q209 q207 q208 (fun k h => by omega) ds_9
theorem f_1_153 {X : gX} (hO : gO (g0 X)) : fm (g0 X) "TrustDesk" [22, 128, 2, 61, 24, 24, 24] := co_I (n := 1) (G := fun k => (24 ≤ k ∧ k ≤ 24) ∨ k = 24) (ck_61 X) rfl q267 q838 q266 (fun k h => by omega) ds_12
theorem f_1_154 {X : gX} (hO : gO (g0 X)) : fm (g0 X) "TrustDesk" [22, 131, 1, 75, 3, 3, 3] := co_IN (n := 0) (G := fun k => (3 ≤ k ∧ k ≤ 3) ∨ k = 3) (ck_75 X) rfl q261 q839 q260 (fun k h => by omega) ds_13
theorem f_1_155 {X : gX} (hO : gO (g0 X)) : fm (g0 X) "TrustDesk" [22, 181, 5, 290, 14, 14, 14] := co_I (n := 4) (G := fun k => (14 ≤ k ∧ k ≤ 14) ∨ k = 14) (ck_290 X) rfl q1116 q1114 q1115 (fun k h => by omega) ds_15
theorem f_1_156 {X : gX} (hO : gO (g0 X)) : fm (g0 X) "TrustDesk" [22, 190, 3, 317, 18, 18, 18] := co_I (n := 2) (G := fun k => (18 ≤ k ∧ k ≤ 18) ∨ k = 18) (ck_317 X) rfl q1228 q1226 q1227 (fun k h => by omega) ds_17
theorem f_1_157 {X : gX} (hO : gO (g0 X)) : fm (g0 X) "TrustDesk" [22, 309, 4, 332, 19, 19, 19] := co_I (n := 3) (G := fun k => (19 ≤ k ∧ k ≤ 19) ∨ k = 19) (ck_332 X) rfl q1446 q1444 q1445 (fun k h => by omega) ds_31
theorem f_1_158 {X : gX} (hO : gO (g0 X)) : fm (g0 X) "TrustDesk" [22, 314, 4, 337, 20, 20, 20] := co_I (n := 3) (G := fun k => (20 ≤ k ∧ k ≤ 20) ∨ k = 20) (ck_337 X) rfl q1509 q1507 q1508 (fun k h => by omega) ds_31
theorem f_1_159 {X : gX} (hO : gO (g0 X)) : fm (g0 X) "TrustDesk" [22, 317, 4, 345, 21, 21, 21] := co_I (n := 3) (G := fun k => (21 ≤ k ∧ k ≤ 21) ∨ k = 21) (ck_345 X) rfl q1534 q1532 q1533 (fun k h => by omega) ds_31
theorem f_1_160 {X : gX} (hO : gO (g0 X)) : fm (g0 X) "TrustDesk" [22, 320, 4, 349, 22, 22, 22] := co_I (n := 3) (G := fun k => (22 ≤ k ∧ k ≤ 22) ∨ k = 22) (ck_349 X) rfl q1554 q1552 q1553 (fun k h => by omega) ds_31
theorem f_1_161 {X : gX} (hO : gO (g0 X)) : fm (g0 X) "TrustDesk" [22, 405, 3, 355, 23, 23, 23] := co_I (n := 2) (G := fun k => (23 ≤ k ∧ k ≤ 23) ∨ k = 23) (ck_355 X) rfl q1852 q1850 q1851 (fun k h => by omega) ds_37
theorem f_1_162 {X : gX} (hO : gO (g0 X)) : fm (g0 X) "TrustDesk" [23, 254, 2, 275, 12, 12] := co_VU (n := 1) (owner := "TrustDesk$Cond") (x := ⟨"TrustDesk$Cond", "holds", "([J)Z"⟩) (ck_275 X) q1297 q1299 (Or.inl q1298) ⟨by decide, by decide⟩ q1327 (kd1 (by decide) (isc_12 X) (q1333)) ds_24
theorem f_1_163 {X : gX} (hO : gO (g0 X)) : fm (g0 X) "TrustDesk" [23, 254, 2, 284, 11, 11] := co_VU (n := 1) (owner := "TrustDesk$Cond") (x := ⟨"TrustDesk$Cond", "holds", "([J)Z"⟩) (ck_284 X) q1297 q1299 (Or.inl q1298) ⟨by decide, by decide⟩ q1301 (kd1 (by decide) (isc_11 X) (q1300)) ds_24
theorem f_1_164 {X : gX} (hO : gO (g0 X)) : fm (g0 X) "TrustDesk" [23, 254, 2, 288, 13, 13] := co_VU (n := 1) (owner := "TrustDesk$Cond") (x := ⟨"TrustDesk$Cond", "holds", "([J)Z"⟩) (ck_288 X) q1297 q1299 (Or.inl q1298) ⟨by decide, by decide⟩ q1324 (kd1 (by decide) (isc_13 X) (q1323)) ds_24
theorem f_1_165 {X : gX} (hO : gO (g0 X)) : fm (g0 X) "TrustDesk" [23, 348, 2, 325, 19, 19] := co_V (n := 1) (ck_325 X) q1598 q1599 (kd1 (by decide) (isc_19 X) (q1606)) ds_2
theorem f_1_166 {X : gX} (hO : gO (g0 X)) : fm (g0 X) "TrustDesk" [23, 348, 2, 325, 21, 21] := co_V (n := 1) (ck_325 X) q1598 q1599 (kd1 (by decide) (isc_21 X) (q1607)) ds_2
theorem f_1_167 {X : gX} (hO : gO (g0 X)) : fm (g0 X) "TrustDesk" [23, 348, 2, 325, 22, 22] := co_V (n := 1) (ck_325 X) q1598 q1599 (kd1 (by decide) (isc_22 X) (q1608)) ds_2
theorem f_1_168 {X : gX} (hO : gO (g0 X)) : fm (g0 X) "TrustDesk" [23, 348, 2, 338, 20, 20] := co_VU (n := 1) (owner := "TrustDesk$Scheme") (x := ⟨"TrustDesk$Scheme", "mayVote", "(I)Z"⟩) (ck_338 X) q1598 q1600 (Or.inr ⟨q1599, _, _, _, q1609⟩) ⟨by decide, by decide⟩ q1602 (kd1 (by decide) (isc_20 X) (q1601)) ds_2
theorem f_1_169 {X : gX} (hO : gO (g0 X)) : fm (g0 X) "TrustDesk" [30, 59, 5] := ⟨_, _, isc_5 X, q508, q195⟩
theorem fo_1 {X : gX} (hO : gO (g0 X)) : allF (g0 X) "TrustDesk" fc_1 := And.intro (f_1_0 hO) (And.intro (f_1_1 hO) (And.intro (f_1_2 hO) (And.intro (f_1_3 hO) (And.intro (f_1_4 hO) (And.intro (f_1_5 hO) (And.intro (f_1_6 hO) (And.intro (f_1_7 hO) (And.intro (f_1_8 hO) (And.intro (f_1_9 hO) (And.intro (f_1_10 hO) (And.intro (f_1_11 hO) (And.intro (f_1_12 hO) (And.intro (f_1_13 hO) (And.intro (f_1_14 hO) (And.intro (f_1_15 hO) (And.intro (f_1_16 hO) (And.intro (f_1_17 hO) (And.intro (f_1_18 hO) (And.intro (f_1_19 hO) (And.intro (f_1_20 hO) (And.intro (f_1_21 hO) (And.intro (f_1_22 hO) (And.intro (f_1_23 hO) (And.intro (f_1_24 hO) (And.intro (f_1_25 hO) (And.intro (f_1_26 hO) (And.intro (f_1_27 hO) (And.intro (f_1_28 hO) (And.intro (f_1_29 hO) (And.intro (f_1_30 hO) (And.intro (f_1_31 hO) (And.intro (f_1_32 hO) (And.intro (f_1_33 hO) (And.intro (f_1_34 hO) (And.intro (f_1_35 hO) (And.intro (f_1_36 hO) (And.intro (f_1_37 hO) (And.intro (f_1_38 hO) (And.intro (f_1_39 hO) (And.intro (f_1_40 hO) (And.intro (f_1_41 hO) (And.intro (f_1_42 hO) (And.intro (f_1_43 hO) (And.intro (f_1_44 hO) (And.intro (f_1_45 hO) (And.intro (f_1_46 hO) (And.intro (f_1_47 hO) (And.intro (f_1_48 hO) (And.intro (f_1_49 hO) (And.intro (f_1_50 hO) (And.intro (f_1_51 hO) (And.intro (f_1_52 hO) (And.intro (f_1_53 hO) (And.intro (f_1_54 hO) (And.intro (f_1_55 hO) (And.intro (f_1_56 hO) (And.intro (f_1_57 hO) (And.intro (f_1_58 hO) (And.intro (f_1_59 hO) (And.intro (f_1_60 hO) (And.intro (f_1_61 hO) (And.intro (f_1_62 hO) (And.intro (f_1_63 hO) (And.intro (f_1_64 hO) (And.intro (f_1_65 hO) (And.intro (f_1_66 hO) (And.intro (f_1_67 hO) (And.intro (f_1_68 hO) (And.intro (f_1_69 hO) (And.intro (f_1_70 hO) (And.intro (f_1_71 hO) (And.intro (f_1_72 hO) (And.intro (f_1_73 hO) (And.intro (f_1_74 hO) (And.intro (f_1_75 hO) (And.intro (f_1_76 hO) (And.intro (f_1_77 hO) (And.intro (f_1_78 hO) (And.intro (f_1_79 hO) (And.intro (f_1_80 hO) (And.intro (f_1_81 hO) (And.intro (f_1_82 hO) (And.intro (f_1_83 hO) (And.intro (f_1_84 hO) (And.intro (f_1_85 hO) (And.intro (f_1_86 hO) (And.intro (f_1_87 hO) (And.intro (f_1_88 hO) (And.intro (f_1_89 hO) (And.intro (f_1_90 hO) (And.intro (f_1_91 hO) (And.intro (f_1_92 hO) (And.intro (f_1_93 hO) (And.intro (f_1_94 hO) (And.intro (f_1_95 hO) (And.intro (f_1_96 hO) (And.intro (f_1_97 hO) (And.intro (f_1_98 hO) (And.intro (f_1_99 hO) (And.intro (f_1_100 hO) (And.intro (f_1_101 hO) (And.intro (f_1_102 hO) (And.intro (f_1_103 hO) (And.intro (f_1_104 hO) (And.intro (f_1_105 hO) (And.intro (f_1_106 hO) (And.intro (f_1_107 hO) (And.intro (f_1_108 hO) (And.intro (f_1_109 hO) (And.intro (f_1_110 hO) (And.intro (f_1_111 hO) (And.intro (f_1_112 hO) (And.intro (f_1_113 hO) (And.intro (f_1_114 hO) (And.intro (f_1_115 hO) (And.intro (f_1_116 hO) (And.intro (f_1_117 hO) (And.intro (f_1_118 hO) (And.intro (f_1_119 hO) (And.intro (f_1_120 hO) (And.intro (f_1_121 hO) (And.intro (f_1_122 hO) (And.intro (f_1_123 hO) (And.intro (f_1_124 hO) (And.intro (f_1_125 hO) (And.intro (f_1_126 hO) (And.intro (f_1_127 hO) (And.intro (f_1_128 hO) (And.intro (f_1_129 hO) (And.intro (f_1_130 hO) (And.intro (f_1_131 hO) (And.intro (f_1_132 hO) (And.intro (f_1_133 hO) (And.intro (f_1_134 hO) (And.intro (f_1_135 hO) (And.intro (f_1_136 hO) (And.intro (f_1_137 hO) (And.intro (f_1_138 hO) (And.intro (f_1_139 hO) (And.intro (f_1_140 hO) (And.intro (f_1_141 hO) (And.intro (f_1_142 hO) (And.intro (f_1_143 hO) (And.intro (f_1_144 hO) (And.intro (f_1_145 hO) (And.intro (f_1_146 hO) (And.intro (f_1_147 hO) (And.intro (f_1_148 hO) (And.intro (f_1_149 hO) (And.intro (f_1_150 hO) (And.intro (f_1_151 hO) (And.intro (f_1_152 hO) (And.intro (f_1_153 hO) (And.intro (f_1_154 hO) (And.intro (f_1_155 hO) (And.intro (f_1_156 hO) (And.intro (f_1_157 hO) (And.intro (f_1_158 hO) (And.intro (f_1_159 hO) (And.intro (f_1_160 hO) (And.intro (f_1_161 hO) (And.intro (f_1_162 hO) (And.intro (f_1_163 hO) (And.intro (f_1_164 hO) (And.intro (f_1_165 hO) (And.intro (f_1_166 hO) (And.intro (f_1_167 hO) (And.intro (f_1_168 hO) (And.intro (f_1_169 hO) (True.intro))))))))))))))))))))))))))))))))))))))))))))))))))))))))))))))))))))))))))))))))))))))))))))))))))))))))))))))))))))))))))))))))))))))))))))))))))))))))))))))))))))))))))
theorem f_2_0 {X : gX} (hO : gO (g0 X)) : fm (g0 X) "java/util/AbstractCollection" [13, 1] := q274
theorem fo_2 {X : gX} (hO : gO (g0 X)) : allF (g0 X) "java/util/AbstractCollection" fc_2 := And.intro (f_2_0 hO) (True.intro)
theorem f_3_0 {X : gX} (hO : gO (g0 X)) : fm (g0 X) "java/util/AbstractList" [1, 7, 0, 0, 24, 24] := fun _ => rk1 (⟨_, _, _, _, _, cl_24 X, by decide, rfl, Or.inl ⟨q281, Or.inl rfl⟩, Or.inl rfl⟩)
theorem f_3_1 {X : gX} (hO : gO (g0 X)) : fm (g0 X) "java/util/AbstractList" [22, 1, 1, 58, 24, 24, 24] := co_I (n := 0) (G := fun k => (24 ≤ k ∧ k ≤ 24) ∨ k = 24) (ck_58 X) rfl q273 q271 q272 (fun k h => by omega) ds_13
theorem fo_3 {X : gX} (hO : gO (g0 X)) : allF (g0 X) "java/util/AbstractList" fc_3 := And.intro (f_3_0 hO) (And.intro (f_3_1 hO) (True.intro))
theorem f_4_0 {X : gX} (hO : gO (g0 X)) : fm (g0 X) "java/util/ArrayList" [0, 9, 1, 2, 24, 24] := rk1 (⟨_, _, _, _, _, cl_24 X, by decide, rfl, Or.inl q279, Or.inl rfl⟩)
theorem f_4_1 {X : gX} (hO : gO (g0 X)) : fm (g0 X) "java/util/ArrayList" [0, 48, 2, 0, 24, 24] := rk1 (⟨_, _, _, _, _, cl_24 X, by decide, rfl, Or.inl q280, Or.inl rfl⟩)
theorem f_4_2 {X : gX} (hO : gO (g0 X)) : fm (g0 X) "java/util/ArrayList" [0, 63, 0, 0, 24, 24] := rk1 (⟨_, _, _, _, _, cl_24 X, by decide, rfl, Or.inl q282, Or.inr q283⟩)
theorem f_4_3 {X : gX} (hO : gO (g0 X)) : fm (g0 X) "java/util/ArrayList" [1, 9, 1, 2, 24, 24] := fun _ => rk1 (⟨_, _, _, _, _, cl_24 X, by decide, Or.inr ⟨_, rfl⟩, Or.inl ⟨q279, Or.inl rfl⟩, Or.inl rfl⟩)
theorem f_4_4 {X : gX} (hO : gO (g0 X)) : fm (g0 X) "java/util/ArrayList" [1, 48, 2, 0, 24, 24] := fun _ => rk1 (⟨_, _, _, _, _, cl_24 X, by decide, rfl, Or.inl ⟨q280, Or.inl rfl⟩, Or.inl rfl⟩)
theorem f_4_5 {X : gX} (hO : gO (g0 X)) : fm (g0 X) "java/util/ArrayList" [1, 63, 0, 0, 24, 24] := fun _ => rk1 (⟨_, _, _, _, _, cl_24 X, by decide, rfl, Or.inl ⟨q282, Or.inl rfl⟩, Or.inr q283⟩)
theorem f_4_6 {X : gX} (hO : gO (g0 X)) : fm (g0 X) "java/util/ArrayList" [6, 7, 107] := ⟨_, _, q275, Or.inl ⟨rfl, rfl, rfl⟩⟩
theorem f_4_7 {X : gX} (hO : gO (g0 X)) : fm (g0 X) "java/util/ArrayList" [11, 15, 0] := ⟨_, _, _, _, hO.z0, q277, Or.inl rfl⟩
theorem f_4_8 {X : gX} (hO : gO (g0 X)) : fm (g0 X) "java/util/ArrayList" [11, 39, 1] := ⟨_, _, _, _, hO.z1, q724, Or.inl rfl⟩
theorem f_4_9 {X : gX} (hO : gO (g0 X)) : fm (g0 X) "java/util/ArrayList" [14, 112] := q1593
theorem f_4_10 {X : gX} (hO : gO (g0 X)) : fm (g0 X) "java/util/ArrayList" [19, 79, 0] := q773
theorem f_4_11 {X : gX} (hO : gO (g0 X)) : fm (g0 X) "java/util/ArrayList" [20, 66, 2, 264] := co_S (ck_264 X) q734 q735 ds_43
theorem f_4_12 {X : gX} (hO : gO (g0 X)) : fm (g0 X) "java/util/ArrayList" [20, 73, 3, 285] := co_S (ck_285 X) q726 q727 ds_3
theorem f_4_13 {X : gX} (hO : gO (g0 X)) : fm (g0 X) "java/util/ArrayList" [20, 118, 2, 289] := co_S (ck_289 X) q823 q824 ds_0
theorem f_4_14 {X : gX} (hO : gO (g0 X)) : fm (g0 X) "java/util/ArrayList" [21, 69, 2, 65, 24, 24, 24] := co_V (n := 1) (ck_65 X) q720 q722 (kO1 (by decide) (isc_24 X) (qs22)) ds_42
theorem f_4_15 {X : gX} (hO : gO (g0 X)) : fm (g0 X) "java/util/ArrayList" [21, 85, 2, 69, 24, 24, 24] := co_V (n := 1) (ck_69 X) q1389 q1390 (kO1 (by decide) (isc_24 X) (q1391)) ds_33
theorem f_4_16 {X : gX} (hO : gO (g0 X)) : fm (g0 X) "java/util/ArrayList" [21, 89, 4, 70, 24, 24, 24] := co_V (n := 3) (ck_70 X) q1393 q1394 (kO1 (by decide) (isc_24 X) (q1395)) ds_44
theorem f_4_17 {X : gX} (hO : gO (g0 X)) : fm (g0 X) "java/util/ArrayList" [21, 123, 2, 67, 24, 24, 24] := co_V (n := 1) (ck_67 X) q827 q828 (kO1 (by decide) (isc_24 X) (q829)) ds_11
theorem f_4_18 {X : gX} (hO : gO (g0 X)) : fm (g0 X) "java/util/ArrayList" [21, 129, 1, 64, 24, 24, 24] := co_V (n := 0) (ck_64 X) q716 q718 (kO1 (by decide) (isc_24 X) (qs21)) ds_41
theorem f_4_19 {X : gX} (hO : gO (g0 X)) : fm (g0 X) "java/util/ArrayList" [21, 131, 4, 63, 24, 24, 24] := co_V (n := 3) (ck_63 X) q712 q714 (kO1 (by decide) (isc_24 X) (qs20)) ds_40
theorem f_4_20 {X : gX} (hO : gO (g0 X)) : fm (g0 X) "java/util/ArrayList" [21, 144, 3, 72, 24, 24, 24] := co_V (n := 2) (ck_72 X) q1589 q1591 (kO1 (by decide) (isc_24 X) (qs36)) ds_45
theorem f_4_21 {X : gX} (hO : gO (g0 X)) : fm (g0 X) "java/util/ArrayList" [22, 1, 1, 59, 24, 24, 24] := co_I (n := 0) (G := fun k => (24 ≤ k ∧ k ≤ 24) ∨ k = 24) (ck_59 X) rfl q270 q268 q269 (fun k h => by omega) ds_13
theorem f_4_22 {X : gX} (hO : gO (g0 X)) : fm (g0 X) "java/util/ArrayList" [23, 93, 2, 322, 26, 26] := co_VU (n := 1) (owner := "java/lang/Object") (x := ⟨"java/lang/Object", "equals", "(Ljava/lang/Object;)Z"⟩) (ck_322 X) q1398 q1400 (Or.inl q1397) ⟨by decide, by decide⟩ q1424 (kd1 (by decide) (isc_26 X) (q1423)) ds_7
theorem f_4_23 {X : gX} (hO : gO (g0 X)) : fm (g0 X) "java/util/ArrayList" [23, 93, 2, 322, 30, 30] := co_VU (n := 1) (owner := "java/lang/Object") (x := ⟨"java/lang/Object", "equals", "(Ljava/lang/Object;)Z"⟩) (ck_322 X) q1398 q1400 (Or.inl q1397) ⟨by decide, by decide⟩ q1424 (kd1 (by decide) (hO.i30) (q1423)) ds_7
theorem fo_4 {X : gX} (hO : gO (g0 X)) : allF (g0 X) "java/util/ArrayList" fc_4 := And.intro (f_4_0 hO) (And.intro (f_4_1 hO) (And.intro (f_4_2 hO) (And.intro (f_4_3 hO) (And.intro (f_4_4 hO) (And.intro (f_4_5 hO) (And.intro (f_4_6 hO) (And.intro (f_4_7 hO) (And.intro (f_4_8 hO) (And.intro (f_4_9 hO) (And.intro (f_4_10 hO) (And.intro (f_4_11 hO) (And.intro (f_4_12 hO) (And.intro (f_4_13 hO) (And.intro (f_4_14 hO) (And.intro (f_4_15 hO) (And.intro (f_4_16 hO) (And.intro (f_4_17 hO) (And.intro (f_4_18 hO) (And.intro (f_4_19 hO) (And.intro (f_4_20 hO) (And.intro (f_4_21 hO) (And.intro (f_4_22 hO) (And.intro (f_4_23 hO) (True.intro))))))))))))))))))))))))
theorem f_5_0 {X : gX} (hO : gO (g0 X)) : fm (g0 X) "TrustDesk$Act" [0, 12, 0, 2, 3, 3] := rk1 (⟨_, _, _, _, _, cl_3 X, by decide, rfl, Or.inl q291, Or.inl rfl⟩)
theorem f_5_1 {X : gX} (hO : gO (g0 X)) : fm (g0 X) "TrustDesk$Act" [0, 32, 0, 0, 7, 7] := rk1 (⟨_, _, _, _, _, cl_7 X, by decide, rfl, Or.inr ⟨_, q791⟩, Or.inl rfl⟩)
theorem f_5_2 {X : gX} (hO : gO (g0 X)) : fm (g0 X) "TrustDesk$Act" [0, 36, 1, 2, 7, 7] := rk1 (⟨_, _, _, _, _, cl_7 X, by decide, rfl, Or.inr ⟨_, q793⟩, Or.inl rfl⟩)
theorem f_5_3 {X : gX} (hO : gO (g0 X)) : fm (g0 X) "TrustDesk$Act" [2, 12, 0, 2, 3, 3] := rk1 (⟨_, _, _, _, _, cl_3 X, by decide, Or.inl ⟨_, rfl⟩, Or.inl ⟨q291, Or.inr ⟨rfl, rfl⟩⟩, Or.inl rfl⟩)
theorem f_5_4 {X : gX} (hO : gO (g0 X)) : fm (g0 X) "TrustDesk$Act" [2, 18, 1, 2, 3, 3] := rk1 (⟨_, _, _, _, _, cl_3 X, by decide, Or.inr ⟨_, rfl⟩, Or.inl ⟨q293, Or.inr ⟨rfl, rfl⟩⟩, Or.inl rfl⟩)
theorem f_5_5 {X : gX} (hO : gO (g0 X)) : fm (g0 X) "TrustDesk$Act" [4, 7, 24, 3] := ⟨_, _, _, cl_24 X, df_24, q263, q264, q116⟩
theorem f_5_6 {X : gX} (hO : gO (g0 X)) : fm (g0 X) "TrustDesk$Act" [5, 30, 7, 7, 7] := ⟨_, rc1 (⟨_, isc_7 X, Or.inr ⟨rfl, 6, _, _, rfl⟩⟩), q1686⟩
theorem f_5_7 {X : gX} (hO : gO (g0 X)) : fm (g0 X) "TrustDesk$Act" [13, 1] := q262
theorem f_5_8 {X : gX} (hO : gO (g0 X)) : fm (g0 X) "TrustDesk$Act" [21, 22, 1, 60, 24, 24, 24] := co_V (n := 0) (ck_60 X) q1684 q198 (kO1 (by decide) (isc_24 X) (q199)) ds_4
theorem f_5_9 {X : gX} (hO : gO (g0 X)) : fm (g0 X) "TrustDesk$Act" [21, 26, 2, 66, 24, 24, 24] := co_V (n := 1) (ck_66 X) q1685 q820 (kO1 (by decide) (isc_24 X) (q821)) ds_11
theorem f_5_10 {X : gX} (hO : gO (g0 X)) : fm (g0 X) "TrustDesk$Act" [22, 9, 2, 61, 24, 24, 24] := co_I (n := 1) (G := fun k => (24 ≤ k ∧ k ≤ 24) ∨ k = 24) (ck_61 X) rfl q267 q265 q266 (fun k h => by omega) ds_12
theorem f_5_11 {X : gX} (hO : gO (g0 X)) : fm (g0 X) "TrustDesk$Act" [23, 40, 2, 275, 12, 12] := co_VU (n := 1) (owner := "TrustDesk$Cond") (x := ⟨"TrustDesk$Cond", "holds", "([J)Z"⟩) (ck_275 X) q1687 q1299 (Or.inl q1298) ⟨by decide, by decide⟩ q1327 (kd1 (by decide) (isc_12 X) (q1333)) ds_24
theorem f_5_12 {X : gX} (hO : gO (g0 X)) : fm (g0 X) "TrustDesk$Act" [23, 40, 2, 284, 11, 11] := co_VU (n := 1) (owner := "TrustDesk$Cond") (x := ⟨"TrustDesk$Cond", "holds", "([J)Z"⟩) (ck_284 X) q1687 q1299 (Or.inl q1298) ⟨by decide, by decide⟩ q1301 (kd1 (by decide) (isc_11 X) (q1300)) ds_24
theorem f_5_13 {X : gX} (hO : gO (g0 X)) : fm (g0 X) "TrustDesk$Act" [23, 40, 2, 288, 13, 13] := co_VU (n := 1) (owner := "TrustDesk$Cond") (x := ⟨"TrustDesk$Cond", "holds", "([J)Z"⟩) (ck_288 X) q1687 q1299 (Or.inl q1298) ⟨by decide, by decide⟩ q1324 (kd1 (by decide) (isc_13 X) (q1323)) ds_24
theorem fo_5 {X : gX} (hO : gO (g0 X)) : allF (g0 X) "TrustDesk$Act" fc_5 := And.intro (f_5_0 hO) (And.intro (f_5_1 hO) (And.intro (f_5_2 hO) (And.intro (f_5_3 hO) (And.intro (f_5_4 hO) (And.intro (f_5_5 hO) (And.intro (f_5_6 hO) (And.intro (f_5_7 hO) (And.intro (f_5_8 hO) (And.intro (f_5_9 hO) (And.intro (f_5_10 hO) (And.intro (f_5_11 hO) (And.intro (f_5_12 hO) (And.intro (f_5_13 hO) (True.intro))))))))))))))
theorem f_6_0 {X : gX} (hO : gO (g0 X)) : fm (g0 X) "TrustDeskModel" [0, 1, 0, 0, 2, 2] := rk1 (⟨_, _, _, _, _, cl_2 X, by decide, rfl, Or.inl q2004, Or.inl rfl⟩)
theorem f_6_1 {X : gX} (hO : gO (g0 X)) : fm (g0 X) "TrustDeskModel" [0, 13, 3, 2, 2, 2] := rk1 (⟨_, _, _, _, _, cl_2 X, by decide, rfl, Or.inl q2007, Or.inl rfl⟩)
theorem f_6_2 {X : gX} (hO : gO (g0 X)) : fm (g0 X) "TrustDeskModel" [0, 17, 4, 2, 2, 2] := rk1 (⟨_, _, _, _, _, cl_2 X, by decide, rfl, Or.inl q2008, Or.inl rfl⟩)
theorem f_6_3 {X : gX} (hO : gO (g0 X)) : fm (g0 X) "TrustDeskModel" [0, 20, 5, 2, 2, 2] := rk1 (⟨_, _, _, _, _, cl_2 X, by decide, rfl, Or.inl q2009, Or.inl rfl⟩)
theorem f_6_4 {X : gX} (hO : gO (g0 X)) : fm (g0 X) "TrustDeskModel" [0, 23, 6, 2, 2, 2] := rk1 (⟨_, _, _, _, _, cl_2 X, by decide, rfl, Or.inl q2010, Or.inl rfl⟩)
theorem f_6_5 {X : gX} (hO : gO (g0 X)) : fm (g0 X) "TrustDeskModel" [0, 26, 7, 2, 2, 2] := rk1 (⟨_, _, _, _, _, cl_2 X, by decide, rfl, Or.inl q2011, Or.inl rfl⟩)
theorem f_6_6 {X : gX} (hO : gO (g0 X)) : fm (g0 X) "TrustDeskModel" [0, 29, 8, 2, 2, 2] := rk1 (⟨_, _, _, _, _, cl_2 X, by decide, rfl, Or.inl q2012, Or.inl rfl⟩)
theorem f_6_7 {X : gX} (hO : gO (g0 X)) : fm (g0 X) "TrustDeskModel" [0, 32, 9, 2, 2, 2] := rk1 (⟨_, _, _, _, _, cl_2 X, by decide, rfl, Or.inl q2013, Or.inl rfl⟩)
theorem f_6_8 {X : gX} (hO : gO (g0 X)) : fm (g0 X) "TrustDeskModel" [0, 35, 10, 2, 2, 2] := rk1 (⟨_, _, _, _, _, cl_2 X, by decide, rfl, Or.inl q2014, Or.inl rfl⟩)
theorem f_6_9 {X : gX} (hO : gO (g0 X)) : fm (g0 X) "TrustDeskModel" [0, 38, 11, 2, 2, 2] := rk1 (⟨_, _, _, _, _, cl_2 X, by decide, rfl, Or.inl q2015, Or.inl rfl⟩)
theorem f_6_10 {X : gX} (hO : gO (g0 X)) : fm (g0 X) "TrustDeskModel" [0, 41, 12, 2, 2, 2] := rk1 (⟨_, _, _, _, _, cl_2 X, by decide, rfl, Or.inl q2016, Or.inl rfl⟩)
theorem f_6_11 {X : gX} (hO : gO (g0 X)) : fm (g0 X) "TrustDeskModel" [0, 44, 13, 2, 2, 2] := rk1 (⟨_, _, _, _, _, cl_2 X, by decide, rfl, Or.inl q2017, Or.inl rfl⟩)
theorem f_6_12 {X : gX} (hO : gO (g0 X)) : fm (g0 X) "TrustDeskModel" [0, 48, 21, 0, 2, 2] := rk1 (⟨_, _, _, _, _, cl_2 X, by decide, rfl, Or.inl q2025, Or.inl rfl⟩)
theorem f_6_13 {X : gX} (hO : gO (g0 X)) : fm (g0 X) "TrustDeskModel" [0, 51, 25, 2, 2, 2] := rk1 (⟨_, _, _, _, _, cl_2 X, by decide, rfl, Or.inl q2029, Or.inl rfl⟩)
theorem f_6_14 {X : gX} (hO : gO (g0 X)) : fm (g0 X) "TrustDeskModel" [0, 54, 26, 2, 2, 2] := rk1 (⟨_, _, _, _, _, cl_2 X, by decide, rfl, Or.inl q2030, Or.inl rfl⟩)
theorem f_6_15 {X : gX} (hO : gO (g0 X)) : fm (g0 X) "TrustDeskModel" [0, 57, 28, 2, 2, 2] := rk1 (⟨_, _, _, _, _, cl_2 X, by decide, rfl, Or.inl q2032, Or.inl rfl⟩)
theorem f_6_16 {X : gX} (hO : gO (g0 X)) : fm (g0 X) "TrustDeskModel" [0, 60, 29, 2, 2, 2] := rk1 (⟨_, _, _, _, _, cl_2 X, by decide, rfl, Or.inl q2033, Or.inl rfl⟩)
theorem f_6_17 {X : gX} (hO : gO (g0 X)) : fm (g0 X) "TrustDeskModel" [0, 63, 30, 2, 2, 2] := rk1 (⟨_, _, _, _, _, cl_2 X, by decide, rfl, Or.inl q2034, Or.inl rfl⟩)
theorem f_6_18 {X : gX} (hO : gO (g0 X)) : fm (g0 X) "TrustDeskModel" [0, 66, 33, 2, 2, 2] := rk1 (⟨_, _, _, _, _, cl_2 X, by decide, rfl, Or.inl q2037, Or.inl rfl⟩)
theorem f_6_19 {X : gX} (hO : gO (g0 X)) : fm (g0 X) "TrustDeskModel" [0, 69, 34, 2, 2, 2] := rk1 (⟨_, _, _, _, _, cl_2 X, by decide, rfl, Or.inl q2038, Or.inl rfl⟩)
theorem f_6_20 {X : gX} (hO : gO (g0 X)) : fm (g0 X) "TrustDeskModel" [0, 72, 35, 2, 2, 2] := rk1 (⟨_, _, _, _, _, cl_2 X, by decide, rfl, Or.inl q2039, Or.inl rfl⟩)
theorem f_6_21 {X : gX} (hO : gO (g0 X)) : fm (g0 X) "TrustDeskModel" [0, 76, 36, 2, 2, 2] := rk1 (⟨_, _, _, _, _, cl_2 X, by decide, rfl, Or.inl q2040, Or.inl rfl⟩)
theorem f_6_22 {X : gX} (hO : gO (g0 X)) : fm (g0 X) "TrustDeskModel" [0, 79, 37, 2, 2, 2] := rk1 (⟨_, _, _, _, _, cl_2 X, by decide, rfl, Or.inl q2041, Or.inl rfl⟩)
theorem f_6_23 {X : gX} (hO : gO (g0 X)) : fm (g0 X) "TrustDeskModel" [0, 82, 38, 2, 2, 2] := rk1 (⟨_, _, _, _, _, cl_2 X, by decide, rfl, Or.inl q2042, Or.inl rfl⟩)
theorem f_6_24 {X : gX} (hO : gO (g0 X)) : fm (g0 X) "TrustDeskModel" [0, 85, 39, 2, 2, 2] := rk1 (⟨_, _, _, _, _, cl_2 X, by decide, rfl, Or.inl q2043, Or.inl rfl⟩)
theorem f_6_25 {X : gX} (hO : gO (g0 X)) : fm (g0 X) "TrustDeskModel" [0, 88, 40, 2, 2, 2] := rk1 (⟨_, _, _, _, _, cl_2 X, by decide, rfl, Or.inl q2044, Or.inl rfl⟩)
theorem f_6_26 {X : gX} (hO : gO (g0 X)) : fm (g0 X) "TrustDeskModel" [0, 92, 41, 2, 2, 2] := rk1 (⟨_, _, _, _, _, cl_2 X, by decide, rfl, Or.inl q2045, Or.inl rfl⟩)
theorem f_6_27 {X : gX} (hO : gO (g0 X)) : fm (g0 X) "TrustDeskModel" [0, 95, 42, 2, 2, 2] := rk1 (⟨_, _, _, _, _, cl_2 X, by decide, rfl, Or.inl q2046, Or.inl rfl⟩)
theorem f_6_28 {X : gX} (hO : gO (g0 X)) : fm (g0 X) "TrustDeskModel" [0, 98, 43, 2, 2, 2] := rk1 (⟨_, _, _, _, _, cl_2 X, by decide, rfl, Or.inl q2047, Or.inl rfl⟩)
theorem f_6_29 {X : gX} (hO : gO (g0 X)) : fm (g0 X) "TrustDeskModel" [0, 101, 44, 2, 2, 2] := rk1 (⟨_, _, _, _, _, cl_2 X, by decide, rfl, Or.inl q2048, Or.inl rfl⟩)
theorem f_6_30 {X : gX} (hO : gO (g0 X)) : fm (g0 X) "TrustDeskModel" [0, 104, 45, 2, 2, 2] := rk1 (⟨_, _, _, _, _, cl_2 X, by decide, rfl, Or.inl q2049, Or.inl rfl⟩)
theorem f_6_31 {X : gX} (hO : gO (g0 X)) : fm (g0 X) "TrustDeskModel" [0, 107, 46, 2, 2, 2] := rk1 (⟨_, _, _, _, _, cl_2 X, by decide, rfl, Or.inl q2050, Or.inl rfl⟩)
theorem f_6_32 {X : gX} (hO : gO (g0 X)) : fm (g0 X) "TrustDeskModel" [0, 110, 47, 2, 2, 2] := rk1 (⟨_, _, _, _, _, cl_2 X, by decide, rfl, Or.inl q2051, Or.inl rfl⟩)
theorem f_6_33 {X : gX} (hO : gO (g0 X)) : fm (g0 X) "TrustDeskModel" [0, 113, 48, 2, 2, 2] := rk1 (⟨_, _, _, _, _, cl_2 X, by decide, rfl, Or.inl q2052, Or.inl rfl⟩)
theorem f_6_34 {X : gX} (hO : gO (g0 X)) : fm (g0 X) "TrustDeskModel" [0, 116, 50, 2, 2, 2] := rk1 (⟨_, _, _, _, _, cl_2 X, by decide, rfl, Or.inl q2054, Or.inl rfl⟩)
theorem f_6_35 {X : gX} (hO : gO (g0 X)) : fm (g0 X) "TrustDeskModel" [0, 119, 52, 2, 2, 2] := rk1 (⟨_, _, _, _, _, cl_2 X, by decide, rfl, Or.inl q2056, Or.inl rfl⟩)
theorem f_6_36 {X : gX} (hO : gO (g0 X)) : fm (g0 X) "TrustDeskModel" [0, 122, 54, 2, 2, 2] := rk1 (⟨_, _, _, _, _, cl_2 X, by decide, rfl, Or.inl q2058, Or.inl rfl⟩)
theorem f_6_37 {X : gX} (hO : gO (g0 X)) : fm (g0 X) "TrustDeskModel" [0, 125, 55, 2, 2, 2] := rk1 (⟨_, _, _, _, _, cl_2 X, by decide, rfl, Or.inl q2059, Or.inl rfl⟩)
theorem f_6_38 {X : gX} (hO : gO (g0 X)) : fm (g0 X) "TrustDeskModel" [0, 128, 56, 2, 2, 2] := rk1 (⟨_, _, _, _, _, cl_2 X, by decide, rfl, Or.inl q2060, Or.inl rfl⟩)
theorem f_6_39 {X : gX} (hO : gO (g0 X)) : fm (g0 X) "TrustDeskModel" [0, 131, 57, 2, 2, 2] := rk1 (⟨_, _, _, _, _, cl_2 X, by decide, rfl, Or.inl q2061, Or.inl rfl⟩)
theorem f_6_40 {X : gX} (hO : gO (g0 X)) : fm (g0 X) "TrustDeskModel" [0, 134, 58, 2, 2, 2] := rk1 (⟨_, _, _, _, _, cl_2 X, by decide, rfl, Or.inl q2062, Or.inl rfl⟩)
theorem f_6_41 {X : gX} (hO : gO (g0 X)) : fm (g0 X) "TrustDeskModel" [0, 137, 59, 2, 2, 2] := rk1 (⟨_, _, _, _, _, cl_2 X, by decide, rfl, Or.inl q2063, Or.inl rfl⟩)
theorem f_6_42 {X : gX} (hO : gO (g0 X)) : fm (g0 X) "TrustDeskModel" [0, 140, 60, 2, 2, 2] := rk1 (⟨_, _, _, _, _, cl_2 X, by decide, rfl, Or.inl q2064, Or.inl rfl⟩)
theorem f_6_43 {X : gX} (hO : gO (g0 X)) : fm (g0 X) "TrustDeskModel" [0, 143, 61, 2, 2, 2] := rk1 (⟨_, _, _, _, _, cl_2 X, by decide, rfl, Or.inl q2065, Or.inl rfl⟩)
theorem f_6_44 {X : gX} (hO : gO (g0 X)) : fm (g0 X) "TrustDeskModel" [0, 146, 62, 2, 2, 2] := rk1 (⟨_, _, _, _, _, cl_2 X, by decide, rfl, Or.inl q2066, Or.inl rfl⟩)
theorem f_6_45 {X : gX} (hO : gO (g0 X)) : fm (g0 X) "TrustDeskModel" [0, 149, 63, 2, 2, 2] := rk1 (⟨_, _, _, _, _, cl_2 X, by decide, rfl, Or.inl q2067, Or.inl rfl⟩)
theorem f_6_46 {X : gX} (hO : gO (g0 X)) : fm (g0 X) "TrustDeskModel" [0, 152, 64, 2, 2, 2] := rk1 (⟨_, _, _, _, _, cl_2 X, by decide, rfl, Or.inl q2068, Or.inl rfl⟩)
theorem f_6_47 {X : gX} (hO : gO (g0 X)) : fm (g0 X) "TrustDeskModel" [0, 155, 65, 2, 2, 2] := rk1 (⟨_, _, _, _, _, cl_2 X, by decide, rfl, Or.inl q2069, Or.inl rfl⟩)
theorem f_6_48 {X : gX} (hO : gO (g0 X)) : fm (g0 X) "TrustDeskModel" [0, 158, 66, 2, 2, 2] := rk1 (⟨_, _, _, _, _, cl_2 X, by decide, rfl, Or.inl q2070, Or.inl rfl⟩)
theorem f_6_49 {X : gX} (hO : gO (g0 X)) : fm (g0 X) "TrustDeskModel" [0, 161, 71, 2, 2, 2] := rk1 (⟨_, _, _, _, _, cl_2 X, by decide, rfl, Or.inl q2075, Or.inl rfl⟩)
theorem f_6_50 {X : gX} (hO : gO (g0 X)) : fm (g0 X) "TrustDeskModel" [0, 164, 1, 0, 2, 2] := rk1 (⟨_, _, _, _, _, cl_2 X, by decide, rfl, Or.inl q2005, Or.inl rfl⟩)
theorem f_6_51 {X : gX} (hO : gO (g0 X)) : fm (g0 X) "TrustDeskModel" [0, 179, 2, 0, 2, 2] := rk1 (⟨_, _, _, _, _, cl_2 X, by decide, rfl, Or.inl q2006, Or.inl rfl⟩)
theorem f_6_52 {X : gX} (hO : gO (g0 X)) : fm (g0 X) "TrustDeskModel" [0, 189, 14, 0, 2, 2] := rk1 (⟨_, _, _, _, _, cl_2 X, by decide, rfl, Or.inl q2018, Or.inl rfl⟩)
theorem f_6_53 {X : gX} (hO : gO (g0 X)) : fm (g0 X) "TrustDeskModel" [0, 192, 15, 0, 2, 2] := rk1 (⟨_, _, _, _, _, cl_2 X, by decide, rfl, Or.inl q2019, Or.inl rfl⟩)
theorem f_6_54 {X : gX} (hO : gO (g0 X)) : fm (g0 X) "TrustDeskModel" [0, 195, 16, 0, 2, 2] := rk1 (⟨_, _, _, _, _, cl_2 X, by decide, rfl, Or.inl q2020, Or.inl rfl⟩)
theorem f_6_55 {X : gX} (hO : gO (g0 X)) : fm (g0 X) "TrustDeskModel" [0, 198, 17, 0, 2, 2] := rk1 (⟨_, _, _, _, _, cl_2 X, by decide, rfl, Or.inl q2021, Or.inl rfl⟩)
theorem f_6_56 {X : gX} (hO : gO (g0 X)) : fm (g0 X) "TrustDeskModel" [0, 201, 18, 0, 2, 2] := rk1 (⟨_, _, _, _, _, cl_2 X, by decide, rfl, Or.inl q2022, Or.inl rfl⟩)
theorem f_6_57 {X : gX} (hO : gO (g0 X)) : fm (g0 X) "TrustDeskModel" [0, 224, 19, 0, 2, 2] := rk1 (⟨_, _, _, _, _, cl_2 X, by decide, rfl, Or.inl q2023, Or.inl rfl⟩)
theorem f_6_58 {X : gX} (hO : gO (g0 X)) : fm (g0 X) "TrustDeskModel" [0, 227, 20, 0, 2, 2] := rk1 (⟨_, _, _, _, _, cl_2 X, by decide, rfl, Or.inl q2024, Or.inl rfl⟩)
theorem f_6_59 {X : gX} (hO : gO (g0 X)) : fm (g0 X) "TrustDeskModel" [0, 267, 23, 0, 2, 2] := rk1 (⟨_, _, _, _, _, cl_2 X, by decide, rfl, Or.inl q2027, Or.inl rfl⟩)
theorem f_6_60 {X : gX} (hO : gO (g0 X)) : fm (g0 X) "TrustDeskModel" [0, 276, 22, 0, 2, 2] := rk1 (⟨_, _, _, _, _, cl_2 X, by decide, rfl, Or.inl q2026, Or.inl rfl⟩)
theorem f_6_61 {X : gX} (hO : gO (g0 X)) : fm (g0 X) "TrustDeskModel" [0, 321, 24, 0, 2, 2] := rk1 (⟨_, _, _, _, _, cl_2 X, by decide, rfl, Or.inl q2028, Or.inl rfl⟩)
theorem f_6_62 {X : gX} (hO : gO (g0 X)) : fm (g0 X) "TrustDeskModel" [0, 378, 27, 0, 2, 2] := rk1 (⟨_, _, _, _, _, cl_2 X, by decide, rfl, Or.inl q2031, Or.inl rfl⟩)
theorem f_6_63 {X : gX} (hO : gO (g0 X)) : fm (g0 X) "TrustDeskModel" [0, 409, 31, 0, 2, 2] := rk1 (⟨_, _, _, _, _, cl_2 X, by decide, rfl, Or.inl q2035, Or.inl rfl⟩)
theorem f_6_64 {X : gX} (hO : gO (g0 X)) : fm (g0 X) "TrustDeskModel" [0, 415, 32, 0, 2, 2] := rk1 (⟨_, _, _, _, _, cl_2 X, by decide, rfl, Or.inl q2036, Or.inl rfl⟩)
theorem f_6_65 {X : gX} (hO : gO (g0 X)) : fm (g0 X) "TrustDeskModel" [0, 435, 49, 0, 2, 2] := rk1 (⟨_, _, _, _, _, cl_2 X, by decide, rfl, Or.inl q2053, Or.inl rfl⟩)
theorem f_6_66 {X : gX} (hO : gO (g0 X)) : fm (g0 X) "TrustDeskModel" [0, 474, 51, 0, 2, 2] := rk1 (⟨_, _, _, _, _, cl_2 X, by decide, rfl, Or.inl q2055, Or.inl rfl⟩)
theorem f_6_67 {X : gX} (hO : gO (g0 X)) : fm (g0 X) "TrustDeskModel" [0, 501, 53, 0, 2, 2] := rk1 (⟨_, _, _, _, _, cl_2 X, by decide, rfl, Or.inl q2057, Or.inl rfl⟩)
theorem f_6_68 {X : gX} (hO : gO (g0 X)) : fm (g0 X) "TrustDeskModel" [0, 560, 67, 0, 2, 2] := rk1 (⟨_, _, _, _, _, cl_2 X, by decide, rfl, Or.inl q2071, Or.inl rfl⟩)
theorem f_6_69 {X : gX} (hO : gO (g0 X)) : fm (g0 X) "TrustDeskModel" [0, 571, 69, 0, 2, 2] := rk1 (⟨_, _, _, _, _, cl_2 X, by decide, rfl, Or.inl q2073, Or.inl rfl⟩)
theorem f_6_70 {X : gX} (hO : gO (g0 X)) : fm (g0 X) "TrustDeskModel" [0, 574, 68, 1, 2, 2] := rk1 (⟨_, _, _, _, _, cl_2 X, by decide, rfl, Or.inl q2072, Or.inl rfl⟩)
theorem f_6_71 {X : gX} (hO : gO (g0 X)) : fm (g0 X) "TrustDeskModel" [0, 592, 70, 0, 2, 2] := rk1 (⟨_, _, _, _, _, cl_2 X, by decide, rfl, Or.inl q2074, Or.inl rfl⟩)
theorem f_6_72 {X : gX} (hO : gO (g0 X)) : fm (g0 X) "TrustDeskModel" [1, 1, 0, 0, 2, 2] := fun _ => rk1 (⟨_, _, _, _, _, cl_2 X, by decide, rfl, Or.inl ⟨q2004, Or.inl rfl⟩, Or.inl rfl⟩)
theorem f_6_73 {X : gX} (hO : gO (g0 X)) : fm (g0 X) "TrustDeskModel" [1, 48, 21, 0, 2, 2] := fun _ => rk1 (⟨_, _, _, _, _, cl_2 X, by decide, rfl, Or.inl ⟨q2025, Or.inl rfl⟩, Or.inl rfl⟩)
theorem f_6_74 {X : gX} (hO : gO (g0 X)) : fm (g0 X) "TrustDeskModel" [1, 164, 1, 0, 2, 2] := fun _ => rk1 (⟨_, _, _, _, _, cl_2 X, by decide, rfl, Or.inl ⟨q2005, Or.inl rfl⟩, Or.inl rfl⟩)
theorem f_6_75 {X : gX} (hO : gO (g0 X)) : fm (g0 X) "TrustDeskModel" [1, 179, 2, 0, 2, 2] := fun _ => rk1 (⟨_, _, _, _, _, cl_2 X, by decide, rfl, Or.inl ⟨q2006, Or.inl rfl⟩, Or.inl rfl⟩)
theorem f_6_76 {X : gX} (hO : gO (g0 X)) : fm (g0 X) "TrustDeskModel" [1, 189, 14, 0, 2, 2] := fun _ => rk1 (⟨_, _, _, _, _, cl_2 X, by decide, rfl, Or.inl ⟨q2018, Or.inl rfl⟩, Or.inl rfl⟩)
theorem f_6_77 {X : gX} (hO : gO (g0 X)) : fm (g0 X) "TrustDeskModel" [1, 192, 15, 0, 2, 2] := fun _ => rk1 (⟨_, _, _, _, _, cl_2 X, by decide, rfl, Or.inl ⟨q2019, Or.inl rfl⟩, Or.inl rfl⟩)
theorem f_6_78 {X : gX} (hO : gO (g0 X)) : fm (g0 X) "TrustDeskModel" [1, 195, 16, 0, 2, 2] := fun _ => rk1 (⟨_, _, _, _, _, cl_2 X, by decide, rfl, Or.inl ⟨q2020, Or.inl rfl⟩, Or.inl rfl⟩)
theorem f_6_79 {X : gX} (hO : gO (g0 X)) : fm (g0 X) "TrustDeskModel" [1, 198, 17, 0, 2, 2] := fun _ => rk1 (⟨_, _, _, _, _, cl_2 X, by decide, rfl, Or.inl ⟨q2021, Or.inl rfl⟩, Or.inl rfl⟩)
theorem f_6_80 {X : gX} (hO : gO (g0 X)) : fm (g0 X) "TrustDeskModel" [1, 201, 18, 0, 2, 2] := fun _ => rk1 (⟨_, _, _, _, _, cl_2 X, by decide, rfl, Or.inl ⟨q2022, Or.inl rfl⟩, Or.inl rfl⟩)
theorem f_6_81 {X : gX} (hO : gO (g0 X)) : fm (g0 X) "TrustDeskModel" [1, 224, 19, 0, 2, 2] := fun _ => rk1 (⟨_, _, _, _, _, cl_2 X, by decide, rfl, Or.inl ⟨q2023, Or.inl rfl⟩, Or.inl rfl⟩)
theorem f_6_82 {X : gX} (hO : gO (g0 X)) : fm (g0 X) "TrustDeskModel" [1, 227, 20, 0, 2, 2] := fun _ => rk1 (⟨_, _, _, _, _, cl_2 X, by decide, rfl, Or.inl ⟨q2024, Or.inl rfl⟩, Or.inl rfl⟩)
theorem f_6_83 {X : gX} (hO : gO (g0 X)) : fm (g0 X) "TrustDeskModel" [1, 267, 23, 3, 2, 2] := fun _ => rk1 (⟨_, _, _, _, _, cl_2 X, by decide, rfl, Or.inl ⟨q2027, Or.inl rfl⟩, Or.inl rfl⟩)
theorem f_6_84 {X : gX} (hO : gO (g0 X)) : fm (g0 X) "TrustDeskModel" [1, 276, 22, 0, 2, 2] := fun _ => rk1 (⟨_, _, _, _, _, cl_2 X, by decide, rfl, Or.inl ⟨q2026, Or.inl rfl⟩, Or.inl rfl⟩)
theorem f_6_85 {X : gX} (hO : gO (g0 X)) : fm (g0 X) "TrustDeskModel" [1, 321, 24, 0, 2, 2] := fun _ => rk1 (⟨_, _, _, _, _, cl_2 X, by decide, rfl, Or.inl ⟨q2028, Or.inl rfl⟩, Or.inl rfl⟩)
theorem f_6_86 {X : gX} (hO : gO (g0 X)) : fm (g0 X) "TrustDeskModel" [1, 378, 27, 0, 2, 2] := fun _ => rk1 (⟨_, _, _, _, _, cl_2 X, by decide, rfl, Or.inl ⟨q2031, Or.inl rfl⟩, Or.inl rfl⟩)
theorem f_6_87 {X : gX} (hO : gO (g0 X)) : fm (g0 X) "TrustDeskModel" [1, 409, 31, 0, 2, 2] := fun _ => rk1 (⟨_, _, _, _, _, cl_2 X, by decide, rfl, Or.inl ⟨q2035, Or.inl rfl⟩, Or.inl rfl⟩)
theorem f_6_88 {X : gX} (hO : gO (g0 X)) : fm (g0 X) "TrustDeskModel" [1, 415, 32, 0, 2, 2] := fun _ => rk1 (⟨_, _, _, _, _, cl_2 X, by decide, rfl, Or.inl ⟨q2036, Or.inl rfl⟩, Or.inl rfl⟩)
theorem f_6_89 {X : gX} (hO : gO (g0 X)) : fm (g0 X) "TrustDeskModel" [1, 435, 49, 0, 2, 2] := fun _ => rk1 (⟨_, _, _, _, _, cl_2 X, by decide, rfl, Or.inl ⟨q2053, Or.inl rfl⟩, Or.inl rfl⟩)
theorem f_6_90 {X : gX} (hO : gO (g0 X)) : fm (g0 X) "TrustDeskModel" [1, 474, 51, 0, 2, 2] := fun _ => rk1 (⟨_, _, _, _, _, cl_2 X, by decide, rfl, Or.inl ⟨q2055, Or.inl rfl⟩, Or.inl rfl⟩)
theorem f_6_91 {X : gX} (hO : gO (g0 X)) : fm (g0 X) "TrustDeskModel" [1, 501, 53, 0, 2, 2] := fun _ => rk1 (⟨_, _, _, _, _, cl_2 X, by decide, rfl, Or.inl ⟨q2057, Or.inl rfl⟩, Or.inl rfl⟩)
theorem f_6_92 {X : gX} (hO : gO (g0 X)) : fm (g0 X) "TrustDeskModel" [1, 560, 67, 0, 2, 2] := fun _ => rk1 (⟨_, _, _, _, _, cl_2 X, by decide, rfl, Or.inl ⟨q2071, Or.inl rfl⟩, Or.inl rfl⟩)
theorem f_6_93 {X : gX} (hO : gO (g0 X)) : fm (g0 X) "TrustDeskModel" [1, 571, 69, 0, 2, 2] := fun _ => rk1 (⟨_, _, _, _, _, cl_2 X, by decide, rfl, Or.inl ⟨q2073, Or.inl rfl⟩, Or.inl rfl⟩)
theorem f_6_94 {X : gX} (hO : gO (g0 X)) : fm (g0 X) "TrustDeskModel" [1, 574, 68, 1, 2, 2] := fun _ => rk1 (⟨_, _, _, _, _, cl_2 X, by decide, rfl, Or.inl ⟨q2072, Or.inl rfl⟩, Or.inl rfl⟩)
theorem f_6_95 {X : gX} (hO : gO (g0 X)) : fm (g0 X) "TrustDeskModel" [1, 592, 70, 0, 2, 2] := fun _ => rk1 (⟨_, _, _, _, _, cl_2 X, by decide, rfl, Or.inl ⟨q2074, Or.inl rfl⟩, Or.inl rfl⟩)
theorem f_6_96 {X : gX} (hO : gO (g0 X)) : fm (g0 X) "TrustDeskModel" [2, 13, 3, 2, 2, 2] := rk1 (⟨_, _, _, _, _, cl_2 X, by decide, Or.inr ⟨_, rfl⟩, Or.inl ⟨q2007, Or.inr ⟨rfl, rfl⟩⟩, Or.inl rfl⟩)
theorem f_6_97 {X : gX} (hO : gO (g0 X)) : fm (g0 X) "TrustDeskModel" [2, 17, 4, 2, 2, 2] := rk1 (⟨_, _, _, _, _, cl_2 X, by decide, Or.inr ⟨_, rfl⟩, Or.inl ⟨q2008, Or.inr ⟨rfl, rfl⟩⟩, Or.inl rfl⟩)
theorem f_6_98 {X : gX} (hO : gO (g0 X)) : fm (g0 X) "TrustDeskModel" [2, 20, 5, 2, 2, 2] := rk1 (⟨_, _, _, _, _, cl_2 X, by decide, Or.inr ⟨_, rfl⟩, Or.inl ⟨q2009, Or.inr ⟨rfl, rfl⟩⟩, Or.inl rfl⟩)
theorem f_6_99 {X : gX} (hO : gO (g0 X)) : fm (g0 X) "TrustDeskModel" [2, 23, 6, 2, 2, 2] := rk1 (⟨_, _, _, _, _, cl_2 X, by decide, Or.inr ⟨_, rfl⟩, Or.inl ⟨q2010, Or.inr ⟨rfl, rfl⟩⟩, Or.inl rfl⟩)
theorem f_6_100 {X : gX} (hO : gO (g0 X)) : fm (g0 X) "TrustDeskModel" [2, 26, 7, 2, 2, 2] := rk1 (⟨_, _, _, _, _, cl_2 X, by decide, Or.inr ⟨_, rfl⟩, Or.inl ⟨q2011, Or.inr ⟨rfl, rfl⟩⟩, Or.inl rfl⟩)
theorem f_6_101 {X : gX} (hO : gO (g0 X)) : fm (g0 X) "TrustDeskModel" [2, 29, 8, 2, 2, 2] := rk1 (⟨_, _, _, _, _, cl_2 X, by decide, Or.inr ⟨_, rfl⟩, Or.inl ⟨q2012, Or.inr ⟨rfl, rfl⟩⟩, Or.inl rfl⟩)
theorem f_6_102 {X : gX} (hO : gO (g0 X)) : fm (g0 X) "TrustDeskModel" [2, 32, 9, 2, 2, 2] := rk1 (⟨_, _, _, _, _, cl_2 X, by decide, Or.inr ⟨_, rfl⟩, Or.inl ⟨q2013, Or.inr ⟨rfl, rfl⟩⟩, Or.inl rfl⟩)
theorem f_6_103 {X : gX} (hO : gO (g0 X)) : fm (g0 X) "TrustDeskModel" [2, 35, 10, 2, 2, 2] := rk1 (⟨_, _, _, _, _, cl_2 X, by decide, Or.inr ⟨_, rfl⟩, Or.inl ⟨q2014, Or.inr ⟨rfl, rfl⟩⟩, Or.inl rfl⟩)
theorem f_6_104 {X : gX} (hO : gO (g0 X)) : fm (g0 X) "TrustDeskModel" [2, 38, 11, 2, 2, 2] := rk1 (⟨_, _, _, _, _, cl_2 X, by decide, Or.inr ⟨_, rfl⟩, Or.inl ⟨q2015, Or.inr ⟨rfl, rfl⟩⟩, Or.inl rfl⟩)
theorem f_6_105 {X : gX} (hO : gO (g0 X)) : fm (g0 X) "TrustDeskModel" [2, 41, 12, 2, 2, 2] := rk1 (⟨_, _, _, _, _, cl_2 X, by decide, Or.inr ⟨_, rfl⟩, Or.inl ⟨q2016, Or.inr ⟨rfl, rfl⟩⟩, Or.inl rfl⟩)
theorem f_6_106 {X : gX} (hO : gO (g0 X)) : fm (g0 X) "TrustDeskModel" [2, 44, 13, 2, 2, 2] := rk1 (⟨_, _, _, _, _, cl_2 X, by decide, Or.inr ⟨_, rfl⟩, Or.inl ⟨q2017, Or.inr ⟨rfl, rfl⟩⟩, Or.inl rfl⟩)
theorem f_6_107 {X : gX} (hO : gO (g0 X)) : fm (g0 X) "TrustDeskModel" [2, 51, 25, 2, 2, 2] := rk1 (⟨_, _, _, _, _, cl_2 X, by decide, Or.inr ⟨_, rfl⟩, Or.inl ⟨q2029, Or.inr ⟨rfl, rfl⟩⟩, Or.inl rfl⟩)
theorem f_6_108 {X : gX} (hO : gO (g0 X)) : fm (g0 X) "TrustDeskModel" [2, 54, 26, 2, 2, 2] := rk1 (⟨_, _, _, _, _, cl_2 X, by decide, Or.inr ⟨_, rfl⟩, Or.inl ⟨q2030, Or.inr ⟨rfl, rfl⟩⟩, Or.inl rfl⟩)
theorem f_6_109 {X : gX} (hO : gO (g0 X)) : fm (g0 X) "TrustDeskModel" [2, 57, 28, 2, 2, 2] := rk1 (⟨_, _, _, _, _, cl_2 X, by decide, Or.inr ⟨_, rfl⟩, Or.inl ⟨q2032, Or.inr ⟨rfl, rfl⟩⟩, Or.inl rfl⟩)
theorem f_6_110 {X : gX} (hO : gO (g0 X)) : fm (g0 X) "TrustDeskModel" [2, 60, 29, 2, 2, 2] := rk1 (⟨_, _, _, _, _, cl_2 X, by decide, Or.inr ⟨_, rfl⟩, Or.inl ⟨q2033, Or.inr ⟨rfl, rfl⟩⟩, Or.inl rfl⟩)
theorem f_6_111 {X : gX} (hO : gO (g0 X)) : fm (g0 X) "TrustDeskModel" [2, 63, 30, 2, 2, 2] := rk1 (⟨_, _, _, _, _, cl_2 X, by decide, Or.inr ⟨_, rfl⟩, Or.inl ⟨q2034, Or.inr ⟨rfl, rfl⟩⟩, Or.inl rfl⟩)
theorem f_6_112 {X : gX} (hO : gO (g0 X)) : fm (g0 X) "TrustDeskModel" [2, 66, 33, 2, 2, 2] := rk1 (⟨_, _, _, _, _, cl_2 X, by decide, Or.inr ⟨_, rfl⟩, Or.inl ⟨q2037, Or.inr ⟨rfl, rfl⟩⟩, Or.inl rfl⟩)
theorem f_6_113 {X : gX} (hO : gO (g0 X)) : fm (g0 X) "TrustDeskModel" [2, 69, 34, 2, 2, 2] := rk1 (⟨_, _, _, _, _, cl_2 X, by decide, Or.inr ⟨_, rfl⟩, Or.inl ⟨q2038, Or.inr ⟨rfl, rfl⟩⟩, Or.inl rfl⟩)
theorem f_6_114 {X : gX} (hO : gO (g0 X)) : fm (g0 X) "TrustDeskModel" [2, 72, 35, 2, 2, 2] := rk1 (⟨_, _, _, _, _, cl_2 X, by decide, Or.inr ⟨_, rfl⟩, Or.inl ⟨q2039, Or.inr ⟨rfl, rfl⟩⟩, Or.inl rfl⟩)
theorem f_6_115 {X : gX} (hO : gO (g0 X)) : fm (g0 X) "TrustDeskModel" [2, 76, 36, 2, 2, 2] := rk1 (⟨_, _, _, _, _, cl_2 X, by decide, Or.inr ⟨_, rfl⟩, Or.inl ⟨q2040, Or.inr ⟨rfl, rfl⟩⟩, Or.inl rfl⟩)
theorem f_6_116 {X : gX} (hO : gO (g0 X)) : fm (g0 X) "TrustDeskModel" [2, 79, 37, 2, 2, 2] := rk1 (⟨_, _, _, _, _, cl_2 X, by decide, Or.inr ⟨_, rfl⟩, Or.inl ⟨q2041, Or.inr ⟨rfl, rfl⟩⟩, Or.inl rfl⟩)
theorem f_6_117 {X : gX} (hO : gO (g0 X)) : fm (g0 X) "TrustDeskModel" [2, 82, 38, 2, 2, 2] := rk1 (⟨_, _, _, _, _, cl_2 X, by decide, Or.inr ⟨_, rfl⟩, Or.inl ⟨q2042, Or.inr ⟨rfl, rfl⟩⟩, Or.inl rfl⟩)
theorem f_6_118 {X : gX} (hO : gO (g0 X)) : fm (g0 X) "TrustDeskModel" [2, 85, 39, 2, 2, 2] := rk1 (⟨_, _, _, _, _, cl_2 X, by decide, Or.inr ⟨_, rfl⟩, Or.inl ⟨q2043, Or.inr ⟨rfl, rfl⟩⟩, Or.inl rfl⟩)
theorem f_6_119 {X : gX} (hO : gO (g0 X)) : fm (g0 X) "TrustDeskModel" [2, 88, 40, 2, 2, 2] := rk1 (⟨_, _, _, _, _, cl_2 X, by decide, Or.inr ⟨_, rfl⟩, Or.inl ⟨q2044, Or.inr ⟨rfl, rfl⟩⟩, Or.inl rfl⟩)
theorem f_6_120 {X : gX} (hO : gO (g0 X)) : fm (g0 X) "TrustDeskModel" [2, 92, 41, 2, 2, 2] := rk1 (⟨_, _, _, _, _, cl_2 X, by decide, Or.inr ⟨_, rfl⟩, Or.inl ⟨q2045, Or.inr ⟨rfl, rfl⟩⟩, Or.inl rfl⟩)
theorem f_6_121 {X : gX} (hO : gO (g0 X)) : fm (g0 X) "TrustDeskModel" [2, 95, 42, 2, 2, 2] := rk1 (⟨_, _, _, _, _, cl_2 X, by decide, Or.inr ⟨_, rfl⟩, Or.inl ⟨q2046, Or.inr ⟨rfl, rfl⟩⟩, Or.inl rfl⟩)
theorem f_6_122 {X : gX} (hO : gO (g0 X)) : fm (g0 X) "TrustDeskModel" [2, 98, 43, 2, 2, 2] := rk1 (⟨_, _, _, _, _, cl_2 X, by decide, Or.inr ⟨_, rfl⟩, Or.inl ⟨q2047, Or.inr ⟨rfl, rfl⟩⟩, Or.inl rfl⟩)
theorem f_6_123 {X : gX} (hO : gO (g0 X)) : fm (g0 X) "TrustDeskModel" [2, 101, 44, 2, 2, 2] := rk1 (⟨_, _, _, _, _, cl_2 X, by decide, Or.inr ⟨_, rfl⟩, Or.inl ⟨q2048, Or.inr ⟨rfl, rfl⟩⟩, Or.inl rfl⟩)
theorem f_6_124 {X : gX} (hO : gO (g0 X)) : fm (g0 X) "TrustDeskModel" [2, 104, 45, 2, 2, 2] := rk1 (⟨_, _, _, _, _, cl_2 X, by decide, Or.inr ⟨_, rfl⟩, Or.inl ⟨q2049, Or.inr ⟨rfl, rfl⟩⟩, Or.inl rfl⟩)
theorem f_6_125 {X : gX} (hO : gO (g0 X)) : fm (g0 X) "TrustDeskModel" [2, 107, 46, 2, 2, 2] := rk1 (⟨_, _, _, _, _, cl_2 X, by decide, Or.inr ⟨_, rfl⟩, Or.inl ⟨q2050, Or.inr ⟨rfl, rfl⟩⟩, Or.inl rfl⟩)
theorem f_6_126 {X : gX} (hO : gO (g0 X)) : fm (g0 X) "TrustDeskModel" [2, 110, 47, 2, 2, 2] := rk1 (⟨_, _, _, _, _, cl_2 X, by decide, Or.inr ⟨_, rfl⟩, Or.inl ⟨q2051, Or.inr ⟨rfl, rfl⟩⟩, Or.inl rfl⟩)
theorem f_6_127 {X : gX} (hO : gO (g0 X)) : fm (g0 X) "TrustDeskModel" [2, 113, 48, 2, 2, 2] := rk1 (⟨_, _, _, _, _, cl_2 X, by decide, Or.inr ⟨_, rfl⟩, Or.inl ⟨q2052, Or.inr ⟨rfl, rfl⟩⟩, Or.inl rfl⟩)
theorem f_6_128 {X : gX} (hO : gO (g0 X)) : fm (g0 X) "TrustDeskModel" [2, 116, 50, 2, 2, 2] := rk1 (⟨_, _, _, _, _, cl_2 X, by decide, Or.inr ⟨_, rfl⟩, Or.inl ⟨q2054, Or.inr ⟨rfl, rfl⟩⟩, Or.inl rfl⟩)
theorem f_6_129 {X : gX} (hO : gO (g0 X)) : fm (g0 X) "TrustDeskModel" [2, 119, 52, 2, 2, 2] := rk1 (⟨_, _, _, _, _, cl_2 X, by decide, Or.inr ⟨_, rfl⟩, Or.inl ⟨q2056, Or.inr ⟨rfl, rfl⟩⟩, Or.inl rfl⟩)
theorem f_6_130 {X : gX} (hO : gO (g0 X)) : fm (g0 X) "TrustDeskModel" [2, 122, 54, 2, 2, 2] := rk1 (⟨_, _, _, _, _, cl_2 X, by decide, Or.inr ⟨_, rfl⟩, Or.inl ⟨q2058, Or.inr ⟨rfl, rfl⟩⟩, Or.inl rfl⟩)
theorem f_6_131 {X : gX} (hO : gO (g0 X)) : fm (g0 X) "TrustDeskModel" [2, 125, 55, 2, 2, 2] := rk1 (⟨_, _, _, _, _, cl_2 X, by decide, Or.inr ⟨_, rfl⟩, Or.inl ⟨q2059, Or.inr ⟨rfl, rfl⟩⟩, Or.inl rfl⟩)
theorem f_6_132 {X : gX} (hO : gO (g0 X)) : fm (g0 X) "TrustDeskModel" [2, 128, 56, 2, 2, 2] := rk1 (⟨_, _, _, _, _, cl_2 X, by decide, Or.inr ⟨_, rfl⟩, Or.inl ⟨q2060, Or.inr ⟨rfl, rfl⟩⟩, Or.inl rfl⟩)
theorem f_6_133 {X : gX} (hO : gO (g0 X)) : fm (g0 X) "TrustDeskModel" [2, 131, 57, 2, 2, 2] := rk1 (⟨_, _, _, _, _, cl_2 X, by decide, Or.inr ⟨_, rfl⟩, Or.inl ⟨q2061, Or.inr ⟨rfl, rfl⟩⟩, Or.inl rfl⟩)
theorem f_6_134 {X : gX} (hO : gO (g0 X)) : fm (g0 X) "TrustDeskModel" [2, 134, 58, 2, 2, 2] := rk1 (⟨_, _, _, _, _, cl_2 X, by decide, Or.inr ⟨_, rfl⟩, Or.inl ⟨q2062, Or.inr ⟨rfl, rfl⟩⟩, Or.inl rfl⟩)
theorem f_6_135 {X : gX} (hO : gO (g0 X)) : fm (g0 X) "TrustDeskModel" [2, 137, 59, 2, 2, 2] := rk1 (⟨_, _, _, _, _, cl_2 X, by decide, Or.inr ⟨_, rfl⟩, Or.inl ⟨q2063, Or.inr ⟨rfl, rfl⟩⟩, Or.inl rfl⟩)
theorem f_6_136 {X : gX} (hO : gO (g0 X)) : fm (g0 X) "TrustDeskModel" [2, 140, 60, 2, 2, 2] := rk1 (⟨_, _, _, _, _, cl_2 X, by decide, Or.inr ⟨_, rfl⟩, Or.inl ⟨q2064, Or.inr ⟨rfl, rfl⟩⟩, Or.inl rfl⟩)
theorem f_6_137 {X : gX} (hO : gO (g0 X)) : fm (g0 X) "TrustDeskModel" [2, 143, 61, 2, 2, 2] := rk1 (⟨_, _, _, _, _, cl_2 X, by decide, Or.inr ⟨_, rfl⟩, Or.inl ⟨q2065, Or.inr ⟨rfl, rfl⟩⟩, Or.inl rfl⟩)
theorem f_6_138 {X : gX} (hO : gO (g0 X)) : fm (g0 X) "TrustDeskModel" [2, 146, 62, 2, 2, 2] := rk1 (⟨_, _, _, _, _, cl_2 X, by decide, Or.inr ⟨_, rfl⟩, Or.inl ⟨q2066, Or.inr ⟨rfl, rfl⟩⟩, Or.inl rfl⟩)
theorem f_6_139 {X : gX} (hO : gO (g0 X)) : fm (g0 X) "TrustDeskModel" [2, 149, 63, 2, 2, 2] := rk1 (⟨_, _, _, _, _, cl_2 X, by decide, Or.inr ⟨_, rfl⟩, Or.inl ⟨q2067, Or.inr ⟨rfl, rfl⟩⟩, Or.inl rfl⟩)
theorem f_6_140 {X : gX} (hO : gO (g0 X)) : fm (g0 X) "TrustDeskModel" [2, 152, 64, 2, 2, 2] := rk1 (⟨_, _, _, _, _, cl_2 X, by decide, Or.inr ⟨_, rfl⟩, Or.inl ⟨q2068, Or.inr ⟨rfl, rfl⟩⟩, Or.inl rfl⟩)
theorem f_6_141 {X : gX} (hO : gO (g0 X)) : fm (g0 X) "TrustDeskModel" [2, 155, 65, 2, 2, 2] := rk1 (⟨_, _, _, _, _, cl_2 X, by decide, Or.inr ⟨_, rfl⟩, Or.inl ⟨q2069, Or.inr ⟨rfl, rfl⟩⟩, Or.inl rfl⟩)
theorem f_6_142 {X : gX} (hO : gO (g0 X)) : fm (g0 X) "TrustDeskModel" [2, 158, 66, 2, 2, 2] := rk1 (⟨_, _, _, _, _, cl_2 X, by decide, Or.inr ⟨_, rfl⟩, Or.inl ⟨q2070, Or.inr ⟨rfl, rfl⟩⟩, Or.inl rfl⟩)
theorem f_6_143 {X : gX} (hO : gO (g0 X)) : fm (g0 X) "TrustDeskModel" [2, 161, 71, 2, 2, 2] := rk1 (⟨_, _, _, _, _, cl_2 X, by decide, Or.inr ⟨_, rfl⟩, Or.inl ⟨q2075, Or.inr ⟨rfl, rfl⟩⟩, Or.inl rfl⟩)
theorem f_6_144 {X : gX} (hO : gO (g0 X)) : fm (g0 X) "TrustDeskModel" [7, 401, 1000000000, 0] := ⟨_, q2469, ⟨by decide, by decide⟩, by decide⟩
theorem f_6_145 {X : gX} (hO : gO (g0 X)) : fm (g0 X) "TrustDeskModel" [7, 404, 0, 1000000000] := ⟨_, q2471, ⟨by decide, by decide⟩, by decide⟩
theorem f_6_146 {X : gX} (hO : gO (g0 X)) : fm (g0 X) "TrustDeskModel" [7, 432, 1000000, 0] := ⟨_, q2439, ⟨by decide, by decide⟩, by decide⟩
theorem f_6_147 {X : gX} (hO : gO (g0 X)) : fm (g0 X) "TrustDeskModel" [7, 488, 36000, 0] := ⟨_, q2500, ⟨by decide, by decide⟩, by decide⟩
theorem f_6_148 {X : gX} (hO : gO (g0 X)) : fm (g0 X) "TrustDeskModel" [7, 547, 99999, 0] := ⟨_, q2612, ⟨by decide, by decide⟩, by decide⟩
theorem f_6_149 {X : gX} (hO : gO (g0 X)) : fm (g0 X) "TrustDeskModel" [8, 167, 7, 0] := ⟨_, q2226, ⟨by decide, by decide⟩, by decide⟩
theorem f_6_150 {X : gX} (hO : gO (g0 X)) : fm (g0 X) "TrustDeskModel" [8, 177, 9999, 0] := ⟨_, q2233, ⟨by decide, by decide⟩, by decide⟩
theorem f_6_151 {X : gX} (hO : gO (g0 X)) : fm (g0 X) "TrustDeskModel" [8, 376, 36000, 0] := ⟨_, q2262, ⟨by decide, by decide⟩, by decide⟩
theorem f_6_152 {X : gX} (hO : gO (g0 X)) : fm (g0 X) "TrustDeskModel" [8, 394, 5, 0] := ⟨_, q2399, ⟨by decide, by decide⟩, by decide⟩
theorem f_6_153 {X : gX} (hO : gO (g0 X)) : fm (g0 X) "TrustDeskModel" [8, 399, 1000000000, 0] := ⟨_, q2468, ⟨by decide, by decide⟩, by decide⟩
theorem f_6_154 {X : gX} (hO : gO (g0 X)) : fm (g0 X) "TrustDeskModel" [8, 402, 0, 1000000000] := ⟨_, q2470, ⟨by decide, by decide⟩, by decide⟩
theorem f_6_155 {X : gX} (hO : gO (g0 X)) : fm (g0 X) "TrustDeskModel" [8, 421, 999, 0] := ⟨_, q2412, ⟨by decide, by decide⟩, by decide⟩
theorem f_6_156 {X : gX} (hO : gO (g0 X)) : fm (g0 X) "TrustDeskModel" [8, 423, 99999, 0] := ⟨_, q2413, ⟨by decide, by decide⟩, by decide⟩
theorem f_6_157 {X : gX} (hO : gO (g0 X)) : fm (g0 X) "TrustDeskModel" [8, 433, 255, 0] := ⟨_, q2444, ⟨by decide, by decide⟩, by decide⟩
theorem f_6_158 {X : gX} (hO : gO (g0 X)) : fm (g0 X) "TrustDeskModel" [8, 466, 1000000000000000, 0] := ⟨_, q2510, ⟨by decide, by decide⟩, by decide⟩
theorem f_6_159 {X : gX} (hO : gO (g0 X)) : fm (g0 X) "TrustDeskModel" [8, 468, 1000000, 0] := ⟨_, q2519, ⟨by decide, by decide⟩, by decide⟩
theorem f_6_160 {X : gX} (hO : gO (g0 X)) : fm (g0 X) "TrustDeskModel" [8, 477, 100, 0] := ⟨_, q2505, ⟨by decide, by decide⟩, by decide⟩
theorem f_6_161 {X : gX} (hO : gO (g0 X)) : fm (g0 X) "TrustDeskModel" [8, 486, 720, 0] := ⟨_, q2499, ⟨by decide, by decide⟩, by decide⟩
theorem f_6_162 {X : gX} (hO : gO (g0 X)) : fm (g0 X) "TrustDeskModel" [8, 504, 3, 0] := ⟨_, q2539, ⟨by decide, by decide⟩, by decide⟩
theorem f_6_163 {X : gX} (hO : gO (g0 X)) : fm (g0 X) "TrustDeskModel" [8, 533, 1000000000000, 0] := ⟨_, q2608, ⟨by decide, by decide⟩, by decide⟩
theorem f_6_164 {X : gX} (hO : gO (g0 X)) : fm (g0 X) "TrustDeskModel" [8, 535, 20, 0] := ⟨_, q2609, ⟨by decide, by decide⟩, by decide⟩
theorem f_6_165 {X : gX} (hO : gO (g0 X)) : fm (g0 X) "TrustDeskModel" [8, 563, 0, 2] := ⟨_, q2653, ⟨by decide, by decide⟩, by decide⟩
theorem f_6_166 {X : gX} (hO : gO (g0 X)) : fm (g0 X) "TrustDeskModel" [8, 590, 0, 1] := ⟨_, q2655, ⟨by decide, by decide⟩, by decide⟩
theorem f_6_167 {X : gX} (hO : gO (g0 X)) : fm (g0 X) "TrustDeskModel" [8, 595, 9, 0] := ⟨_, q2676, ⟨by decide, by decide⟩, by decide⟩
theorem f_6_168 {X : gX} (hO : gO (g0 X)) : fm (g0 X) "TrustDeskModel" [9, 248, 124] := ⟨⟨by decide, by decide⟩, _, hO.str ("TrustDeskModel", 248, "poor", 124) (by decide +kernel)⟩
theorem f_6_169 {X : gX} (hO : gO (g0 X)) : fm (g0 X) "TrustDeskModel" [9, 250, 125] := ⟨⟨by decide, by decide⟩, _, hO.str ("TrustDeskModel", 250, "maids", 125) (by decide +kernel)⟩
theorem f_6_170 {X : gX} (hO : gO (g0 X)) : fm (g0 X) "TrustDeskModel" [9, 252, 126] := ⟨⟨by decide, by decide⟩, _, hO.str ("TrustDeskModel", 252, "boys", 126) (by decide +kernel)⟩
theorem f_6_171 {X : gX} (hO : gO (g0 X)) : fm (g0 X) "TrustDeskModel" [9, 254, 127] := ⟨⟨by decide, by decide⟩, _, hO.str ("TrustDeskModel", 254, "sick", 127) (by decide +kernel)⟩
theorem f_6_172 {X : gX} (hO : gO (g0 X)) : fm (g0 X) "TrustDeskModel" [9, 256, 128] := ⟨⟨by decide, by decide⟩, _, hO.str ("TrustDeskModel", 256, "bread", 128) (by decide +kernel)⟩
theorem f_6_173 {X : gX} (hO : gO (g0 X)) : fm (g0 X) "TrustDeskModel" [9, 258, 129] := ⟨⟨by decide, by decide⟩, _, hO.str ("TrustDeskModel", 258, "coal", 129) (by decide +kernel)⟩
theorem f_6_174 {X : gX} (hO : gO (g0 X)) : fm (g0 X) "TrustDeskModel" [9, 260, 130] := ⟨⟨by decide, by decide⟩, _, hO.str ("TrustDeskModel", 260, "rent", 130) (by decide +kernel)⟩
theorem f_6_175 {X : gX} (hO : gO (g0 X)) : fm (g0 X) "TrustDeskModel" [9, 262, 131] := ⟨⟨by decide, by decide⟩, _, hO.str ("TrustDeskModel", 262, "lake", 131) (by decide +kernel)⟩
theorem f_6_176 {X : gX} (hO : gO (g0 X)) : fm (g0 X) "TrustDeskModel" [9, 264, 132] := ⟨⟨by decide, by decide⟩, _, hO.str ("TrustDeskModel", 264, "income", 132) (by decide +kernel)⟩
theorem f_6_177 {X : gX} (hO : gO (g0 X)) : fm (g0 X) "TrustDeskModel" [9, 266, 133] := ⟨⟨by decide, by decide⟩, _, hO.str ("TrustDeskModel", 266, "coin", 133) (by decide +kernel)⟩
theorem f_6_178 {X : gX} (hO : gO (g0 X)) : fm (g0 X) "TrustDeskModel" [9, 271, 134] := ⟨⟨by decide, by decide⟩, _, hO.str ("TrustDeskModel", 271, "living", 134) (by decide +kernel)⟩
theorem f_6_179 {X : gX} (hO : gO (g0 X)) : fm (g0 X) "TrustDeskModel" [9, 273, 135] := ⟨⟨by decide, by decide⟩, _, hO.str ("TrustDeskModel", 273, "dead", 135) (by decide +kernel)⟩
theorem f_6_180 {X : gX} (hO : gO (g0 X)) : fm (g0 X) "TrustDeskModel" [9, 275, 136] := ⟨⟨by decide, by decide⟩, _, hO.str ("TrustDeskModel", 275, "marks", 136) (by decide +kernel)⟩
theorem f_6_181 {X : gX} (hO : gO (g0 X)) : fm (g0 X) "TrustDeskModel" [9, 300, 137] := ⟨⟨by decide, by decide⟩, _, hO.str ("TrustDeskModel", 300, "not", 137) (by decide +kernel)⟩
theorem f_6_182 {X : gX} (hO : gO (g0 X)) : fm (g0 X) "TrustDeskModel" [9, 310, 138] := ⟨⟨by decide, by decide⟩, _, hO.str ("TrustDeskModel", 310, "and", 138) (by decide +kernel)⟩
theorem f_6_183 {X : gX} (hO : gO (g0 X)) : fm (g0 X) "TrustDeskModel" [9, 315, 139] := ⟨⟨by decide, by decide⟩, _, hO.str ("TrustDeskModel", 315, "or", 139) (by decide +kernel)⟩
theorem f_6_184 {X : gX} (hO : gO (g0 X)) : fm (g0 X) "TrustDeskModel" [9, 327, 140] := ⟨⟨by decide, by decide⟩, _, hO.str ("TrustDeskModel", 327, "pays", 140) (by decide +kernel)⟩
theorem f_6_185 {X : gX} (hO : gO (g0 X)) : fm (g0 X) "TrustDeskModel" [9, 333, 141] := ⟨⟨by decide, by decide⟩, _, hO.str ("TrustDeskModel", 333, "if", 141) (by decide +kernel)⟩
theorem f_6_186 {X : gX} (hO : gO (g0 X)) : fm (g0 X) "TrustDeskModel" [9, 335, 142] := ⟨⟨by decide, by decide⟩, _, hO.str ("TrustDeskModel", 335, "part", 142) (by decide +kernel)⟩
theorem f_6_187 {X : gX} (hO : gO (g0 X)) : fm (g0 X) "TrustDeskModel" [9, 336, 143] := ⟨⟨by decide, by decide⟩, _, hO.str ("TrustDeskModel", 336, "end", 143) (by decide +kernel)⟩
theorem f_6_188 {X : gX} (hO : gO (g0 X)) : fm (g0 X) "TrustDeskModel" [9, 338, 144] := ⟨⟨by decide, by decide⟩, _, hO.str ("TrustDeskModel", 338, "mark", 144) (by decide +kernel)⟩
theorem f_6_189 {X : gX} (hO : gO (g0 X)) : fm (g0 X) "TrustDeskModel" [9, 340, 145] := ⟨⟨by decide, by decide⟩, _, hO.str ("TrustDeskModel", 340, "trust", 145) (by decide +kernel)⟩
theorem f_6_190 {X : gX} (hO : gO (g0 X)) : fm (g0 X) "TrustDeskModel" [9, 351, 146] := ⟨⟨by decide, by decide⟩, _, hO.str ("TrustDeskModel", 351, "fail", 146) (by decide +kernel)⟩
theorem f_6_191 {X : gX} (hO : gO (g0 X)) : fm (g0 X) "TrustDeskModel" [9, 353, 147] := ⟨⟨by decide, by decide⟩, _, hO.str ("TrustDeskModel", 353, "keep", 147) (by decide +kernel)⟩
theorem f_6_192 {X : gX} (hO : gO (g0 X)) : fm (g0 X) "TrustDeskModel" [9, 355, 148] := ⟨⟨by decide, by decide⟩, _, hO.str ("TrustDeskModel", 355, "days", 148) (by decide +kernel)⟩
theorem f_6_193 {X : gX} (hO : gO (g0 X)) : fm (g0 X) "TrustDeskModel" [9, 357, 149] := ⟨⟨by decide, by decide⟩, _, hO.str ("TrustDeskModel", 357, "late", 149) (by decide +kernel)⟩
theorem f_6_194 {X : gX} (hO : gO (g0 X)) : fm (g0 X) "TrustDeskModel" [9, 359, 150] := ⟨⟨by decide, by decide⟩, _, hO.str ("TrustDeskModel", 359, "gain", 150) (by decide +kernel)⟩
theorem f_6_195 {X : gX} (hO : gO (g0 X)) : fm (g0 X) "TrustDeskModel" [9, 361, 151] := ⟨⟨by decide, by decide⟩, _, hO.str ("TrustDeskModel", 361, "sell", 151) (by decide +kernel)⟩
theorem f_6_196 {X : gX} (hO : gO (g0 X)) : fm (g0 X) "TrustDeskModel" [9, 363, 152] := ⟨⟨by decide, by decide⟩, _, hO.str ("TrustDeskModel", 363, "bar", 152) (by decide +kernel)⟩
theorem f_6_197 {X : gX} (hO : gO (g0 X)) : fm (g0 X) "TrustDeskModel" [9, 368, 153] := ⟨⟨by decide, by decide⟩, _, hO.str ("TrustDeskModel", 368, "near", 153) (by decide +kernel)⟩
theorem f_6_198 {X : gX} (hO : gO (g0 X)) : fm (g0 X) "TrustDeskModel" [9, 370, 154] := ⟨⟨by decide, by decide⟩, _, hO.str ("TrustDeskModel", 370, "join", 154) (by decide +kernel)⟩
theorem f_6_199 {X : gX} (hO : gO (g0 X)) : fm (g0 X) "TrustDeskModel" [9, 372, 155] := ⟨⟨by decide, by decide⟩, _, hO.str ("TrustDeskModel", 372, "sale", 155) (by decide +kernel)⟩
theorem f_6_200 {X : gX} (hO : gO (g0 X)) : fm (g0 X) "TrustDeskModel" [9, 374, 156] := ⟨⟨by decide, by decide⟩, _, hO.str ("TrustDeskModel", 374, "strike", 156) (by decide +kernel)⟩
theorem f_6_201 {X : gX} (hO : gO (g0 X)) : fm (g0 X) "TrustDeskModel" [13, 7] := q2003
theorem f_6_202 {X : gX} (hO : gO (g0 X)) : fm (g0 X) "TrustDeskModel" [19, 450, 0] := q2490
theorem f_6_203 {X : gX} (hO : gO (g0 X)) : fm (g0 X) "TrustDeskModel" [19, 537, 3] := q2610
theorem f_6_204 {X : gX} (hO : gO (g0 X)) : fm (g0 X) "TrustDeskModel" [19, 545, 1] := q2611
theorem f_6_205 {X : gX} (hO : gO (g0 X)) : fm (g0 X) "TrustDeskModel" [19, 565, 2] := q2654
theorem f_6_206 {X : gX} (hO : gO (g0 X)) : fm (g0 X) "TrustDeskModel" [20, 169, 3, 80] := co_S (ck_80 X) q2227 q2228 ds_46
theorem f_6_207 {X : gX} (hO : gO (g0 X)) : fm (g0 X) "TrustDeskModel" [20, 173, 1, 81] := co_S (ck_81 X) q2230 q2231 ds_2
theorem f_6_208 {X : gX} (hO : gO (g0 X)) : fm (g0 X) "TrustDeskModel" [20, 204, 1, 91] := co_S (ck_91 X) q2271 q2272 ds_2
theorem f_6_209 {X : gX} (hO : gO (g0 X)) : fm (g0 X) "TrustDeskModel" [20, 211, 1, 93] := co_S (ck_93 X) q2278 q2279 ds_2
theorem f_6_210 {X : gX} (hO : gO (g0 X)) : fm (g0 X) "TrustDeskModel" [20, 405, 1, 130] := co_S (ck_130 X) q2465 q2466 ds_54
theorem f_6_211 {X : gX} (hO : gO (g0 X)) : fm (g0 X) "TrustDeskModel" [20, 412, 3, 135] := co_S (ck_135 X) q2487 q2488 ds_3
theorem f_6_212 {X : gX} (hO : gO (g0 X)) : fm (g0 X) "TrustDeskModel" [20, 444, 1, 132] := co_S (ck_132 X) q2476 q2477 ds_18
theorem f_6_213 {X : gX} (hO : gO (g0 X)) : fm (g0 X) "TrustDeskModel" [20, 495, 1, 144] := co_S (ck_144 X) q2528 q2529 ds_2
theorem f_6_214 {X : gX} (hO : gO (g0 X)) : fm (g0 X) "TrustDeskModel" [21, 182, 2, 83, 2, 2, 2] := co_V (n := 1) (ck_83 X) q2238 q2240 (kO1 (by decide) (isc_2 X) (qs45)) ds_2
theorem f_6_215 {X : gX} (hO : gO (g0 X)) : fm (g0 X) "TrustDeskModel" [21, 185, 4, 84, 2, 2, 2] := co_V (n := 3) (ck_84 X) q2242 q2244 (kO1 (by decide) (isc_2 X) (qs46)) ds_3
theorem f_6_216 {X : gX} (hO : gO (g0 X)) : fm (g0 X) "TrustDeskModel" [21, 207, 2, 92, 2, 2, 2] := co_V (n := 1) (ck_92 X) q2274 q2276 (kO1 (by decide) (isc_2 X) (qs49)) ds_18
theorem f_6_217 {X : gX} (hO : gO (g0 X)) : fm (g0 X) "TrustDeskModel" [21, 214, 1, 211, 27, 27, 28] := co_V (n := 0) (ck_211 X) q2298 q318 (kO2 (by decide) (by decide) (isc_27 X) (q319) (hO.s28) (q319)) ds_4
theorem f_6_218 {X : gX} (hO : gO (g0 X)) : fm (g0 X) "TrustDeskModel" [21, 220, 2, 219, 27, 27, 28] := co_V (n := 1) (ck_219 X) q2299 q482 (kO2 (by decide) (by decide) (isc_27 X) (q483) (hO.s28) (q483)) ds_50
theorem f_6_219 {X : gX} (hO : gO (g0 X)) : fm (g0 X) "TrustDeskModel" [21, 230, 1, 94, 2, 2, 2] := co_V (n := 0) (ck_94 X) q2281 q2283 (kO1 (by decide) (isc_2 X) (qs50)) ds_19
theorem f_6_220 {X : gX} (hO : gO (g0 X)) : fm (g0 X) "TrustDeskModel" [21, 234, 2, 104, 2, 2, 2] := co_V (n := 1) (ck_104 X) q2336 q2338 (kO1 (by decide) (isc_2 X) (qs60)) ds_2
theorem f_6_221 {X : gX} (hO : gO (g0 X)) : fm (g0 X) "TrustDeskModel" [21, 237, 1, 90, 2, 2, 2] := co_V (n := 0) (ck_90 X) q2267 q2269 (kO1 (by decide) (isc_2 X) (qs48)) ds_13
theorem f_6_222 {X : gX} (hO : gO (g0 X)) : fm (g0 X) "TrustDeskModel" [21, 240, 2, 98, 2, 2, 2] := co_V (n := 1) (ck_98 X) q2306 q2308 (kO1 (by decide) (isc_2 X) (qs54)) ds_12
theorem f_6_223 {X : gX} (hO : gO (g0 X)) : fm (g0 X) "TrustDeskModel" [21, 244, 2, 97, 2, 2, 2] := co_V (n := 1) (ck_97 X) q2294 q2296 (kO1 (by decide) (isc_2 X) (qs53)) ds_48
theorem f_6_224 {X : gX} (hO : gO (g0 X)) : fm (g0 X) "TrustDeskModel" [21, 279, 2, 111, 2, 2, 2] := co_V (n := 1) (ck_111 X) q2364 q2366 (kO1 (by decide) (isc_2 X) (qs67)) ds_12
theorem f_6_225 {X : gX} (hO : gO (g0 X)) : fm (g0 X) "TrustDeskModel" [21, 282, 1, 112, 2, 2, 2] := co_V (n := 0) (ck_112 X) q2368 q2370 (kO1 (by decide) (isc_2 X) (qs68)) ds_4
theorem f_6_226 {X : gX} (hO : gO (g0 X)) : fm (g0 X) "TrustDeskModel" [21, 285, 1, 105, 2, 2, 2] := co_V (n := 0) (ck_105 X) q2340 q2342 (kO1 (by decide) (isc_2 X) (qs61)) ds_13
theorem f_6_227 {X : gX} (hO : gO (g0 X)) : fm (g0 X) "TrustDeskModel" [21, 288, 1, 108, 2, 2, 2] := co_V (n := 0) (ck_108 X) q2352 q2354 (kO1 (by decide) (isc_2 X) (qs64)) ds_13
theorem f_6_228 {X : gX} (hO : gO (g0 X)) : fm (g0 X) "TrustDeskModel" [21, 291, 2, 106, 2, 2, 2] := co_V (n := 1) (ck_106 X) q2344 q2346 (kO1 (by decide) (isc_2 X) (qs62)) ds_12
theorem f_6_229 {X : gX} (hO : gO (g0 X)) : fm (g0 X) "TrustDeskModel" [21, 294, 1, 110, 2, 2, 2] := co_V (n := 0) (ck_110 X) q2360 q2362 (kO1 (by decide) (isc_2 X) (qs66)) ds_13
theorem f_6_230 {X : gX} (hO : gO (g0 X)) : fm (g0 X) "TrustDeskModel" [21, 297, 1, 109, 2, 2, 2] := co_V (n := 0) (ck_109 X) q2356 q2358 (kO1 (by decide) (isc_2 X) (qs65)) ds_13
theorem f_6_231 {X : gX} (hO : gO (g0 X)) : fm (g0 X) "TrustDeskModel" [21, 302, 1, 101, 2, 2, 2] := co_V (n := 0) (ck_101 X) q2323 q2325 (kO1 (by decide) (isc_2 X) (qs57)) ds_13
theorem f_6_232 {X : gX} (hO : gO (g0 X)) : fm (g0 X) "TrustDeskModel" [21, 305, 1, 107, 2, 2, 2] := co_V (n := 0) (ck_107 X) q2348 q2350 (kO1 (by decide) (isc_2 X) (qs63)) ds_13
theorem f_6_233 {X : gX} (hO : gO (g0 X)) : fm (g0 X) "TrustDeskModel" [21, 308, 1, 103, 2, 2, 2] := co_V (n := 0) (ck_103 X) q2331 q2333 (kO1 (by decide) (isc_2 X) (qs59)) ds_13
theorem f_6_234 {X : gX} (hO : gO (g0 X)) : fm (g0 X) "TrustDeskModel" [21, 312, 1, 102, 2, 2, 2] := co_V (n := 0) (ck_102 X) q2327 q2329 (kO1 (by decide) (isc_2 X) (qs58)) ds_13
theorem f_6_235 {X : gX} (hO : gO (g0 X)) : fm (g0 X) "TrustDeskModel" [21, 317, 3, 113, 2, 2, 2] := co_V (n := 2) (ck_113 X) q2387 q2389 (kO1 (by decide) (isc_2 X) (qs69)) ds_0
theorem f_6_236 {X : gX} (hO : gO (g0 X)) : fm (g0 X) "TrustDeskModel" [21, 324, 1, 121, 2, 2, 2] := co_V (n := 0) (ck_121 X) q2425 q2427 (kO1 (by decide) (isc_2 X) (qs75)) ds_19
theorem f_6_237 {X : gX} (hO : gO (g0 X)) : fm (g0 X) "TrustDeskModel" [21, 329, 2, 100, 2, 2, 2] := co_V (n := 1) (ck_100 X) q2319 q2321 (kO1 (by decide) (isc_2 X) (qs56)) ds_49
theorem f_6_238 {X : gX} (hO : gO (g0 X)) : fm (g0 X) "TrustDeskModel" [21, 342, 2, 99, 2, 2, 2] := co_V (n := 1) (ck_99 X) q2310 q2312 (kO1 (by decide) (isc_2 X) (qs55)) ds_18
theorem f_6_239 {X : gX} (hO : gO (g0 X)) : fm (g0 X) "TrustDeskModel" [21, 345, 2, 120, 2, 2, 2] := co_V (n := 1) (ck_120 X) q2421 q2423 (kO1 (by decide) (isc_2 X) (qs74)) ds_12
theorem f_6_240 {X : gX} (hO : gO (g0 X)) : fm (g0 X) "TrustDeskModel" [21, 348, 2, 122, 2, 2, 2] := co_V (n := 1) (ck_122 X) q2431 q2433 (kO1 (by decide) (isc_2 X) (qs76)) ds_12
theorem f_6_241 {X : gX} (hO : gO (g0 X)) : fm (g0 X) "TrustDeskModel" [21, 365, 1, 96, 2, 2, 2] := co_V (n := 0) (ck_96 X) q2289 q2291 (kO1 (by decide) (isc_2 X) (qs52)) ds_4
theorem f_6_242 {X : gX} (hO : gO (g0 X)) : fm (g0 X) "TrustDeskModel" [21, 381, 2, 89, 2, 2, 2] := co_V (n := 1) (ck_89 X) q2263 q2265 (kO1 (by decide) (isc_2 X) (qs47)) ds_47
theorem f_6_243 {X : gX} (hO : gO (g0 X)) : fm (g0 X) "TrustDeskModel" [21, 385, 1, 95, 2, 2, 2] := co_V (n := 0) (ck_95 X) q2285 q2287 (kO1 (by decide) (isc_2 X) (qs51)) ds_13
theorem f_6_244 {X : gX} (hO : gO (g0 X)) : fm (g0 X) "TrustDeskModel" [21, 388, 2, 114, 2, 2, 2] := co_V (n := 1) (ck_114 X) q2391 q2393 (kO1 (by decide) (isc_2 X) (qs70)) ds_18
theorem f_6_245 {X : gX} (hO : gO (g0 X)) : fm (g0 X) "TrustDeskModel" [21, 391, 2, 117, 2, 2, 2] := co_V (n := 1) (ck_117 X) q2404 q2406 (kO1 (by decide) (isc_2 X) (qs72)) ds_18
theorem f_6_246 {X : gX} (hO : gO (g0 X)) : fm (g0 X) "TrustDeskModel" [21, 396, 3, 116, 2, 2, 2] := co_V (n := 2) (ck_116 X) q2400 q2402 (kO1 (by decide) (isc_2 X) (qs71)) ds_0
theorem f_6_247 {X : gX} (hO : gO (g0 X)) : fm (g0 X) "TrustDeskModel" [21, 418, 2, 127, 2, 2, 2] := co_V (n := 1) (ck_127 X) q2453 q2455 (kO1 (by decide) (isc_2 X) (qs79)) ds_2
theorem f_6_248 {X : gX} (hO : gO (g0 X)) : fm (g0 X) "TrustDeskModel" [21, 425, 1, 119, 2, 2, 2] := co_V (n := 0) (ck_119 X) q2414 q2416 (kO1 (by decide) (isc_2 X) (qs73)) ds_13
theorem f_6_249 {X : gX} (hO : gO (g0 X)) : fm (g0 X) "TrustDeskModel" [21, 428, 7, 123, 2, 2, 2] := co_V (n := 6) (ck_123 X) q2435 q2437 (kO1 (by decide) (isc_2 X) (qs77)) ds_51
theorem f_6_250 {X : gX} (hO : gO (g0 X)) : fm (g0 X) "TrustDeskModel" [21, 438, 4, 129, 2, 2, 2] := co_V (n := 3) (ck_129 X) q2461 q2463 (kO1 (by decide) (isc_2 X) (qs81)) ds_3
theorem f_6_251 {X : gX} (hO : gO (g0 X)) : fm (g0 X) "TrustDeskModel" [21, 441, 3, 131, 2, 2, 2] := co_V (n := 2) (ck_131 X) q2472 q2474 (kO1 (by decide) (isc_2 X) (qs82)) ds_0
theorem f_6_252 {X : gX} (hO : gO (g0 X)) : fm (g0 X) "TrustDeskModel" [21, 447, 4, 134, 2, 2, 2] := co_V (n := 3) (ck_134 X) q2483 q2485 (kO1 (by decide) (isc_2 X) (qs84)) ds_3
theorem f_6_253 {X : gX} (hO : gO (g0 X)) : fm (g0 X) "TrustDeskModel" [21, 455, 3, 126, 2, 2, 2] := co_V (n := 2) (ck_126 X) q2449 q2451 (kO1 (by decide) (isc_2 X) (qs78)) ds_52
theorem f_6_254 {X : gX} (hO : gO (g0 X)) : fm (g0 X) "TrustDeskModel" [21, 459, 4, 128, 2, 2, 2] := co_V (n := 3) (ck_128 X) q2457 q2459 (kO1 (by decide) (isc_2 X) (qs80)) ds_53
theorem f_6_255 {X : gX} (hO : gO (g0 X)) : fm (g0 X) "TrustDeskModel" [21, 463, 3, 133, 2, 2, 2] := co_V (n := 2) (ck_133 X) q2479 q2481 (kO1 (by decide) (isc_2 X) (qs83)) ds_0
theorem f_6_256 {X : gX} (hO : gO (g0 X)) : fm (g0 X) "TrustDeskModel" [21, 470, 3, 141, 2, 2, 2] := co_V (n := 2) (ck_141 X) q2515 q2517 (kO1 (by decide) (isc_2 X) (qs88)) ds_38
theorem f_6_257 {X : gX} (hO : gO (g0 X)) : fm (g0 X) "TrustDeskModel" [21, 479, 3, 139, 2, 2, 2] := co_V (n := 2) (ck_139 X) q2506 q2508 (kO1 (by decide) (isc_2 X) (qs86)) ds_55
theorem f_6_258 {X : gX} (hO : gO (g0 X)) : fm (g0 X) "TrustDeskModel" [21, 483, 5, 140, 2, 2, 2] := co_V (n := 4) (ck_140 X) q2511 q2513 (kO1 (by decide) (isc_2 X) (qs87)) ds_56
theorem f_6_259 {X : gX} (hO : gO (g0 X)) : fm (g0 X) "TrustDeskModel" [21, 489, 3, 138, 2, 2, 2] := co_V (n := 2) (ck_138 X) q2501 q2503 (kO1 (by decide) (isc_2 X) (qs85)) ds_38
theorem f_6_260 {X : gX} (hO : gO (g0 X)) : fm (g0 X) "TrustDeskModel" [21, 492, 2, 143, 2, 2, 2] := co_V (n := 1) (ck_143 X) q2524 q2526 (kO1 (by decide) (isc_2 X) (qs89)) ds_2
theorem f_6_261 {X : gX} (hO : gO (g0 X)) : fm (g0 X) "TrustDeskModel" [21, 498, 2, 145, 2, 2, 2] := co_V (n := 1) (ck_145 X) q2531 q2533 (kO1 (by decide) (isc_2 X) (qs90)) ds_18
theorem f_6_262 {X : gX} (hO : gO (g0 X)) : fm (g0 X) "TrustDeskModel" [21, 506, 2, 148, 2, 2, 2] := co_V (n := 1) (ck_148 X) q2544 q2546 (kO1 (by decide) (isc_2 X) (qs91)) ds_2
theorem f_6_263 {X : gX} (hO : gO (g0 X)) : fm (g0 X) "TrustDeskModel" [21, 509, 2, 149, 2, 2, 2] := co_V (n := 1) (ck_149 X) q2548 q2550 (kO1 (by decide) (isc_2 X) (qs92)) ds_18
theorem f_6_264 {X : gX} (hO : gO (g0 X)) : fm (g0 X) "TrustDeskModel" [21, 512, 2, 150, 2, 2, 2] := co_V (n := 1) (ck_150 X) q2552 q2554 (kO1 (by decide) (isc_2 X) (qs93)) ds_18
theorem f_6_265 {X : gX} (hO : gO (g0 X)) : fm (g0 X) "TrustDeskModel" [21, 515, 2, 156, 2, 2, 2] := co_V (n := 1) (ck_156 X) q2576 q2578 (kO1 (by decide) (isc_2 X) (qs96)) ds_18
theorem f_6_266 {X : gX} (hO : gO (g0 X)) : fm (g0 X) "TrustDeskModel" [21, 518, 1, 158, 2, 2, 2] := co_V (n := 0) (ck_158 X) q2584 q2586 (kO1 (by decide) (isc_2 X) (qs98)) ds_4
theorem f_6_267 {X : gX} (hO : gO (g0 X)) : fm (g0 X) "TrustDeskModel" [21, 521, 2, 155, 2, 2, 2] := co_V (n := 1) (ck_155 X) q2572 q2574 (kO1 (by decide) (isc_2 X) (qs95)) ds_2
theorem f_6_268 {X : gX} (hO : gO (g0 X)) : fm (g0 X) "TrustDeskModel" [21, 524, 2, 157, 2, 2, 2] := co_V (n := 1) (ck_157 X) q2580 q2582 (kO1 (by decide) (isc_2 X) (qs97)) ds_2
theorem f_6_269 {X : gX} (hO : gO (g0 X)) : fm (g0 X) "TrustDeskModel" [21, 527, 2, 159, 2, 2, 2] := co_V (n := 1) (ck_159 X) q2588 q2590 (kO1 (by decide) (isc_2 X) (qs99)) ds_18
theorem f_6_270 {X : gX} (hO : gO (g0 X)) : fm (g0 X) "TrustDeskModel" [21, 530, 3, 160, 2, 2, 2] := co_V (n := 2) (ck_160 X) q2592 q2594 (kO1 (by decide) (isc_2 X) (qs100)) ds_52
theorem f_6_271 {X : gX} (hO : gO (g0 X)) : fm (g0 X) "TrustDeskModel" [21, 541, 2, 163, 2, 2, 2] := co_V (n := 1) (ck_163 X) q2604 q2606 (kO1 (by decide) (isc_2 X) (qs103)) ds_57
theorem f_6_272 {X : gX} (hO : gO (g0 X)) : fm (g0 X) "TrustDeskModel" [21, 548, 3, 162, 2, 2, 2] := co_V (n := 2) (ck_162 X) q2600 q2602 (kO1 (by decide) (isc_2 X) (qs102)) ds_38
theorem f_6_273 {X : gX} (hO : gO (g0 X)) : fm (g0 X) "TrustDeskModel" [21, 551, 2, 154, 2, 2, 2] := co_V (n := 1) (ck_154 X) q2568 q2570 (kO1 (by decide) (isc_2 X) (qs94)) ds_18
theorem f_6_274 {X : gX} (hO : gO (g0 X)) : fm (g0 X) "TrustDeskModel" [21, 554, 2, 161, 2, 2, 2] := co_V (n := 1) (ck_161 X) q2596 q2598 (kO1 (by decide) (isc_2 X) (qs101)) ds_12
theorem f_6_275 {X : gX} (hO : gO (g0 X)) : fm (g0 X) "TrustDeskModel" [21, 557, 3, 165, 2, 2, 2] := co_V (n := 2) (ck_165 X) q2617 q2619 (kO1 (by decide) (isc_2 X) (qs104)) ds_0
theorem f_6_276 {X : gX} (hO : gO (g0 X)) : fm (g0 X) "TrustDeskModel" [21, 567, 2, 173, 2, 2, 2] := co_V (n := 1) (ck_173 X) q2649 q2651 (kO1 (by decide) (isc_2 X) (qs109)) ds_58
theorem f_6_277 {X : gX} (hO : gO (g0 X)) : fm (g0 X) "TrustDeskModel" [21, 578, 3, 172, 2, 2, 2] := co_V (n := 2) (ck_172 X) q2645 q2647 (kO1 (by decide) (isc_2 X) (qs108)) ds_38
theorem f_6_278 {X : gX} (hO : gO (g0 X)) : fm (g0 X) "TrustDeskModel" [21, 581, 2, 170, 2, 2, 2] := co_V (n := 1) (ck_170 X) q2637 q2639 (kO1 (by decide) (isc_2 X) (qs106)) ds_2
theorem f_6_279 {X : gX} (hO : gO (g0 X)) : fm (g0 X) "TrustDeskModel" [21, 584, 2, 171, 2, 2, 2] := co_V (n := 1) (ck_171 X) q2641 q2643 (kO1 (by decide) (isc_2 X) (qs107)) ds_12
theorem f_6_280 {X : gX} (hO : gO (g0 X)) : fm (g0 X) "TrustDeskModel" [21, 587, 2, 169, 2, 2, 2] := co_V (n := 1) (ck_169 X) q2633 q2635 (kO1 (by decide) (isc_2 X) (qs105)) ds_2
theorem f_6_281 {X : gX} (hO : gO (g0 X)) : fm (g0 X) "TrustDeskModel" [21, 597, 1, 186, 2, 2, 2] := co_V (n := 0) (ck_186 X) q2705 q2707 (kO1 (by decide) (isc_2 X) (qs110)) ds_4
theorem f_6_282 {X : gX} (hO : gO (g0 X)) : fm (g0 X) "TrustDeskModel" [21, 600, 1, 187, 2, 2, 2] := co_V (n := 0) (ck_187 X) q2709 q2711 (kO1 (by decide) (isc_2 X) (qs111)) ds_4
theorem fo_6 {X : gX} (hO : gO (g0 X)) : allF (g0 X) "TrustDeskModel" fc_6 := And.intro (f_6_0 hO) (And.intro (f_6_1 hO) (And.intro (f_6_2 hO) (And.intro (f_6_3 hO) (And.intro (f_6_4 hO) (And.intro (f_6_5 hO) (And.intro (f_6_6 hO) (And.intro (f_6_7 hO) (And.intro (f_6_8 hO) (And.intro (f_6_9 hO) (And.intro (f_6_10 hO) (And.intro (f_6_11 hO) (And.intro (f_6_12 hO) (And.intro (f_6_13 hO) (And.intro (f_6_14 hO) (And.intro (f_6_15 hO) (And.intro (f_6_16 hO) (And.intro (f_6_17 hO) (And.intro (f_6_18 hO) (And.intro (f_6_19 hO) (And.intro (f_6_20 hO) (And.intro (f_6_21 hO) (And.intro (f_6_22 hO) (And.intro (f_6_23 hO) (And.intro (f_6_24 hO) (And.intro (f_6_25 hO) (And.intro (f_6_26 hO) (And.intro (f_6_27 hO) (And.intro (f_6_28 hO) (And.intro (f_6_29 hO) (And.intro (f_6_30 hO) (And.intro (f_6_31 hO) (And.intro (f_6_32 hO) (And.intro (f_6_33 hO) (And.intro (f_6_34 hO) (And.intro (f_6_35 hO) (And.intro (f_6_36 hO) (And.intro (f_6_37 hO) (And.intro (f_6_38 hO) (And.intro (f_6_39 hO) (And.intro (f_6_40 hO) (And.intro (f_6_41 hO) (And.intro (f_6_42 hO) (And.intro (f_6_43 hO) (And.intro (f_6_44 hO) (And.intro (f_6_45 hO) (And.intro (f_6_46 hO) (And.intro (f_6_47 hO) (And.intro (f_6_48 hO) (And.intro (f_6_49 hO) (And.intro (f_6_50 hO) (And.intro (f_6_51 hO) (And.intro (f_6_52 hO) (And.intro (f_6_53 hO) (And.intro (f_6_54 hO) (And.intro (f_6_55 hO) (And.intro (f_6_56 hO) (And.intro (f_6_57 hO) (And.intro (f_6_58 hO) (And.intro (f_6_59 hO) (And.intro (f_6_60 hO) (And.intro (f_6_61 hO) (And.intro (f_6_62 hO) (And.intro (f_6_63 hO) (And.intro (f_6_64 hO) (And.intro (f_6_65 hO) (And.intro (f_6_66 hO) (And.intro (f_6_67 hO) (And.intro (f_6_68 hO) (And.intro (f_6_69 hO) (And.intro (f_6_70 hO) (And.intro (f_6_71 hO) (And.intro (f_6_72 hO) (And.intro (f_6_73 hO) (And.intro (f_6_74 hO) (And.intro (f_6_75 hO) (And.intro (f_6_76 hO) (And.intro (f_6_77 hO) (And.intro (f_6_78 hO) (And.intro (f_6_79 hO) (And.intro (f_6_80 hO) (And.intro (f_6_81 hO) (And.intro (f_6_82 hO) (And.intro (f_6_83 hO) (And.intro (f_6_84 hO) (And.intro (f_6_85 hO) (And.intro (f_6_86 hO) (And.intro (f_6_87 hO) (And.intro (f_6_88 hO) (And.intro (f_6_89 hO) (And.intro (f_6_90 hO) (And.intro (f_6_91 hO) (And.intro (f_6_92 hO) (And.intro (f_6_93 hO) (And.intro (f_6_94 hO) (And.intro (f_6_95 hO) (And.intro (f_6_96 hO) (And.intro (f_6_97 hO) (And.intro (f_6_98 hO) (And.intro (f_6_99 hO) (And.intro (f_6_100 hO) (And.intro (f_6_101 hO) (And.intro (f_6_102 hO) (And.intro (f_6_103 hO) (And.intro (f_6_104 hO) (And.intro (f_6_105 hO) (And.intro (f_6_106 hO) (And.intro (f_6_107 hO) (And.intro (f_6_108 hO) (And.intro (f_6_109 hO) (And.intro (f_6_110 hO) (And.intro (f_6_111 hO) (And.intro (f_6_112 hO) (And.intro (f_6_113 hO) (And.intro (f_6_114 hO) (And.intro (f_6_115 hO) (And.intro (f_6_116 hO) (And.intro (f_6_117 hO) (And.intro (f_6_118 hO) (And.intro (f_6_119 hO) (And.intro (f_6_120 hO) (And.intro (f_6_121 hO) (And.intro (f_6_122 hO) (And.intro (f_6_123 hO) (And.intro (f_6_124 hO) (And.intro (f_6_125 hO) (And.intro (f_6_126 hO) (And.intro (f_6_127 hO) (And.intro (f_6_128 hO) (And.intro (f_6_129 hO) (And.intro (f_6_130 hO) (And.intro (f_6_131 hO) (And.intro (f_6_132 hO) (And.intro (f_6_133 hO) (And.intro (f_6_134 hO) (And.intro (f_6_135 hO) (And.intro (f_6_136 hO) (And.intro (f_6_137 hO) (And.intro (f_6_138 hO) (And.intro (f_6_139 hO) (And.intro (f_6_140 hO) (And.intro (f_6_141 hO) (And.intro (f_6_142 hO) (And.intro (f_6_143 hO) (And.intro (f_6_144 hO) (And.intro (f_6_145 hO) (And.intro (f_6_146 hO) (And.intro (f_6_147 hO) (And.intro (f_6_148 hO) (And.intro (f_6_149 hO) (And.intro (f_6_150 hO) (And.intro (f_6_151 hO) (And.intro (f_6_152 hO) (And.intro (f_6_153 hO) (And.intro (f_6_154 hO) (And.intro (f_6_155 hO) (And.intro (f_6_156 hO) (And.intro (f_6_157 hO) (And.intro (f_6_158 hO) (And.intro (f_6_159 hO) (And.intro (f_6_160 hO) (And.intro (f_6_161 hO) (And.intro (f_6_162 hO) (And.intro (f_6_163 hO) (And.intro (f_6_164 hO) (And.intro (f_6_165 hO) (And.intro (f_6_166 hO) (And.intro (f_6_167 hO) (And.intro (f_6_168 hO) (And.intro (f_6_169 hO) (And.intro (f_6_170 hO) (And.intro (f_6_171 hO) (And.intro (f_6_172 hO) (And.intro (f_6_173 hO) (And.intro (f_6_174 hO) (And.intro (f_6_175 hO) (And.intro (f_6_176 hO) (And.intro (f_6_177 hO) (And.intro (f_6_178 hO) (And.intro (f_6_179 hO) (And.intro (f_6_180 hO) (And.intro (f_6_181 hO) (And.intro (f_6_182 hO) (And.intro (f_6_183 hO) (And.intro (f_6_184 hO) (And.intro (f_6_185 hO) (And.intro (f_6_186 hO) (And.intro (f_6_187 hO) (And.intro (f_6_188 hO) (And.intro (f_6_189 hO) (And.intro (f_6_190 hO) (And.intro (f_6_191 hO) (And.intro (f_6_192 hO) (And.intro (f_6_193 hO) (And.intro (f_6_194 hO) (And.intro (f_6_195 hO) (And.intro (f_6_196 hO) (And.intro (f_6_197 hO) (And.intro (f_6_198 hO) (And.intro (f_6_199 hO) (And.intro (f_6_200 hO) (And.intro (f_6_201 hO) (And.intro (f_6_202 hO) (And.intro (f_6_203 hO) (And.intro (f_6_204 hO) (And.intro (f_6_205 hO) (And.intro (f_6_206 hO) (And.intro (f_6_207 hO) (And.intro (f_6_208 hO) (And.intro (f_6_209 hO) (And.intro (f_6_210 hO) (And.intro (f_6_211 hO) (And.intro (f_6_212 hO) (And.intro (f_6_213 hO) (And.intro (f_6_214 hO) (And.intro (f_6_215 hO) (And.intro (f_6_216 hO) (And.intro (f_6_217 hO) (And.intro (f_6_218 hO) (And.intro (f_6_219 hO) (And.intro (f_6_220 hO) (And.intro (f_6_221 hO) (And.intro (f_6_222 hO) (And.intro (f_6_223 hO) (And.intro (f_6_224 hO) (And.intro (f_6_225 hO) (And.intro (f_6_226 hO) (And.intro (f_6_227 hO) (And.intro (f_6_228 hO) (And.intro (f_6_229 hO) (And.intro (f_6_230 hO) (And.intro (f_6_231 hO) (And.intro (f_6_232 hO) (And.intro (f_6_233 hO) (And.intro (f_6_234 hO) (And.intro (f_6_235 hO) (And.intro (f_6_236 hO) (And.intro (f_6_237 hO) (And.intro (f_6_238 hO) (And.intro (f_6_239 hO) (And.intro (f_6_240 hO) (And.intro (f_6_241 hO) (And.intro (f_6_242 hO) (And.intro (f_6_243 hO) (And.intro (f_6_244 hO) (And.intro (f_6_245 hO) (And.intro (f_6_246 hO) (And.intro (f_6_247 hO) (And.intro (f_6_248 hO) (And.intro (f_6_249 hO) (And.intro (f_6_250 hO) (And.intro (f_6_251 hO) (And.intro (f_6_252 hO) (And.intro (f_6_253 hO) (And.intro (f_6_254 hO) (And.intro (f_6_255 hO) (And.intro (f_6_256 hO) (And.intro (f_6_257 hO) (And.intro (f_6_258 hO) (And.intro (f_6_259 hO) (And.intro (f_6_260 hO) (And.intro (f_6_261 hO) (And.intro (f_6_262 hO) (And.intro (f_6_263 hO) (And.intro (f_6_264 hO) (And.intro (f_6_265 hO) (And.intro (f_6_266 hO) (And.intro (f_6_267 hO) (And.intro (f_6_268 hO) (And.intro (f_6_269 hO) (And.intro (f_6_270 hO) (And.intro (f_6_271 hO) (And.intro (f_6_272 hO) (And.intro (f_6_273 hO) (And.intro (f_6_274 hO) (And.intro (f_6_275 hO) (And.intro (f_6_276 hO) (And.intro (f_6_277 hO) (And.intro (f_6_278 hO) (And.intro (f_6_279 hO) (And.intro (f_6_280 hO) (And.intro (f_6_281 hO) (And.intro (f_6_282 hO) (True.intro)))))))))))))))))))))))))))))))))))))))))))))))))))))))))))))))))))))))))))))))))))))))))))))))))))))))))))))))))))))))))))))))))))))))))))))))))))))))))))))))))))))))))))))))))))))))))))))))))))))))))))))))))))))))))))))))))))))))))))))))))))))))))))))))))))))))))))))))))))))))))))
theorem f_7_0 {X : gX} (hO : gO (g0 X)) : fm (g0 X) "TrustDesk$Reader" [0, 9, 0, 2, 4, 4] := rk1 (⟨_, _, _, _, _, cl_4 X, by decide, rfl, Or.inl q222, Or.inl rfl⟩)
theorem f_7_1 {X : gX} (hO : gO (g0 X)) : fm (g0 X) "TrustDesk$Reader" [0, 15, 1, 0, 4, 4] := rk1 (⟨_, _, _, _, _, cl_4 X, by decide, rfl, Or.inl q223, Or.inl rfl⟩)
theorem f_7_2 {X : gX} (hO : gO (g0 X)) : fm (g0 X) "TrustDesk$Reader" [0, 19, 6, 0, 4, 4] := rk1 (⟨_, _, _, _, _, cl_4 X, by decide, rfl, Or.inl q228, Or.inl rfl⟩)
theorem f_7_3 {X : gX} (hO : gO (g0 X)) : fm (g0 X) "TrustDesk$Reader" [0, 25, 2, 0, 4, 4] := rk1 (⟨_, _, _, _, _, cl_4 X, by decide, rfl, Or.inl q224, Or.inl rfl⟩)
theorem f_7_4 {X : gX} (hO : gO (g0 X)) : fm (g0 X) "TrustDesk$Reader" [0, 28, 3, 0, 4, 4] := rk1 (⟨_, _, _, _, _, cl_4 X, by decide, rfl, Or.inl q225, Or.inl rfl⟩)
theorem f_7_5 {X : gX} (hO : gO (g0 X)) : fm (g0 X) "TrustDesk$Reader" [0, 31, 4, 0, 4, 4] := rk1 (⟨_, _, _, _, _, cl_4 X, by decide, rfl, Or.inl q226, Or.inl rfl⟩)
theorem f_7_6 {X : gX} (hO : gO (g0 X)) : fm (g0 X) "TrustDesk$Reader" [0, 42, 7, 0, 4, 4] := rk1 (⟨_, _, _, _, _, cl_4 X, by decide, rfl, Or.inl q229, Or.inl rfl⟩)
theorem f_7_7 {X : gX} (hO : gO (g0 X)) : fm (g0 X) "TrustDesk$Reader" [0, 46, 8, 0, 4, 4] := rk1 (⟨_, _, _, _, _, cl_4 X, by decide, rfl, Or.inl q230, Or.inl rfl⟩)
theorem f_7_8 {X : gX} (hO : gO (g0 X)) : fm (g0 X) "TrustDesk$Reader" [0, 88, 0, 2, 15, 15] := rk1 (⟨_, _, _, _, _, cl_15 X, by decide, rfl, Or.inr ⟨_, q942⟩, Or.inl rfl⟩)
theorem f_7_9 {X : gX} (hO : gO (g0 X)) : fm (g0 X) "TrustDesk$Reader" [0, 104, 1, 0, 15, 15] := rk1 (⟨_, _, _, _, _, cl_15 X, by decide, rfl, Or.inr ⟨_, q944⟩, Or.inl rfl⟩)
theorem f_7_10 {X : gX} (hO : gO (g0 X)) : fm (g0 X) "TrustDesk$Reader" [0, 110, 2, 0, 15, 15] := rk1 (⟨_, _, _, _, _, cl_15 X, by decide, rfl, Or.inr ⟨_, q947⟩, Or.inl rfl⟩)
theorem f_7_11 {X : gX} (hO : gO (g0 X)) : fm (g0 X) "TrustDesk$Reader" [0, 153, 9, 2, 4, 4] := rk1 (⟨_, _, _, _, _, cl_4 X, by decide, rfl, Or.inl q231, Or.inl rfl⟩)
theorem f_7_12 {X : gX} (hO : gO (g0 X)) : fm (g0 X) "TrustDesk$Reader" [0, 165, 3, 0, 16, 16] := rk1 (⟨_, _, _, _, _, cl_16 X, by decide, rfl, Or.inr ⟨_, q1097⟩, Or.inl rfl⟩)
theorem f_7_13 {X : gX} (hO : gO (g0 X)) : fm (g0 X) "TrustDesk$Reader" [0, 179, 3, 0, 3, 3] := rk1 (⟨_, _, _, _, _, cl_3 X, by decide, rfl, Or.inr ⟨_, q301⟩, Or.inl rfl⟩)
theorem f_7_14 {X : gX} (hO : gO (g0 X)) : fm (g0 X) "TrustDesk$Reader" [0, 184, 0, 2, 3, 3] := rk1 (⟨_, _, _, _, _, cl_3 X, by decide, rfl, Or.inr ⟨_, q292⟩, Or.inl rfl⟩)
theorem f_7_15 {X : gX} (hO : gO (g0 X)) : fm (g0 X) "TrustDesk$Reader" [0, 192, 1, 2, 3, 3] := rk1 (⟨_, _, _, _, _, cl_3 X, by decide, rfl, Or.inr ⟨_, q297⟩, Or.inl rfl⟩)
theorem f_7_16 {X : gX} (hO : gO (g0 X)) : fm (g0 X) "TrustDesk$Reader" [0, 207, 1, 2, 12, 12] := rk1 (⟨_, _, _, _, _, cl_12 X, by decide, rfl, Or.inr ⟨_, q599⟩, Or.inl rfl⟩)
theorem f_7_17 {X : gX} (hO : gO (g0 X)) : fm (g0 X) "TrustDesk$Reader" [0, 251, 4, 2, 16, 16] := rk1 (⟨_, _, _, _, _, cl_16 X, by decide, rfl, Or.inr ⟨_, q1100⟩, Or.inl rfl⟩)
theorem f_7_18 {X : gX} (hO : gO (g0 X)) : fm (g0 X) "TrustDesk$Reader" [0, 254, 5, 0, 4, 4] := rk1 (⟨_, _, _, _, _, cl_4 X, by decide, rfl, Or.inl q227, Or.inl rfl⟩)
theorem f_7_19 {X : gX} (hO : gO (g0 X)) : fm (g0 X) "TrustDesk$Reader" [1, 19, 6, 0, 4, 4] := fun _ => rk1 (⟨_, _, _, _, _, cl_4 X, by decide, rfl, Or.inl ⟨q228, Or.inl rfl⟩, Or.inl rfl⟩)
theorem f_7_20 {X : gX} (hO : gO (g0 X)) : fm (g0 X) "TrustDesk$Reader" [1, 25, 2, 0, 4, 4] := fun _ => rk1 (⟨_, _, _, _, _, cl_4 X, by decide, rfl, Or.inl ⟨q224, Or.inl rfl⟩, Or.inl rfl⟩)
theorem f_7_21 {X : gX} (hO : gO (g0 X)) : fm (g0 X) "TrustDesk$Reader" [1, 28, 3, 0, 4, 4] := fun _ => rk1 (⟨_, _, _, _, _, cl_4 X, by decide, rfl, Or.inl ⟨q225, Or.inl rfl⟩, Or.inl rfl⟩)
theorem f_7_22 {X : gX} (hO : gO (g0 X)) : fm (g0 X) "TrustDesk$Reader" [1, 31, 4, 0, 4, 4] := fun _ => rk1 (⟨_, _, _, _, _, cl_4 X, by decide, rfl, Or.inl ⟨q226, Or.inl rfl⟩, Or.inl rfl⟩)
theorem f_7_23 {X : gX} (hO : gO (g0 X)) : fm (g0 X) "TrustDesk$Reader" [1, 42, 7, 3, 4, 4] := fun _ => rk1 (⟨_, _, _, _, _, cl_4 X, by decide, rfl, Or.inl ⟨q229, Or.inl rfl⟩, Or.inl rfl⟩)
theorem f_7_24 {X : gX} (hO : gO (g0 X)) : fm (g0 X) "TrustDesk$Reader" [1, 46, 8, 3, 4, 4] := fun _ => rk1 (⟨_, _, _, _, _, cl_4 X, by decide, rfl, Or.inl ⟨q230, Or.inl rfl⟩, Or.inl rfl⟩)
theorem f_7_25 {X : gX} (hO : gO (g0 X)) : fm (g0 X) "TrustDesk$Reader" [1, 104, 1, 0, 15, 15] := fun _ => rk1 (⟨_, _, _, _, _, cl_15 X, by decide, rfl, Or.inr ⟨_, q944, rfl⟩, Or.inl rfl⟩)
theorem f_7_26 {X : gX} (hO : gO (g0 X)) : fm (g0 X) "TrustDesk$Reader" [1, 110, 2, 0, 15, 15] := fun _ => rk1 (⟨_, _, _, _, _, cl_15 X, by decide, rfl, Or.inr ⟨_, q947, rfl⟩, Or.inl rfl⟩)
theorem f_7_27 {X : gX} (hO : gO (g0 X)) : fm (g0 X) "TrustDesk$Reader" [1, 113, 3, 0, 15, 15] := fun _ => rk1 (⟨_, _, _, _, _, cl_15 X, by decide, rfl, Or.inr ⟨_, q950, rfl⟩, Or.inl rfl⟩)
theorem f_7_28 {X : gX} (hO : gO (g0 X)) : fm (g0 X) "TrustDesk$Reader" [1, 148, 1, 2, 16, 16] := fun _ => rk1 (⟨_, _, _, _, _, cl_16 X, by decide, Or.inl ⟨_, rfl⟩, Or.inr ⟨_, q1093, rfl⟩, Or.inl rfl⟩)
theorem f_7_29 {X : gX} (hO : gO (g0 X)) : fm (g0 X) "TrustDesk$Reader" [1, 153, 9, 2, 4, 4] := fun _ => rk1 (⟨_, _, _, _, _, cl_4 X, by decide, Or.inl ⟨_, rfl⟩, Or.inl ⟨q231, Or.inl rfl⟩, Or.inl rfl⟩)
theorem f_7_30 {X : gX} (hO : gO (g0 X)) : fm (g0 X) "TrustDesk$Reader" [1, 160, 2, 2, 16, 16] := fun _ => rk1 (⟨_, _, _, _, _, cl_16 X, by decide, Or.inl ⟨_, rfl⟩, Or.inr ⟨_, q1095, rfl⟩, Or.inl rfl⟩)
theorem f_7_31 {X : gX} (hO : gO (g0 X)) : fm (g0 X) "TrustDesk$Reader" [1, 165, 3, 3, 16, 16] := fun _ => rk1 (⟨_, _, _, _, _, cl_16 X, by decide, rfl, Or.inr ⟨_, q1097, rfl⟩, Or.inl rfl⟩)
theorem f_7_32 {X : gX} (hO : gO (g0 X)) : fm (g0 X) "TrustDesk$Reader" [1, 179, 3, 0, 3, 3] := fun _ => rk1 (⟨_, _, _, _, _, cl_3 X, by decide, rfl, Or.inr ⟨_, q301, rfl⟩, Or.inl rfl⟩)
theorem f_7_33 {X : gX} (hO : gO (g0 X)) : fm (g0 X) "TrustDesk$Reader" [1, 254, 5, 0, 4, 4] := fun _ => rk1 (⟨_, _, _, _, _, cl_4 X, by decide, rfl, Or.inl ⟨q227, Or.inl rfl⟩, Or.inl rfl⟩)
theorem f_7_34 {X : gX} (hO : gO (g0 X)) : fm (g0 X) "TrustDesk$Reader" [2, 9, 0, 2, 4, 4] := rk1 (⟨_, _, _, _, _, cl_4 X, by decide, Or.inr ⟨_, rfl⟩, Or.inl ⟨q222, Or.inr ⟨rfl, rfl⟩⟩, Or.inl rfl⟩)
theorem f_7_35 {X : gX} (hO : gO (g0 X)) : fm (g0 X) "TrustDesk$Reader" [2, 15, 1, 0, 4, 4] := rk1 (⟨_, _, _, _, _, cl_4 X, by decide, rfl, Or.inl ⟨q223, Or.inr ⟨rfl, rfl⟩⟩, Or.inl rfl⟩)
theorem f_7_36 {X : gX} (hO : gO (g0 X)) : fm (g0 X) "TrustDesk$Reader" [4, 59, 5, 8] := ⟨_, _, _, cl_5 X, df_5, q506, q507, q130⟩
theorem f_7_37 {X : gX} (hO : gO (g0 X)) : fm (g0 X) "TrustDesk$Reader" [4, 80, 15, 4] := ⟨_, _, _, cl_15 X, df_15, q932, q933, q143⟩
theorem f_7_38 {X : gX} (hO : gO (g0 X)) : fm (g0 X) "TrustDesk$Reader" [4, 122, 25, 4] := ⟨_, _, _, cl_25 X, df_25, q968, q969, q145⟩
theorem f_7_39 {X : gX} (hO : gO (g0 X)) : fm (g0 X) "TrustDesk$Reader" [4, 138, 16, 5] := ⟨_, _, _, cl_16 X, df_16, q1081, q1082, q146⟩
theorem f_7_40 {X : gX} (hO : gO (g0 X)) : fm (g0 X) "TrustDesk$Reader" [4, 168, 3, 4] := ⟨_, _, _, cl_3 X, df_3, q257, q258, q117⟩
theorem f_7_41 {X : gX} (hO : gO (g0 X)) : fm (g0 X) "TrustDesk$Reader" [4, 187, 7, 2] := ⟨_, _, _, cl_7 X, df_7, q580, q581, q131⟩
theorem f_7_42 {X : gX} (hO : gO (g0 X)) : fm (g0 X) "TrustDesk$Reader" [4, 202, 12, 2] := ⟨_, _, _, cl_12 X, df_12, q586, q587, q133⟩
theorem f_7_43 {X : gX} (hO : gO (g0 X)) : fm (g0 X) "TrustDesk$Reader" [4, 235, 13, 1] := ⟨_, _, _, cl_13 X, df_13, q774, q775, q140⟩
theorem f_7_44 {X : gX} (hO : gO (g0 X)) : fm (g0 X) "TrustDesk$Reader" [4, 246, 11, 3] := ⟨_, _, _, cl_11 X, df_11, q692, q693, q138⟩
theorem f_7_45 {X : gX} (hO : gO (g0 X)) : fm (g0 X) "TrustDesk$Reader" [4, 264, 10, 3] := ⟨_, _, _, cl_10 X, df_10, q671, q672, q137⟩
theorem f_7_46 {X : gX} (hO : gO (g0 X)) : fm (g0 X) "TrustDesk$Reader" [4, 278, 9, 1] := ⟨_, _, _, cl_9 X, df_9, q643, q644, q135⟩
theorem f_7_47 {X : gX} (hO : gO (g0 X)) : fm (g0 X) "TrustDesk$Reader" [4, 281, 8, 1] := ⟨_, _, _, cl_8 X, df_8, q656, q657, q136⟩
theorem f_7_48 {X : gX} (hO : gO (g0 X)) : fm (g0 X) "TrustDesk$Reader" [9, 83, 100] := ⟨⟨by decide, by decide⟩, _, hO.str ("TrustDesk$Reader", 83, "mark", 100) (by decide +kernel)⟩
theorem f_7_49 {X : gX} (hO : gO (g0 X)) : fm (g0 X) "TrustDesk$Reader" [9, 85, 101] := ⟨⟨by decide, by decide⟩, _, hO.str ("TrustDesk$Reader", 85, "end", 101) (by decide +kernel)⟩
theorem f_7_50 {X : gX} (hO : gO (g0 X)) : fm (g0 X) "TrustDesk$Reader" [9, 86, 102] := ⟨⟨by decide, by decide⟩, _, hO.str ("TrustDesk$Reader", 86, "trust", 102) (by decide +kernel)⟩
theorem f_7_51 {X : gX} (hO : gO (g0 X)) : fm (g0 X) "TrustDesk$Reader" [9, 116, 103] := ⟨⟨by decide, by decide⟩, _, hO.str ("TrustDesk$Reader", 116, ";", 103) (by decide +kernel)⟩
theorem f_7_52 {X : gX} (hO : gO (g0 X)) : fm (g0 X) "TrustDesk$Reader" [9, 142, 104] := ⟨⟨by decide, by decide⟩, _, hO.str ("TrustDesk$Reader", 142, "pays", 104) (by decide +kernel)⟩
theorem f_7_53 {X : gX} (hO : gO (g0 X)) : fm (g0 X) "TrustDesk$Reader" [9, 151, 105] := ⟨⟨by decide, by decide⟩, _, hO.str ("TrustDesk$Reader", 151, "if", 105) (by decide +kernel)⟩
theorem f_7_54 {X : gX} (hO : gO (g0 X)) : fm (g0 X) "TrustDesk$Reader" [9, 163, 106] := ⟨⟨by decide, by decide⟩, _, hO.str ("TrustDesk$Reader", 163, "part", 106) (by decide +kernel)⟩
theorem f_7_55 {X : gX} (hO : gO (g0 X)) : fm (g0 X) "TrustDesk$Reader" [9, 171, 107] := ⟨⟨by decide, by decide⟩, _, hO.str ("TrustDesk$Reader", 171, " fail keep days late gain sell ", 107) (by decide +kernel)⟩
theorem f_7_56 {X : gX} (hO : gO (g0 X)) : fm (g0 X) "TrustDesk$Reader" [9, 177, 108] := ⟨⟨by decide, by decide⟩, _, hO.str ("TrustDesk$Reader", 177, "bar", 108) (by decide +kernel)⟩
theorem f_7_57 {X : gX} (hO : gO (g0 X)) : fm (g0 X) "TrustDesk$Reader" [9, 182, 109] := ⟨⟨by decide, by decide⟩, _, hO.str ("TrustDesk$Reader", 182, " near join sale strike ", 109) (by decide +kernel)⟩
theorem f_7_58 {X : gX} (hO : gO (g0 X)) : fm (g0 X) "TrustDesk$Reader" [9, 213, 110] := ⟨⟨by decide, by decide⟩, _, hO.str ("TrustDesk$Reader", 213, "or", 110) (by decide +kernel)⟩
theorem f_7_59 {X : gX} (hO : gO (g0 X)) : fm (g0 X) "TrustDesk$Reader" [9, 217, 111] := ⟨⟨by decide, by decide⟩, _, hO.str ("TrustDesk$Reader", 217, "and", 111) (by decide +kernel)⟩
theorem f_7_60 {X : gX} (hO : gO (g0 X)) : fm (g0 X) "TrustDesk$Reader" [9, 219, 112] := ⟨⟨by decide, by decide⟩, _, hO.str ("TrustDesk$Reader", 219, "not", 112) (by decide +kernel)⟩
theorem f_7_61 {X : gX} (hO : gO (g0 X)) : fm (g0 X) "TrustDesk$Reader" [9, 221, 113] := ⟨⟨by decide, by decide⟩, _, hO.str ("TrustDesk$Reader", 221, "[", 113) (by decide +kernel)⟩
theorem f_7_62 {X : gX} (hO : gO (g0 X)) : fm (g0 X) "TrustDesk$Reader" [9, 226, 114] := ⟨⟨by decide, by decide⟩, _, hO.str ("TrustDesk$Reader", 226, "]", 114) (by decide +kernel)⟩
theorem f_7_63 {X : gX} (hO : gO (g0 X)) : fm (g0 X) "TrustDesk$Reader" [9, 240, 115] := ⟨⟨by decide, by decide⟩, _, hO.str ("TrustDesk$Reader", 240, "<", 115) (by decide +kernel)⟩
theorem f_7_64 {X : gX} (hO : gO (g0 X)) : fm (g0 X) "TrustDesk$Reader" [9, 242, 116] := ⟨⟨by decide, by decide⟩, _, hO.str ("TrustDesk$Reader", 242, ">", 116) (by decide +kernel)⟩
theorem f_7_65 {X : gX} (hO : gO (g0 X)) : fm (g0 X) "TrustDesk$Reader" [9, 244, 117] := ⟨⟨by decide, by decide⟩, _, hO.str ("TrustDesk$Reader", 244, "=", 117) (by decide +kernel)⟩
theorem f_7_66 {X : gX} (hO : gO (g0 X)) : fm (g0 X) "TrustDesk$Reader" [9, 260, 118] := ⟨⟨by decide, by decide⟩, _, hO.str ("TrustDesk$Reader", 260, "+", 118) (by decide +kernel)⟩
theorem f_7_67 {X : gX} (hO : gO (g0 X)) : fm (g0 X) "TrustDesk$Reader" [9, 262, 119] := ⟨⟨by decide, by decide⟩, _, hO.str ("TrustDesk$Reader", 262, "-", 119) (by decide +kernel)⟩
theorem f_7_68 {X : gX} (hO : gO (g0 X)) : fm (g0 X) "TrustDesk$Reader" [9, 270, 120] := ⟨⟨by decide, by decide⟩, _, hO.str ("TrustDesk$Reader", 270, "*", 120) (by decide +kernel)⟩
theorem f_7_69 {X : gX} (hO : gO (g0 X)) : fm (g0 X) "TrustDesk$Reader" [9, 272, 121] := ⟨⟨by decide, by decide⟩, _, hO.str ("TrustDesk$Reader", 272, "(", 121) (by decide +kernel)⟩
theorem f_7_70 {X : gX} (hO : gO (g0 X)) : fm (g0 X) "TrustDesk$Reader" [9, 274, 122] := ⟨⟨by decide, by decide⟩, _, hO.str ("TrustDesk$Reader", 274, ")", 122) (by decide +kernel)⟩
theorem f_7_71 {X : gX} (hO : gO (g0 X)) : fm (g0 X) "TrustDesk$Reader" [9, 276, 123] := ⟨⟨by decide, by decide⟩, _, hO.str ("TrustDesk$Reader", 276, " poor maids boys sick bread coal rent lake income coin living dead marks ", 123) (by decide +kernel)⟩
theorem f_7_72 {X : gX} (hO : gO (g0 X)) : fm (g0 X) "TrustDesk$Reader" [13, 3] := q210
theorem f_7_73 {X : gX} (hO : gO (g0 X)) : fm (g0 X) "TrustDesk$Reader" [20, 38, 3, 2] := co_SN (ck_2 X) q221 q165 ds_1
theorem f_7_74 {X : gX} (hO : gO (g0 X)) : fm (g0 X) "TrustDesk$Reader" [20, 196, 1, 206] := co_S (ck_206 X) q799 q800 ds_18
theorem f_7_75 {X : gX} (hO : gO (g0 X)) : fm (g0 X) "TrustDesk$Reader" [20, 199, 1, 207] := co_S (ck_207 X) q802 q803 ds_18
theorem f_7_76 {X : gX} (hO : gO (g0 X)) : fm (g0 X) "TrustDesk$Reader" [21, 22, 1, 189, 4, 4, 4] := co_V (n := 0) (ck_189 X) q213 q215 (kO1 (by decide) (isc_4 X) (qs3)) ds_13
theorem f_7_77 {X : gX} (hO : gO (g0 X)) : fm (g0 X) "TrustDesk$Reader" [21, 34, 2, 190, 4, 4, 4] := co_V (n := 1) (ck_190 X) q217 q219 (kO1 (by decide) (isc_4 X) (qs4)) ds_18
theorem f_7_78 {X : gX} (hO : gO (g0 X)) : fm (g0 X) "TrustDesk$Reader" [21, 49, 1, 211, 27, 27, 28] := co_V (n := 0) (ck_211 X) q317 q318 (kO2 (by decide) (by decide) (isc_27 X) (q319) (hO.s28) (q319)) ds_4
theorem f_7_79 {X : gX} (hO : gO (g0 X)) : fm (g0 X) "TrustDesk$Reader" [21, 55, 2, 219, 27, 27, 28] := co_V (n := 1) (ck_219 X) q481 q482 (kO2 (by decide) (by decide) (isc_27 X) (q483) (hO.s28) (q483)) ds_50
theorem f_7_80 {X : gX} (hO : gO (g0 X)) : fm (g0 X) "TrustDesk$Reader" [21, 64, 2, 193, 4, 4, 4] := co_V (n := 1) (ck_193 X) q477 q479 (kO1 (by decide) (isc_4 X) (qs6)) ds_48
theorem f_7_81 {X : gX} (hO : gO (g0 X)) : fm (g0 X) "TrustDesk$Reader" [21, 68, 3, 194, 4, 4, 4] := co_V (n := 2) (ck_194 X) q502 q504 (kO1 (by decide) (isc_4 X) (qs7)) ds_60
theorem f_7_82 {X : gX} (hO : gO (g0 X)) : fm (g0 X) "TrustDesk$Reader" [21, 72, 3, 213, 27, 27, 28] := co_V (n := 2) (ck_213 X) q327 q328 (kO2 (by decide) (by decide) (isc_27 X) (q329) (hO.s28) (q329)) ds_0
theorem f_7_83 {X : gX} (hO : gO (g0 X)) : fm (g0 X) "TrustDesk$Reader" [21, 76, 3, 216, 27, 27, 28] := co_V (n := 2) (ck_216 X) q400 q401 (kO2 (by decide) (by decide) (isc_27 X) (q402) (hO.s28) (q402)) ds_63
theorem f_7_84 {X : gX} (hO : gO (g0 X)) : fm (g0 X) "TrustDesk$Reader" [21, 92, 1, 60, 24, 24, 24] := co_V (n := 0) (ck_60 X) q963 q198 (kO1 (by decide) (isc_24 X) (q199)) ds_4
theorem f_7_85 {X : gX} (hO : gO (g0 X)) : fm (g0 X) "TrustDesk$Reader" [21, 96, 2, 209, 4, 4, 4] := co_V (n := 1) (ck_209 X) q964 q966 (kO1 (by decide) (isc_4 X) (qs25)) ds_68
theorem f_7_86 {X : gX} (hO : gO (g0 X)) : fm (g0 X) "TrustDesk$Reader" [21, 100, 2, 62, 24, 24, 24] := co_V (n := 1) (ck_62 X) q708 q709 (kO1 (by decide) (isc_24 X) (q710)) ds_7
theorem f_7_87 {X : gX} (hO : gO (g0 X)) : fm (g0 X) "TrustDesk$Reader" [21, 107, 3, 205, 4, 4, 4] := co_V (n := 2) (ck_205 X) q658 q660 (kO1 (by decide) (isc_4 X) (qs19)) ds_0
theorem f_7_88 {X : gX} (hO : gO (g0 X)) : fm (g0 X) "TrustDesk$Reader" [21, 118, 2, 195, 4, 4, 4] := co_V (n := 1) (ck_195 X) q576 q578 (kO1 (by decide) (isc_4 X) (qs9)) ds_49
theorem f_7_89 {X : gX} (hO : gO (g0 X)) : fm (g0 X) "TrustDesk$Reader" [21, 127, 2, 308, 25, 25, 25] := co_V (n := 1) (ck_308 X) q994 q995 (kO1 (by decide) (isc_25 X) (q996)) ds_69
theorem f_7_90 {X : gX} (hO : gO (g0 X)) : fm (g0 X) "TrustDesk$Reader" [21, 131, 1, 309, 25, 25, 25] := co_V (n := 0) (ck_309 X) q1038 q1039 (kO1 (by decide) (isc_25 X) (q1040)) ds_70
theorem f_7_91 {X : gX} (hO : gO (g0 X)) : fm (g0 X) "TrustDesk$Reader" [21, 135, 2, 298, 15, 15, 15] := co_V (n := 1) (ck_298 X) q1066 q1067 (kO1 (by decide) (isc_15 X) (q1068)) ds_48
theorem f_7_92 {X : gX} (hO : gO (g0 X)) : fm (g0 X) "TrustDesk$Reader" [21, 144, 1, 202, 4, 4, 4] := co_V (n := 0) (ck_202 X) q628 q630 (kO1 (by decide) (isc_4 X) (qs16)) ds_66
theorem f_7_93 {X : gX} (hO : gO (g0 X)) : fm (g0 X) "TrustDesk$Reader" [21, 156, 1, 196, 4, 4, 4] := co_V (n := 0) (ck_196 X) q582 q584 (kO1 (by decide) (isc_4 X) (qs10)) ds_61
theorem f_7_94 {X : gX} (hO : gO (g0 X)) : fm (g0 X) "TrustDesk$Reader" [21, 173, 3, 192, 4, 4, 4] := co_V (n := 2) (ck_192 X) q313 q315 (kO1 (by decide) (isc_4 X) (qs5)) ds_59
theorem f_7_95 {X : gX} (hO : gO (g0 X)) : fm (g0 X) "TrustDesk$Reader" [21, 210, 1, 197, 4, 4, 4] := co_V (n := 0) (ck_197 X) q605 q607 (kO1 (by decide) (isc_4 X) (qs11)) ds_61
theorem f_7_96 {X : gX} (hO : gO (g0 X)) : fm (g0 X) "TrustDesk$Reader" [21, 215, 1, 198, 4, 4, 4] := co_V (n := 0) (ck_198 X) q609 q611 (kO1 (by decide) (isc_4 X) (qs12)) ds_61
theorem f_7_97 {X : gX} (hO : gO (g0 X)) : fm (g0 X) "TrustDesk$Reader" [21, 223, 1, 199, 4, 4, 4] := co_V (n := 0) (ck_199 X) q615 q617 (kO1 (by decide) (isc_4 X) (qs13)) ds_13
theorem f_7_98 {X : gX} (hO : gO (g0 X)) : fm (g0 X) "TrustDesk$Reader" [21, 228, 2, 200, 4, 4, 4] := co_V (n := 1) (ck_200 X) q620 q622 (kO1 (by decide) (isc_4 X) (qs14)) ds_49
theorem f_7_99 {X : gX} (hO : gO (g0 X)) : fm (g0 X) "TrustDesk$Reader" [21, 231, 1, 201, 4, 4, 4] := co_V (n := 0) (ck_201 X) q624 q626 (kO1 (by decide) (isc_4 X) (qs15)) ds_64
theorem f_7_100 {X : gX} (hO : gO (g0 X)) : fm (g0 X) "TrustDesk$Reader" [21, 257, 1, 203, 4, 4, 4] := co_V (n := 0) (ck_203 X) q632 q634 (kO1 (by decide) (isc_4 X) (qs17)) ds_66
theorem f_7_101 {X : gX} (hO : gO (g0 X)) : fm (g0 X) "TrustDesk$Reader" [21, 267, 1, 204, 4, 4, 4] := co_V (n := 0) (ck_204 X) q636 q638 (kO1 (by decide) (isc_4 X) (qs18)) ds_66
theorem f_7_102 {X : gX} (hO : gO (g0 X)) : fm (g0 X) "TrustDesk$Reader" [22, 61, 3, 271, 5, 5, 5] := co_I (n := 2) (G := fun k => (5 ≤ k ∧ k ≤ 5) ∨ k = 5) (ck_271 X) rfl q546 q544 q545 (fun k h => by omega) ds_38
theorem f_7_103 {X : gX} (hO : gO (g0 X)) : fm (g0 X) "TrustDesk$Reader" [22, 82, 1, 297, 15, 15, 15] := co_IN (n := 0) (G := fun k => (15 ≤ k ∧ k ≤ 15) ∨ k = 15) (ck_297 X) rfl q936 q934 q935 (fun k h => by omega) ds_13
theorem f_7_104 {X : gX} (hO : gO (g0 X)) : fm (g0 X) "TrustDesk$Reader" [22, 124, 2, 307, 25, 25, 25] := co_I (n := 1) (G := fun k => (25 ≤ k ∧ k ≤ 25) ∨ k = 25) (ck_307 X) rfl q972 q970 q971 (fun k h => by omega) ds_12
theorem f_7_105 {X : gX} (hO : gO (g0 X)) : fm (g0 X) "TrustDesk$Reader" [22, 140, 2, 311, 16, 16, 16] := co_I (n := 1) (G := fun k => (16 ≤ k ∧ k ≤ 16) ∨ k = 16) (ck_311 X) rfl q1085 q1083 q1084 (fun k h => by omega) ds_49
theorem f_7_106 {X : gX} (hO : gO (g0 X)) : fm (g0 X) "TrustDesk$Reader" [22, 170, 1, 75, 3, 3, 3] := co_IN (n := 0) (G := fun k => (3 ≤ k ∧ k ≤ 3) ∨ k = 3) (ck_75 X) rfl q261 q259 q260 (fun k h => by omega) ds_13
theorem f_7_107 {X : gX} (hO : gO (g0 X)) : fm (g0 X) "TrustDesk$Reader" [22, 189, 3, 272, 7, 7, 7] := co_I (n := 2) (G := fun k => (7 ≤ k ∧ k ≤ 7) ∨ k = 7) (ck_272 X) rfl q788 q786 q787 (fun k h => by omega) ds_62
theorem f_7_108 {X : gX} (hO : gO (g0 X)) : fm (g0 X) "TrustDesk$Reader" [22, 204, 2, 274, 12, 12, 12] := co_I (n := 1) (G := fun k => (12 ≤ k ∧ k ≤ 12) ∨ k = 12) (ck_274 X) rfl q590 q588 q589 (fun k h => by omega) ds_47
theorem f_7_109 {X : gX} (hO : gO (g0 X)) : fm (g0 X) "TrustDesk$Reader" [22, 237, 2, 287, 13, 13, 13] := co_I (n := 1) (G := fun k => (13 ≤ k ∧ k ≤ 13) ∨ k = 13) (ck_287 X) rfl q778 q776 q777 (fun k h => by omega) ds_65
theorem f_7_110 {X : gX} (hO : gO (g0 X)) : fm (g0 X) "TrustDesk$Reader" [22, 248, 4, 283, 11, 11, 11] := co_I (n := 3) (G := fun k => (11 ≤ k ∧ k ≤ 11) ∨ k = 11) (ck_283 X) rfl q696 q694 q695 (fun k h => by omega) ds_67
theorem f_7_111 {X : gX} (hO : gO (g0 X)) : fm (g0 X) "TrustDesk$Reader" [22, 266, 4, 281, 10, 10, 10] := co_I (n := 3) (G := fun k => (10 ≤ k ∧ k ≤ 10) ∨ k = 10) (ck_281 X) rfl q675 q673 q674 (fun k h => by omega) ds_67
theorem f_7_112 {X : gX} (hO : gO (g0 X)) : fm (g0 X) "TrustDesk$Reader" [22, 280, 2, 277, 9, 9, 9] := co_I (n := 1) (G := fun k => (9 ≤ k ∧ k ≤ 9) ∨ k = 9) (ck_277 X) rfl q647 q645 q646 (fun k h => by omega) ds_12
theorem f_7_113 {X : gX} (hO : gO (g0 X)) : fm (g0 X) "TrustDesk$Reader" [22, 283, 2, 279, 8, 8, 8] := co_I (n := 1) (G := fun k => (8 ≤ k ∧ k ≤ 8) ∨ k = 8) (ck_279 X) rfl q664 q662 q663 (fun k h => by omega) ds_20
theorem fo_7 {X : gX} (hO : gO (g0 X)) : allF (g0 X) "TrustDesk$Reader" fc_7 := And.intro (f_7_0 hO) (And.intro (f_7_1 hO) (And.intro (f_7_2 hO) (And.intro (f_7_3 hO) (And.intro (f_7_4 hO) (And.intro (f_7_5 hO) (And.intro (f_7_6 hO) (And.intro (f_7_7 hO) (And.intro (f_7_8 hO) (And.intro (f_7_9 hO) (And.intro (f_7_10 hO) (And.intro (f_7_11 hO) (And.intro (f_7_12 hO) (And.intro (f_7_13 hO) (And.intro (f_7_14 hO) (And.intro (f_7_15 hO) (And.intro (f_7_16 hO) (And.intro (f_7_17 hO) (And.intro (f_7_18 hO) (And.intro (f_7_19 hO) (And.intro (f_7_20 hO) (And.intro (f_7_21 hO) (And.intro (f_7_22 hO) (And.intro (f_7_23 hO) (And.intro (f_7_24 hO) (And.intro (f_7_25 hO) (And.intro (f_7_26 hO) (And.intro (f_7_27 hO) (And.intro (f_7_28 hO) (And.intro (f_7_29 hO) (And.intro (f_7_30 hO) (And.intro (f_7_31 hO) (And.intro (f_7_32 hO) (And.intro (f_7_33 hO) (And.intro (f_7_34 hO) (And.intro (f_7_35 hO) (And.intro (f_7_36 hO) (And.intro (f_7_37 hO) (And.intro (f_7_38 hO) (And.intro (f_7_39 hO) (And.intro (f_7_40 hO) (And.intro (f_7_41 hO) (And.intro (f_7_42 hO) (And.intro (f_7_43 hO) (And.intro (f_7_44 hO) (And.intro (f_7_45 hO) (And.intro (f_7_46 hO) (And.intro (f_7_47 hO) (And.intro (f_7_48 hO) (And.intro (f_7_49 hO) (And.intro (f_7_50 hO) (And.intro (f_7_51 hO) (And.intro (f_7_52 hO) (And.intro (f_7_53 hO) (And.intro (f_7_54 hO) (And.intro (f_7_55 hO) (And.intro (f_7_56 hO) (And.intro (f_7_57 hO) (And.intro (f_7_58 hO) (And.intro (f_7_59 hO) (And.intro (f_7_60 hO) (And.intro (f_7_61 hO) (And.intro (f_7_62 hO) (And.intro (f_7_63 hO) (And.intro (f_7_64 hO) (And.intro (f_7_65 hO) (And.intro (f_7_66 hO) (And.intro (f_7_67 hO) (And.intro (f_7_68 hO) (And.intro (f_7_69 hO) (And.intro (f_7_70 hO) (And.intro (f_7_71 hO) (And.intro (f_7_72 hO) (And.intro (f_7_73 hO) (And.intro (f_7_74 hO) (And.intro (f_7_75 hO) (And.intro (f_7_76 hO) (And.intro (f_7_77 hO) (And.intro (f_7_78 hO) (And.intro (f_7_79 hO) (And.intro (f_7_80 hO) (And.intro (f_7_81 hO) (And.intro (f_7_82 hO) (And.intro (f_7_83 hO) (And.intro (f_7_84 hO) (And.intro (f_7_85 hO) (And.intro (f_7_86 hO) (And.intro (f_7_87 hO) (And.intro (f_7_88 hO) (And.intro (f_7_89 hO) (And.intro (f_7_90 hO) (And.intro (f_7_91 hO) (And.intro (f_7_92 hO) (And.intro (f_7_93 hO) (And.intro (f_7_94 hO) (And.intro (f_7_95 hO) (And.intro (f_7_96 hO) (And.intro (f_7_97 hO) (And.intro (f_7_98 hO) (And.intro (f_7_99 hO) (And.intro (f_7_100 hO) (And.intro (f_7_101 hO) (And.intro (f_7_102 hO) (And.intro (f_7_103 hO) (And.intro (f_7_104 hO) (And.intro (f_7_105 hO) (And.intro (f_7_106 hO) (And.intro (f_7_107 hO) (And.intro (f_7_108 hO) (And.intro (f_7_109 hO) (And.intro (f_7_110 hO) (And.intro (f_7_111 hO) (And.intro (f_7_112 hO) (And.intro (f_7_113 hO) (True.intro))))))))))))))))))))))))))))))))))))))))))))))))))))))))))))))))))))))))))))))))))))))))))))))))))))))))))))))))))
theorem f_8_0 {X : gX} (hO : gO (g0 X)) : fm (g0 X) "java/lang/String" [0, 1048, 2, 0, 25, 25] := rk1 (⟨_, _, _, _, _, cl_25 X, by decide, rfl, Or.inl q983, Or.inl rfl⟩)
theorem f_8_1 {X : gX} (hO : gO (g0 X)) : fm (g0 X) "java/lang/String" [2, 9, 0, 2, 27, 27] := rk1 (⟨_, _, _, _, _, cl_27 X, by decide, Or.inr ⟨_, rfl⟩, Or.inl ⟨q435, Or.inr ⟨rfl, rfl⟩⟩, Or.inl rfl⟩)
theorem f_8_2 {X : gX} (hO : gO (g0 X)) : fm (g0 X) "java/lang/String" [2, 15, 1, 4, 27, 27] := rk1 (⟨_, _, _, _, _, cl_27 X, by decide, rfl, Or.inl ⟨q436, Or.inr ⟨rfl, rfl⟩⟩, Or.inl rfl⟩)
theorem f_8_3 {X : gX} (hO : gO (g0 X)) : fm (g0 X) "java/lang/String" [3, 9, 0, 2, 27, 28] := ⟨⟨_, _, _, _, _, cl_27 X, by decide, rfl, Or.inl q435, Or.inl rfl⟩, _, _, _, _, hO.f280, q435, Or.inl rfl⟩
theorem f_8_4 {X : gX} (hO : gO (g0 X)) : fm (g0 X) "java/lang/String" [3, 15, 1, 0, 27, 28] := ⟨⟨_, _, _, _, _, cl_27 X, by decide, rfl, Or.inl q436, Or.inl rfl⟩, _, _, _, _, hO.f281, q436, Or.inl rfl⟩
theorem f_8_5 {X : gX} (hO : gO (g0 X)) : fm (g0 X) "java/lang/String" [5, 10, 27, 27, 27] := ⟨_, rc1 (⟨_, isc_27 X, Or.inr ⟨rfl, 26, _, _, rfl⟩⟩), q1077⟩
theorem f_8_6 {X : gX} (hO : gO (g0 X)) : fm (g0 X) "java/lang/String" [5, 10, 27, 27, 28] := ⟨_, rc2 (⟨_, isc_27 X, Or.inr ⟨rfl, 26, _, _, rfl⟩⟩) (⟨_, hO.s28, Or.inr ⟨rfl, 26, _, _, rfl⟩⟩), q1077⟩
theorem f_8_7 {X : gX} (hO : gO (g0 X)) : fm (g0 X) "java/lang/String" [11, 1053, 5] := ⟨_, _, _, _, hO.z5, q369, Or.inl rfl⟩
theorem f_8_8 {X : gX} (hO : gO (g0 X)) : fm (g0 X) "java/lang/String" [12, 38, 1] := ⟨_, _, _, _, by decide, hO.iCOMPACT_STRINGS, q325, Or.inl rfl⟩
theorem f_8_9 {X : gX} (hO : gO (g0 X)) : fm (g0 X) "java/lang/String" [13, 1] := q434
theorem f_8_10 {X : gX} (hO : gO (g0 X)) : fm (g0 X) "java/lang/String" [20, 54, 3, 261] := co_S (ck_261 X) q1063 q412 ds_79
theorem f_8_11 {X : gX} (hO : gO (g0 X)) : fm (g0 X) "java/lang/String" [20, 495, 2, 228] := co_S (ck_228 X) q485 q486 ds_75
theorem f_8_12 {X : gX} (hO : gO (g0 X)) : fm (g0 X) "java/lang/String" [20, 521, 3, 215] := co_S (ck_215 X) q404 q367 ds_53
theorem f_8_13 {X : gX} (hO : gO (g0 X)) : fm (g0 X) "java/lang/String" [20, 541, 2, 231] := co_S (ck_231 X) q1078 q1079 ds_80
theorem f_8_14 {X : gX} (hO : gO (g0 X)) : fm (g0 X) "java/lang/String" [20, 637, 4, 224] := co_S (ck_224 X) q336 q337 ds_72
theorem f_8_15 {X : gX} (hO : gO (g0 X)) : fm (g0 X) "java/lang/String" [20, 685, 3, 227] := co_S (ck_227 X) q405 q406 ds_74
theorem f_8_16 {X : gX} (hO : gO (g0 X)) : fm (g0 X) "java/lang/String" [20, 1059, 3, 257] := co_S (ck_257 X) q491 q492 ds_76
theorem f_8_17 {X : gX} (hO : gO (g0 X)) : fm (g0 X) "java/lang/String" [20, 1062, 4, 255] := co_S (ck_255 X) q371 q372 ds_73
theorem f_8_18 {X : gX} (hO : gO (g0 X)) : fm (g0 X) "java/lang/String" [21, 335, 1, 212, 27, 27, 28] := co_V (n := 0) (ck_212 X) q321 q322 (kO2 (by decide) (by decide) (isc_27 X) (q323) (hO.s28) (q323)) ds_71
theorem f_8_19 {X : gX} (hO : gO (g0 X)) : fm (g0 X) "java/lang/String" [21, 492, 1, 214, 27, 27, 28] := co_V (n := 0) (ck_214 X) q331 q332 (kO2 (by decide) (by decide) (isc_27 X) (q333) (hO.s28) (q333)) ds_19
theorem f_8_20 {X : gX} (hO : gO (g0 X)) : fm (g0 X) "java/lang/String" [21, 505, 1, 211, 27, 27, 28] := co_V (n := 0) (ck_211 X) q335 q318 (kO2 (by decide) (by decide) (isc_27 X) (q319) (hO.s28) (q319)) ds_4
theorem f_8_21 {X : gX} (hO : gO (g0 X)) : fm (g0 X) "java/lang/String" [21, 549, 1, 310, 25, 25, 25] := co_VU (n := 0) (owner := "java/lang/AbstractStringBuilder") (x := ⟨"java/lang/AbstractStringBuilder", "length", "()I"⟩) (ck_310 X) q1054 q1056 (Or.inr ⟨q1055, _, _, _, q1061⟩) ⟨by decide, by decide⟩ q1058 (kO1 (by decide) (isc_25 X) (q1057)) ds_4
theorem f_8_22 {X : gX} (hO : gO (g0 X)) : fm (g0 X) "java/lang/String" [21, 552, 1, 305, 25, 25, 25] := co_V (n := 0) (ck_305 X) q1049 q1050 (kO1 (by decide) (isc_25 X) (q1052)) ds_78
theorem f_8_23 {X : gX} (hO : gO (g0 X)) : fm (g0 X) "java/lang/String" [21, 1047, 1, 303, 25, 25, 25] := co_V (n := 0) (ck_303 X) q1062 q1015 (kO1 (by decide) (isc_25 X) (q1017)) ds_19
theorem f_8_24 {X : gX} (hO : gO (g0 X)) : fm (g0 X) "java/lang/String" [22, 489, 3, 222, 27, 27, 27] := co_I (n := 2) (G := fun k => (27 ≤ k ∧ k ≤ 27) ∨ k = 27) (ck_222 X) rfl q1048 q1046 q1047 (fun k h => by omega) ds_77
theorem fo_8 {X : gX} (hO : gO (g0 X)) : allF (g0 X) "java/lang/String" fc_8 := And.intro (f_8_0 hO) (And.intro (f_8_1 hO) (And.intro (f_8_2 hO) (And.intro (f_8_3 hO) (And.intro (f_8_4 hO) (And.intro (f_8_5 hO) (And.intro (f_8_6 hO) (And.intro (f_8_7 hO) (And.intro (f_8_8 hO) (And.intro (f_8_9 hO) (And.intro (f_8_10 hO) (And.intro (f_8_11 hO) (And.intro (f_8_12 hO) (And.intro (f_8_13 hO) (And.intro (f_8_14 hO) (And.intro (f_8_15 hO) (And.intro (f_8_16 hO) (And.intro (f_8_17 hO) (And.intro (f_8_18 hO) (And.intro (f_8_19 hO) (And.intro (f_8_20 hO) (And.intro (f_8_21 hO) (And.intro (f_8_22 hO) (And.intro (f_8_23 hO) (And.intro (f_8_24 hO) (True.intro)))))))))))))))))))))))))
theorem f_9_0 {X : gX} (hO : gO (g0 X)) : fm (g0 X) "java/lang/StringLatin1" [4, 1, 27, 4] := ⟨_, _, _, cl_27 X, df_27, q409, q410, q120⟩
theorem f_9_1 {X : gX} (hO : gO (g0 X)) : fm (g0 X) "java/lang/StringLatin1" [9, 151, 157] := ⟨⟨by decide, by decide⟩, _, hO.str ("java/lang/StringLatin1", 151, "", 157) (by decide +kernel)⟩
theorem f_9_2 {X : gX} (hO : gO (g0 X)) : fm (g0 X) "java/lang/StringLatin1" [19, 38, 1] := q345
theorem f_9_3 {X : gX} (hO : gO (g0 X)) : fm (g0 X) "java/lang/StringLatin1" [19, 92, 0] := q342
theorem f_9_4 {X : gX} (hO : gO (g0 X)) : fm (g0 X) "java/lang/StringLatin1" [20, 9, 2, 220] := co_S (ck_220 X) q488 q489 ds_38
theorem f_9_5 {X : gX} (hO : gO (g0 X)) : fm (g0 X) "java/lang/StringLatin1" [20, 88, 1, 225] := co_S (ck_225 X) q339 q340 ds_2
theorem f_9_6 {X : gX} (hO : gO (g0 X)) : fm (g0 X) "java/lang/StringLatin1" [20, 95, 4, 226] := co_S (ck_226 X) q348 q349 ds_72
theorem f_9_7 {X : gX} (hO : gO (g0 X)) : fm (g0 X) "java/lang/StringLatin1" [20, 232, 3, 261] := co_S (ck_261 X) q411 q412 ds_79
theorem f_9_8 {X : gX} (hO : gO (g0 X)) : fm (g0 X) "java/lang/StringLatin1" [22, 112, 3, 217, 27, 27, 27] := co_I (n := 2) (G := fun k => (27 ≤ k ∧ k ≤ 27) ∨ k = 27) (ck_217 X) rfl q433 q431 q432 (fun k h => by omega) ds_81
theorem fo_9 {X : gX} (hO : gO (g0 X)) : allF (g0 X) "java/lang/StringLatin1" fc_9 := And.intro (f_9_0 hO) (And.intro (f_9_1 hO) (And.intro (f_9_2 hO) (And.intro (f_9_3 hO) (And.intro (f_9_4 hO) (And.intro (f_9_5 hO) (And.intro (f_9_6 hO) (And.intro (f_9_7 hO) (And.intro (f_9_8 hO) (True.intro)))))))))
theorem fo_10 {X : gX} (hO : gO (g0 X)) : allF (g0 X) "jdk/internal/util/Preconditions" fc_10 := True.intro
theorem f_11_0 {X : gX} (hO : gO (g0 X)) : fm (g0 X) "java/util/Arrays" [6, 2, 107] := ⟨_, _, q772, Or.inl ⟨rfl, rfl, rfl⟩⟩
theorem f_11_1 {X : gX} (hO : gO (g0 X)) : fm (g0 X) "java/util/Arrays" [10, 110, 60] := ⟨⟨by decide, by decide⟩, _, hO.mir, q771⟩
theorem f_11_2 {X : gX} (hO : gO (g0 X)) : fm (g0 X) "java/util/Arrays" [14, 150] := q421
theorem f_11_3 {X : gX} (hO : gO (g0 X)) : fm (g0 X) "java/util/Arrays" [15, 86] := q737
theorem f_11_4 {X : gX} (hO : gO (g0 X)) : fm (g0 X) "java/util/Arrays" [16, 310] := q424
theorem f_11_5 {X : gX} (hO : gO (g0 X)) : fm (g0 X) "java/util/Arrays" [18, 311] := q430
theorem f_11_6 {X : gX} (hO : gO (g0 X)) : fm (g0 X) "java/util/Arrays" [19, 304, 1] := q420
theorem f_11_7 {X : gX} (hO : gO (g0 X)) : fm (g0 X) "java/util/Arrays" [20, 300, 3, 265] := co_S (ck_265 X) q768 q769 ds_82
theorem f_11_8 {X : gX} (hO : gO (g0 X)) : fm (g0 X) "java/util/Arrays" [20, 339, 3, 262] := co_S (ck_262 X) q414 q415 ds_79
theorem f_11_9 {X : gX} (hO : gO (g0 X)) : fm (g0 X) "java/util/Arrays" [20, 343, 2, 263] := co_S (ck_263 X) q417 q418 ds_38
theorem fo_11 {X : gX} (hO : gO (g0 X)) : allF (g0 X) "java/util/Arrays" fc_11 := And.intro (f_11_0 hO) (And.intro (f_11_1 hO) (And.intro (f_11_2 hO) (And.intro (f_11_3 hO) (And.intro (f_11_4 hO) (And.intro (f_11_5 hO) (And.intro (f_11_6 hO) (And.intro (f_11_7 hO) (And.intro (f_11_8 hO) (And.intro (f_11_9 hO) (True.intro))))))))))
theorem f_12_0 {X : gX} (hO : gO (g0 X)) : fm (g0 X) "java/lang/Throwable" [1, 7, 0, 2, 5, 6] := fun _ => rk2 (⟨_, _, _, _, _, cl_5 X, by decide, Or.inl ⟨_, rfl⟩, Or.inl ⟨q559, Or.inl rfl⟩, Or.inl rfl⟩) (⟨_, _, _, _, _, cl_6 X, by decide, Or.inl ⟨_, rfl⟩, Or.inl ⟨q559, Or.inl rfl⟩, Or.inl rfl⟩)
theorem f_12_1 {X : gX} (hO : gO (g0 X)) : fm (g0 X) "java/lang/Throwable" [1, 17, 1, 2, 5, 6] := fun _ => rk2 (⟨_, _, _, _, _, cl_5 X, by decide, Or.inr ⟨_, rfl⟩, Or.inl ⟨q560, Or.inl rfl⟩, Or.inl rfl⟩) (⟨_, _, _, _, _, cl_6 X, by decide, Or.inr ⟨_, rfl⟩, Or.inl ⟨q560, Or.inl rfl⟩, Or.inl rfl⟩)
theorem f_12_2 {X : gX} (hO : gO (g0 X)) : fm (g0 X) "java/lang/Throwable" [1, 24, 2, 2, 5, 6] := fun _ => rk2 (⟨_, _, _, _, _, cl_5 X, by decide, Or.inl ⟨_, rfl⟩, Or.inl ⟨q561, Or.inl rfl⟩, Or.inl rfl⟩) (⟨_, _, _, _, _, cl_6 X, by decide, Or.inl ⟨_, rfl⟩, Or.inl ⟨q561, Or.inl rfl⟩, Or.inl rfl⟩)
theorem f_12_3 {X : gX} (hO : gO (g0 X)) : fm (g0 X) "java/lang/Throwable" [1, 31, 3, 2, 5, 6] := fun _ => rk2 (⟨_, _, _, _, _, cl_5 X, by decide, Or.inl ⟨_, rfl⟩, Or.inl ⟨q558, Or.inl rfl⟩, Or.inl rfl⟩) (⟨_, _, _, _, _, cl_6 X, by decide, Or.inl ⟨_, rfl⟩, Or.inl ⟨q558, Or.inl rfl⟩, Or.inl rfl⟩)
theorem f_12_4 {X : gX} (hO : gO (g0 X)) : fm (g0 X) "java/lang/Throwable" [11, 13, 3] := ⟨_, _, _, _, hO.z3, q530, Or.inl rfl⟩
theorem f_12_5 {X : gX} (hO : gO (g0 X)) : fm (g0 X) "java/lang/Throwable" [11, 20, 4] := ⟨_, _, _, _, hO.z4, q532, Or.inl rfl⟩
theorem f_12_6 {X : gX} (hO : gO (g0 X)) : fm (g0 X) "java/lang/Throwable" [13, 1] := q529
theorem fo_12 {X : gX} (hO : gO (g0 X)) : allF (g0 X) "java/lang/Throwable" fc_12 := And.intro (f_12_0 hO) (And.intro (f_12_1 hO) (And.intro (f_12_2 hO) (And.intro (f_12_3 hO) (And.intro (f_12_4 hO) (And.intro (f_12_5 hO) (And.intro (f_12_6 hO) (True.intro)))))))
theorem f_13_0 {X : gX} (hO : gO (g0 X)) : fm (g0 X) "java/lang/Exception" [22, 16, 5, 268, 5, 6, 5] := co_I (n := 4) (G := fun k => (5 ≤ k ∧ k ≤ 6) ∨ k = 5) (ck_268 X) rfl q552 q550 q551 (fun k h => by omega) ds_83
theorem fo_13 {X : gX} (hO : gO (g0 X)) : allF (g0 X) "java/lang/Exception" fc_13 := And.intro (f_13_0 hO) (True.intro)
theorem f_14_0 {X : gX} (hO : gO (g0 X)) : fm (g0 X) "TrustDesk$Wrong" [2, 7, 6, 0, 5, 5] := rk1 (⟨_, _, _, _, _, cl_5 X, by decide, rfl, Or.inl ⟨q553, Or.inr ⟨rfl, rfl⟩⟩, Or.inl rfl⟩)
theorem f_14_1 {X : gX} (hO : gO (g0 X)) : fm (g0 X) "TrustDesk$Wrong" [2, 13, 7, 0, 5, 5] := rk1 (⟨_, _, _, _, _, cl_5 X, by decide, rfl, Or.inl ⟨q555, Or.inr ⟨rfl, rfl⟩⟩, Or.inl rfl⟩)
theorem f_14_2 {X : gX} (hO : gO (g0 X)) : fm (g0 X) "TrustDesk$Wrong" [22, 1, 5, 269, 5, 6, 5] := co_I (n := 4) (G := fun k => (5 ≤ k ∧ k ≤ 6) ∨ k = 5) (ck_269 X) rfl q549 q547 q548 (fun k h => by omega) ds_83
theorem fo_14 {X : gX} (hO : gO (g0 X)) : allF (g0 X) "TrustDesk$Wrong" fc_14 := And.intro (f_14_0 hO) (And.intro (f_14_1 hO) (And.intro (f_14_2 hO) (True.intro)))
theorem f_15_0 {X : gX} (hO : gO (g0 X)) : fm (g0 X) "TrustDesk$Bar" [2, 7, 0, 0, 7, 7] := rk1 (⟨_, _, _, _, _, cl_7 X, by decide, rfl, Or.inl ⟨q790, Or.inr ⟨rfl, rfl⟩⟩, Or.inl rfl⟩)
theorem f_15_1 {X : gX} (hO : gO (g0 X)) : fm (g0 X) "TrustDesk$Bar" [2, 13, 1, 2, 7, 7] := rk1 (⟨_, _, _, _, _, cl_7 X, by decide, Or.inl ⟨_, rfl⟩, Or.inl ⟨q792, Or.inr ⟨rfl, rfl⟩⟩, Or.inl rfl⟩)
theorem f_15_2 {X : gX} (hO : gO (g0 X)) : fm (g0 X) "TrustDesk$Bar" [13, 1] := q789
theorem fo_15 {X : gX} (hO : gO (g0 X)) : allF (g0 X) "TrustDesk$Bar" fc_15 := And.intro (f_15_0 hO) (And.intro (f_15_1 hO) (And.intro (f_15_2 hO) (True.intro)))
theorem f_16_0 {X : gX} (hO : gO (g0 X)) : fm (g0 X) "TrustDesk$Cond" [13, 1] := q594
theorem fo_16 {X : gX} (hO : gO (g0 X)) : allF (g0 X) "TrustDesk$Cond" fc_16 := And.intro (f_16_0 hO) (True.intro)
theorem f_17_0 {X : gX} (hO : gO (g0 X)) : fm (g0 X) "TrustDesk$Some" [0, 12, 1, 2, 12, 12] := rk1 (⟨_, _, _, _, _, cl_12 X, by decide, rfl, Or.inl q598, Or.inl rfl⟩)
theorem f_17_1 {X : gX} (hO : gO (g0 X)) : fm (g0 X) "TrustDesk$Some" [0, 18, 0, 0, 12, 12] := rk1 (⟨_, _, _, _, _, cl_12 X, by decide, rfl, Or.inl q597, Or.inl rfl⟩)
theorem f_17_2 {X : gX} (hO : gO (g0 X)) : fm (g0 X) "TrustDesk$Some" [2, 12, 1, 2, 12, 12] := rk1 (⟨_, _, _, _, _, cl_12 X, by decide, Or.inl ⟨_, rfl⟩, Or.inl ⟨q598, Or.inr ⟨rfl, rfl⟩⟩, Or.inl rfl⟩)
theorem f_17_3 {X : gX} (hO : gO (g0 X)) : fm (g0 X) "TrustDesk$Some" [2, 18, 0, 3, 12, 12] := rk1 (⟨_, _, _, _, _, cl_12 X, by decide, rfl, Or.inl ⟨q597, Or.inr ⟨rfl, rfl⟩⟩, Or.inl rfl⟩)
theorem f_17_4 {X : gX} (hO : gO (g0 X)) : fm (g0 X) "TrustDesk$Some" [4, 7, 24, 3] := ⟨_, _, _, cl_24 X, df_24, q595, q264, q116⟩
theorem f_17_5 {X : gX} (hO : gO (g0 X)) : fm (g0 X) "TrustDesk$Some" [5, 2, 11, 13, 11] := ⟨_, rc3r (⟨_, isc_11 X, Or.inl q2724⟩) (⟨_, isc_12 X, Or.inl q2726⟩) (⟨_, isc_13 X, Or.inl q2725⟩), q1331⟩
theorem f_17_6 {X : gX} (hO : gO (g0 X)) : fm (g0 X) "TrustDesk$Some" [21, 22, 1, 60, 24, 24, 24] := co_V (n := 0) (ck_60 X) q1329 q198 (kO1 (by decide) (isc_24 X) (q199)) ds_4
theorem f_17_7 {X : gX} (hO : gO (g0 X)) : fm (g0 X) "TrustDesk$Some" [21, 26, 2, 66, 24, 24, 24] := co_V (n := 1) (ck_66 X) q1330 q820 (kO1 (by decide) (isc_24 X) (q821)) ds_11
theorem f_17_8 {X : gX} (hO : gO (g0 X)) : fm (g0 X) "TrustDesk$Some" [22, 1, 1, 273, 11, 13, 11] := co_IN (n := 0) (G := fun k => (11 ≤ k ∧ k ≤ 13) ∨ k = 11) (ck_273 X) rfl q593 q591 q592 (fun k h => by omega) ds_13
theorem f_17_9 {X : gX} (hO : gO (g0 X)) : fm (g0 X) "TrustDesk$Some" [22, 9, 2, 61, 24, 24, 24] := co_I (n := 1) (G := fun k => (24 ≤ k ∧ k ≤ 24) ∨ k = 24) (ck_61 X) rfl q267 q596 q266 (fun k h => by omega) ds_12
theorem f_17_10 {X : gX} (hO : gO (g0 X)) : fm (g0 X) "TrustDesk$Some" [23, 30, 2, 275, 12, 12] := co_VU (n := 1) (owner := "TrustDesk$Cond") (x := ⟨"TrustDesk$Cond", "holds", "([J)Z"⟩) (ck_275 X) q1332 q1299 (Or.inl q1298) ⟨by decide, by decide⟩ q1327 (kd1 (by decide) (isc_12 X) (q1333)) ds_24
theorem f_17_11 {X : gX} (hO : gO (g0 X)) : fm (g0 X) "TrustDesk$Some" [23, 30, 2, 284, 11, 11] := co_VU (n := 1) (owner := "TrustDesk$Cond") (x := ⟨"TrustDesk$Cond", "holds", "([J)Z"⟩) (ck_284 X) q1332 q1299 (Or.inl q1298) ⟨by decide, by decide⟩ q1301 (kd1 (by decide) (isc_11 X) (q1300)) ds_24
theorem f_17_12 {X : gX} (hO : gO (g0 X)) : fm (g0 X) "TrustDesk$Some" [23, 30, 2, 288, 13, 13] := co_VU (n := 1) (owner := "TrustDesk$Cond") (x := ⟨"TrustDesk$Cond", "holds", "([J)Z"⟩) (ck_288 X) q1332 q1299 (Or.inl q1298) ⟨by decide, by decide⟩ q1324 (kd1 (by decide) (isc_13 X) (q1323)) ds_24
theorem fo_17 {X : gX} (hO : gO (g0 X)) : allF (g0 X) "TrustDesk$Some" fc_17 := And.intro (f_17_0 hO) (And.intro (f_17_1 hO) (And.intro (f_17_2 hO) (And.intro (f_17_3 hO) (And.intro (f_17_4 hO) (And.intro (f_17_5 hO) (And.intro (f_17_6 hO) (And.intro (f_17_7 hO) (And.intro (f_17_8 hO) (And.intro (f_17_9 hO) (And.intro (f_17_10 hO) (And.intro (f_17_11 hO) (And.intro (f_17_12 hO) (True.intro)))))))))))))
theorem f_18_0 {X : gX} (hO : gO (g0 X)) : fm (g0 X) "TrustDesk$Sum" [13, 1] := q651
theorem fo_18 {X : gX} (hO : gO (g0 X)) : allF (g0 X) "TrustDesk$Sum" fc_18 := And.intro (f_18_0 hO) (True.intro)
theorem f_19_0 {X : gX} (hO : gO (g0 X)) : fm (g0 X) "TrustDesk$Fact" [0, 7, 0, 0, 9, 9] := rk1 (⟨_, _, _, _, _, cl_9 X, by decide, rfl, Or.inl q652, Or.inl rfl⟩)
theorem f_19_1 {X : gX} (hO : gO (g0 X)) : fm (g0 X) "TrustDesk$Fact" [2, 7, 0, 0, 9, 9] := rk1 (⟨_, _, _, _, _, cl_9 X, by decide, rfl, Or.inl ⟨q652, Or.inr ⟨rfl, rfl⟩⟩, Or.inl rfl⟩)
theorem f_19_2 {X : gX} (hO : gO (g0 X)) : fm (g0 X) "TrustDesk$Fact" [22, 1, 1, 276, 8, 10, 8] := co_IN (n := 0) (G := fun k => (8 ≤ k ∧ k ≤ 10) ∨ k = 8) (ck_276 X) rfl q650 q648 q649 (fun k h => by omega) ds_13
theorem fo_19 {X : gX} (hO : gO (g0 X)) : allF (g0 X) "TrustDesk$Fact" fc_19 := And.intro (f_19_0 hO) (And.intro (f_19_1 hO) (And.intro (f_19_2 hO) (True.intro)))
theorem f_20_0 {X : gX} (hO : gO (g0 X)) : fm (g0 X) "TrustDesk$Plain" [0, 7, 0, 1, 8, 8] := rk1 (⟨_, _, _, _, _, cl_8 X, by decide, rfl, Or.inl q666, Or.inl rfl⟩)
theorem f_20_1 {X : gX} (hO : gO (g0 X)) : fm (g0 X) "TrustDesk$Plain" [2, 7, 0, 1, 8, 8] := rk1 (⟨_, _, _, _, _, cl_8 X, by decide, rfl, Or.inl ⟨q666, Or.inr ⟨rfl, rfl⟩⟩, Or.inl rfl⟩)
theorem f_20_2 {X : gX} (hO : gO (g0 X)) : fm (g0 X) "TrustDesk$Plain" [22, 1, 1, 276, 8, 10, 8] := co_IN (n := 0) (G := fun k => (8 ≤ k ∧ k ≤ 10) ∨ k = 8) (ck_276 X) rfl q650 q665 q649 (fun k h => by omega) ds_13
theorem fo_20 {X : gX} (hO : gO (g0 X)) : allF (g0 X) "TrustDesk$Plain" fc_20 := And.intro (f_20_0 hO) (And.intro (f_20_1 hO) (And.intro (f_20_2 hO) (True.intro)))
theorem f_21_0 {X : gX} (hO : gO (g0 X)) : fm (g0 X) "TrustDesk$Worked" [0, 7, 0, 0, 10, 10] := rk1 (⟨_, _, _, _, _, cl_10 X, by decide, rfl, Or.inl q677, Or.inl rfl⟩)
theorem f_21_1 {X : gX} (hO : gO (g0 X)) : fm (g0 X) "TrustDesk$Worked" [0, 13, 1, 2, 10, 10] := rk1 (⟨_, _, _, _, _, cl_10 X, by decide, rfl, Or.inl q678, Or.inl rfl⟩)
theorem f_21_2 {X : gX} (hO : gO (g0 X)) : fm (g0 X) "TrustDesk$Worked" [0, 17, 2, 2, 10, 10] := rk1 (⟨_, _, _, _, _, cl_10 X, by decide, rfl, Or.inl q679, Or.inl rfl⟩)
theorem f_21_3 {X : gX} (hO : gO (g0 X)) : fm (g0 X) "TrustDesk$Worked" [2, 7, 0, 5, 10, 10] := rk1 (⟨_, _, _, _, _, cl_10 X, by decide, rfl, Or.inl ⟨q677, Or.inr ⟨rfl, rfl⟩⟩, Or.inl rfl⟩)
theorem f_21_4 {X : gX} (hO : gO (g0 X)) : fm (g0 X) "TrustDesk$Worked" [2, 13, 1, 2, 10, 10] := rk1 (⟨_, _, _, _, _, cl_10 X, by decide, Or.inl ⟨_, rfl⟩, Or.inl ⟨q678, Or.inr ⟨rfl, rfl⟩⟩, Or.inl rfl⟩)
theorem f_21_5 {X : gX} (hO : gO (g0 X)) : fm (g0 X) "TrustDesk$Worked" [2, 17, 2, 2, 10, 10] := rk1 (⟨_, _, _, _, _, cl_10 X, by decide, Or.inl ⟨_, rfl⟩, Or.inl ⟨q679, Or.inr ⟨rfl, rfl⟩⟩, Or.inl rfl⟩)
theorem f_21_6 {X : gX} (hO : gO (g0 X)) : fm (g0 X) "TrustDesk$Worked" [20, 24, 1, 25] := co_SN (ck_25 X) q1316 q1317 ds_85
theorem f_21_7 {X : gX} (hO : gO (g0 X)) : fm (g0 X) "TrustDesk$Worked" [22, 1, 1, 276, 8, 10, 8] := co_IN (n := 0) (G := fun k => (8 ≤ k ∧ k ≤ 10) ∨ k = 8) (ck_276 X) rfl q650 q676 q649 (fun k h => by omega) ds_13
theorem f_21_8 {X : gX} (hO : gO (g0 X)) : fm (g0 X) "TrustDesk$Worked" [23, 20, 2, 278, 9, 9] := co_VU (n := 1) (owner := "TrustDesk$Sum") (x := ⟨"TrustDesk$Sum", "of", "([J)J"⟩) (ck_278 X) q1315 q1305 (Or.inl q1304) ⟨by decide, by decide⟩ q1307 (kd1 (by decide) (isc_9 X) (q1306)) ds_84
theorem f_21_9 {X : gX} (hO : gO (g0 X)) : fm (g0 X) "TrustDesk$Worked" [23, 20, 2, 280, 8, 8] := co_VU (n := 1) (owner := "TrustDesk$Sum") (x := ⟨"TrustDesk$Sum", "of", "([J)J"⟩) (ck_280 X) q1315 q1305 (Or.inl q1304) ⟨by decide, by decide⟩ q1310 (kd1 (by decide) (isc_8 X) (q1309)) ds_84
theorem f_21_10 {X : gX} (hO : gO (g0 X)) : fm (g0 X) "TrustDesk$Worked" [23, 20, 2, 282, 10, 10] := co_VU (n := 1) (owner := "TrustDesk$Sum") (x := ⟨"TrustDesk$Sum", "of", "([J)J"⟩) (ck_282 X) q1315 q1305 (Or.inl q1304) ⟨by decide, by decide⟩ q1313 (kd1 (by decide) (isc_10 X) (q1312)) ds_84
theorem fo_21 {X : gX} (hO : gO (g0 X)) : allF (g0 X) "TrustDesk$Worked" fc_21 := And.intro (f_21_0 hO) (And.intro (f_21_1 hO) (And.intro (f_21_2 hO) (And.intro (f_21_3 hO) (And.intro (f_21_4 hO) (And.intro (f_21_5 hO) (And.intro (f_21_6 hO) (And.intro (f_21_7 hO) (And.intro (f_21_8 hO) (And.intro (f_21_9 hO) (And.intro (f_21_10 hO) (True.intro)))))))))))
theorem f_22_0 {X : gX} (hO : gO (g0 X)) : fm (g0 X) "TrustDesk$Compared" [0, 7, 0, 0, 11, 11] := rk1 (⟨_, _, _, _, _, cl_11 X, by decide, rfl, Or.inl q698, Or.inl rfl⟩)
theorem f_22_1 {X : gX} (hO : gO (g0 X)) : fm (g0 X) "TrustDesk$Compared" [0, 13, 1, 2, 11, 11] := rk1 (⟨_, _, _, _, _, cl_11 X, by decide, rfl, Or.inl q699, Or.inl rfl⟩)
theorem f_22_2 {X : gX} (hO : gO (g0 X)) : fm (g0 X) "TrustDesk$Compared" [0, 17, 2, 2, 11, 11] := rk1 (⟨_, _, _, _, _, cl_11 X, by decide, rfl, Or.inl q700, Or.inl rfl⟩)
theorem f_22_3 {X : gX} (hO : gO (g0 X)) : fm (g0 X) "TrustDesk$Compared" [2, 7, 0, 5, 11, 11] := rk1 (⟨_, _, _, _, _, cl_11 X, by decide, rfl, Or.inl ⟨q698, Or.inr ⟨rfl, rfl⟩⟩, Or.inl rfl⟩)
theorem f_22_4 {X : gX} (hO : gO (g0 X)) : fm (g0 X) "TrustDesk$Compared" [2, 13, 1, 2, 11, 11] := rk1 (⟨_, _, _, _, _, cl_11 X, by decide, Or.inl ⟨_, rfl⟩, Or.inl ⟨q699, Or.inr ⟨rfl, rfl⟩⟩, Or.inl rfl⟩)
theorem f_22_5 {X : gX} (hO : gO (g0 X)) : fm (g0 X) "TrustDesk$Compared" [2, 17, 2, 2, 11, 11] := rk1 (⟨_, _, _, _, _, cl_11 X, by decide, Or.inl ⟨_, rfl⟩, Or.inl ⟨q700, Or.inr ⟨rfl, rfl⟩⟩, Or.inl rfl⟩)
theorem f_22_6 {X : gX} (hO : gO (g0 X)) : fm (g0 X) "TrustDesk$Compared" [22, 1, 1, 273, 11, 13, 11] := co_IN (n := 0) (G := fun k => (11 ≤ k ∧ k ≤ 13) ∨ k = 11) (ck_273 X) rfl q593 q697 q592 (fun k h => by omega) ds_13
theorem f_22_7 {X : gX} (hO : gO (g0 X)) : fm (g0 X) "TrustDesk$Compared" [23, 20, 2, 278, 9, 9] := co_VU (n := 1) (owner := "TrustDesk$Sum") (x := ⟨"TrustDesk$Sum", "of", "([J)J"⟩) (ck_278 X) q1303 q1305 (Or.inl q1304) ⟨by decide, by decide⟩ q1307 (kd1 (by decide) (isc_9 X) (q1306)) ds_84
theorem f_22_8 {X : gX} (hO : gO (g0 X)) : fm (g0 X) "TrustDesk$Compared" [23, 20, 2, 280, 8, 8] := co_VU (n := 1) (owner := "TrustDesk$Sum") (x := ⟨"TrustDesk$Sum", "of", "([J)J"⟩) (ck_280 X) q1303 q1305 (Or.inl q1304) ⟨by decide, by decide⟩ q1310 (kd1 (by decide) (isc_8 X) (q1309)) ds_84
theorem f_22_9 {X : gX} (hO : gO (g0 X)) : fm (g0 X) "TrustDesk$Compared" [23, 20, 2, 282, 10, 10] := co_VU (n := 1) (owner := "TrustDesk$Sum") (x := ⟨"TrustDesk$Sum", "of", "([J)J"⟩) (ck_282 X) q1303 q1305 (Or.inl q1304) ⟨by decide, by decide⟩ q1313 (kd1 (by decide) (isc_10 X) (q1312)) ds_84
theorem fo_22 {X : gX} (hO : gO (g0 X)) : allF (g0 X) "TrustDesk$Compared" fc_22 := And.intro (f_22_0 hO) (And.intro (f_22_1 hO) (And.intro (f_22_2 hO) (And.intro (f_22_3 hO) (And.intro (f_22_4 hO) (And.intro (f_22_5 hO) (And.intro (f_22_6 hO) (And.intro (f_22_7 hO) (And.intro (f_22_8 hO) (And.intro (f_22_9 hO) (True.intro))))))))))
theorem f_23_0 {X : gX} (hO : gO (g0 X)) : fm (g0 X) "jdk/internal/util/ArraysSupport" [7, 200, 2147483639, 0] := ⟨_, q730, ⟨by decide, by decide⟩, by decide⟩
theorem f_23_1 {X : gX} (hO : gO (g0 X)) : fm (g0 X) "jdk/internal/util/ArraysSupport" [19, 194, 0] := q729
theorem fo_23 {X : gX} (hO : gO (g0 X)) : allF (g0 X) "jdk/internal/util/ArraysSupport" fc_23 := And.intro (f_23_0 hO) (And.intro (f_23_1 hO) (True.intro))
theorem f_24_0 {X : gX} (hO : gO (g0 X)) : fm (g0 X) "TrustDesk$Not" [0, 7, 0, 2, 13, 13] := rk1 (⟨_, _, _, _, _, cl_13 X, by decide, rfl, Or.inl q780, Or.inl rfl⟩)
theorem f_24_1 {X : gX} (hO : gO (g0 X)) : fm (g0 X) "TrustDesk$Not" [2, 7, 0, 2, 13, 13] := rk1 (⟨_, _, _, _, _, cl_13 X, by decide, Or.inl ⟨_, rfl⟩, Or.inl ⟨q780, Or.inr ⟨rfl, rfl⟩⟩, Or.inl rfl⟩)
theorem f_24_2 {X : gX} (hO : gO (g0 X)) : fm (g0 X) "TrustDesk$Not" [22, 1, 1, 273, 11, 13, 11] := co_IN (n := 0) (G := fun k => (11 ≤ k ∧ k ≤ 13) ∨ k = 11) (ck_273 X) rfl q593 q779 q592 (fun k h => by omega) ds_13
theorem f_24_3 {X : gX} (hO : gO (g0 X)) : fm (g0 X) "TrustDesk$Not" [23, 13, 2, 275, 12, 12] := co_VU (n := 1) (owner := "TrustDesk$Cond") (x := ⟨"TrustDesk$Cond", "holds", "([J)Z"⟩) (ck_275 X) q1326 q1299 (Or.inl q1298) ⟨by decide, by decide⟩ q1327 (kd1 (by decide) (isc_12 X) (q1333)) ds_24
theorem f_24_4 {X : gX} (hO : gO (g0 X)) : fm (g0 X) "TrustDesk$Not" [23, 13, 2, 284, 11, 11] := co_VU (n := 1) (owner := "TrustDesk$Cond") (x := ⟨"TrustDesk$Cond", "holds", "([J)Z"⟩) (ck_284 X) q1326 q1299 (Or.inl q1298) ⟨by decide, by decide⟩ q1301 (kd1 (by decide) (isc_11 X) (q1300)) ds_24
theorem f_24_5 {X : gX} (hO : gO (g0 X)) : fm (g0 X) "TrustDesk$Not" [23, 13, 2, 288, 13, 13] := co_VU (n := 1) (owner := "TrustDesk$Cond") (x := ⟨"TrustDesk$Cond", "holds", "([J)Z"⟩) (ck_288 X) q1326 q1299 (Or.inl q1298) ⟨by decide, by decide⟩ q1324 (kd1 (by decide) (isc_13 X) (q1323)) ds_24
theorem fo_24 {X : gX} (hO : gO (g0 X)) : allF (g0 X) "TrustDesk$Not" fc_24 := And.intro (f_24_0 hO) (And.intro (f_24_1 hO) (And.intro (f_24_2 hO) (And.intro (f_24_3 hO) (And.intro (f_24_4 hO) (And.intro (f_24_5 hO) (True.intro))))))
theorem f_25_0 {X : gX} (hO : gO (g0 X)) : fm (g0 X) "java/util/Objects" [20, 105, 3, 257] := co_S (ck_257 X) q826 q492 ds_76
theorem fo_25 {X : gX} (hO : gO (g0 X)) : allF (g0 X) "java/util/Objects" fc_25 := And.intro (f_25_0 hO) (True.intro)
theorem f_26_0 {X : gX} (hO : gO (g0 X)) : fm (g0 X) "TrustDesk$Fund" [0, 14, 3, 2, 14, 14] := rk1 (⟨_, _, _, _, _, cl_14 X, by decide, rfl, Or.inl q1165, Or.inl rfl⟩)
theorem f_26_1 {X : gX} (hO : gO (g0 X)) : fm (g0 X) "TrustDesk$Fund" [0, 20, 4, 2, 14, 14] := rk1 (⟨_, _, _, _, _, cl_14 X, by decide, rfl, Or.inl q1170, Or.inl rfl⟩)
theorem f_26_2 {X : gX} (hO : gO (g0 X)) : fm (g0 X) "TrustDesk$Fund" [0, 23, 5, 2, 14, 14] := rk1 (⟨_, _, _, _, _, cl_14 X, by decide, rfl, Or.inl q1172, Or.inl rfl⟩)
theorem f_26_3 {X : gX} (hO : gO (g0 X)) : fm (g0 X) "TrustDesk$Fund" [0, 31, 6, 0, 14, 14] := rk1 (⟨_, _, _, _, _, cl_14 X, by decide, rfl, Or.inl q1174, Or.inl rfl⟩)
theorem f_26_4 {X : gX} (hO : gO (g0 X)) : fm (g0 X) "TrustDesk$Fund" [0, 34, 7, 0, 14, 14] := rk1 (⟨_, _, _, _, _, cl_14 X, by decide, rfl, Or.inl q1177, Or.inl rfl⟩)
theorem f_26_5 {X : gX} (hO : gO (g0 X)) : fm (g0 X) "TrustDesk$Fund" [0, 37, 2, 0, 15, 15] := rk1 (⟨_, _, _, _, _, cl_15 X, by decide, rfl, Or.inr ⟨_, q946⟩, Or.inl rfl⟩)
theorem f_26_6 {X : gX} (hO : gO (g0 X)) : fm (g0 X) "TrustDesk$Fund" [0, 43, 3, 0, 15, 15] := rk1 (⟨_, _, _, _, _, cl_15 X, by decide, rfl, Or.inr ⟨_, q949⟩, Or.inl rfl⟩)
theorem f_26_7 {X : gX} (hO : gO (g0 X)) : fm (g0 X) "TrustDesk$Fund" [0, 47, 1, 0, 15, 15] := rk1 (⟨_, _, _, _, _, cl_15 X, by decide, rfl, Or.inr ⟨_, q943⟩, Or.inl rfl⟩)
theorem f_26_8 {X : gX} (hO : gO (g0 X)) : fm (g0 X) "TrustDesk$Fund" [0, 50, 8, 0, 14, 14] := rk1 (⟨_, _, _, _, _, cl_14 X, by decide, rfl, Or.inl q1179, Or.inl rfl⟩)
theorem f_26_9 {X : gX} (hO : gO (g0 X)) : fm (g0 X) "TrustDesk$Fund" [0, 52, 0, 2, 15, 15] := rk1 (⟨_, _, _, _, _, cl_15 X, by decide, rfl, Or.inr ⟨_, q941⟩, Or.inl rfl⟩)
theorem f_26_10 {X : gX} (hO : gO (g0 X)) : fm (g0 X) "TrustDesk$Fund" [0, 74, 11, 2, 14, 14] := rk1 (⟨_, _, _, _, _, cl_14 X, by decide, rfl, Or.inl q1189, Or.inl rfl⟩)
theorem f_26_11 {X : gX} (hO : gO (g0 X)) : fm (g0 X) "TrustDesk$Fund" [0, 80, 10, 1, 14, 14] := rk1 (⟨_, _, _, _, _, cl_14 X, by decide, rfl, Or.inl q1186, Or.inl rfl⟩)
theorem f_26_12 {X : gX} (hO : gO (g0 X)) : fm (g0 X) "TrustDesk$Fund" [0, 90, 1, 0, 17, 17] := rk1 (⟨_, _, _, _, _, cl_17 X, by decide, rfl, Or.inr ⟨_, q1137⟩, Or.inl rfl⟩)
theorem f_26_13 {X : gX} (hO : gO (g0 X)) : fm (g0 X) "TrustDesk$Fund" [0, 110, 0, 2, 17, 17] := rk1 (⟨_, _, _, _, _, cl_17 X, by decide, rfl, Or.inr ⟨_, q1132⟩, Or.inl rfl⟩)
theorem f_26_14 {X : gX} (hO : gO (g0 X)) : fm (g0 X) "TrustDesk$Fund" [0, 114, 2, 0, 17, 17] := rk1 (⟨_, _, _, _, _, cl_17 X, by decide, rfl, Or.inr ⟨_, q1140⟩, Or.inl rfl⟩)
theorem f_26_15 {X : gX} (hO : gO (g0 X)) : fm (g0 X) "TrustDesk$Fund" [0, 117, 3, 0, 17, 17] := rk1 (⟨_, _, _, _, _, cl_17 X, by decide, rfl, Or.inr ⟨_, q1143⟩, Or.inl rfl⟩)
theorem f_26_16 {X : gX} (hO : gO (g0 X)) : fm (g0 X) "TrustDesk$Fund" [1, 31, 6, 0, 14, 14] := fun _ => rk1 (⟨_, _, _, _, _, cl_14 X, by decide, rfl, Or.inl ⟨q1174, Or.inl rfl⟩, Or.inl rfl⟩)
theorem f_26_17 {X : gX} (hO : gO (g0 X)) : fm (g0 X) "TrustDesk$Fund" [1, 34, 7, 0, 14, 14] := fun _ => rk1 (⟨_, _, _, _, _, cl_14 X, by decide, rfl, Or.inl ⟨q1177, Or.inl rfl⟩, Or.inl rfl⟩)
theorem f_26_18 {X : gX} (hO : gO (g0 X)) : fm (g0 X) "TrustDesk$Fund" [1, 50, 8, 0, 14, 14] := fun _ => rk1 (⟨_, _, _, _, _, cl_14 X, by decide, rfl, Or.inl ⟨q1179, Or.inl rfl⟩, Or.inl rfl⟩)
theorem f_26_19 {X : gX} (hO : gO (g0 X)) : fm (g0 X) "TrustDesk$Fund" [1, 74, 11, 2, 14, 14] := fun _ => rk1 (⟨_, _, _, _, _, cl_14 X, by decide, Or.inl ⟨_, rfl⟩, Or.inl ⟨q1189, Or.inl rfl⟩, Or.inl rfl⟩)
theorem f_26_20 {X : gX} (hO : gO (g0 X)) : fm (g0 X) "TrustDesk$Fund" [1, 80, 10, 1, 14, 14] := fun _ => rk1 (⟨_, _, _, _, _, cl_14 X, by decide, rfl, Or.inl ⟨q1186, Or.inl rfl⟩, Or.inl rfl⟩)
theorem f_26_21 {X : gX} (hO : gO (g0 X)) : fm (g0 X) "TrustDesk$Fund" [1, 90, 1, 0, 17, 17] := fun _ => rk1 (⟨_, _, _, _, _, cl_17 X, by decide, rfl, Or.inr ⟨_, q1137, rfl⟩, Or.inl rfl⟩)
theorem f_26_22 {X : gX} (hO : gO (g0 X)) : fm (g0 X) "TrustDesk$Fund" [1, 114, 2, 0, 17, 17] := fun _ => rk1 (⟨_, _, _, _, _, cl_17 X, by decide, rfl, Or.inr ⟨_, q1140, rfl⟩, Or.inl rfl⟩)
theorem f_26_23 {X : gX} (hO : gO (g0 X)) : fm (g0 X) "TrustDesk$Fund" [1, 117, 3, 0, 17, 17] := fun _ => rk1 (⟨_, _, _, _, _, cl_17 X, by decide, rfl, Or.inr ⟨_, q1143, rfl⟩, Or.inl rfl⟩)
theorem f_26_24 {X : gX} (hO : gO (g0 X)) : fm (g0 X) "TrustDesk$Fund" [2, 14, 3, 2, 14, 14] := rk1 (⟨_, _, _, _, _, cl_14 X, by decide, Or.inl ⟨_, rfl⟩, Or.inl ⟨q1165, Or.inr ⟨rfl, rfl⟩⟩, Or.inl rfl⟩)
theorem f_26_25 {X : gX} (hO : gO (g0 X)) : fm (g0 X) "TrustDesk$Fund" [2, 20, 4, 2, 14, 14] := rk1 (⟨_, _, _, _, _, cl_14 X, by decide, Or.inl ⟨_, rfl⟩, Or.inl ⟨q1170, Or.inr ⟨rfl, rfl⟩⟩, Or.inl rfl⟩)
theorem f_26_26 {X : gX} (hO : gO (g0 X)) : fm (g0 X) "TrustDesk$Fund" [2, 23, 5, 2, 14, 14] := rk1 (⟨_, _, _, _, _, cl_14 X, by decide, Or.inr ⟨_, rfl⟩, Or.inl ⟨q1172, Or.inr ⟨rfl, rfl⟩⟩, Or.inl rfl⟩)
theorem f_26_27 {X : gX} (hO : gO (g0 X)) : fm (g0 X) "TrustDesk$Fund" [2, 27, 0, 0, 14, 14] := rk1 (⟨_, _, _, _, _, cl_14 X, by decide, rfl, Or.inl ⟨q1155, Or.inr ⟨rfl, rfl⟩⟩, Or.inl rfl⟩)
theorem f_26_28 {X : gX} (hO : gO (g0 X)) : fm (g0 X) "TrustDesk$Fund" [2, 42, 1, 0, 14, 14] := rk1 (⟨_, _, _, _, _, cl_14 X, by decide, rfl, Or.inl ⟨q1159, Or.inr ⟨rfl, rfl⟩⟩, Or.inl rfl⟩)
theorem f_26_29 {X : gX} (hO : gO (g0 X)) : fm (g0 X) "TrustDesk$Fund" [2, 46, 2, 0, 14, 14] := rk1 (⟨_, _, _, _, _, cl_14 X, by decide, rfl, Or.inl ⟨q1161, Or.inr ⟨rfl, rfl⟩⟩, Or.inl rfl⟩)
theorem f_26_30 {X : gX} (hO : gO (g0 X)) : fm (g0 X) "TrustDesk$Fund" [4, 9, 24, 3] := ⟨_, _, _, cl_24 X, df_24, q1118, q264, q116⟩
theorem f_26_31 {X : gX} (hO : gO (g0 X)) : fm (g0 X) "TrustDesk$Fund" [4, 59, 17, 4] := ⟨_, _, _, cl_17 X, df_17, q1122, q1123, q147⟩
theorem f_26_32 {X : gX} (hO : gO (g0 X)) : fm (g0 X) "TrustDesk$Fund" [5, 59, 17, 17, 17] := ⟨_, rc1 (⟨_, isc_17 X, Or.inr ⟨rfl, 16, _, _, rfl⟩⟩), q1122⟩
theorem f_26_33 {X : gX} (hO : gO (g0 X)) : fm (g0 X) "TrustDesk$Fund" [5, 65, 16, 16, 16] := ⟨_, rc1 (⟨_, isc_16 X, Or.inr ⟨rfl, 15, _, _, rfl⟩⟩), q1125⟩
theorem f_26_34 {X : gX} (hO : gO (g0 X)) : fm (g0 X) "TrustDesk$Fund" [7, 51, 1000000, 0] := ⟨_, q1120, ⟨by decide, by decide⟩, by decide⟩
theorem f_26_35 {X : gX} (hO : gO (g0 X)) : fm (g0 X) "TrustDesk$Fund" [7, 109, 99999, 0] := ⟨_, q1749, ⟨by decide, by decide⟩, by decide⟩
theorem f_26_36 {X : gX} (hO : gO (g0 X)) : fm (g0 X) "TrustDesk$Fund" [8, 78, 1000000000000000, 0] := ⟨_, q1268, ⟨by decide, by decide⟩, by decide⟩
theorem f_26_37 {X : gX} (hO : gO (g0 X)) : fm (g0 X) "TrustDesk$Fund" [13, 3] := q1117
theorem f_26_38 {X : gX} (hO : gO (g0 X)) : fm (g0 X) "TrustDesk$Fund" [19, 84, 3] := q1269
theorem f_26_39 {X : gX} (hO : gO (g0 X)) : fm (g0 X) "TrustDesk$Fund" [19, 106, 1] := q1748
theorem f_26_40 {X : gX} (hO : gO (g0 X)) : fm (g0 X) "TrustDesk$Fund" [20, 93, 1, 320] := co_S (ck_320 X) q1365 q1366 ds_29
theorem f_26_41 {X : gX} (hO : gO (g0 X)) : fm (g0 X) "TrustDesk$Fund" [21, 55, 1, 60, 24, 24, 24] := co_V (n := 0) (ck_60 X) q1121 q198 (kO1 (by decide) (isc_24 X) (q199)) ds_4
theorem f_26_42 {X : gX} (hO : gO (g0 X)) : fm (g0 X) "TrustDesk$Fund" [21, 61, 2, 66, 24, 24, 24] := co_V (n := 1) (ck_66 X) q1124 q820 (kO1 (by decide) (isc_24 X) (q821)) ds_11
theorem f_26_43 {X : gX} (hO : gO (g0 X)) : fm (g0 X) "TrustDesk$Fund" [21, 70, 2, 62, 24, 24, 24] := co_V (n := 1) (ck_62 X) q1154 q709 (kO1 (by decide) (isc_24 X) (q710)) ds_7
theorem f_26_44 {X : gX} (hO : gO (g0 X)) : fm (g0 X) "TrustDesk$Fund" [21, 99, 2, 68, 24, 24, 24] := co_V (n := 1) (ck_68 X) q1385 q1386 (kO1 (by decide) (isc_24 X) (q1387)) ds_7
theorem f_26_45 {X : gX} (hO : gO (g0 X)) : fm (g0 X) "TrustDesk$Fund" [21, 102, 2, 292, 14, 14, 14] := co_V (n := 1) (ck_292 X) q1747 q1265 (kO1 (by decide) (isc_14 X) (q1266)) ds_20
theorem f_26_46 {X : gX} (hO : gO (g0 X)) : fm (g0 X) "TrustDesk$Fund" [21, 120, 1, 74, 24, 24, 24] := co_V (n := 0) (ck_74 X) q1750 q1751 (kO1 (by decide) (isc_24 X) (q1752)) ds_13
theorem f_26_47 {X : gX} (hO : gO (g0 X)) : fm (g0 X) "TrustDesk$Fund" [22, 11, 2, 61, 24, 24, 24] := co_I (n := 1) (G := fun k => (24 ≤ k ∧ k ≤ 24) ∨ k = 24) (ck_61 X) rfl q267 q1119 q266 (fun k h => by omega) ds_12
theorem f_26_48 {X : gX} (hO : gO (g0 X)) : fm (g0 X) "TrustDesk$Fund" [22, 67, 2, 314, 17, 17, 17] := co_I (n := 1) (G := fun k => (17 ≤ k ∧ k ≤ 17) ∨ k = 17) (ck_314 X) rfl q1128 q1126 q1127 (fun k h => by omega) ds_86
theorem fo_26 {X : gX} (hO : gO (g0 X)) : allF (g0 X) "TrustDesk$Fund" fc_26 := And.intro (f_26_0 hO) (And.intro (f_26_1 hO) (And.intro (f_26_2 hO) (And.intro (f_26_3 hO) (And.intro (f_26_4 hO) (And.intro (f_26_5 hO) (And.intro (f_26_6 hO) (And.intro (f_26_7 hO) (And.intro (f_26_8 hO) (And.intro (f_26_9 hO) (And.intro (f_26_10 hO) (And.intro (f_26_11 hO) (And.intro (f_26_12 hO) (And.intro (f_26_13 hO) (And.intro (f_26_14 hO) (And.intro (f_26_15 hO) (And.intro (f_26_16 hO) (And.intro (f_26_17 hO) (And.intro (f_26_18 hO) (And.intro (f_26_19 hO) (And.intro (f_26_20 hO) (And.intro (f_26_21 hO) (And.intro (f_26_22 hO) (And.intro (f_26_23 hO) (And.intro (f_26_24 hO) (And.intro (f_26_25 hO) (And.intro (f_26_26 hO) (And.intro (f_26_27 hO) (And.intro (f_26_28 hO) (And.intro (f_26_29 hO) (And.intro (f_26_30 hO) (And.intro (f_26_31 hO) (And.intro (f_26_32 hO) (And.intro (f_26_33 hO) (And.intro (f_26_34 hO) (And.intro (f_26_35 hO) (And.intro (f_26_36 hO) (And.intro (f_26_37 hO) (And.intro (f_26_38 hO) (And.intro (f_26_39 hO) (And.intro (f_26_40 hO) (And.intro (f_26_41 hO) (And.intro (f_26_42 hO) (And.intro (f_26_43 hO) (And.intro (f_26_44 hO) (And.intro (f_26_45 hO) (And.intro (f_26_46 hO) (And.intro (f_26_47 hO) (And.intro (f_26_48 hO) (True.intro)))))))))))))))))))))))))))))))))))))))))))))))))
theorem f_27_0 {X : gX} (hO : gO (g0 X)) : fm (g0 X) "TrustDesk$Deed" [0, 12, 0, 2, 15, 15] := rk1 (⟨_, _, _, _, _, cl_15 X, by decide, rfl, Or.inl q940, Or.inl rfl⟩)
theorem f_27_1 {X : gX} (hO : gO (g0 X)) : fm (g0 X) "TrustDesk$Deed" [0, 35, 0, 2, 16, 16] := rk1 (⟨_, _, _, _, _, cl_16 X, by decide, rfl, Or.inr ⟨_, q1090⟩, Or.inl rfl⟩)
theorem f_27_2 {X : gX} (hO : gO (g0 X)) : fm (g0 X) "TrustDesk$Deed" [1, 18, 2, 0, 15, 15] := fun _ => rk1 (⟨_, _, _, _, _, cl_15 X, by decide, rfl, Or.inl ⟨q945, Or.inl rfl⟩, Or.inl rfl⟩)
theorem f_27_3 {X : gX} (hO : gO (g0 X)) : fm (g0 X) "TrustDesk$Deed" [1, 22, 3, 0, 15, 15] := fun _ => rk1 (⟨_, _, _, _, _, cl_15 X, by decide, rfl, Or.inl ⟨q948, Or.inl rfl⟩, Or.inl rfl⟩)
theorem f_27_4 {X : gX} (hO : gO (g0 X)) : fm (g0 X) "TrustDesk$Deed" [2, 12, 0, 2, 15, 15] := rk1 (⟨_, _, _, _, _, cl_15 X, by decide, Or.inl ⟨_, rfl⟩, Or.inl ⟨q940, Or.inr ⟨rfl, rfl⟩⟩, Or.inl rfl⟩)
theorem f_27_5 {X : gX} (hO : gO (g0 X)) : fm (g0 X) "TrustDesk$Deed" [4, 7, 24, 3] := ⟨_, _, _, cl_24 X, df_24, q938, q264, q116⟩
theorem f_27_6 {X : gX} (hO : gO (g0 X)) : fm (g0 X) "TrustDesk$Deed" [5, 33, 16, 16, 16] := ⟨_, rc1 (⟨_, isc_16 X, Or.inr ⟨rfl, 15, _, _, rfl⟩⟩), q1072⟩
theorem f_27_7 {X : gX} (hO : gO (g0 X)) : fm (g0 X) "TrustDesk$Deed" [13, 1] := q937
theorem f_27_8 {X : gX} (hO : gO (g0 X)) : fm (g0 X) "TrustDesk$Deed" [21, 25, 1, 60, 24, 24, 24] := co_V (n := 0) (ck_60 X) q1070 q198 (kO1 (by decide) (isc_24 X) (q199)) ds_4
theorem f_27_9 {X : gX} (hO : gO (g0 X)) : fm (g0 X) "TrustDesk$Deed" [21, 29, 2, 66, 24, 24, 24] := co_V (n := 1) (ck_66 X) q1071 q820 (kO1 (by decide) (isc_24 X) (q821)) ds_11
theorem f_27_10 {X : gX} (hO : gO (g0 X)) : fm (g0 X) "TrustDesk$Deed" [21, 39, 2, 223, 27, 27, 28] := co_V (n := 1) (ck_223 X) q1073 q1074 (kO2 (by decide) (by decide) (isc_27 X) (q1075) (hO.s28) (q1075)) ds_7
theorem f_27_11 {X : gX} (hO : gO (g0 X)) : fm (g0 X) "TrustDesk$Deed" [22, 9, 2, 61, 24, 24, 24] := co_I (n := 1) (G := fun k => (24 ≤ k ∧ k ≤ 24) ∨ k = 24) (ck_61 X) rfl q267 q939 q266 (fun k h => by omega) ds_12
theorem fo_27 {X : gX} (hO : gO (g0 X)) : allF (g0 X) "TrustDesk$Deed" fc_27 := And.intro (f_27_0 hO) (And.intro (f_27_1 hO) (And.intro (f_27_2 hO) (And.intro (f_27_3 hO) (And.intro (f_27_4 hO) (And.intro (f_27_5 hO) (And.intro (f_27_6 hO) (And.intro (f_27_7 hO) (And.intro (f_27_8 hO) (And.intro (f_27_9 hO) (And.intro (f_27_10 hO) (And.intro (f_27_11 hO) (True.intro))))))))))))
theorem f_28_0 {X : gX} (hO : gO (g0 X)) : fm (g0 X) "java/lang/AbstractStringBuilder" [0, 15, 0, 2, 25, 25] := rk1 (⟨_, _, _, _, _, cl_25 X, by decide, rfl, Or.inl q981, Or.inl rfl⟩)
theorem f_28_1 {X : gX} (hO : gO (g0 X)) : fm (g0 X) "java/lang/AbstractStringBuilder" [0, 22, 1, 0, 25, 25] := rk1 (⟨_, _, _, _, _, cl_25 X, by decide, rfl, Or.inl q982, Or.inl rfl⟩)
theorem f_28_2 {X : gX} (hO : gO (g0 X)) : fm (g0 X) "java/lang/AbstractStringBuilder" [0, 79, 3, 0, 25, 25] := rk1 (⟨_, _, _, _, _, cl_25 X, by decide, rfl, Or.inl q984, Or.inl rfl⟩)
theorem f_28_3 {X : gX} (hO : gO (g0 X)) : fm (g0 X) "java/lang/AbstractStringBuilder" [1, 15, 0, 2, 25, 25] := fun _ => rk1 (⟨_, _, _, _, _, cl_25 X, by decide, Or.inr ⟨_, rfl⟩, Or.inl ⟨q981, Or.inl rfl⟩, Or.inl rfl⟩)
theorem f_28_4 {X : gX} (hO : gO (g0 X)) : fm (g0 X) "java/lang/AbstractStringBuilder" [1, 22, 1, 4, 25, 25] := fun _ => rk1 (⟨_, _, _, _, _, cl_25 X, by decide, rfl, Or.inl ⟨q982, Or.inl rfl⟩, Or.inl rfl⟩)
theorem f_28_5 {X : gX} (hO : gO (g0 X)) : fm (g0 X) "java/lang/AbstractStringBuilder" [1, 79, 3, 0, 25, 25] := fun _ => rk1 (⟨_, _, _, _, _, cl_25 X, by decide, rfl, Or.inl ⟨q984, Or.inl rfl⟩, Or.inl rfl⟩)
theorem f_28_6 {X : gX} (hO : gO (g0 X)) : fm (g0 X) "java/lang/AbstractStringBuilder" [7, 39, 2147483647, 0] := ⟨_, q1010, ⟨by decide, by decide⟩, by decide⟩
theorem f_28_7 {X : gX} (hO : gO (g0 X)) : fm (g0 X) "java/lang/AbstractStringBuilder" [12, 18, 1] := ⟨_, _, _, _, by decide, hO.iCOMPACT_STRINGS, q977, Or.inl rfl⟩
theorem f_28_8 {X : gX} (hO : gO (g0 X)) : fm (g0 X) "java/lang/AbstractStringBuilder" [13, 3] := q976
theorem f_28_9 {X : gX} (hO : gO (g0 X)) : fm (g0 X) "java/lang/AbstractStringBuilder" [20, 108, 2, 266] := co_S (ck_266 X) q1011 q1012 ds_88
theorem f_28_10 {X : gX} (hO : gO (g0 X)) : fm (g0 X) "java/lang/AbstractStringBuilder" [20, 114, 3, 285] := co_S (ck_285 X) q1009 q727 ds_3
theorem f_28_11 {X : gX} (hO : gO (g0 X)) : fm (g0 X) "java/lang/AbstractStringBuilder" [20, 191, 1, 229] := co_S (ck_229 X) q1019 q1020 ds_87
theorem f_28_12 {X : gX} (hO : gO (g0 X)) : fm (g0 X) "java/lang/AbstractStringBuilder" [21, 83, 1, 303, 25, 25, 25] := co_V (n := 0) (ck_303 X) q1014 q1015 (kO1 (by decide) (isc_25 X) (q1017)) ds_19
theorem f_28_13 {X : gX} (hO : gO (g0 X)) : fm (g0 X) "java/lang/AbstractStringBuilder" [21, 100, 2, 301, 25, 25, 25] := co_V (n := 1) (ck_301 X) q1001 q1003 (kO1 (by decide) (isc_25 X) (qx0)) ds_12
theorem f_28_14 {X : gX} (hO : gO (g0 X)) : fm (g0 X) "java/lang/AbstractStringBuilder" [21, 104, 2, 302, 25, 25, 25] := co_V (n := 1) (ck_302 X) q1005 q1007 (kO1 (by decide) (isc_25 X) (qx1)) ds_18
theorem fo_28 {X : gX} (hO : gO (g0 X)) : allF (g0 X) "java/lang/AbstractStringBuilder" fc_28 := And.intro (f_28_0 hO) (And.intro (f_28_1 hO) (And.intro (f_28_2 hO) (And.intro (f_28_3 hO) (And.intro (f_28_4 hO) (And.intro (f_28_5 hO) (And.intro (f_28_6 hO) (And.intro (f_28_7 hO) (And.intro (f_28_8 hO) (And.intro (f_28_9 hO) (And.intro (f_28_10 hO) (And.intro (f_28_11 hO) (And.intro (f_28_12 hO) (And.intro (f_28_13 hO) (And.intro (f_28_14 hO) (True.intro)))))))))))))))
theorem f_29_0 {X : gX} (hO : gO (g0 X)) : fm (g0 X) "java/lang/StringBuilder" [4, 18, 27, 4] := ⟨_, _, _, cl_27 X, df_27, q1042, q410, q120⟩
theorem f_29_1 {X : gX} (hO : gO (g0 X)) : fm (g0 X) "java/lang/StringBuilder" [22, 1, 2, 299, 25, 25, 25] := co_I (n := 1) (G := fun k => (25 ≤ k ∧ k ≤ 25) ∨ k = 25) (ck_299 X) rfl q975 q973 q974 (fun k h => by omega) ds_12
theorem f_29_2 {X : gX} (hO : gO (g0 X)) : fm (g0 X) "java/lang/StringBuilder" [22, 50, 2, 300, 25, 25, 25] := co_SU (n := 1) (ck_300 X) (show ("append" : String) ≠ "<init>" by decide) q998 q2714 q993 q999 (kO1 (by decide) (isc_25 X) (True.intro)) ds_89
theorem f_29_3 {X : gX} (hO : gO (g0 X)) : fm (g0 X) "java/lang/StringBuilder" [22, 137, 2, 221, 27, 27, 27] := co_I (n := 1) (G := fun k => (27 ≤ k ∧ k ≤ 27) ∨ k = 27) (ck_221 X) rfl q1045 q1043 q1044 (fun k h => by omega) ds_90
theorem f_29_4 {X : gX} (hO : gO (g0 X)) : fm (g0 X) "java/lang/StringBuilder" [22, 343, 1, 306, 25, 25, 25] := co_SU (n := 0) (ck_306 X) (show ("length" : String) ≠ "<init>" by decide) q1060 q1056 q993 q1055 (kO1 (by decide) (isc_25 X) (True.intro)) ds_4
theorem fo_29 {X : gX} (hO : gO (g0 X)) : allF (g0 X) "java/lang/StringBuilder" fc_29 := And.intro (f_29_0 hO) (And.intro (f_29_1 hO) (And.intro (f_29_2 hO) (And.intro (f_29_3 hO) (And.intro (f_29_4 hO) (True.intro)))))
theorem f_30_0 {X : gX} (hO : gO (g0 X)) : fm (g0 X) "TrustDesk$Aim" [0, 14, 4, 2, 16, 16] := rk1 (⟨_, _, _, _, _, cl_16 X, by decide, rfl, Or.inl q1099, Or.inl rfl⟩)
theorem f_30_1 {X : gX} (hO : gO (g0 X)) : fm (g0 X) "TrustDesk$Aim" [0, 24, 1, 2, 16, 16] := rk1 (⟨_, _, _, _, _, cl_16 X, by decide, rfl, Or.inl q1092, Or.inl rfl⟩)
theorem f_30_2 {X : gX} (hO : gO (g0 X)) : fm (g0 X) "TrustDesk$Aim" [2, 14, 4, 2, 16, 16] := rk1 (⟨_, _, _, _, _, cl_16 X, by decide, Or.inl ⟨_, rfl⟩, Or.inl ⟨q1099, Or.inr ⟨rfl, rfl⟩⟩, Or.inl rfl⟩)
theorem f_30_3 {X : gX} (hO : gO (g0 X)) : fm (g0 X) "TrustDesk$Aim" [2, 20, 0, 2, 16, 16] := rk1 (⟨_, _, _, _, _, cl_16 X, by decide, Or.inl ⟨_, rfl⟩, Or.inl ⟨q1089, Or.inr ⟨rfl, rfl⟩⟩, Or.inl rfl⟩)
theorem f_30_4 {X : gX} (hO : gO (g0 X)) : fm (g0 X) "TrustDesk$Aim" [4, 9, 24, 3] := ⟨_, _, _, cl_24 X, df_24, q1087, q264, q116⟩
theorem f_30_5 {X : gX} (hO : gO (g0 X)) : fm (g0 X) "TrustDesk$Aim" [5, 48, 11, 11, 11] := ⟨_, rc1 (⟨_, isc_11 X, Or.inr ⟨rfl, 10, _, _, rfl⟩⟩), q1823⟩
theorem f_30_6 {X : gX} (hO : gO (g0 X)) : fm (g0 X) "TrustDesk$Aim" [13, 3] := q1086
theorem f_30_7 {X : gX} (hO : gO (g0 X)) : fm (g0 X) "TrustDesk$Aim" [19, 34, 2] := q1339
theorem f_30_8 {X : gX} (hO : gO (g0 X)) : fm (g0 X) "TrustDesk$Aim" [21, 40, 1, 60, 24, 24, 24] := co_V (n := 0) (ck_60 X) q1821 q198 (kO1 (by decide) (isc_24 X) (q199)) ds_4
theorem f_30_9 {X : gX} (hO : gO (g0 X)) : fm (g0 X) "TrustDesk$Aim" [21, 44, 2, 66, 24, 24, 24] := co_V (n := 1) (ck_66 X) q1822 q820 (kO1 (by decide) (isc_24 X) (q821)) ds_11
theorem f_30_10 {X : gX} (hO : gO (g0 X)) : fm (g0 X) "TrustDesk$Aim" [21, 50, 2, 284, 11, 11, 11] := co_V (n := 1) (ck_284 X) q1824 q1301 (kO1 (by decide) (isc_11 X) (q2723)) ds_24
theorem f_30_11 {X : gX} (hO : gO (g0 X)) : fm (g0 X) "TrustDesk$Aim" [22, 11, 2, 61, 24, 24, 24] := co_I (n := 1) (G := fun k => (24 ≤ k ∧ k ≤ 24) ∨ k = 24) (ck_61 X) rfl q267 q1088 q266 (fun k h => by omega) ds_12
theorem f_30_12 {X : gX} (hO : gO (g0 X)) : fm (g0 X) "TrustDesk$Aim" [23, 28, 2, 278, 9, 9] := co_VU (n := 1) (owner := "TrustDesk$Sum") (x := ⟨"TrustDesk$Sum", "of", "([J)J"⟩) (ck_278 X) q1338 q1305 (Or.inl q1304) ⟨by decide, by decide⟩ q1307 (kd1 (by decide) (isc_9 X) (q1306)) ds_84
theorem f_30_13 {X : gX} (hO : gO (g0 X)) : fm (g0 X) "TrustDesk$Aim" [23, 28, 2, 280, 8, 8] := co_VU (n := 1) (owner := "TrustDesk$Sum") (x := ⟨"TrustDesk$Sum", "of", "([J)J"⟩) (ck_280 X) q1338 q1305 (Or.inl q1304) ⟨by decide, by decide⟩ q1310 (kd1 (by decide) (isc_8 X) (q1309)) ds_84
theorem f_30_14 {X : gX} (hO : gO (g0 X)) : fm (g0 X) "TrustDesk$Aim" [23, 28, 2, 282, 10, 10] := co_VU (n := 1) (owner := "TrustDesk$Sum") (x := ⟨"TrustDesk$Sum", "of", "([J)J"⟩) (ck_282 X) q1338 q1305 (Or.inl q1304) ⟨by decide, by decide⟩ q1313 (kd1 (by decide) (isc_10 X) (q1312)) ds_84
theorem fo_30 {X : gX} (hO : gO (g0 X)) : allF (g0 X) "TrustDesk$Aim" fc_30 := And.intro (f_30_0 hO) (And.intro (f_30_1 hO) (And.intro (f_30_2 hO) (And.intro (f_30_3 hO) (And.intro (f_30_4 hO) (And.intro (f_30_5 hO) (And.intro (f_30_6 hO) (And.intro (f_30_7 hO) (And.intro (f_30_8 hO) (And.intro (f_30_9 hO) (And.intro (f_30_10 hO) (And.intro (f_30_11 hO) (And.intro (f_30_12 hO) (And.intro (f_30_13 hO) (And.intro (f_30_14 hO) (True.intro)))))))))))))))
theorem f_31_0 {X : gX} (hO : gO (g0 X)) : fm (g0 X) "TrustDesk$End" [0, 22, 2, 0, 17, 17] := rk1 (⟨_, _, _, _, _, cl_17 X, by decide, rfl, Or.inl q1139, Or.inl rfl⟩)
theorem f_31_1 {X : gX} (hO : gO (g0 X)) : fm (g0 X) "TrustDesk$End" [1, 9, 3, 0, 17, 17] := fun _ => rk1 (⟨_, _, _, _, _, cl_17 X, by decide, rfl, Or.inl ⟨q1142, Or.inl rfl⟩, Or.inl rfl⟩)
theorem f_31_2 {X : gX} (hO : gO (g0 X)) : fm (g0 X) "TrustDesk$End" [1, 15, 0, 2, 17, 17] := fun _ => rk1 (⟨_, _, _, _, _, cl_17 X, by decide, Or.inl ⟨_, rfl⟩, Or.inl ⟨q1130, Or.inl rfl⟩, Or.inl rfl⟩)
theorem f_31_3 {X : gX} (hO : gO (g0 X)) : fm (g0 X) "TrustDesk$End" [1, 19, 1, 0, 17, 17] := fun _ => rk1 (⟨_, _, _, _, _, cl_17 X, by decide, rfl, Or.inl ⟨q1134, Or.inl rfl⟩, Or.inl rfl⟩)
theorem f_31_4 {X : gX} (hO : gO (g0 X)) : fm (g0 X) "TrustDesk$End" [1, 22, 2, 0, 17, 17] := fun _ => rk1 (⟨_, _, _, _, _, cl_17 X, by decide, rfl, Or.inl ⟨q1139, Or.inl rfl⟩, Or.inl rfl⟩)
theorem f_31_5 {X : gX} (hO : gO (g0 X)) : fm (g0 X) "TrustDesk$End" [13, 3] := q1129
theorem fo_31 {X : gX} (hO : gO (g0 X)) : allF (g0 X) "TrustDesk$End" fc_31 := And.intro (f_31_0 hO) (And.intro (f_31_1 hO) (And.intro (f_31_2 hO) (And.intro (f_31_3 hO) (And.intro (f_31_4 hO) (And.intro (f_31_5 hO) (True.intro))))))
theorem f_32_0 {X : gX} (hO : gO (g0 X)) : fm (g0 X) "TrustDesk$Near" [2, 7, 0, 2, 18, 18] := rk1 (⟨_, _, _, _, _, cl_18 X, by decide, Or.inl ⟨_, rfl⟩, Or.inl ⟨q1230, Or.inr ⟨rfl, rfl⟩⟩, Or.inl rfl⟩)
theorem f_32_1 {X : gX} (hO : gO (g0 X)) : fm (g0 X) "TrustDesk$Near" [2, 13, 1, 0, 18, 18] := rk1 (⟨_, _, _, _, _, cl_18 X, by decide, rfl, Or.inl ⟨q1232, Or.inr ⟨rfl, rfl⟩⟩, Or.inl rfl⟩)
theorem f_32_2 {X : gX} (hO : gO (g0 X)) : fm (g0 X) "TrustDesk$Near" [13, 1] := q1229
theorem fo_32 {X : gX} (hO : gO (g0 X)) : allF (g0 X) "TrustDesk$Near" fc_32 := And.intro (f_32_0 hO) (And.intro (f_32_1 hO) (And.intro (f_32_2 hO) (True.intro)))
theorem f_33_0 {X : gX} (hO : gO (g0 X)) : fm (g0 X) "java/lang/Number" [13, 1] := q1380
theorem fo_33 {X : gX} (hO : gO (g0 X)) : allF (g0 X) "java/lang/Number" fc_33 := And.intro (f_33_0 hO) (True.intro)
theorem f_34_0 {X : gX} (hO : gO (g0 X)) : fm (g0 X) "java/lang/Integer" [2, 205, 0, 0, 26, 26] := rk1 (⟨_, _, _, _, _, cl_26 X, by decide, rfl, Or.inl ⟨q1381, Or.inr ⟨rfl, rfl⟩⟩, Or.inl rfl⟩)
theorem f_34_1 {X : gX} (hO : gO (g0 X)) : fm (g0 X) "java/lang/Integer" [3, 205, 0, 0, 26, 30] := ⟨⟨_, _, _, _, _, cl_26 X, by decide, rfl, Or.inl q1381, Or.inl rfl⟩, _, _, _, _, hO.f300, q1381, Or.inl rfl⟩
theorem f_34_2 {X : gX} (hO : gO (g0 X)) : fm (g0 X) "java/lang/Integer" [4, 1, 26, 1] := ⟨_, _, _, cl_26 X, df_26, q1372, q1373, q150⟩
theorem f_34_3 {X : gX} (hO : gO (g0 X)) : fm (g0 X) "java/lang/Integer" [5, 1, 26, 26, 30] := ⟨_, rc2 (⟨_, isc_26 X, Or.inr ⟨rfl, 25, _, _, rfl⟩⟩) (⟨_, hO.i30, Or.inr ⟨rfl, 25, _, _, rfl⟩⟩), q1372⟩
theorem f_34_4 {X : gX} (hO : gO (g0 X)) : fm (g0 X) "java/lang/Integer" [7, 265, 1431655765, 0] := ⟨_, q1294, ⟨by decide, by decide⟩, by decide⟩
theorem f_34_5 {X : gX} (hO : gO (g0 X)) : fm (g0 X) "java/lang/Integer" [7, 266, 858993459, 0] := ⟨_, q1295, ⟨by decide, by decide⟩, by decide⟩
theorem f_34_6 {X : gX} (hO : gO (g0 X)) : fm (g0 X) "java/lang/Integer" [7, 267, 252645135, 0] := ⟨_, q1296, ⟨by decide, by decide⟩, by decide⟩
theorem f_34_7 {X : gX} (hO : gO (g0 X)) : fm (g0 X) "java/lang/Integer" [11, 195, 2] := ⟨_, _, _, _, hO.z2, q1370, Or.inl rfl⟩
theorem f_34_8 {X : gX} (hO : gO (g0 X)) : fm (g0 X) "java/lang/Integer" [12, 191, 127] := ⟨_, _, _, _, by decide, hO.ihigh, q1368, Or.inl rfl⟩
theorem f_34_9 {X : gX} (hO : gO (g0 X)) : fm (g0 X) "java/lang/Integer" [21, 211, 1, 323, 26, 26, 30] := co_V (n := 0) (ck_323 X) q1426 q1427 (kO2 (by decide) (by decide) (isc_26 X) (q1428) (hO.i30) (q1428)) ds_4
theorem f_34_10 {X : gX} (hO : gO (g0 X)) : fm (g0 X) "java/lang/Integer" [22, 199, 2, 321, 26, 26, 26] := co_I (n := 1) (G := fun k => (26 ≤ k ∧ k ≤ 26) ∨ k = 26) (ck_321 X) rfl q1376 q1374 q1375 (fun k h => by omega) ds_12
theorem f_34_11 {X : gX} (hO : gO (g0 X)) : fm (g0 X) "java/lang/Integer" [22, 202, 1, 318, 26, 26, 26] := co_I (n := 0) (G := fun k => (26 ≤ k ∧ k ≤ 26) ∨ k = 26) (ck_318 X) rfl q1379 q1377 q1378 (fun k h => by omega) ds_13
theorem fo_34 {X : gX} (hO : gO (g0 X)) : allF (g0 X) "java/lang/Integer" fc_34 := And.intro (f_34_0 hO) (And.intro (f_34_1 hO) (And.intro (f_34_2 hO) (And.intro (f_34_3 hO) (And.intro (f_34_4 hO) (And.intro (f_34_5 hO) (And.intro (f_34_6 hO) (And.intro (f_34_7 hO) (And.intro (f_34_8 hO) (And.intro (f_34_9 hO) (And.intro (f_34_10 hO) (And.intro (f_34_11 hO) (True.intro))))))))))))
theorem f_35_0 {X : gX} (hO : gO (g0 X)) : fm (g0 X) "TrustDesk$Scheme" [0, 3, 9, 2, 19, 22] := rk4 (⟨_, _, _, _, _, cl_19 X, by decide, rfl, Or.inl q1481, Or.inl rfl⟩) (⟨_, _, _, _, _, cl_20 X, by decide, rfl, Or.inl q1481, Or.inl rfl⟩) (⟨_, _, _, _, _, cl_21 X, by decide, rfl, Or.inl q1481, Or.inl rfl⟩) (⟨_, _, _, _, _, cl_22 X, by decide, rfl, Or.inl q1481, Or.inl rfl⟩)
theorem f_35_1 {X : gX} (hO : gO (g0 X)) : fm (g0 X) "TrustDesk$Scheme" [0, 20, 4, 2, 19, 22] := rk4 (⟨_, _, _, _, _, cl_19 X, by decide, rfl, Or.inl q1474, Or.inl rfl⟩) (⟨_, _, _, _, _, cl_20 X, by decide, rfl, Or.inl q1474, Or.inl rfl⟩) (⟨_, _, _, _, _, cl_21 X, by decide, rfl, Or.inl q1474, Or.inl rfl⟩) (⟨_, _, _, _, _, cl_22 X, by decide, rfl, Or.inl q1474, Or.inl rfl⟩)
theorem f_35_2 {X : gX} (hO : gO (g0 X)) : fm (g0 X) "TrustDesk$Scheme" [0, 24, 5, 2, 19, 22] := rk4 (⟨_, _, _, _, _, cl_19 X, by decide, rfl, Or.inl q1476, Or.inl rfl⟩) (⟨_, _, _, _, _, cl_20 X, by decide, rfl, Or.inl q1476, Or.inl rfl⟩) (⟨_, _, _, _, _, cl_21 X, by decide, rfl, Or.inl q1476, Or.inl rfl⟩) (⟨_, _, _, _, _, cl_22 X, by decide, rfl, Or.inl q1476, Or.inl rfl⟩)
theorem f_35_3 {X : gX} (hO : gO (g0 X)) : fm (g0 X) "TrustDesk$Scheme" [0, 27, 0, 2, 19, 22] := rk4 (⟨_, _, _, _, _, cl_19 X, by decide, rfl, Or.inl q1455, Or.inl rfl⟩) (⟨_, _, _, _, _, cl_20 X, by decide, rfl, Or.inl q1455, Or.inl rfl⟩) (⟨_, _, _, _, _, cl_21 X, by decide, rfl, Or.inl q1455, Or.inl rfl⟩) (⟨_, _, _, _, _, cl_22 X, by decide, rfl, Or.inl q1455, Or.inl rfl⟩)
theorem f_35_4 {X : gX} (hO : gO (g0 X)) : fm (g0 X) "TrustDesk$Scheme" [0, 31, 1, 0, 19, 22] := rk4 (⟨_, _, _, _, _, cl_19 X, by decide, rfl, Or.inl q1464, Or.inl rfl⟩) (⟨_, _, _, _, _, cl_20 X, by decide, rfl, Or.inl q1464, Or.inl rfl⟩) (⟨_, _, _, _, _, cl_21 X, by decide, rfl, Or.inl q1464, Or.inl rfl⟩) (⟨_, _, _, _, _, cl_22 X, by decide, rfl, Or.inl q1464, Or.inl rfl⟩)
theorem f_35_5 {X : gX} (hO : gO (g0 X)) : fm (g0 X) "TrustDesk$Scheme" [0, 35, 5, 0, 1, 1] := rk1 (⟨_, _, _, _, _, cl_1 X, by decide, rfl, Or.inr ⟨_, q845⟩, Or.inl rfl⟩)
theorem f_35_6 {X : gX} (hO : gO (g0 X)) : fm (g0 X) "TrustDesk$Scheme" [0, 38, 2, 0, 19, 22] := rk4 (⟨_, _, _, _, _, cl_19 X, by decide, rfl, Or.inl q1471, Or.inl rfl⟩) (⟨_, _, _, _, _, cl_20 X, by decide, rfl, Or.inl q1471, Or.inl rfl⟩) (⟨_, _, _, _, _, cl_21 X, by decide, rfl, Or.inl q1471, Or.inl rfl⟩) (⟨_, _, _, _, _, cl_22 X, by decide, rfl, Or.inl q1471, Or.inl rfl⟩)
theorem f_35_7 {X : gX} (hO : gO (g0 X)) : fm (g0 X) "TrustDesk$Scheme" [0, 45, 1, 2, 3, 3] := rk1 (⟨_, _, _, _, _, cl_3 X, by decide, rfl, Or.inr ⟨_, q294⟩, Or.inl rfl⟩)
theorem f_35_8 {X : gX} (hO : gO (g0 X)) : fm (g0 X) "TrustDesk$Scheme" [0, 51, 3, 0, 19, 22] := rk4 (⟨_, _, _, _, _, cl_19 X, by decide, rfl, Or.inl q1472, Or.inl rfl⟩) (⟨_, _, _, _, _, cl_20 X, by decide, rfl, Or.inl q1472, Or.inl rfl⟩) (⟨_, _, _, _, _, cl_21 X, by decide, rfl, Or.inl q1472, Or.inl rfl⟩) (⟨_, _, _, _, _, cl_22 X, by decide, rfl, Or.inl q1472, Or.inl rfl⟩)
theorem f_35_9 {X : gX} (hO : gO (g0 X)) : fm (g0 X) "TrustDesk$Scheme" [0, 64, 2, 0, 14, 14] := rk1 (⟨_, _, _, _, _, cl_14 X, by decide, rfl, Or.inr ⟨_, q1163⟩, Or.inl rfl⟩)
theorem f_35_10 {X : gX} (hO : gO (g0 X)) : fm (g0 X) "TrustDesk$Scheme" [0, 71, 6, 0, 19, 22] := rk4 (⟨_, _, _, _, _, cl_19 X, by decide, rfl, Or.inl q1477, Or.inl rfl⟩) (⟨_, _, _, _, _, cl_20 X, by decide, rfl, Or.inl q1477, Or.inl rfl⟩) (⟨_, _, _, _, _, cl_21 X, by decide, rfl, Or.inl q1477, Or.inl rfl⟩) (⟨_, _, _, _, _, cl_22 X, by decide, rfl, Or.inl q1477, Or.inl rfl⟩)
theorem f_35_11 {X : gX} (hO : gO (g0 X)) : fm (g0 X) "TrustDesk$Scheme" [0, 124, 8, 0, 19, 22] := rk4 (⟨_, _, _, _, _, cl_19 X, by decide, rfl, Or.inl q1480, Or.inl rfl⟩) (⟨_, _, _, _, _, cl_20 X, by decide, rfl, Or.inl q1480, Or.inl rfl⟩) (⟨_, _, _, _, _, cl_21 X, by decide, rfl, Or.inl q1480, Or.inl rfl⟩) (⟨_, _, _, _, _, cl_22 X, by decide, rfl, Or.inl q1480, Or.inl rfl⟩)
theorem f_35_12 {X : gX} (hO : gO (g0 X)) : fm (g0 X) "TrustDesk$Scheme" [0, 127, 7, 0, 19, 22] := rk4 (⟨_, _, _, _, _, cl_19 X, by decide, rfl, Or.inl q1478, Or.inl rfl⟩) (⟨_, _, _, _, _, cl_20 X, by decide, rfl, Or.inl q1478, Or.inl rfl⟩) (⟨_, _, _, _, _, cl_21 X, by decide, rfl, Or.inl q1478, Or.inl rfl⟩) (⟨_, _, _, _, _, cl_22 X, by decide, rfl, Or.inl q1478, Or.inl rfl⟩)
theorem f_35_13 {X : gX} (hO : gO (g0 X)) : fm (g0 X) "TrustDesk$Scheme" [0, 133, 0, 0, 14, 14] := rk1 (⟨_, _, _, _, _, cl_14 X, by decide, rfl, Or.inr ⟨_, q1157⟩, Or.inl rfl⟩)
theorem f_35_14 {X : gX} (hO : gO (g0 X)) : fm (g0 X) "TrustDesk$Scheme" [1, 71, 6, 0, 19, 22] := fun _ => rk4 (⟨_, _, _, _, _, cl_19 X, by decide, rfl, Or.inl ⟨q1477, Or.inl rfl⟩, Or.inl rfl⟩) (⟨_, _, _, _, _, cl_20 X, by decide, rfl, Or.inl ⟨q1477, Or.inl rfl⟩, Or.inl rfl⟩) (⟨_, _, _, _, _, cl_21 X, by decide, rfl, Or.inl ⟨q1477, Or.inl rfl⟩, Or.inl rfl⟩) (⟨_, _, _, _, _, cl_22 X, by decide, rfl, Or.inl ⟨q1477, Or.inl rfl⟩, Or.inl rfl⟩)
theorem f_35_15 {X : gX} (hO : gO (g0 X)) : fm (g0 X) "TrustDesk$Scheme" [1, 124, 8, 0, 19, 22] := fun _ => rk4 (⟨_, _, _, _, _, cl_19 X, by decide, rfl, Or.inl ⟨q1480, Or.inl rfl⟩, Or.inl rfl⟩) (⟨_, _, _, _, _, cl_20 X, by decide, rfl, Or.inl ⟨q1480, Or.inl rfl⟩, Or.inl rfl⟩) (⟨_, _, _, _, _, cl_21 X, by decide, rfl, Or.inl ⟨q1480, Or.inl rfl⟩, Or.inl rfl⟩) (⟨_, _, _, _, _, cl_22 X, by decide, rfl, Or.inl ⟨q1480, Or.inl rfl⟩, Or.inl rfl⟩)
theorem f_35_16 {X : gX} (hO : gO (g0 X)) : fm (g0 X) "TrustDesk$Scheme" [1, 127, 7, 0, 19, 22] := fun _ => rk4 (⟨_, _, _, _, _, cl_19 X, by decide, rfl, Or.inl ⟨q1478, Or.inl rfl⟩, Or.inl rfl⟩) (⟨_, _, _, _, _, cl_20 X, by decide, rfl, Or.inl ⟨q1478, Or.inl rfl⟩, Or.inl rfl⟩) (⟨_, _, _, _, _, cl_21 X, by decide, rfl, Or.inl ⟨q1478, Or.inl rfl⟩, Or.inl rfl⟩) (⟨_, _, _, _, _, cl_22 X, by decide, rfl, Or.inl ⟨q1478, Or.inl rfl⟩, Or.inl rfl⟩)
theorem f_35_17 {X : gX} (hO : gO (g0 X)) : fm (g0 X) "TrustDesk$Scheme" [2, 3, 9, 2, 19, 22] := rk4 (⟨_, _, _, _, _, cl_19 X, by decide, Or.inl ⟨_, rfl⟩, Or.inl ⟨q1481, Or.inr ⟨rfl, rfl⟩⟩, Or.inl rfl⟩) (⟨_, _, _, _, _, cl_20 X, by decide, Or.inl ⟨_, rfl⟩, Or.inl ⟨q1481, Or.inr ⟨rfl, rfl⟩⟩, Or.inl rfl⟩) (⟨_, _, _, _, _, cl_21 X, by decide, Or.inl ⟨_, rfl⟩, Or.inl ⟨q1481, Or.inr ⟨rfl, rfl⟩⟩, Or.inl rfl⟩) (⟨_, _, _, _, _, cl_22 X, by decide, Or.inl ⟨_, rfl⟩, Or.inl ⟨q1481, Or.inr ⟨rfl, rfl⟩⟩, Or.inl rfl⟩)
theorem f_35_18 {X : gX} (hO : gO (g0 X)) : fm (g0 X) "TrustDesk$Scheme" [2, 20, 4, 2, 19, 22] := rk4 (⟨_, _, _, _, _, cl_19 X, by decide, Or.inl ⟨_, rfl⟩, Or.inl ⟨q1474, Or.inr ⟨rfl, rfl⟩⟩, Or.inl rfl⟩) (⟨_, _, _, _, _, cl_20 X, by decide, Or.inl ⟨_, rfl⟩, Or.inl ⟨q1474, Or.inr ⟨rfl, rfl⟩⟩, Or.inl rfl⟩) (⟨_, _, _, _, _, cl_21 X, by decide, Or.inl ⟨_, rfl⟩, Or.inl ⟨q1474, Or.inr ⟨rfl, rfl⟩⟩, Or.inl rfl⟩) (⟨_, _, _, _, _, cl_22 X, by decide, Or.inl ⟨_, rfl⟩, Or.inl ⟨q1474, Or.inr ⟨rfl, rfl⟩⟩, Or.inl rfl⟩)
theorem f_35_19 {X : gX} (hO : gO (g0 X)) : fm (g0 X) "TrustDesk$Scheme" [2, 24, 5, 2, 19, 22] := rk4 (⟨_, _, _, _, _, cl_19 X, by decide, Or.inl ⟨_, rfl⟩, Or.inl ⟨q1476, Or.inr ⟨rfl, rfl⟩⟩, Or.inl rfl⟩) (⟨_, _, _, _, _, cl_20 X, by decide, Or.inl ⟨_, rfl⟩, Or.inl ⟨q1476, Or.inr ⟨rfl, rfl⟩⟩, Or.inl rfl⟩) (⟨_, _, _, _, _, cl_21 X, by decide, Or.inl ⟨_, rfl⟩, Or.inl ⟨q1476, Or.inr ⟨rfl, rfl⟩⟩, Or.inl rfl⟩) (⟨_, _, _, _, _, cl_22 X, by decide, Or.inl ⟨_, rfl⟩, Or.inl ⟨q1476, Or.inr ⟨rfl, rfl⟩⟩, Or.inl rfl⟩)
theorem f_35_20 {X : gX} (hO : gO (g0 X)) : fm (g0 X) "TrustDesk$Scheme" [2, 27, 0, 2, 19, 22] := rk4 (⟨_, _, _, _, _, cl_19 X, by decide, Or.inl ⟨_, rfl⟩, Or.inl ⟨q1455, Or.inr ⟨rfl, rfl⟩⟩, Or.inl rfl⟩) (⟨_, _, _, _, _, cl_20 X, by decide, Or.inl ⟨_, rfl⟩, Or.inl ⟨q1455, Or.inr ⟨rfl, rfl⟩⟩, Or.inl rfl⟩) (⟨_, _, _, _, _, cl_21 X, by decide, Or.inl ⟨_, rfl⟩, Or.inl ⟨q1455, Or.inr ⟨rfl, rfl⟩⟩, Or.inl rfl⟩) (⟨_, _, _, _, _, cl_22 X, by decide, Or.inl ⟨_, rfl⟩, Or.inl ⟨q1455, Or.inr ⟨rfl, rfl⟩⟩, Or.inl rfl⟩)
theorem f_35_21 {X : gX} (hO : gO (g0 X)) : fm (g0 X) "TrustDesk$Scheme" [2, 31, 1, 0, 19, 22] := rk4 (⟨_, _, _, _, _, cl_19 X, by decide, rfl, Or.inl ⟨q1464, Or.inr ⟨rfl, rfl⟩⟩, Or.inl rfl⟩) (⟨_, _, _, _, _, cl_20 X, by decide, rfl, Or.inl ⟨q1464, Or.inr ⟨rfl, rfl⟩⟩, Or.inl rfl⟩) (⟨_, _, _, _, _, cl_21 X, by decide, rfl, Or.inl ⟨q1464, Or.inr ⟨rfl, rfl⟩⟩, Or.inl rfl⟩) (⟨_, _, _, _, _, cl_22 X, by decide, rfl, Or.inl ⟨q1464, Or.inr ⟨rfl, rfl⟩⟩, Or.inl rfl⟩)
theorem f_35_22 {X : gX} (hO : gO (g0 X)) : fm (g0 X) "TrustDesk$Scheme" [2, 38, 2, 0, 19, 22] := rk4 (⟨_, _, _, _, _, cl_19 X, by decide, rfl, Or.inl ⟨q1471, Or.inr ⟨rfl, rfl⟩⟩, Or.inl rfl⟩) (⟨_, _, _, _, _, cl_20 X, by decide, rfl, Or.inl ⟨q1471, Or.inr ⟨rfl, rfl⟩⟩, Or.inl rfl⟩) (⟨_, _, _, _, _, cl_21 X, by decide, rfl, Or.inl ⟨q1471, Or.inr ⟨rfl, rfl⟩⟩, Or.inl rfl⟩) (⟨_, _, _, _, _, cl_22 X, by decide, rfl, Or.inl ⟨q1471, Or.inr ⟨rfl, rfl⟩⟩, Or.inl rfl⟩)
theorem f_35_23 {X : gX} (hO : gO (g0 X)) : fm (g0 X) "TrustDesk$Scheme" [2, 51, 3, 0, 19, 22] := rk4 (⟨_, _, _, _, _, cl_19 X, by decide, rfl, Or.inl ⟨q1472, Or.inr ⟨rfl, rfl⟩⟩, Or.inl rfl⟩) (⟨_, _, _, _, _, cl_20 X, by decide, rfl, Or.inl ⟨q1472, Or.inr ⟨rfl, rfl⟩⟩, Or.inl rfl⟩) (⟨_, _, _, _, _, cl_21 X, by decide, rfl, Or.inl ⟨q1472, Or.inr ⟨rfl, rfl⟩⟩, Or.inl rfl⟩) (⟨_, _, _, _, _, cl_22 X, by decide, rfl, Or.inl ⟨q1472, Or.inr ⟨rfl, rfl⟩⟩, Or.inl rfl⟩)
theorem f_35_24 {X : gX} (hO : gO (g0 X)) : fm (g0 X) "TrustDesk$Scheme" [4, 15, 24, 3] := ⟨_, _, _, cl_24 X, df_24, q1451, q264, q116⟩
theorem f_35_25 {X : gX} (hO : gO (g0 X)) : fm (g0 X) "TrustDesk$Scheme" [5, 76, 26, 26, 30] := ⟨_, rc2 (⟨_, isc_26 X, Or.inr ⟨rfl, 25, _, _, rfl⟩⟩) (⟨_, hO.i30, Or.inr ⟨rfl, 25, _, _, rfl⟩⟩), q1717⟩
theorem f_35_26 {X : gX} (hO : gO (g0 X)) : fm (g0 X) "TrustDesk$Scheme" [13, 9] := q1450
theorem f_35_27 {X : gX} (hO : gO (g0 X)) : fm (g0 X) "TrustDesk$Scheme" [20, 81, 1, 320] := co_S (ck_320 X) q1619 q1366 ds_29
theorem f_35_28 {X : gX} (hO : gO (g0 X)) : fm (g0 X) "TrustDesk$Scheme" [20, 114, 1, 319] := co_S (ck_319 X) q1702 q1292 ds_18
theorem f_35_29 {X : gX} (hO : gO (g0 X)) : fm (g0 X) "TrustDesk$Scheme" [21, 41, 2, 13, 1, 1, 1] := co_VN (n := 1) (ck_13 X) q1453 q817 (kO1 (by decide) (isc_1 X) (qs24)) ds_10
theorem f_35_30 {X : gX} (hO : gO (g0 X)) : fm (g0 X) "TrustDesk$Scheme" [21, 54, 2, 294, 14, 14, 14] := co_V (n := 1) (ck_294 X) q1610 q1362 (kO1 (by decide) (isc_14 X) (q1363)) ds_2
theorem f_35_31 {X : gX} (hO : gO (g0 X)) : fm (g0 X) "TrustDesk$Scheme" [21, 60, 2, 329, 19, 22, 19] := co_V (n := 1) (ck_329 X) q1723 q1714 (kR4 (by decide) (isc_19 X) (q2720) (isc_20 X) (q2719) (isc_21 X) (q2721) (isc_22 X) (q2722)) ds_92
theorem f_35_32 {X : gX} (hO : gO (g0 X)) : fm (g0 X) "TrustDesk$Scheme" [21, 67, 1, 60, 24, 24, 24] := co_V (n := 0) (ck_60 X) q1621 q198 (kO1 (by decide) (isc_24 X) (q199)) ds_4
theorem f_35_33 {X : gX} (hO : gO (g0 X)) : fm (g0 X) "TrustDesk$Scheme" [21, 72, 2, 66, 24, 24, 24] := co_V (n := 1) (ck_66 X) q1716 q820 (kO1 (by decide) (isc_24 X) (q821)) ds_11
theorem f_35_34 {X : gX} (hO : gO (g0 X)) : fm (g0 X) "TrustDesk$Scheme" [21, 78, 1, 323, 26, 26, 30] := co_V (n := 0) (ck_323 X) q1718 q1427 (kO2 (by decide) (by decide) (isc_26 X) (q1428) (hO.i30) (q1428)) ds_4
theorem f_35_35 {X : gX} (hO : gO (g0 X)) : fm (g0 X) "TrustDesk$Scheme" [21, 85, 2, 69, 24, 24, 24] := co_V (n := 1) (ck_69 X) q1620 q1390 (kO1 (by decide) (isc_24 X) (q1391)) ds_33
theorem f_35_36 {X : gX} (hO : gO (g0 X)) : fm (g0 X) "TrustDesk$Scheme" [21, 89, 2, 62, 24, 24, 24] := co_V (n := 1) (ck_62 X) q1622 q709 (kO1 (by decide) (isc_24 X) (q710)) ds_7
theorem f_35_37 {X : gX} (hO : gO (g0 X)) : fm (g0 X) "TrustDesk$Scheme" [21, 100, 1, 19, 1, 1, 1] := co_VN (n := 0) (ck_19 X) q1678 q1250 (kO1 (by decide) (isc_1 X) (qs26)) ds_4
theorem f_35_38 {X : gX} (hO : gO (g0 X)) : fm (g0 X) "TrustDesk$Scheme" [21, 103, 4, 24, 1, 1, 1] := co_VN (n := 3) (ck_24 X) q1679 q1283 (kO1 (by decide) (isc_1 X) (qs30)) ds_23
theorem f_35_39 {X : gX} (hO : gO (g0 X)) : fm (g0 X) "TrustDesk$Scheme" [21, 107, 3, 76, 3, 3, 3] := co_V (n := 2) (ck_76 X) q1680 q1681 (kO1 (by decide) (isc_3 X) (q1682)) ds_91
theorem f_35_40 {X : gX} (hO : gO (g0 X)) : fm (g0 X) "TrustDesk$Scheme" [21, 121, 1, 73, 24, 24, 24] := co_V (n := 0) (ck_73 X) q1724 q1725 (kO1 (by decide) (isc_24 X) (q1726)) ds_19
theorem f_35_41 {X : gX} (hO : gO (g0 X)) : fm (g0 X) "TrustDesk$Scheme" [22, 17, 2, 61, 24, 24, 24] := co_I (n := 1) (G := fun k => (24 ≤ k ∧ k ≤ 24) ∨ k = 24) (ck_61 X) rfl q267 q1452 q266 (fun k h => by omega) ds_12
theorem f_35_42 {X : gX} (hO : gO (g0 X)) : fm (g0 X) "TrustDesk$Scheme" [23, 93, 1, 333, 19, 19] := co_VU (n := 0) (owner := "TrustDesk$Scheme") (x := ⟨"TrustDesk$Scheme", "canBe", "()Z"⟩) (ck_333 X) q1635 q1637 (Or.inl q1636) ⟨by decide, by decide⟩ q1645 (kd1 (by decide) (isc_19 X) (q1644)) ds_19
theorem f_35_43 {X : gX} (hO : gO (g0 X)) : fm (g0 X) "TrustDesk$Scheme" [23, 93, 1, 339, 20, 20] := co_VU (n := 0) (owner := "TrustDesk$Scheme") (x := ⟨"TrustDesk$Scheme", "canBe", "()Z"⟩) (ck_339 X) q1635 q1637 (Or.inl q1636) ⟨by decide, by decide⟩ q1639 (kd1 (by decide) (isc_20 X) (q1638)) ds_19
theorem f_35_44 {X : gX} (hO : gO (g0 X)) : fm (g0 X) "TrustDesk$Scheme" [23, 93, 1, 346, 21, 21] := co_VU (n := 0) (owner := "TrustDesk$Scheme") (x := ⟨"TrustDesk$Scheme", "canBe", "()Z"⟩) (ck_346 X) q1635 q1637 (Or.inl q1636) ⟨by decide, by decide⟩ q1653 (kd1 (by decide) (isc_21 X) (q1652)) ds_19
theorem f_35_45 {X : gX} (hO : gO (g0 X)) : fm (g0 X) "TrustDesk$Scheme" [23, 93, 1, 350, 22, 22] := co_VU (n := 0) (owner := "TrustDesk$Scheme") (x := ⟨"TrustDesk$Scheme", "canBe", "()Z"⟩) (ck_350 X) q1635 q1637 (Or.inl q1636) ⟨by decide, by decide⟩ q1657 (kd1 (by decide) (isc_22 X) (q1656)) ds_19
theorem f_35_46 {X : gX} (hO : gO (g0 X)) : fm (g0 X) "TrustDesk$Scheme" [23, 97, 1, 334, 19, 19] := co_VU (n := 0) (owner := "TrustDesk$Scheme") (x := ⟨"TrustDesk$Scheme", "kind", "()I"⟩) (ck_334 X) q1663 q1665 (Or.inl q1664) ⟨by decide, by decide⟩ q1670 (kd1 (by decide) (isc_19 X) (q1669)) ds_4
theorem f_35_47 {X : gX} (hO : gO (g0 X)) : fm (g0 X) "TrustDesk$Scheme" [23, 97, 1, 340, 20, 20] := co_VU (n := 0) (owner := "TrustDesk$Scheme") (x := ⟨"TrustDesk$Scheme", "kind", "()I"⟩) (ck_340 X) q1663 q1665 (Or.inl q1664) ⟨by decide, by decide⟩ q1667 (kd1 (by decide) (isc_20 X) (q1666)) ds_4
theorem f_35_48 {X : gX} (hO : gO (g0 X)) : fm (g0 X) "TrustDesk$Scheme" [23, 97, 1, 347, 21, 21] := co_VU (n := 0) (owner := "TrustDesk$Scheme") (x := ⟨"TrustDesk$Scheme", "kind", "()I"⟩) (ck_347 X) q1663 q1665 (Or.inl q1664) ⟨by decide, by decide⟩ q1673 (kd1 (by decide) (isc_21 X) (q1672)) ds_4
theorem f_35_49 {X : gX} (hO : gO (g0 X)) : fm (g0 X) "TrustDesk$Scheme" [23, 97, 1, 351, 22, 22] := co_VU (n := 0) (owner := "TrustDesk$Scheme") (x := ⟨"TrustDesk$Scheme", "kind", "()I"⟩) (ck_351 X) q1663 q1665 (Or.inl q1664) ⟨by decide, by decide⟩ q1676 (kd1 (by decide) (isc_22 X) (q1675)) ds_4
theorem f_35_50 {X : gX} (hO : gO (g0 X)) : fm (g0 X) "TrustDesk$Scheme" [23, 111, 1, 328, 21, 21] := co_V (n := 0) (ck_328 X) q1688 q1689 (kd1 (by decide) (isc_21 X) (q1699)) ds_4
theorem f_35_51 {X : gX} (hO : gO (g0 X)) : fm (g0 X) "TrustDesk$Scheme" [23, 111, 1, 328, 22, 22] := co_V (n := 0) (ck_328 X) q1688 q1689 (kd1 (by decide) (isc_22 X) (q1700)) ds_4
theorem f_35_52 {X : gX} (hO : gO (g0 X)) : fm (g0 X) "TrustDesk$Scheme" [23, 111, 1, 335, 19, 19] := co_VU (n := 0) (owner := "TrustDesk$Scheme") (x := ⟨"TrustDesk$Scheme", "marksLeft", "()I"⟩) (ck_335 X) q1688 q1690 (Or.inr ⟨q1689, _, _, _, q1701⟩) ⟨by decide, by decide⟩ q1695 (kd1 (by decide) (isc_19 X) (q1694)) ds_4
theorem f_35_53 {X : gX} (hO : gO (g0 X)) : fm (g0 X) "TrustDesk$Scheme" [23, 111, 1, 341, 20, 20] := co_VU (n := 0) (owner := "TrustDesk$Scheme") (x := ⟨"TrustDesk$Scheme", "marksLeft", "()I"⟩) (ck_341 X) q1688 q1690 (Or.inr ⟨q1689, _, _, _, q1701⟩) ⟨by decide, by decide⟩ q1692 (kd1 (by decide) (isc_20 X) (q1691)) ds_4
theorem f_35_54 {X : gX} (hO : gO (g0 X)) : fm (g0 X) "TrustDesk$Scheme" [23, 118, 1, 330, 19, 19] := co_V (n := 0) (ck_330 X) q1703 q1704 (kd1 (by decide) (isc_19 X) (q1719)) ds_19
theorem f_35_55 {X : gX} (hO : gO (g0 X)) : fm (g0 X) "TrustDesk$Scheme" [23, 118, 1, 330, 21, 21] := co_V (n := 0) (ck_330 X) q1703 q1704 (kd1 (by decide) (isc_21 X) (q1720)) ds_19
theorem f_35_56 {X : gX} (hO : gO (g0 X)) : fm (g0 X) "TrustDesk$Scheme" [23, 118, 1, 330, 22, 22] := co_V (n := 0) (ck_330 X) q1703 q1704 (kd1 (by decide) (isc_22 X) (q1721)) ds_19
theorem f_35_57 {X : gX} (hO : gO (g0 X)) : fm (g0 X) "TrustDesk$Scheme" [23, 118, 1, 342, 20, 20] := co_VU (n := 0) (owner := "TrustDesk$Scheme") (x := ⟨"TrustDesk$Scheme", "isWilled", "()Z"⟩) (ck_342 X) q1703 q1705 (Or.inr ⟨q1704, _, _, _, q1722⟩) ⟨by decide, by decide⟩ q1707 (kd1 (by decide) (isc_20 X) (q1706)) ds_19
theorem f_35_58 {X : gX} (hO : gO (g0 X)) : fm (g0 X) "TrustDesk$Scheme" [23, 130, 1, 336, 19, 19] := co_VU (n := 0) (owner := "TrustDesk$Scheme") (x := ⟨"TrustDesk$Scheme", "make", "()V"⟩) (ck_336 X) q1728 q1730 (Or.inl q1729) ⟨by decide, by decide⟩ q1755 (kd1 (by decide) (isc_19 X) (q1754)) ds_13
theorem f_35_59 {X : gX} (hO : gO (g0 X)) : fm (g0 X) "TrustDesk$Scheme" [23, 130, 1, 343, 20, 20] := co_VU (n := 0) (owner := "TrustDesk$Scheme") (x := ⟨"TrustDesk$Scheme", "make", "()V"⟩) (ck_343 X) q1728 q1730 (Or.inl q1729) ⟨by decide, by decide⟩ q1732 (kd1 (by decide) (isc_20 X) (q1731)) ds_13
theorem f_35_60 {X : gX} (hO : gO (g0 X)) : fm (g0 X) "TrustDesk$Scheme" [23, 130, 1, 348, 21, 21] := co_VU (n := 0) (owner := "TrustDesk$Scheme") (x := ⟨"TrustDesk$Scheme", "make", "()V"⟩) (ck_348 X) q1728 q1730 (Or.inl q1729) ⟨by decide, by decide⟩ q1762 (kd1 (by decide) (isc_21 X) (q1761)) ds_13
theorem f_35_61 {X : gX} (hO : gO (g0 X)) : fm (g0 X) "TrustDesk$Scheme" [23, 130, 1, 352, 22, 22] := co_VU (n := 0) (owner := "TrustDesk$Scheme") (x := ⟨"TrustDesk$Scheme", "make", "()V"⟩) (ck_352 X) q1728 q1730 (Or.inl q1729) ⟨by decide, by decide⟩ q1769 (kd1 (by decide) (isc_22 X) (q1768)) ds_13
theorem fo_35 {X : gX} (hO : gO (g0 X)) : allF (g0 X) "TrustDesk$Scheme" fc_35 := And.intro (f_35_0 hO) (And.intro (f_35_1 hO) (And.intro (f_35_2 hO) (And.intro (f_35_3 hO) (And.intro (f_35_4 hO) (And.intro (f_35_5 hO) (And.intro (f_35_6 hO) (And.intro (f_35_7 hO) (And.intro (f_35_8 hO) (And.intro (f_35_9 hO) (And.intro (f_35_10 hO) (And.intro (f_35_11 hO) (And.intro (f_35_12 hO) (And.intro (f_35_13 hO) (And.intro (f_35_14 hO) (And.intro (f_35_15 hO) (And.intro (f_35_16 hO) (And.intro (f_35_17 hO) (And.intro (f_35_18 hO) (And.intro (f_35_19 hO) (And.intro (f_35_20 hO) (And.intro (f_35_21 hO) (And.intro (f_35_22 hO) (And.intro (f_35_23 hO) (And.intro (f_35_24 hO) (And.intro (f_35_25 hO) (And.intro (f_35_26 hO) (And.intro (f_35_27 hO) (And.intro (f_35_28 hO) (And.intro (f_35_29 hO) (And.intro (f_35_30 hO) (And.intro (f_35_31 hO) (And.intro (f_35_32 hO) (And.intro (f_35_33 hO) (And.intro (f_35_34 hO) (And.intro (f_35_35 hO) (And.intro (f_35_36 hO) (And.intro (f_35_37 hO) (And.intro (f_35_38 hO) (And.intro (f_35_39 hO) (And.intro (f_35_40 hO) (And.intro (f_35_41 hO) (And.intro (f_35_42 hO) (And.intro (f_35_43 hO) (And.intro (f_35_44 hO) (And.intro (f_35_45 hO) (And.intro (f_35_46 hO) (And.intro (f_35_47 hO) (And.intro (f_35_48 hO) (And.intro (f_35_49 hO) (And.intro (f_35_50 hO) (And.intro (f_35_51 hO) (And.intro (f_35_52 hO) (And.intro (f_35_53 hO) (And.intro (f_35_54 hO) (And.intro (f_35_55 hO) (And.intro (f_35_56 hO) (And.intro (f_35_57 hO) (And.intro (f_35_58 hO) (And.intro (f_35_59 hO) (And.intro (f_35_60 hO) (And.intro (f_35_61 hO) (True.intro))))))))))))))))))))))))))))))))))))))))))))))))))))))))))))))
theorem f_36_0 {X : gX} (hO : gO (g0 X)) : fm (g0 X) "TrustDesk$Nearer" [0, 1, 10, 2, 19, 19] := rk1 (⟨_, _, _, _, _, cl_19 X, by decide, rfl, Or.inl q1454, Or.inl rfl⟩)
theorem f_36_1 {X : gX} (hO : gO (g0 X)) : fm (g0 X) "TrustDesk$Nearer" [0, 13, 0, 2, 19, 19] := rk1 (⟨_, _, _, _, _, cl_19 X, by decide, rfl, Or.inl q1458, Or.inr q1459⟩)
theorem f_36_2 {X : gX} (hO : gO (g0 X)) : fm (g0 X) "TrustDesk$Nearer" [0, 27, 8, 0, 14, 14] := rk1 (⟨_, _, _, _, _, cl_14 X, by decide, rfl, Or.inr ⟨_, q1182⟩, Or.inl rfl⟩)
theorem f_36_3 {X : gX} (hO : gO (g0 X)) : fm (g0 X) "TrustDesk$Nearer" [0, 31, 12, 2, 1, 1] := rk1 (⟨_, _, _, _, _, cl_1 X, by decide, rfl, Or.inr ⟨_, q858⟩, Or.inl rfl⟩)
theorem f_36_4 {X : gX} (hO : gO (g0 X)) : fm (g0 X) "TrustDesk$Nearer" [0, 37, 1, 0, 19, 19] := rk1 (⟨_, _, _, _, _, cl_19 X, by decide, rfl, Or.inl q1469, Or.inr q1470⟩)
theorem f_36_5 {X : gX} (hO : gO (g0 X)) : fm (g0 X) "TrustDesk$Nearer" [0, 48, 1, 0, 18, 18] := rk1 (⟨_, _, _, _, _, cl_18 X, by decide, rfl, Or.inr ⟨_, q1233⟩, Or.inl rfl⟩)
theorem f_36_6 {X : gX} (hO : gO (g0 X)) : fm (g0 X) "TrustDesk$Nearer" [0, 49, 0, 2, 18, 18] := rk1 (⟨_, _, _, _, _, cl_18 X, by decide, rfl, Or.inr ⟨_, q1231⟩, Or.inl rfl⟩)
theorem f_36_7 {X : gX} (hO : gO (g0 X)) : fm (g0 X) "TrustDesk$Nearer" [1, 27, 8, 0, 14, 14] := fun _ => rk1 (⟨_, _, _, _, _, cl_14 X, by decide, rfl, Or.inr ⟨_, q1182, rfl⟩, Or.inl rfl⟩)
theorem f_36_8 {X : gX} (hO : gO (g0 X)) : fm (g0 X) "TrustDesk$Nearer" [2, 1, 10, 2, 19, 19] := rk1 (⟨_, _, _, _, _, cl_19 X, by decide, Or.inl ⟨_, rfl⟩, Or.inl ⟨q1454, Or.inr ⟨rfl, rfl⟩⟩, Or.inl rfl⟩)
theorem f_36_9 {X : gX} (hO : gO (g0 X)) : fm (g0 X) "TrustDesk$Nearer" [5, 46, 18, 18, 18] := ⟨_, rc1 (⟨_, isc_18 X, Or.inr ⟨rfl, 17, _, _, rfl⟩⟩), q1698⟩
theorem f_36_10 {X : gX} (hO : gO (g0 X)) : fm (g0 X) "TrustDesk$Nearer" [21, 17, 1, 291, 14, 14, 14] := co_V (n := 0) (ck_291 X) q1647 q1260 (kO1 (by decide) (isc_14 X) (q1261)) ds_19
theorem f_36_11 {X : gX} (hO : gO (g0 X)) : fm (g0 X) "TrustDesk$Nearer" [21, 23, 1, 295, 14, 14, 14] := co_V (n := 0) (ck_295 X) q1648 q1649 (kO1 (by decide) (isc_14 X) (q1650)) ds_93
theorem f_36_12 {X : gX} (hO : gO (g0 X)) : fm (g0 X) "TrustDesk$Nearer" [21, 40, 2, 66, 24, 24, 24] := co_V (n := 1) (ck_66 X) q1697 q820 (kO1 (by decide) (isc_24 X) (q821)) ds_11
theorem f_36_13 {X : gX} (hO : gO (g0 X)) : fm (g0 X) "TrustDesk$Nearer" [21, 53, 2, 316, 17, 17, 17] := co_V (n := 1) (ck_316 X) q1757 q1758 (kO1 (by decide) (isc_17 X) (q1759)) ds_86
theorem f_36_14 {X : gX} (hO : gO (g0 X)) : fm (g0 X) "TrustDesk$Nearer" [22, 7, 4, 324, 19, 22, 19] := co_I (n := 3) (G := fun k => (19 ≤ k ∧ k ≤ 22) ∨ k = 19) (ck_324 X) rfl q1449 q1447 q1448 (fun k h => by omega) ds_31
theorem fo_36 {X : gX} (hO : gO (g0 X)) : allF (g0 X) "TrustDesk$Nearer" fc_36 := And.intro (f_36_0 hO) (And.intro (f_36_1 hO) (And.intro (f_36_2 hO) (And.intro (f_36_3 hO) (And.intro (f_36_4 hO) (And.intro (f_36_5 hO) (And.intro (f_36_6 hO) (And.intro (f_36_7 hO) (And.intro (f_36_8 hO) (And.intro (f_36_9 hO) (And.intro (f_36_10 hO) (And.intro (f_36_11 hO) (And.intro (f_36_12 hO) (And.intro (f_36_13 hO) (And.intro (f_36_14 hO) (True.intro)))))))))))))))
theorem f_37_0 {X : gX} (hO : gO (g0 X)) : fm (g0 X) "TrustDesk$Join" [0, 3, 11, 2, 20, 20] := rk1 (⟨_, _, _, _, _, cl_20 X, by decide, rfl, Or.inl q1514, Or.inl rfl⟩)
theorem f_37_1 {X : gX} (hO : gO (g0 X)) : fm (g0 X) "TrustDesk$Join" [0, 15, 11, 2, 1, 1] := rk1 (⟨_, _, _, _, _, cl_1 X, by decide, rfl, Or.inr ⟨_, q855⟩, Or.inl rfl⟩)
theorem f_37_2 {X : gX} (hO : gO (g0 X)) : fm (g0 X) "TrustDesk$Join" [0, 27, 10, 2, 20, 20] := rk1 (⟨_, _, _, _, _, cl_20 X, by decide, rfl, Or.inl q1513, Or.inl rfl⟩)
theorem f_37_3 {X : gX} (hO : gO (g0 X)) : fm (g0 X) "TrustDesk$Join" [0, 31, 0, 2, 20, 20] := rk1 (⟨_, _, _, _, _, cl_20 X, by decide, rfl, Or.inl q1456, Or.inr q1457⟩)
theorem f_37_4 {X : gX} (hO : gO (g0 X)) : fm (g0 X) "TrustDesk$Join" [0, 38, 3, 2, 14, 14] := rk1 (⟨_, _, _, _, _, cl_14 X, by decide, rfl, Or.inr ⟨_, q1168⟩, Or.inl rfl⟩)
theorem f_37_5 {X : gX} (hO : gO (g0 X)) : fm (g0 X) "TrustDesk$Join" [0, 49, 8, 0, 14, 14] := rk1 (⟨_, _, _, _, _, cl_14 X, by decide, rfl, Or.inr ⟨_, q1181⟩, Or.inl rfl⟩)
theorem f_37_6 {X : gX} (hO : gO (g0 X)) : fm (g0 X) "TrustDesk$Join" [0, 67, 2, 0, 14, 14] := rk1 (⟨_, _, _, _, _, cl_14 X, by decide, rfl, Or.inr ⟨_, q1162⟩, Or.inl rfl⟩)
theorem f_37_7 {X : gX} (hO : gO (g0 X)) : fm (g0 X) "TrustDesk$Join" [0, 72, 10, 1, 14, 14] := rk1 (⟨_, _, _, _, _, cl_14 X, by decide, rfl, Or.inr ⟨_, q1187⟩, Or.inl rfl⟩)
theorem f_37_8 {X : gX} (hO : gO (g0 X)) : fm (g0 X) "TrustDesk$Join" [0, 81, 5, 0, 1, 1] := rk1 (⟨_, _, _, _, _, cl_1 X, by decide, rfl, Or.inr ⟨_, q849⟩, Or.inl rfl⟩)
theorem f_37_9 {X : gX} (hO : gO (g0 X)) : fm (g0 X) "TrustDesk$Join" [2, 3, 11, 2, 20, 20] := rk1 (⟨_, _, _, _, _, cl_20 X, by decide, Or.inl ⟨_, rfl⟩, Or.inl ⟨q1514, Or.inr ⟨rfl, rfl⟩⟩, Or.inl rfl⟩)
theorem f_37_10 {X : gX} (hO : gO (g0 X)) : fm (g0 X) "TrustDesk$Join" [2, 27, 10, 2, 20, 20] := rk1 (⟨_, _, _, _, _, cl_20 X, by decide, Or.inl ⟨_, rfl⟩, Or.inl ⟨q1513, Or.inr ⟨rfl, rfl⟩⟩, Or.inl rfl⟩)
theorem f_37_11 {X : gX} (hO : gO (g0 X)) : fm (g0 X) "TrustDesk$Join" [5, 25, 14, 14, 14] := ⟨_, rc1 (⟨_, isc_14 X, Or.inr ⟨rfl, 13, _, _, rfl⟩⟩), q1512⟩
theorem f_37_12 {X : gX} (hO : gO (g0 X)) : fm (g0 X) "TrustDesk$Join" [8, 70, 1000000000000, 0] := ⟨_, q1738, ⟨by decide, by decide⟩, by decide⟩
theorem f_37_13 {X : gX} (hO : gO (g0 X)) : fm (g0 X) "TrustDesk$Join" [8, 76, 20, 0] := ⟨_, q1739, ⟨by decide, by decide⟩, by decide⟩
theorem f_37_14 {X : gX} (hO : gO (g0 X)) : fm (g0 X) "TrustDesk$Join" [19, 88, 3] := q1742
theorem f_37_15 {X : gX} (hO : gO (g0 X)) : fm (g0 X) "TrustDesk$Join" [21, 19, 2, 66, 24, 24, 24] := co_V (n := 1) (ck_66 X) q1511 q820 (kO1 (by decide) (isc_24 X) (q821)) ds_11
theorem f_37_16 {X : gX} (hO : gO (g0 X)) : fm (g0 X) "TrustDesk$Join" [21, 34, 1, 291, 14, 14, 14] := co_V (n := 0) (ck_291 X) q1641 q1260 (kO1 (by decide) (isc_14 X) (q1261)) ds_19
theorem f_37_17 {X : gX} (hO : gO (g0 X)) : fm (g0 X) "TrustDesk$Join" [21, 41, 1, 60, 24, 24, 24] := co_V (n := 0) (ck_60 X) q1642 q198 (kO1 (by decide) (isc_24 X) (q199)) ds_4
theorem f_37_18 {X : gX} (hO : gO (g0 X)) : fm (g0 X) "TrustDesk$Join" [21, 45, 2, 293, 14, 14, 14] := co_V (n := 1) (ck_293 X) q1643 q1288 (kO1 (by decide) (isc_14 X) (q1289)) ds_18
theorem f_37_19 {X : gX} (hO : gO (g0 X)) : fm (g0 X) "TrustDesk$Join" [21, 57, 2, 294, 14, 14, 14] := co_V (n := 1) (ck_294 X) q1605 q1362 (kO1 (by decide) (isc_14 X) (q1363)) ds_2
theorem f_37_20 {X : gX} (hO : gO (g0 X)) : fm (g0 X) "TrustDesk$Join" [21, 63, 2, 329, 20, 20, 20] := co_VU (n := 1) (owner := "TrustDesk$Scheme") (x := ⟨"TrustDesk$Join", "yesOf", "(LTrustDesk$Fund;)I"⟩) (ck_329 X) q1710 q1711 (Or.inl q1712) ⟨by decide, by decide⟩ q1714 (kO1 (by decide) (isc_20 X) (q1713)) ds_92
theorem f_37_21 {X : gX} (hO : gO (g0 X)) : fm (g0 X) "TrustDesk$Join" [21, 78, 1, 19, 1, 1, 1] := co_VN (n := 0) (ck_19 X) q1740 q1250 (kO1 (by decide) (isc_1 X) (qs26)) ds_4
theorem f_37_22 {X : gX} (hO : gO (g0 X)) : fm (g0 X) "TrustDesk$Join" [21, 84, 4, 22, 1, 1, 1] := co_VN (n := 3) (ck_22 X) q1741 q1274 (kO1 (by decide) (isc_1 X) (qs28)) ds_21
theorem f_37_23 {X : gX} (hO : gO (g0 X)) : fm (g0 X) "TrustDesk$Join" [21, 94, 2, 344, 20, 20, 20] := co_V (n := 1) (ck_344 X) q1734 q1736 (kO1 (by decide) (isc_20 X) (qs37)) ds_94
theorem f_37_24 {X : gX} (hO : gO (g0 X)) : fm (g0 X) "TrustDesk$Join" [21, 98, 4, 296, 14, 14, 14] := co_V (n := 3) (ck_296 X) q1743 q1744 (kO1 (by decide) (isc_14 X) (q1745)) ds_95
theorem f_37_25 {X : gX} (hO : gO (g0 X)) : fm (g0 X) "TrustDesk$Join" [22, 9, 4, 324, 19, 22, 19] := co_I (n := 3) (G := fun k => (19 ≤ k ∧ k ≤ 22) ∨ k = 19) (ck_324 X) rfl q1449 q1510 q1448 (fun k h => by omega) ds_31
theorem f_37_26 {X : gX} (hO : gO (g0 X)) : fm (g0 X) "TrustDesk$Join" [22, 53, 2, 325, 19, 22, 19] := co_SU (n := 1) (ck_325 X) (show ("mayVote" : String) ≠ "<init>" by decide) q1604 q1600 q1529 q1599 (kR4 (by decide) (isc_19 X) (True.intro) (isc_20 X) (True.intro) (isc_21 X) (True.intro) (isc_22 X) (True.intro)) ds_2
theorem f_37_27 {X : gX} (hO : gO (g0 X)) : fm (g0 X) "TrustDesk$Join" [22, 60, 1, 330, 19, 22, 19] := co_SU (n := 0) (ck_330 X) (show ("isWilled" : String) ≠ "<init>" by decide) q1709 q1705 q1529 q1704 (kR4 (by decide) (isc_19 X) (True.intro) (isc_20 X) (True.intro) (isc_21 X) (True.intro) (isc_22 X) (True.intro)) ds_19
theorem fo_37 {X : gX} (hO : gO (g0 X)) : allF (g0 X) "TrustDesk$Join" fc_37 := And.intro (f_37_0 hO) (And.intro (f_37_1 hO) (And.intro (f_37_2 hO) (And.intro (f_37_3 hO) (And.intro (f_37_4 hO) (And.intro (f_37_5 hO) (And.intro (f_37_6 hO) (And.intro (f_37_7 hO) (And.intro (f_37_8 hO) (And.intro (f_37_9 hO) (And.intro (f_37_10 hO) (And.intro (f_37_11 hO) (And.intro (f_37_12 hO) (And.intro (f_37_13 hO) (And.intro (f_37_14 hO) (And.intro (f_37_15 hO) (And.intro (f_37_16 hO) (And.intro (f_37_17 hO) (And.intro (f_37_18 hO) (And.intro (f_37_19 hO) (And.intro (f_37_20 hO) (And.intro (f_37_21 hO) (And.intro (f_37_22 hO) (And.intro (f_37_23 hO) (And.intro (f_37_24 hO) (And.intro (f_37_25 hO) (And.intro (f_37_26 hO) (And.intro (f_37_27 hO) (True.intro))))))))))))))))))))))))))))
theorem f_38_0 {X : gX} (hO : gO (g0 X)) : fm (g0 X) "TrustDesk$Sale" [0, 3, 10, 2, 21, 21] := rk1 (⟨_, _, _, _, _, cl_21 X, by decide, rfl, Or.inl q1536, Or.inl rfl⟩)
theorem f_38_1 {X : gX} (hO : gO (g0 X)) : fm (g0 X) "TrustDesk$Sale" [0, 15, 0, 2, 21, 21] := rk1 (⟨_, _, _, _, _, cl_21 X, by decide, rfl, Or.inl q1460, Or.inr q1461⟩)
theorem f_38_2 {X : gX} (hO : gO (g0 X)) : fm (g0 X) "TrustDesk$Sale" [0, 25, 6, 0, 14, 14] := rk1 (⟨_, _, _, _, _, cl_14 X, by decide, rfl, Or.inr ⟨_, q1175⟩, Or.inl rfl⟩)
theorem f_38_3 {X : gX} (hO : gO (g0 X)) : fm (g0 X) "TrustDesk$Sale" [0, 29, 1, 0, 21, 21] := rk1 (⟨_, _, _, _, _, cl_21 X, by decide, rfl, Or.inl q1467, Or.inr q1468⟩)
theorem f_38_4 {X : gX} (hO : gO (g0 X)) : fm (g0 X) "TrustDesk$Sale" [0, 36, 5, 0, 1, 1] := rk1 (⟨_, _, _, _, _, cl_1 X, by decide, rfl, Or.inr ⟨_, q848⟩, Or.inl rfl⟩)
theorem f_38_5 {X : gX} (hO : gO (g0 X)) : fm (g0 X) "TrustDesk$Sale" [0, 47, 1, 2, 3, 3] := rk1 (⟨_, _, _, _, _, cl_3 X, by decide, rfl, Or.inr ⟨_, q296⟩, Or.inl rfl⟩)
theorem f_38_6 {X : gX} (hO : gO (g0 X)) : fm (g0 X) "TrustDesk$Sale" [1, 25, 6, 0, 14, 14] := fun _ => rk1 (⟨_, _, _, _, _, cl_14 X, by decide, rfl, Or.inr ⟨_, q1175, rfl⟩, Or.inl rfl⟩)
theorem f_38_7 {X : gX} (hO : gO (g0 X)) : fm (g0 X) "TrustDesk$Sale" [2, 3, 10, 2, 21, 21] := rk1 (⟨_, _, _, _, _, cl_21 X, by decide, Or.inl ⟨_, rfl⟩, Or.inl ⟨q1536, Or.inr ⟨rfl, rfl⟩⟩, Or.inl rfl⟩)
theorem f_38_8 {X : gX} (hO : gO (g0 X)) : fm (g0 X) "TrustDesk$Sale" [21, 19, 1, 291, 14, 14, 14] := co_V (n := 0) (ck_291 X) q1655 q1260 (kO1 (by decide) (isc_14 X) (q1261)) ds_19
theorem f_38_9 {X : gX} (hO : gO (g0 X)) : fm (g0 X) "TrustDesk$Sale" [21, 32, 1, 19, 1, 1, 1] := co_VN (n := 0) (ck_19 X) q1764 q1250 (kO1 (by decide) (isc_1 X) (qs26)) ds_4
theorem f_38_10 {X : gX} (hO : gO (g0 X)) : fm (g0 X) "TrustDesk$Sale" [21, 39, 4, 6, 1, 1, 1] := co_VN (n := 3) (ck_6 X) q1765 q181 (kO1 (by decide) (isc_1 X) (qs1)) ds_3
theorem f_38_11 {X : gX} (hO : gO (g0 X)) : fm (g0 X) "TrustDesk$Sale" [21, 43, 2, 13, 1, 1, 1] := co_VN (n := 1) (ck_13 X) q1766 q817 (kO1 (by decide) (isc_1 X) (qs24)) ds_10
theorem f_38_12 {X : gX} (hO : gO (g0 X)) : fm (g0 X) "TrustDesk$Sale" [21, 53, 2, 292, 14, 14, 14] := co_V (n := 1) (ck_292 X) q1767 q1265 (kO1 (by decide) (isc_14 X) (q1266)) ds_20
theorem f_38_13 {X : gX} (hO : gO (g0 X)) : fm (g0 X) "TrustDesk$Sale" [22, 9, 4, 324, 19, 22, 19] := co_I (n := 3) (G := fun k => (19 ≤ k ∧ k ≤ 22) ∨ k = 19) (ck_324 X) rfl q1449 q1535 q1448 (fun k h => by omega) ds_31
theorem fo_38 {X : gX} (hO : gO (g0 X)) : allF (g0 X) "TrustDesk$Sale" fc_38 := And.intro (f_38_0 hO) (And.intro (f_38_1 hO) (And.intro (f_38_2 hO) (And.intro (f_38_3 hO) (And.intro (f_38_4 hO) (And.intro (f_38_5 hO) (And.intro (f_38_6 hO) (And.intro (f_38_7 hO) (And.intro (f_38_8 hO) (And.intro (f_38_9 hO) (And.intro (f_38_10 hO) (And.intro (f_38_11 hO) (And.intro (f_38_12 hO) (And.intro (f_38_13 hO) (True.intro))))))))))))))
theorem f_39_0 {X : gX} (hO : gO (g0 X)) : fm (g0 X) "TrustDesk$Strike" [0, 15, 0, 2, 22, 22] := rk1 (⟨_, _, _, _, _, cl_22 X, by decide, rfl, Or.inl q1462, Or.inr q1463⟩)
theorem f_39_1 {X : gX} (hO : gO (g0 X)) : fm (g0 X) "TrustDesk$Strike" [0, 25, 1, 0, 22, 22] := rk1 (⟨_, _, _, _, _, cl_22 X, by decide, rfl, Or.inl q1465, Or.inr q1466⟩)
theorem f_39_2 {X : gX} (hO : gO (g0 X)) : fm (g0 X) "TrustDesk$Strike" [0, 29, 3, 2, 14, 14] := rk1 (⟨_, _, _, _, _, cl_14 X, by decide, rfl, Or.inr ⟨_, q1167⟩, Or.inl rfl⟩)
theorem f_39_3 {X : gX} (hO : gO (g0 X)) : fm (g0 X) "TrustDesk$Strike" [0, 45, 1, 0, 17, 17] := rk1 (⟨_, _, _, _, _, cl_17 X, by decide, rfl, Or.inr ⟨_, q1136⟩, Or.inl rfl⟩)
theorem f_39_4 {X : gX} (hO : gO (g0 X)) : fm (g0 X) "TrustDesk$Strike" [1, 45, 1, 0, 17, 17] := fun _ => rk1 (⟨_, _, _, _, _, cl_17 X, by decide, rfl, Or.inr ⟨_, q1136, rfl⟩, Or.inl rfl⟩)
theorem f_39_5 {X : gX} (hO : gO (g0 X)) : fm (g0 X) "TrustDesk$Strike" [2, 3, 10, 2, 22, 22] := rk1 (⟨_, _, _, _, _, cl_22 X, by decide, Or.inl ⟨_, rfl⟩, Or.inl ⟨q1556, Or.inr ⟨rfl, rfl⟩⟩, Or.inl rfl⟩)
theorem f_39_6 {X : gX} (hO : gO (g0 X)) : fm (g0 X) "TrustDesk$Strike" [5, 43, 17, 17, 17] := ⟨_, rc1 (⟨_, isc_17 X, Or.inr ⟨rfl, 16, _, _, rfl⟩⟩), q1662⟩
theorem f_39_7 {X : gX} (hO : gO (g0 X)) : fm (g0 X) "TrustDesk$Strike" [21, 19, 1, 291, 14, 14, 14] := co_V (n := 0) (ck_291 X) q1659 q1260 (kO1 (by decide) (isc_14 X) (q1261)) ds_19
theorem f_39_8 {X : gX} (hO : gO (g0 X)) : fm (g0 X) "TrustDesk$Strike" [21, 33, 1, 60, 24, 24, 24] := co_V (n := 0) (ck_60 X) q1660 q198 (kO1 (by decide) (isc_24 X) (q199)) ds_4
theorem f_39_9 {X : gX} (hO : gO (g0 X)) : fm (g0 X) "TrustDesk$Strike" [21, 39, 2, 66, 24, 24, 24] := co_V (n := 1) (ck_66 X) q1661 q820 (kO1 (by decide) (isc_24 X) (q821)) ds_11
theorem f_39_10 {X : gX} (hO : gO (g0 X)) : fm (g0 X) "TrustDesk$Strike" [22, 9, 4, 324, 19, 22, 19] := co_I (n := 3) (G := fun k => (19 ≤ k ∧ k ≤ 22) ∨ k = 19) (ck_324 X) rfl q1449 q1555 q1448 (fun k h => by omega) ds_31
theorem fo_39 {X : gX} (hO : gO (g0 X)) : allF (g0 X) "TrustDesk$Strike" fc_39 := And.intro (f_39_0 hO) (And.intro (f_39_1 hO) (And.intro (f_39_2 hO) (And.intro (f_39_3 hO) (And.intro (f_39_4 hO) (And.intro (f_39_5 hO) (And.intro (f_39_6 hO) (And.intro (f_39_7 hO) (And.intro (f_39_8 hO) (And.intro (f_39_9 hO) (And.intro (f_39_10 hO) (True.intro)))))))))))
theorem f_40_0 {X : gX} (hO : gO (g0 X)) : fm (g0 X) "TrustDesk$Groups" [0, 3, 11, 2, 23, 23] := rk1 (⟨_, _, _, _, _, cl_23 X, by decide, rfl, Or.inl q1882, Or.inl rfl⟩)
theorem f_40_1 {X : gX} (hO : gO (g0 X)) : fm (g0 X) "TrustDesk$Groups" [0, 17, 0, 2, 23, 23] := rk1 (⟨_, _, _, _, _, cl_23 X, by decide, rfl, Or.inl q1870, Or.inl rfl⟩)
theorem f_40_2 {X : gX} (hO : gO (g0 X)) : fm (g0 X) "TrustDesk$Groups" [0, 21, 1, 2, 23, 23] := rk1 (⟨_, _, _, _, _, cl_23 X, by decide, rfl, Or.inl q1871, Or.inl rfl⟩)
theorem f_40_3 {X : gX} (hO : gO (g0 X)) : fm (g0 X) "TrustDesk$Groups" [0, 25, 2, 2, 23, 23] := rk1 (⟨_, _, _, _, _, cl_23 X, by decide, rfl, Or.inl q1872, Or.inl rfl⟩)
theorem f_40_4 {X : gX} (hO : gO (g0 X)) : fm (g0 X) "TrustDesk$Groups" [0, 28, 3, 2, 23, 23] := rk1 (⟨_, _, _, _, _, cl_23 X, by decide, rfl, Or.inl q1873, Or.inl rfl⟩)
theorem f_40_5 {X : gX} (hO : gO (g0 X)) : fm (g0 X) "TrustDesk$Groups" [0, 32, 4, 2, 23, 23] := rk1 (⟨_, _, _, _, _, cl_23 X, by decide, rfl, Or.inl q1874, Or.inl rfl⟩)
theorem f_40_6 {X : gX} (hO : gO (g0 X)) : fm (g0 X) "TrustDesk$Groups" [0, 35, 5, 2, 23, 23] := rk1 (⟨_, _, _, _, _, cl_23 X, by decide, rfl, Or.inl q1875, Or.inl rfl⟩)
theorem f_40_7 {X : gX} (hO : gO (g0 X)) : fm (g0 X) "TrustDesk$Groups" [0, 38, 6, 2, 23, 23] := rk1 (⟨_, _, _, _, _, cl_23 X, by decide, rfl, Or.inl q1876, Or.inl rfl⟩)
theorem f_40_8 {X : gX} (hO : gO (g0 X)) : fm (g0 X) "TrustDesk$Groups" [0, 41, 5, 0, 1, 1] := rk1 (⟨_, _, _, _, _, cl_1 X, by decide, rfl, Or.inr ⟨_, q846⟩, Or.inl rfl⟩)
theorem f_40_9 {X : gX} (hO : gO (g0 X)) : fm (g0 X) "TrustDesk$Groups" [0, 49, 1, 2, 3, 3] := rk1 (⟨_, _, _, _, _, cl_3 X, by decide, rfl, Or.inr ⟨_, q295⟩, Or.inl rfl⟩)
theorem f_40_10 {X : gX} (hO : gO (g0 X)) : fm (g0 X) "TrustDesk$Groups" [0, 54, 7, 0, 23, 23] := rk1 (⟨_, _, _, _, _, cl_23 X, by decide, rfl, Or.inl q1877, Or.inl rfl⟩)
theorem f_40_11 {X : gX} (hO : gO (g0 X)) : fm (g0 X) "TrustDesk$Groups" [0, 59, 10, 1, 23, 23] := rk1 (⟨_, _, _, _, _, cl_23 X, by decide, rfl, Or.inl q1880, Or.inl rfl⟩)
theorem f_40_12 {X : gX} (hO : gO (g0 X)) : fm (g0 X) "TrustDesk$Groups" [0, 63, 11, 2, 1, 1] := rk1 (⟨_, _, _, _, _, cl_1 X, by decide, rfl, Or.inr ⟨_, q856⟩, Or.inl rfl⟩)
theorem f_40_13 {X : gX} (hO : gO (g0 X)) : fm (g0 X) "TrustDesk$Groups" [0, 73, 8, 0, 23, 23] := rk1 (⟨_, _, _, _, _, cl_23 X, by decide, rfl, Or.inl q1878, Or.inl rfl⟩)
theorem f_40_14 {X : gX} (hO : gO (g0 X)) : fm (g0 X) "TrustDesk$Groups" [0, 94, 3, 2, 14, 14] := rk1 (⟨_, _, _, _, _, cl_14 X, by decide, rfl, Or.inr ⟨_, q1166⟩, Or.inl rfl⟩)
theorem f_40_15 {X : gX} (hO : gO (g0 X)) : fm (g0 X) "TrustDesk$Groups" [0, 99, 1, 0, 17, 17] := rk1 (⟨_, _, _, _, _, cl_17 X, by decide, rfl, Or.inr ⟨_, q1135⟩, Or.inl rfl⟩)
theorem f_40_16 {X : gX} (hO : gO (g0 X)) : fm (g0 X) "TrustDesk$Groups" [0, 102, 0, 2, 17, 17] := rk1 (⟨_, _, _, _, _, cl_17 X, by decide, rfl, Or.inr ⟨_, q1131⟩, Or.inl rfl⟩)
theorem f_40_17 {X : gX} (hO : gO (g0 X)) : fm (g0 X) "TrustDesk$Groups" [0, 106, 2, 2, 16, 16] := rk1 (⟨_, _, _, _, _, cl_16 X, by decide, rfl, Or.inr ⟨_, q1094⟩, Or.inl rfl⟩)
theorem f_40_18 {X : gX} (hO : gO (g0 X)) : fm (g0 X) "TrustDesk$Groups" [0, 121, 8, 0, 14, 14] := rk1 (⟨_, _, _, _, _, cl_14 X, by decide, rfl, Or.inr ⟨_, q1180⟩, Or.inl rfl⟩)
theorem f_40_19 {X : gX} (hO : gO (g0 X)) : fm (g0 X) "TrustDesk$Groups" [0, 154, 9, 0, 23, 23] := rk1 (⟨_, _, _, _, _, cl_23 X, by decide, rfl, Or.inl q1879, Or.inl rfl⟩)
theorem f_40_20 {X : gX} (hO : gO (g0 X)) : fm (g0 X) "TrustDesk$Groups" [0, 166, 9, 0, 14, 14] := rk1 (⟨_, _, _, _, _, cl_14 X, by decide, rfl, Or.inr ⟨_, q1184⟩, Or.inl rfl⟩)
theorem f_40_21 {X : gX} (hO : gO (g0 X)) : fm (g0 X) "TrustDesk$Groups" [0, 171, 0, 0, 14, 14] := rk1 (⟨_, _, _, _, _, cl_14 X, by decide, rfl, Or.inr ⟨_, q1156⟩, Or.inl rfl⟩)
theorem f_40_22 {X : gX} (hO : gO (g0 X)) : fm (g0 X) "TrustDesk$Groups" [1, 59, 10, 1, 23, 23] := fun _ => rk1 (⟨_, _, _, _, _, cl_23 X, by decide, rfl, Or.inl ⟨q1880, Or.inl rfl⟩, Or.inl rfl⟩)
theorem f_40_23 {X : gX} (hO : gO (g0 X)) : fm (g0 X) "TrustDesk$Groups" [1, 73, 8, 0, 23, 23] := fun _ => rk1 (⟨_, _, _, _, _, cl_23 X, by decide, rfl, Or.inl ⟨q1878, Or.inl rfl⟩, Or.inl rfl⟩)
theorem f_40_24 {X : gX} (hO : gO (g0 X)) : fm (g0 X) "TrustDesk$Groups" [1, 154, 9, 0, 23, 23] := fun _ => rk1 (⟨_, _, _, _, _, cl_23 X, by decide, rfl, Or.inl ⟨q1879, Or.inl rfl⟩, Or.inl rfl⟩)
theorem f_40_25 {X : gX} (hO : gO (g0 X)) : fm (g0 X) "TrustDesk$Groups" [2, 3, 11, 2, 23, 23] := rk1 (⟨_, _, _, _, _, cl_23 X, by decide, Or.inl ⟨_, rfl⟩, Or.inl ⟨q1882, Or.inr ⟨rfl, rfl⟩⟩, Or.inl rfl⟩)
theorem f_40_26 {X : gX} (hO : gO (g0 X)) : fm (g0 X) "TrustDesk$Groups" [2, 17, 0, 2, 23, 23] := rk1 (⟨_, _, _, _, _, cl_23 X, by decide, Or.inr ⟨_, rfl⟩, Or.inl ⟨q1870, Or.inr ⟨rfl, rfl⟩⟩, Or.inl rfl⟩)
theorem f_40_27 {X : gX} (hO : gO (g0 X)) : fm (g0 X) "TrustDesk$Groups" [2, 21, 1, 2, 23, 23] := rk1 (⟨_, _, _, _, _, cl_23 X, by decide, Or.inr ⟨_, rfl⟩, Or.inl ⟨q1871, Or.inr ⟨rfl, rfl⟩⟩, Or.inl rfl⟩)
theorem f_40_28 {X : gX} (hO : gO (g0 X)) : fm (g0 X) "TrustDesk$Groups" [2, 25, 2, 2, 23, 23] := rk1 (⟨_, _, _, _, _, cl_23 X, by decide, Or.inr ⟨_, rfl⟩, Or.inl ⟨q1872, Or.inr ⟨rfl, rfl⟩⟩, Or.inl rfl⟩)
theorem f_40_29 {X : gX} (hO : gO (g0 X)) : fm (g0 X) "TrustDesk$Groups" [2, 28, 3, 2, 23, 23] := rk1 (⟨_, _, _, _, _, cl_23 X, by decide, Or.inr ⟨_, rfl⟩, Or.inl ⟨q1873, Or.inr ⟨rfl, rfl⟩⟩, Or.inl rfl⟩)
theorem f_40_30 {X : gX} (hO : gO (g0 X)) : fm (g0 X) "TrustDesk$Groups" [2, 32, 4, 2, 23, 23] := rk1 (⟨_, _, _, _, _, cl_23 X, by decide, Or.inr ⟨_, rfl⟩, Or.inl ⟨q1874, Or.inr ⟨rfl, rfl⟩⟩, Or.inl rfl⟩)
theorem f_40_31 {X : gX} (hO : gO (g0 X)) : fm (g0 X) "TrustDesk$Groups" [2, 35, 5, 2, 23, 23] := rk1 (⟨_, _, _, _, _, cl_23 X, by decide, Or.inr ⟨_, rfl⟩, Or.inl ⟨q1875, Or.inr ⟨rfl, rfl⟩⟩, Or.inl rfl⟩)
theorem f_40_32 {X : gX} (hO : gO (g0 X)) : fm (g0 X) "TrustDesk$Groups" [2, 38, 6, 2, 23, 23] := rk1 (⟨_, _, _, _, _, cl_23 X, by decide, Or.inr ⟨_, rfl⟩, Or.inl ⟨q1876, Or.inr ⟨rfl, rfl⟩⟩, Or.inl rfl⟩)
theorem f_40_33 {X : gX} (hO : gO (g0 X)) : fm (g0 X) "TrustDesk$Groups" [2, 54, 7, 0, 23, 23] := rk1 (⟨_, _, _, _, _, cl_23 X, by decide, rfl, Or.inl ⟨q1877, Or.inr ⟨rfl, rfl⟩⟩, Or.inl rfl⟩)
theorem f_40_34 {X : gX} (hO : gO (g0 X)) : fm (g0 X) "TrustDesk$Groups" [5, 15, 14, 14, 14] := ⟨_, rc1 (⟨_, isc_14 X, Or.inr ⟨rfl, 13, _, _, rfl⟩⟩), q1854⟩
theorem f_40_35 {X : gX} (hO : gO (g0 X)) : fm (g0 X) "TrustDesk$Groups" [5, 97, 17, 17, 17] := ⟨_, rc1 (⟨_, isc_17 X, Or.inr ⟨rfl, 16, _, _, rfl⟩⟩), q1867⟩
theorem f_40_36 {X : gX} (hO : gO (g0 X)) : fm (g0 X) "TrustDesk$Groups" [6, 15, 108] := ⟨_, _, q1854, Or.inr ⟨rfl, rfl, rfl⟩⟩
theorem f_40_37 {X : gX} (hO : gO (g0 X)) : fm (g0 X) "TrustDesk$Groups" [8, 57, 0, 1] := ⟨_, q1857, ⟨by decide, by decide⟩, by decide⟩
theorem f_40_38 {X : gX} (hO : gO (g0 X)) : fm (g0 X) "TrustDesk$Groups" [8, 169, 0, 2] := ⟨_, q1953, ⟨by decide, by decide⟩, by decide⟩
theorem f_40_39 {X : gX} (hO : gO (g0 X)) : fm (g0 X) "TrustDesk$Groups" [13, 9] := q1853
theorem f_40_40 {X : gX} (hO : gO (g0 X)) : fm (g0 X) "TrustDesk$Groups" [14, 157] := q1921
theorem f_40_41 {X : gX} (hO : gO (g0 X)) : fm (g0 X) "TrustDesk$Groups" [19, 137, 0] := q1927
theorem f_40_42 {X : gX} (hO : gO (g0 X)) : fm (g0 X) "TrustDesk$Groups" [19, 163, 2] := q1920
theorem f_40_43 {X : gX} (hO : gO (g0 X)) : fm (g0 X) "TrustDesk$Groups" [20, 131, 1, 319] := co_S (ck_319 X) q1926 q1292 ds_18
theorem f_40_44 {X : gX} (hO : gO (g0 X)) : fm (g0 X) "TrustDesk$Groups" [21, 45, 2, 13, 1, 1, 1] := co_VN (n := 1) (ck_13 X) q1856 q817 (kO1 (by decide) (isc_1 X) (qs24)) ds_10
theorem f_40_45 {X : gX} (hO : gO (g0 X)) : fm (g0 X) "TrustDesk$Groups" [21, 67, 1, 60, 24, 24, 24] := co_V (n := 0) (ck_60 X) q1858 q198 (kO1 (by decide) (isc_24 X) (q199)) ds_4
theorem f_40_46 {X : gX} (hO : gO (g0 X)) : fm (g0 X) "TrustDesk$Groups" [21, 75, 2, 66, 24, 24, 24] := co_V (n := 1) (ck_66 X) q1859 q820 (kO1 (by decide) (isc_24 X) (q821)) ds_11
theorem f_40_47 {X : gX} (hO : gO (g0 X)) : fm (g0 X) "TrustDesk$Groups" [21, 79, 1, 19, 1, 1, 1] := co_VN (n := 0) (ck_19 X) q1860 q1250 (kO1 (by decide) (isc_1 X) (qs26)) ds_4
theorem f_40_48 {X : gX} (hO : gO (g0 X)) : fm (g0 X) "TrustDesk$Groups" [21, 82, 4, 22, 1, 1, 1] := co_VN (n := 3) (ck_22 X) q1861 q1274 (kO1 (by decide) (isc_1 X) (qs28)) ds_21
theorem f_40_49 {X : gX} (hO : gO (g0 X)) : fm (g0 X) "TrustDesk$Groups" [21, 86, 2, 356, 23, 23, 23] := co_V (n := 1) (ck_356 X) q1862 q1864 (kO1 (by decide) (isc_23 X) (qs40)) ds_94
theorem f_40_50 {X : gX} (hO : gO (g0 X)) : fm (g0 X) "TrustDesk$Groups" [21, 90, 4, 24, 1, 1, 1] := co_VN (n := 3) (ck_24 X) q1866 q1283 (kO1 (by decide) (isc_1 X) (qs30)) ds_23
theorem f_40_51 {X : gX} (hO : gO (g0 X)) : fm (g0 X) "TrustDesk$Groups" [21, 117, 2, 312, 16, 16, 16] := co_V (n := 1) (ck_312 X) q1869 q1335 (kO1 (by decide) (isc_16 X) (q1336)) ds_25
theorem f_40_52 {X : gX} (hO : gO (g0 X)) : fm (g0 X) "TrustDesk$Groups" [21, 123, 2, 358, 23, 23, 23] := co_V (n := 1) (ck_358 X) q1912 q1914 (kO1 (by decide) (isc_23 X) (qs41)) ds_12
theorem f_40_53 {X : gX} (hO : gO (g0 X)) : fm (g0 X) "TrustDesk$Groups" [21, 127, 3, 360, 23, 23, 23] := co_V (n := 2) (ck_360 X) q1922 q1924 (kO1 (by decide) (isc_23 X) (qs43)) ds_38
theorem f_40_54 {X : gX} (hO : gO (g0 X)) : fm (g0 X) "TrustDesk$Groups" [21, 143, 3, 357, 23, 23, 23] := co_V (n := 2) (ck_357 X) q1928 q1909 (kO1 (by decide) (isc_23 X) (q1910)) ds_38
theorem f_40_55 {X : gX} (hO : gO (g0 X)) : fm (g0 X) "TrustDesk$Groups" [21, 146, 4, 361, 23, 23, 23] := co_V (n := 3) (ck_361 X) q1929 q1931 (kO1 (by decide) (isc_23 X) (qs44)) ds_53
theorem f_40_56 {X : gX} (hO : gO (g0 X)) : fm (g0 X) "TrustDesk$Groups" [21, 150, 1, 359, 23, 23, 23] := co_V (n := 0) (ck_359 X) q1916 q1918 (kO1 (by decide) (isc_23 X) (qs42)) ds_39
theorem f_40_57 {X : gX} (hO : gO (g0 X)) : fm (g0 X) "TrustDesk$Groups" [23, 112, 2, 275, 12, 12] := co_VU (n := 1) (owner := "TrustDesk$Cond") (x := ⟨"TrustDesk$Cond", "holds", "([J)Z"⟩) (ck_275 X) q1868 q1299 (Or.inl q1298) ⟨by decide, by decide⟩ q1327 (kd1 (by decide) (isc_12 X) (q1333)) ds_24
theorem f_40_58 {X : gX} (hO : gO (g0 X)) : fm (g0 X) "TrustDesk$Groups" [23, 112, 2, 284, 11, 11] := co_VU (n := 1) (owner := "TrustDesk$Cond") (x := ⟨"TrustDesk$Cond", "holds", "([J)Z"⟩) (ck_284 X) q1868 q1299 (Or.inl q1298) ⟨by decide, by decide⟩ q1301 (kd1 (by decide) (isc_11 X) (q1300)) ds_24
theorem f_40_59 {X : gX} (hO : gO (g0 X)) : fm (g0 X) "TrustDesk$Groups" [23, 112, 2, 288, 13, 13] := co_VU (n := 1) (owner := "TrustDesk$Cond") (x := ⟨"TrustDesk$Cond", "holds", "([J)Z"⟩) (ck_288 X) q1868 q1299 (Or.inl q1298) ⟨by decide, by decide⟩ q1324 (kd1 (by decide) (isc_13 X) (q1323)) ds_24
theorem fo_40 {X : gX} (hO : gO (g0 X)) : allF (g0 X) "TrustDesk$Groups" fc_40 := And.intro (f_40_0 hO) (And.intro (f_40_1 hO) (And.intro (f_40_2 hO) (And.intro (f_40_3 hO) (And.intro (f_40_4 hO) (And.intro (f_40_5 hO) (And.intro (f_40_6 hO) (And.intro (f_40_7 hO) (And.intro (f_40_8 hO) (And.intro (f_40_9 hO) (And.intro (f_40_10 hO) (And.intro (f_40_11 hO) (And.intro (f_40_12 hO) (And.intro (f_40_13 hO) (And.intro (f_40_14 hO) (And.intro (f_40_15 hO) (And.intro (f_40_16 hO) (And.intro (f_40_17 hO) (And.intro (f_40_18 hO) (And.intro (f_40_19 hO) (And.intro (f_40_20 hO) (And.intro (f_40_21 hO) (And.intro (f_40_22 hO) (And.intro (f_40_23 hO) (And.intro (f_40_24 hO) (And.intro (f_40_25 hO) (And.intro (f_40_26 hO) (And.intro (f_40_27 hO) (And.intro (f_40_28 hO) (And.intro (f_40_29 hO) (And.intro (f_40_30 hO) (And.intro (f_40_31 hO) (And.intro (f_40_32 hO) (And.intro (f_40_33 hO) (And.intro (f_40_34 hO) (And.intro (f_40_35 hO) (And.intro (f_40_36 hO) (And.intro (f_40_37 hO) (And.intro (f_40_38 hO) (And.intro (f_40_39 hO) (And.intro (f_40_40 hO) (And.intro (f_40_41 hO) (And.intro (f_40_42 hO) (And.intro (f_40_43 hO) (And.intro (f_40_44 hO) (And.intro (f_40_45 hO) (And.intro (f_40_46 hO) (And.intro (f_40_47 hO) (And.intro (f_40_48 hO) (And.intro (f_40_49 hO) (And.intro (f_40_50 hO) (And.intro (f_40_51 hO) (And.intro (f_40_52 hO) (And.intro (f_40_53 hO) (And.intro (f_40_54 hO) (And.intro (f_40_55 hO) (And.intro (f_40_56 hO) (And.intro (f_40_57 hO) (And.intro (f_40_58 hO) (And.intro (f_40_59 hO) (True.intro))))))))))))))))))))))))))))))))))))))))))))))))))))))))))))
theorem fN {X : gX} (hO : gO (g0 X)) : ∀ c, c < 41 → allF (g0 X) (clsN c) (fcN c) := fun c hc => match c, hc with
  | 0, _ => fo_0 hO
  | 1, _ => fo_1 hO
  | 2, _ => fo_2 hO
  | 3, _ => fo_3 hO
  | 4, _ => fo_4 hO
  | 5, _ => fo_5 hO
  | 6, _ => fo_6 hO
  | 7, _ => fo_7 hO
  | 8, _ => fo_8 hO
  | 9, _ => fo_9 hO
  | 10, _ => fo_10 hO
  | 11, _ => fo_11 hO
  | 12, _ => fo_12 hO
  | 13, _ => fo_13 hO
  | 14, _ => fo_14 hO
  | 15, _ => fo_15 hO
  | 16, _ => fo_16 hO
  | 17, _ => fo_17 hO
  | 18, _ => fo_18 hO
  | 19, _ => fo_19 hO
  | 20, _ => fo_20 hO
  | 21, _ => fo_21 hO
  | 22, _ => fo_22 hO
  | 23, _ => fo_23 hO
  | 24, _ => fo_24 hO
  | 25, _ => fo_25 hO
  | 26, _ => fo_26 hO
  | 27, _ => fo_27 hO
  | 28, _ => fo_28 hO
  | 29, _ => fo_29 hO
  | 30, _ => fo_30 hO
  | 31, _ => fo_31 hO
  | 32, _ => fo_32 hO
  | 33, _ => fo_33 hO
  | 34, _ => fo_34 hO
  | 35, _ => fo_35 hO
  | 36, _ => fo_36 hO
  | 37, _ => fo_37 hO
  | 38, _ => fo_38 hO
  | 39, _ => fo_39 hO
  | 40, _ => fo_40 hO
  | n + 41, h => absurd h (by omega)
theorem anyK (X : gX) : ∀ q, 1 ≤ q → q ≤ 27 → anyOk (g0 X) q "java/lang/Object" := fun q h1 h2 => match q, h1, h2 with
  | 0, h, _ => absurd h (by omega)
  | 1, _, _ => ⟨_, isc_1 X, Or.inl q2732⟩
  | 2, _, _ => ⟨_, isc_2 X, Or.inl q2735⟩
  | 3, _, _ => ⟨_, isc_3 X, Or.inl q2734⟩
  | 4, _, _ => ⟨_, isc_4 X, Or.inl q2736⟩
  | 5, _, _ => ⟨_, isc_5 X, Or.inl q2738⟩
  | 6, _, _ => ⟨_, isc_6 X, Or.inl q2756⟩
  | 7, _, _ => ⟨_, isc_7 X, Or.inl q2739⟩
  | 8, _, _ => ⟨_, isc_8 X, Or.inl q2742⟩
  | 9, _, _ => ⟨_, isc_9 X, Or.inl q2741⟩
  | 10, _, _ => ⟨_, isc_10 X, Or.inl q2743⟩
  | 11, _, _ => ⟨_, isc_11 X, Or.inl q2744⟩
  | 12, _, _ => ⟨_, isc_12 X, Or.inl q2740⟩
  | 13, _, _ => ⟨_, isc_13 X, Or.inl q2745⟩
  | 14, _, _ => ⟨_, isc_14 X, Or.inl q2731⟩
  | 15, _, _ => ⟨_, isc_15 X, Or.inl q2746⟩
  | 16, _, _ => ⟨_, isc_16 X, Or.inl q2748⟩
  | 17, _, _ => ⟨_, isc_17 X, Or.inl q2749⟩
  | 18, _, _ => ⟨_, isc_18 X, Or.inl q2750⟩
  | 19, _, _ => ⟨_, isc_19 X, Or.inl q2752⟩
  | 20, _, _ => ⟨_, isc_20 X, Or.inl q2753⟩
  | 21, _, _ => ⟨_, isc_21 X, Or.inl q2754⟩
  | 22, _, _ => ⟨_, isc_22 X, Or.inl q2755⟩
  | 23, _, _ => ⟨_, isc_23 X, Or.inl q2757⟩
  | 24, _, _ => ⟨_, isc_24 X, Or.inl q2733⟩
  | 25, _, _ => ⟨_, isc_25 X, Or.inl q2747⟩
  | 26, _, _ => ⟨_, isc_26 X, Or.inl q2751⟩
  | 27, _, _ => ⟨_, isc_27 X, Or.inl q2737⟩
  | n + 28, _, h => absurd h (by omega)
theorem anyI : Cond.castable "java/lang/Integer" "java/lang/Object" ∈ lw_tbl := q2751
theorem anyS : Cond.castable "java/lang/String" "java/lang/Object" ∈ lw_tbl := q2737
theorem w_ai : Cond.arrayClass .int ∈ lw_all := q311
theorem w_ab : Cond.arrayClass .byte ∈ lw_all := q446
theorem w_az : Cond.arrayClass .boolean ∈ lw_all := q2221
theorem w_al : Cond.arrayClass .long ∈ lw_all := q920
theorem w_oi : Cond.instanceMethod Lib.objectInit ∈ lw_all ∧ Cond.code Lib.objectInit ⟨#[0xb1]⟩ 1 none ∈ lw_all := ⟨q211, q212⟩
theorem w_cp : Cond.native arraycopyName ∈ lw_all ∧ Cond.static arraycopyName ∈ lw_all ∧ Cond.initialized "java/lang/System" ∈ lw_all := ⟨q423, q422, q127⟩
theorem w_m0 : Cond.static Lib.Math.max.name ∈ lw_all ∧ Cond.initialized "java/lang/Math" ∈ lw_all ∧ Cond.code Lib.Math.max.name Lib.Math.max.code 2 (some .int) ∈ lw_all := ⟨q343, q122, q344⟩
theorem w_m1 : Cond.static Lib.Math.min.name ∈ lw_all ∧ Cond.initialized "java/lang/Math" ∈ lw_all ∧ Cond.code Lib.Math.min.name Lib.Math.min.code 2 (some .int) ∈ lw_all := ⟨q346, q122, q347⟩
theorem w_m2 : Cond.static Lib.MathLoose.max_long.x ∈ lw_all ∧ Cond.initialized "java/lang/Math" ∈ lw_all ∧ Cond.code Lib.MathLoose.max_long.x Lib.MathLoose.max_long.code 4 (some .long) ∈ lw_all := ⟨q1321, q122, q1322⟩
theorem w_m3 : Cond.static Lib.MathLoose.min_long.x ∈ lw_all ∧ Cond.initialized "java/lang/Math" ∈ lw_all ∧ Cond.code Lib.MathLoose.min_long.x Lib.MathLoose.min_long.code 4 (some .long) ∈ lw_all := ⟨q1270, q122, q1271⟩
theorem w_gc : Cond.declares gcN ∈ lw_tbl ∧ Cond.selects "[Ljava/lang/Object;" gcN gcN ∈ lw_all ∧ Cond.instanceMethod gcN ∈ lw_all ∧ Cond.native gcN ∈ lw_all := ⟨q2761, q2760, q738, q767⟩
theorem w_cl : Cond.sameMethod "[B" "java/lang/Object" "clone" "()Ljava/lang/Object;" ∈ lw_all ∧ Cond.native clO ∈ lw_all ∧ Cond.instanceMethod clO ∈ lw_all ∧ Cond.selects "[B" clA clO ∈ lw_all ∧ Cond.castable "[B" "java/lang/Cloneable" ∈ lw_tbl := ⟨q425, q426, q427, q428, q429⟩
theorem fm_c {P : Cond → Prop} {a : Cond} {l : List Cond} (h : P a) (hr : ∀ x ∈ l, P x) : ∀ x ∈ a :: l, P x := fun x hx => by
  rcases List.mem_cons.mp hx with e | e
  · rw [e]; exact h
  · exact hr x e
theorem fm_n {P : Cond → Prop} : ∀ x ∈ ([] : List Cond), P x := fun x hx => by cases hx
theorem w_at {Γ : gT} (h3 : ∀ s ad, gC Γ s s.heap ad → vaL "java/lang/Throwable" "UNASSIGNED_STACK" "[Ljava/lang/StackTraceElement;" (gA Γ) s s.heap) (h4 : ∀ s ad, gC Γ s s.heap ad → vaL "java/lang/Throwable" "SUPPRESSED_SENTINEL" "Ljava/util/List;" (gA Γ) s s.heap) : ∀ x ∈ Bundle.throwableAtoms, x ∈ lw_all ∨ ∃ (C n d : String), x = .laysStatic C n d ∧ ∀ s ad, gC Γ s s.heap ad → vaL C n d (gA Γ) s s.heap := fm_c (Or.inl q128) (fm_c (Or.inl q526) (fm_c (Or.inl q535) (fm_c (Or.inl q538) (fm_c (Or.inl q541) (fm_c (Or.inl q543) (fm_c (Or.inl q527) (fm_c (Or.inl q528) (fm_c (Or.inl q211) (fm_c (Or.inl q212) (fm_c (Or.inl q529) (fm_c (Or.inl q534) (fm_c (Or.inl q539) (fm_c (Or.inl q559) (fm_c (Or.inl q516) (fm_c (Or.inl q560) (fm_c (Or.inl q518) (fm_c (Or.inl q561) (fm_c (Or.inl q520) (fm_c (Or.inl q530) (fm_c (Or.inr ⟨_, _, _, rfl, h3⟩) (fm_c (Or.inl q532) (fm_c (Or.inr ⟨_, _, _, rfl, h4⟩) (fm_c (Or.inl q522) (fm_n))))))))))))))))))))))))
theorem w_ch : ∀ x ∈ Bundle.chain0Atoms nseN ["java/lang/RuntimeException", "java/lang/Exception"], x ∈ lw_all ∨ ∃ z, x = .declares z ∧ x ∈ lw_tbl := fm_c (Or.inl q1983) (fm_c (Or.inl q1984) (fm_c (Or.inl q1985) (fm_c (Or.inl q1986) (fm_c (Or.inr ⟨_, rfl, q1974⟩) (fm_c (Or.inl q1986) (fm_c (Or.inl q1987) (fm_c (Or.inl q1988) (fm_c (Or.inl q1989) (fm_c (Or.inr ⟨_, rfl, q509⟩) (fm_c (Or.inl q1989) (fm_c (Or.inl q1990) (fm_c (Or.inl q1991) (fm_c (Or.inl q527) (fm_c (Or.inr ⟨_, rfl, q511⟩) (fm_n)))))))))))))))
theorem w_ns : (Cond.instantiable nseN 6 ∈ lw_all ∧ Cond.initialized nseN ∈ lw_all) ∧ Cond.selects nseN Bundle.tFill0 Bundle.tFill0 ∈ lw_all ∧ Cond.selects nseN Bundle.tFill Bundle.tFill ∈ lw_all ∧ Cond.fieldLink Bundle.tN 198 Bundle.tN "backtrace" "Ljava/lang/Object;" ∈ lw_all ∧ Cond.lays Bundle.tN Bundle.tN "backtrace" "Ljava/lang/Object;" ∈ lw_all := ⟨⟨q1972, q158⟩, q1976, q537, q557, q524⟩
theorem w_ao : Cond.arrayOver (.object "java/lang/Object") ∈ lw_tbl ∧ Cond.arrayOver (.object "TrustDesk$Fund") ∈ lw_tbl := ⟨q276, q1855⟩
theorem fn_c {P : vw_C → Prop} {a : vw_C} {l : List vw_C} (h : P a) (hr : ∀ x ∈ l, P x) : ∀ x ∈ a :: l, P x := fun x hx => by
  rcases List.mem_cons.mp hx with e | e
  · rw [e]; exact h
  · exact hr x e
theorem fn_n {P : vw_C → Prop} : ∀ x ∈ ([] : List vw_C), P x := fun x hx => by cases hx
theorem w_in : ∀ q ∈ gcl0, ∃ n, Cond.instantiable q.1 n ∈ lw_all ∧ ∀ w ∈ u_ws q.1 q.2.1 q.2.2, w ∈ lw_all := fn_c ⟨_, q177, ws_1⟩ (fn_c ⟨_, q1999, ws_2⟩ (fn_c ⟨_, q258, ws_3⟩ (fn_c ⟨_, q206, ws_4⟩ (fn_c ⟨_, q507, ws_5⟩ (fn_c ⟨_, q1972, ws_6⟩ (fn_c ⟨_, q581, ws_7⟩ (fn_c ⟨_, q657, ws_8⟩ (fn_c ⟨_, q644, ws_9⟩ (fn_c ⟨_, q672, ws_10⟩ (fn_c ⟨_, q693, ws_11⟩ (fn_c ⟨_, q587, ws_12⟩ (fn_c ⟨_, q775, ws_13⟩ (fn_c ⟨_, q927, ws_14⟩ (fn_c ⟨_, q933, ws_15⟩ (fn_c ⟨_, q1082, ws_16⟩ (fn_c ⟨_, q1123, ws_17⟩ (fn_c ⟨_, q1221, ws_18⟩ (fn_c ⟨_, q1443, ws_19⟩ (fn_c ⟨_, q1506, ws_20⟩ (fn_c ⟨_, q1531, ws_21⟩ (fn_c ⟨_, q1551, ws_22⟩ (fn_c ⟨_, q1849, ws_23⟩ (fn_c ⟨_, q264, ws_24⟩ (fn_c ⟨_, q969, ws_25⟩ (fn_c ⟨_, q1373, ws_26⟩ (fn_c ⟨_, q410, ws_27⟩ (fn_n)))))))))))))))))))))))))))
theorem wx_i : Cond.instantiable "java/lang/StringBuilder" 4 ∈ tables_1 := lw_t4 (List.mem_of_getElem? (i := 137) rfl)
theorem wx_s : Cond.selects "java/lang/StringBuilder" ⟨"java/lang/AbstractStringBuilder", "isLatin1", "()Z"⟩ ⟨"java/lang/AbstractStringBuilder", "isLatin1", "()Z"⟩ ∈ tables_1 := lw_t4 (List.mem_of_getElem? (i := 185) rfl)
theorem wx_p0 : Cond.privateMethod ⟨"java/lang/AbstractStringBuilder", "ensureCapacityInternal", "(I)V"⟩ ∈ tables_1 := lw_t4 (List.mem_of_getElem? (i := 170) rfl)
theorem wx_n0 : Cond.instanceMethod ⟨"java/lang/AbstractStringBuilder", "ensureCapacityInternal", "(I)V"⟩ ∈ tables_1 := lw_t4 (List.mem_of_getElem? (i := 171) rfl)
theorem wx_p1 : Cond.privateMethod ⟨"java/lang/AbstractStringBuilder", "newCapacity", "(I)I"⟩ ∈ tables_1 := lw_t4 (List.mem_of_getElem? (i := 174) rfl)
theorem wx_n1 : Cond.instanceMethod ⟨"java/lang/AbstractStringBuilder", "newCapacity", "(I)I"⟩ ∈ tables_1 := lw_t4 (List.mem_of_getElem? (i := 175) rfl)
theorem wl_EMPTY_ELEMENTDATA : Cond.laysStatic "java/util/ArrayList" "EMPTY_ELEMENTDATA" "[Ljava/lang/Object;" ∈ lw_tbl ∧ Cond.initialized "java/util/ArrayList" ∈ lw_all := ⟨q278, q116⟩
theorem wl_DEFAULTCAPACITY_EMPTY_ELEMENTDATA : Cond.laysStatic "java/util/ArrayList" "DEFAULTCAPACITY_EMPTY_ELEMENTDATA" "[Ljava/lang/Object;" ∈ lw_tbl ∧ Cond.initialized "java/util/ArrayList" ∈ lw_all := ⟨q725, q116⟩
theorem wl_cache : Cond.laysStatic "java/lang/Integer$IntegerCache" "cache" "[Ljava/lang/Integer;" ∈ lw_tbl ∧ Cond.initialized "java/lang/Integer$IntegerCache" ∈ lw_all := ⟨q1371, q151⟩
theorem wl_UNASSIGNED_STACK : Cond.laysStatic "java/lang/Throwable" "UNASSIGNED_STACK" "[Ljava/lang/StackTraceElement;" ∈ lw_tbl ∧ Cond.initialized "java/lang/Throwable" ∈ lw_all := ⟨q531, q128⟩
theorem wl_SUPPRESSED_SENTINEL : Cond.laysStatic "java/lang/Throwable" "SUPPRESSED_SENTINEL" "Ljava/util/List;" ∈ lw_tbl ∧ Cond.initialized "java/lang/Throwable" ∈ lw_all := ⟨q533, q128⟩
theorem wl_SIOOBE_FORMATTER : Cond.laysStatic "jdk/internal/util/Preconditions" "SIOOBE_FORMATTER" "Ljava/util/function/BiFunction;" ∈ lw_tbl ∧ Cond.initialized "jdk/internal/util/Preconditions" ∈ lw_all := ⟨q370, q124⟩
theorem wl_COMPACT_STRINGS : Cond.laysStatic "java/lang/String" "COMPACT_STRINGS" "Z" ∈ lw_tbl ∧ Cond.initialized "java/lang/String" ∈ lw_all := ⟨q326, q120⟩
theorem wl_high : Cond.laysStatic "java/lang/Integer$IntegerCache" "high" "I" ∈ lw_tbl ∧ Cond.initialized "java/lang/Integer$IntegerCache" ∈ lw_all := ⟨q1369, q151⟩
theorem fs_c {P : (String × Nat × String × Nat) → Prop} {a : String × Nat × String × Nat} {l : List (String × Nat × String × Nat)} (h : P a) (hr : ∀ x ∈ l, P x) : ∀ x ∈ a :: l, P x := fun x hx => by
  rcases List.mem_cons.mp hx with e | e
  · rw [e]; exact h
  · exact hr x e
theorem fs_n {P : (String × Nat × String × Nat) → Prop} : ∀ x ∈ ([] : List (String × Nat × String × Nat)), P x := fun x hx => by cases hx
theorem w_str : ∀ q ∈ strL, Cond.stringRef q.1 q.2.1 q.2.2.1 ∈ lw_tbl := fs_c q960 (fs_c q961 (fs_c q962 (fs_c q805 (fs_c q1112 (fs_c q575 (fs_c q1113 (fs_c q312 (fs_c q501 (fs_c q574 (fs_c q785 (fs_c q784 (fs_c q613 (fs_c q614 (fs_c q619 (fs_c q689 (fs_c q690 (fs_c q691 (fs_c q687 (fs_c q688 (fs_c q670 (fs_c q640 (fs_c q641 (fs_c q642 (fs_c q2372 (fs_c q2373 (fs_c q2374 (fs_c q2375 (fs_c q2376 (fs_c q2377 (fs_c q2378 (fs_c q2379 (fs_c q2380 (fs_c q2381 (fs_c q2382 (fs_c q2383 (fs_c q2384 (fs_c q2335 (fs_c q2385 (fs_c q2386 (fs_c q2429 (fs_c q2318 (fs_c q2430 (fs_c q2418 (fs_c q2419 (fs_c q2420 (fs_c q2293 (fs_c q2300 (fs_c q2301 (fs_c q2302 (fs_c q2303 (fs_c q2304 (fs_c q2305 (fs_c q2314 (fs_c q2315 (fs_c q2316 (fs_c q2317 (fs_c q408 (fs_c q450 (fs_n)))))))))))))))))))))))))))))))))))))))))))))))))))))))))))
