/-! cases of the law (printed by gen.py, lawsplit.py) -/
set_option maxRecDepth 100000
set_option maxHeartbeats 40000000 in
theorem w_L_J1259 {Γ : Ctx} {xs : Nat → Int} {L b p1 p2 p3 cn : Nat} {w : Int} {z1 : (Nat × Int × St) ⊕ Int} (X : Cx Γ cL_law "DayBoyLaw" ({ frames := 15, cells := 601024, slots := 7293034, locals := 634 } : Room)) (hL : ∀ i, i < 7 → i < nLc Γ) (htr : (lOf Γ).stackTraces = false) (hs : Scr Γ b L xs) (hLb : L < 2147483648) (hw : w = 1) (hn1 : 0 < cn) (hn2 : cn ≤ 64) (ihb1 : ∀ s : Nat × Int × St, z1 = Sum.inl s → V Γ (s.2.2) (112 + (64 - s.1) * 86) (504441 + (64 - s.1) * 40302) 23 [(0, .ref (b)), (1, .ref (p1)), (2, .ref (p2)), (3, .ref (p3)), (4, iv (s.2.1))] []) (ihe1 : ∀ r, z1 = Sum.inr r → r = w) : ∀ (v4_j1259 : Int) (σ_j1259 : St), f_L_law_j1259 (cn) (xs) (L) (b) (p1) (p2) (p3) v4_j1259 σ_j1259 = some z1 → V Γ σ_j1259 (112 + (64 - cn) * 86) (504441 + (64 - cn) * 40302) 1259 [(0, .ref (b)), (1, .ref (p1)), (2, .ref (p2)), (3, .ref (p3)), (4, iv (v4_j1259))] [] := by
  intro v4_j1259 σ_j1259 h
  unfold f_L_law_j1259 at h
  refine r_aload_n X 1 dL_law_1259 rfl rfl ?_
  refine r_aload_n X 0 dL_law_1260 rfl rfl ?_
  refine r_iload X 4 dL_law_1261 rfl ?_
  refine r_iconst X dL_law_1263 ?_
  refine r_iadd X dL_law_1264 ?_
  refine r_sld X hs hLb dL_law_1265 h (fun h => ?_)
  refine r_aload_n X 0 dL_law_1266 rfl rfl ?_
  refine r_iload X 4 dL_law_1267 rfl ?_
  refine r_iconst X dL_law_1269 ?_
  refine r_iadd X dL_law_1270 ?_
  refine r_sld X hs hLb dL_law_1271 h (fun h => ?_)
  obtain ⟨ho210, h⟩ := cO_some h
  obtain ⟨r211, σ212, h209, h⟩ := bd2_some h
  refine r_cV (Wd := 0) X (fun l D sz => w_X1_odds l D sz h209) ho210.1 rfl q1033 q1034 q1032 q104 q1035 hy_X1_odds rfl dL_law_1272 rfl rfl (Nat.le_of_ble_eq_true rfl) ⟨Nat.le_of_ble_eq_true rfl, Nat.le_of_ble_eq_true rfl⟩ ⟨(by show (112 + (64 - cn) * 86) + 0 ≤ 601024; omega), (by show (504441 + (64 - cn) * 40302) + 0 ≤ 7293034; omega)⟩ ?_
  refine r_aload_n X 2 dL_law_1275 rfl rfl ?_
  refine r_aload_n X 0 dL_law_1276 rfl rfl ?_
  refine r_iload X 4 dL_law_1277 rfl ?_
  refine r_iconst X dL_law_1279 ?_
  refine r_iadd X dL_law_1280 ?_
  refine r_sld X hs hLb dL_law_1281 h (fun h => ?_)
  refine r_aload_n X 0 dL_law_1282 rfl rfl ?_
  refine r_iload X 4 dL_law_1283 rfl ?_
  refine r_iconst X dL_law_1285 ?_
  refine r_iadd X dL_law_1286 ?_
  refine r_sld X hs hLb dL_law_1287 h (fun h => ?_)
  obtain ⟨ho214, h⟩ := cO_some h
  obtain ⟨r215, σ216, h213, h⟩ := bd2_some h
  refine r_cV (Wd := 1) X (fun l D sz => w_X6_odds l D sz h213) ho214.1 rfl q1749 q1750 q1748 q109 q1751 hy_X6_odds rfl dL_law_1288 rfl rfl (Nat.le_of_ble_eq_true rfl) ⟨Nat.le_of_ble_eq_true rfl, Nat.le_of_ble_eq_true rfl⟩ ⟨(by show (112 + (64 - cn) * 86) + 0 ≤ 601024; omega), (by show (504441 + (64 - cn) * 40302) + 0 ≤ 7293034; omega)⟩ ?_
  refine r_icmp_eq (tgt := 2568) X dL_law_1291 (by decide) h (fun c217 h => ?_) (fun c217 h => ?_)
  · refine r_iinc X 4 dL_law_2568 rfl (hL 4 (by decide)) (lv' := [(4, iv ((v4_j1259 + 8))), (0, .ref (b)), (1, .ref (p1)), (2, .ref (p2)), (3, .ref (p3))]) rfl ?_
    refine r_goto (tgt := 23) X dL_law_2571 (by decide) ?_
    exact V.widen (by show _ ≤ _; omega) (by show _ ≤ _; omega) <| V.sub [1, 2, 3, 4, 0] rfl (ihb1 _ (Option.some.inj h).symm)
  · have h := ex_some h ihe1
    refine V.widen (k' := 5616) (n' := 3083769) (by show _ ≤ _; omega) (by show _ ≤ _; omega) ?_
    refine r_iconst X dL_law_1294 ?_
    cases h
    exact absurd hw (by decide)
set_option maxHeartbeats 40000000 in
theorem w_L_J1222 {Γ : Ctx} {xs : Nat → Int} {L b p1 p2 p3 cn : Nat} {w : Int} {z1 : (Nat × Int × St) ⊕ Int} (X : Cx Γ cL_law "DayBoyLaw" ({ frames := 15, cells := 601024, slots := 7293034, locals := 634 } : Room)) (hL : ∀ i, i < 7 → i < nLc Γ) (htr : (lOf Γ).stackTraces = false) (hs : Scr Γ b L xs) (hLb : L < 2147483648) (hw : w = 1) (hn1 : 0 < cn) (hn2 : cn ≤ 64) (ihb1 : ∀ s : Nat × Int × St, z1 = Sum.inl s → V Γ (s.2.2) (112 + (64 - s.1) * 86) (504441 + (64 - s.1) * 40302) 23 [(0, .ref (b)), (1, .ref (p1)), (2, .ref (p2)), (3, .ref (p3)), (4, iv (s.2.1))] []) (ihe1 : ∀ r, z1 = Sum.inr r → r = w) : ∀ (v4_j1222 : Int) (σ_j1222 : St), f_L_law_j1222 (cn) (xs) (L) (b) (p1) (p2) (p3) v4_j1222 σ_j1222 = some z1 → V Γ σ_j1222 (112 + (64 - cn) * 86) (504441 + (64 - cn) * 40302) 1222 [(0, .ref (b)), (1, .ref (p1)), (2, .ref (p2)), (3, .ref (p3)), (4, iv (v4_j1222))] [] := by
  intro v4_j1222 σ_j1222 h
  unfold f_L_law_j1222 at h
  refine r_aload_n X 1 dL_law_1222 rfl rfl ?_
  refine r_aload_n X 0 dL_law_1223 rfl rfl ?_
  refine r_iload X 4 dL_law_1224 rfl ?_
  refine r_iconst X dL_law_1226 ?_
  refine r_iadd X dL_law_1227 ?_
  refine r_sld X hs hLb dL_law_1228 h (fun h => ?_)
  refine r_aload_n X 0 dL_law_1229 rfl rfl ?_
  refine r_iload X 4 dL_law_1230 rfl ?_
  refine r_iconst X dL_law_1232 ?_
  refine r_iadd X dL_law_1233 ?_
  refine r_sld X hs hLb dL_law_1234 h (fun h => ?_)
  obtain ⟨ho219, h⟩ := cO_some h
  obtain ⟨r220, σ221, h218, h⟩ := bd2_some h
  refine r_cV (Wd := 0) X (fun l D sz => w_X1_weigh l D sz h218) ho219.1 rfl q1028 q1029 q1027 q104 q1030 hy_X1_weigh rfl dL_law_1235 rfl rfl (Nat.le_of_ble_eq_true rfl) ⟨Nat.le_of_ble_eq_true rfl, Nat.le_of_ble_eq_true rfl⟩ ⟨(by show (112 + (64 - cn) * 86) + 0 ≤ 601024; omega), (by show (504441 + (64 - cn) * 40302) + 0 ≤ 7293034; omega)⟩ ?_
  refine r_aload_n X 2 dL_law_1238 rfl rfl ?_
  refine r_aload_n X 0 dL_law_1239 rfl rfl ?_
  refine r_iload X 4 dL_law_1240 rfl ?_
  refine r_iconst X dL_law_1242 ?_
  refine r_iadd X dL_law_1243 ?_
  refine r_sld X hs hLb dL_law_1244 h (fun h => ?_)
  refine r_aload_n X 0 dL_law_1245 rfl rfl ?_
  refine r_iload X 4 dL_law_1246 rfl ?_
  refine r_iconst X dL_law_1248 ?_
  refine r_iadd X dL_law_1249 ?_
  refine r_sld X hs hLb dL_law_1250 h (fun h => ?_)
  obtain ⟨ho223, h⟩ := cO_some h
  obtain ⟨r224, σ225, h222, h⟩ := bd2_some h
  refine r_cV (Wd := 1) X (fun l D sz => w_X6_weigh l D sz h222) ho223.1 rfl q1745 q1746 q1744 q109 q1747 hy_X6_weigh rfl dL_law_1251 rfl rfl (Nat.le_of_ble_eq_true rfl) ⟨Nat.le_of_ble_eq_true rfl, Nat.le_of_ble_eq_true rfl⟩ ⟨(by show (112 + (64 - cn) * 86) + 0 ≤ 601024; omega), (by show (504441 + (64 - cn) * 40302) + 0 ≤ 7293034; omega)⟩ ?_
  refine r_icmp_eq (tgt := 2568) X dL_law_1254 (by decide) h (fun c226 h => ?_) (fun c226 h => ?_)
  · refine r_iinc X 4 dL_law_2568 rfl (hL 4 (by decide)) (lv' := [(4, iv ((v4_j1222 + 8))), (0, .ref (b)), (1, .ref (p1)), (2, .ref (p2)), (3, .ref (p3))]) rfl ?_
    refine r_goto (tgt := 23) X dL_law_2571 (by decide) ?_
    exact V.widen (by show _ ≤ _; omega) (by show _ ≤ _; omega) <| V.sub [1, 2, 3, 4, 0] rfl (ihb1 _ (Option.some.inj h).symm)
  · have h := ex_some h ihe1
    refine V.widen (k' := 5616) (n' := 3083769) (by show _ ≤ _; omega) (by show _ ≤ _; omega) ?_
    refine r_iconst X dL_law_1257 ?_
    cases h
    exact absurd hw (by decide)
set_option maxHeartbeats 40000000 in
theorem w_L_J1161 {Γ : Ctx} {xs : Nat → Int} {L b p1 p2 p3 cn : Nat} {w : Int} {z1 : (Nat × Int × St) ⊕ Int} (X : Cx Γ cL_law "DayBoyLaw" ({ frames := 15, cells := 601024, slots := 7293034, locals := 634 } : Room)) (hL : ∀ i, i < 7 → i < nLc Γ) (htr : (lOf Γ).stackTraces = false) (hs : Scr Γ b L xs) (hLb : L < 2147483648) (hw : w = 1) (hn1 : 0 < cn) (hn2 : cn ≤ 64) (ihb1 : ∀ s : Nat × Int × St, z1 = Sum.inl s → V Γ (s.2.2) (112 + (64 - s.1) * 86) (504441 + (64 - s.1) * 40302) 23 [(0, .ref (b)), (1, .ref (p1)), (2, .ref (p2)), (3, .ref (p3)), (4, iv (s.2.1))] []) (ihe1 : ∀ r, z1 = Sum.inr r → r = w) : ∀ (v4_j1161 : Int) (σ_j1161 : St), f_L_law_j1161 (cn) (xs) (L) (b) (p1) (p2) (p3) v4_j1161 σ_j1161 = some z1 → V Γ σ_j1161 (112 + (64 - cn) * 86) (504441 + (64 - cn) * 40302) 1161 [(0, .ref (b)), (1, .ref (p1)), (2, .ref (p2)), (3, .ref (p3)), (4, iv (v4_j1161))] [] := by
  intro v4_j1161 σ_j1161 h
  unfold f_L_law_j1161 at h
  refine r_aload_n X 1 dL_law_1161 rfl rfl ?_
  refine r_aload_n X 0 dL_law_1162 rfl rfl ?_
  refine r_iload X 4 dL_law_1163 rfl ?_
  refine r_iconst X dL_law_1165 ?_
  refine r_iadd X dL_law_1166 ?_
  refine r_sld X hs hLb dL_law_1167 h (fun h => ?_)
  refine r_aload_n X 0 dL_law_1168 rfl rfl ?_
  refine r_iload X 4 dL_law_1169 rfl ?_
  refine r_iconst X dL_law_1171 ?_
  refine r_iadd X dL_law_1172 ?_
  refine r_sld X hs hLb dL_law_1173 h (fun h => ?_)
  refine r_aload_n X 0 dL_law_1174 rfl rfl ?_
  refine r_iload X 4 dL_law_1175 rfl ?_
  refine r_iconst X dL_law_1177 ?_
  refine r_iadd X dL_law_1178 ?_
  refine r_sld X hs hLb dL_law_1179 h (fun h => ?_)
  refine r_aload_n X 0 dL_law_1180 rfl rfl ?_
  refine r_iload X 4 dL_law_1181 rfl ?_
  refine r_iconst X dL_law_1183 ?_
  refine r_iadd X dL_law_1184 ?_
  refine r_sld X hs hLb dL_law_1185 h (fun h => ?_)
  obtain ⟨ho228, h⟩ := cO_some h
  obtain ⟨r229, σ230, h227, h⟩ := bd2_some h
  refine r_cV (Wd := 0) X (fun l D sz => w_X1_learnt l D sz h227) ho228.1 rfl q1020 q1021 q1019 q104 q1022 hy_X1_learnt rfl dL_law_1186 rfl rfl (Nat.le_of_ble_eq_true rfl) ⟨Nat.le_of_ble_eq_true rfl, Nat.le_of_ble_eq_true rfl⟩ ⟨(by show (112 + (64 - cn) * 86) + 0 ≤ 601024; omega), (by show (504441 + (64 - cn) * 40302) + 0 ≤ 7293034; omega)⟩ ?_
  refine r_aload_n X 2 dL_law_1189 rfl rfl ?_
  refine r_aload_n X 0 dL_law_1190 rfl rfl ?_
  refine r_iload X 4 dL_law_1191 rfl ?_
  refine r_iconst X dL_law_1193 ?_
  refine r_iadd X dL_law_1194 ?_
  refine r_sld X hs hLb dL_law_1195 h (fun h => ?_)
  refine r_aload_n X 0 dL_law_1196 rfl rfl ?_
  refine r_iload X 4 dL_law_1197 rfl ?_
  refine r_iconst X dL_law_1199 ?_
  refine r_iadd X dL_law_1200 ?_
  refine r_sld X hs hLb dL_law_1201 h (fun h => ?_)
  refine r_aload_n X 0 dL_law_1202 rfl rfl ?_
  refine r_iload X 4 dL_law_1203 rfl ?_
  refine r_iconst X dL_law_1205 ?_
  refine r_iadd X dL_law_1206 ?_
  refine r_sld X hs hLb dL_law_1207 h (fun h => ?_)
  refine r_aload_n X 0 dL_law_1208 rfl rfl ?_
  refine r_iload X 4 dL_law_1209 rfl ?_
  refine r_iconst X dL_law_1211 ?_
  refine r_iadd X dL_law_1212 ?_
  refine r_sld X hs hLb dL_law_1213 h (fun h => ?_)
  obtain ⟨ho232, h⟩ := cO_some h
  obtain ⟨r233, σ234, h231, h⟩ := bd2_some h
  refine r_cV (Wd := 1) X (fun l D sz => w_X6_learnt l D sz h231) ho232.1 rfl q1741 q1742 q1740 q109 q1743 hy_X6_learnt rfl dL_law_1214 rfl rfl (Nat.le_of_ble_eq_true rfl) ⟨Nat.le_of_ble_eq_true rfl, Nat.le_of_ble_eq_true rfl⟩ ⟨(by show (112 + (64 - cn) * 86) + 0 ≤ 601024; omega), (by show (504441 + (64 - cn) * 40302) + 0 ≤ 7293034; omega)⟩ ?_
  refine r_icmp_eq (tgt := 2568) X dL_law_1217 (by decide) h (fun c235 h => ?_) (fun c235 h => ?_)
  · refine r_iinc X 4 dL_law_2568 rfl (hL 4 (by decide)) (lv' := [(4, iv ((v4_j1161 + 8))), (0, .ref (b)), (1, .ref (p1)), (2, .ref (p2)), (3, .ref (p3))]) rfl ?_
    refine r_goto (tgt := 23) X dL_law_2571 (by decide) ?_
    exact V.widen (by show _ ≤ _; omega) (by show _ ≤ _; omega) <| V.sub [1, 2, 3, 4, 0] rfl (ihb1 _ (Option.some.inj h).symm)
  · have h := ex_some h ihe1
    refine V.widen (k' := 5616) (n' := 3083769) (by show _ ≤ _; omega) (by show _ ≤ _; omega) ?_
    refine r_iconst X dL_law_1220 ?_
    cases h
    exact absurd hw (by decide)
set_option maxHeartbeats 40000000 in
theorem w_L_J1136 {Γ : Ctx} {xs : Nat → Int} {L b p1 p2 p3 cn : Nat} {w : Int} {z1 : (Nat × Int × St) ⊕ Int} (X : Cx Γ cL_law "DayBoyLaw" ({ frames := 15, cells := 601024, slots := 7293034, locals := 634 } : Room)) (hL : ∀ i, i < 7 → i < nLc Γ) (htr : (lOf Γ).stackTraces = false) (hs : Scr Γ b L xs) (hLb : L < 2147483648) (hw : w = 1) (hn1 : 0 < cn) (hn2 : cn ≤ 64) (ihb1 : ∀ s : Nat × Int × St, z1 = Sum.inl s → V Γ (s.2.2) (112 + (64 - s.1) * 86) (504441 + (64 - s.1) * 40302) 23 [(0, .ref (b)), (1, .ref (p1)), (2, .ref (p2)), (3, .ref (p3)), (4, iv (s.2.1))] []) (ihe1 : ∀ r, z1 = Sum.inr r → r = w) : ∀ (v4_j1136 : Int) (σ_j1136 : St), f_L_law_j1136 (cn) (xs) (L) (b) (p1) (p2) (p3) v4_j1136 σ_j1136 = some z1 → V Γ σ_j1136 (112 + (64 - cn) * 86) (504441 + (64 - cn) * 40302) 1136 [(0, .ref (b)), (1, .ref (p1)), (2, .ref (p2)), (3, .ref (p3)), (4, iv (v4_j1136))] [] := by
  intro v4_j1136 σ_j1136 h
  unfold f_L_law_j1136 at h
  refine r_aload_n X 1 dL_law_1136 rfl rfl ?_
  refine r_aload_n X 0 dL_law_1137 rfl rfl ?_
  refine r_iload X 4 dL_law_1138 rfl ?_
  refine r_iconst X dL_law_1140 ?_
  refine r_iadd X dL_law_1141 ?_
  refine r_sld X hs hLb dL_law_1142 h (fun h => ?_)
  obtain ⟨ho237, h⟩ := cO_some h
  obtain ⟨r238, h236, h⟩ := bd_some h
  refine r_cV (Wd := 0) X (fun l D sz => w_X1_after l D sz h236) ho237.1 rfl q1012 q1013 q1011 q104 q1014 hy_X1_after rfl dL_law_1143 rfl rfl (Nat.le_of_ble_eq_true rfl) ⟨Nat.le_of_ble_eq_true rfl, Nat.le_of_ble_eq_true rfl⟩ ⟨(by show (112 + (64 - cn) * 86) + 0 ≤ 601024; omega), (by show (504441 + (64 - cn) * 40302) + 0 ≤ 7293034; omega)⟩ ?_
  refine r_aload_n X 2 dL_law_1146 rfl rfl ?_
  refine r_aload_n X 0 dL_law_1147 rfl rfl ?_
  refine r_iload X 4 dL_law_1148 rfl ?_
  refine r_iconst X dL_law_1150 ?_
  refine r_iadd X dL_law_1151 ?_
  refine r_sld X hs hLb dL_law_1152 h (fun h => ?_)
  obtain ⟨ho240, h⟩ := cO_some h
  obtain ⟨r241, h239, h⟩ := bd_some h
  refine r_cV (Wd := 1) X (fun l D sz => w_X6_after l D sz h239) ho240.1 rfl q1737 q1738 q1736 q109 q1739 hy_X6_after rfl dL_law_1153 rfl rfl (Nat.le_of_ble_eq_true rfl) ⟨Nat.le_of_ble_eq_true rfl, Nat.le_of_ble_eq_true rfl⟩ ⟨(by show (112 + (64 - cn) * 86) + 0 ≤ 601024; omega), (by show (504441 + (64 - cn) * 40302) + 0 ≤ 7293034; omega)⟩ ?_
  refine r_icmp_eq (tgt := 2568) X dL_law_1156 (by decide) h (fun c242 h => ?_) (fun c242 h => ?_)
  · refine r_iinc X 4 dL_law_2568 rfl (hL 4 (by decide)) (lv' := [(4, iv ((v4_j1136 + 8))), (0, .ref (b)), (1, .ref (p1)), (2, .ref (p2)), (3, .ref (p3))]) rfl ?_
    refine r_goto (tgt := 23) X dL_law_2571 (by decide) ?_
    exact V.widen (by show _ ≤ _; omega) (by show _ ≤ _; omega) <| V.sub [1, 2, 3, 4, 0] rfl (ihb1 _ (Option.some.inj h).symm)
  · have h := ex_some h ihe1
    refine V.widen (k' := 5616) (n' := 3083769) (by show _ ≤ _; omega) (by show _ ≤ _; omega) ?_
    refine r_iconst X dL_law_1159 ?_
    cases h
    exact absurd hw (by decide)
set_option maxHeartbeats 40000000 in
theorem w_L_J1111 {Γ : Ctx} {xs : Nat → Int} {L b p1 p2 p3 cn : Nat} {w : Int} {z1 : (Nat × Int × St) ⊕ Int} (X : Cx Γ cL_law "DayBoyLaw" ({ frames := 15, cells := 601024, slots := 7293034, locals := 634 } : Room)) (hL : ∀ i, i < 7 → i < nLc Γ) (htr : (lOf Γ).stackTraces = false) (hs : Scr Γ b L xs) (hLb : L < 2147483648) (hw : w = 1) (hn1 : 0 < cn) (hn2 : cn ≤ 64) (ihb1 : ∀ s : Nat × Int × St, z1 = Sum.inl s → V Γ (s.2.2) (112 + (64 - s.1) * 86) (504441 + (64 - s.1) * 40302) 23 [(0, .ref (b)), (1, .ref (p1)), (2, .ref (p2)), (3, .ref (p3)), (4, iv (s.2.1))] []) (ihe1 : ∀ r, z1 = Sum.inr r → r = w) : ∀ (v4_j1111 : Int) (σ_j1111 : St), f_L_law_j1111 (cn) (xs) (L) (b) (p1) (p2) (p3) v4_j1111 σ_j1111 = some z1 → V Γ σ_j1111 (112 + (64 - cn) * 86) (504441 + (64 - cn) * 40302) 1111 [(0, .ref (b)), (1, .ref (p1)), (2, .ref (p2)), (3, .ref (p3)), (4, iv (v4_j1111))] [] := by
  intro v4_j1111 σ_j1111 h
  unfold f_L_law_j1111 at h
  refine r_aload_n X 1 dL_law_1111 rfl rfl ?_
  refine r_aload_n X 0 dL_law_1112 rfl rfl ?_
  refine r_iload X 4 dL_law_1113 rfl ?_
  refine r_iconst X dL_law_1115 ?_
  refine r_iadd X dL_law_1116 ?_
  refine r_sld X hs hLb dL_law_1117 h (fun h => ?_)
  obtain ⟨ho244, h⟩ := cO_some h
  obtain ⟨r245, h243, h⟩ := bd_some h
  refine r_cV (Wd := 0) X (fun l D sz => w_X1_lived l D sz h243) ho244.1 rfl q1005 q1006 q1004 q104 q1007 hy_X1_lived rfl dL_law_1118 rfl rfl (Nat.le_of_ble_eq_true rfl) ⟨Nat.le_of_ble_eq_true rfl, Nat.le_of_ble_eq_true rfl⟩ ⟨(by show (112 + (64 - cn) * 86) + 0 ≤ 601024; omega), (by show (504441 + (64 - cn) * 40302) + 0 ≤ 7293034; omega)⟩ ?_
  refine r_aload_n X 2 dL_law_1121 rfl rfl ?_
  refine r_aload_n X 0 dL_law_1122 rfl rfl ?_
  refine r_iload X 4 dL_law_1123 rfl ?_
  refine r_iconst X dL_law_1125 ?_
  refine r_iadd X dL_law_1126 ?_
  refine r_sld X hs hLb dL_law_1127 h (fun h => ?_)
  obtain ⟨ho247, h⟩ := cO_some h
  obtain ⟨r248, h246, h⟩ := bd_some h
  refine r_cV (Wd := 1) X (fun l D sz => w_X6_lived l D sz h246) ho247.1 rfl q1730 q1731 q1729 q109 q1732 hy_X6_lived rfl dL_law_1128 rfl rfl (Nat.le_of_ble_eq_true rfl) ⟨Nat.le_of_ble_eq_true rfl, Nat.le_of_ble_eq_true rfl⟩ ⟨(by show (112 + (64 - cn) * 86) + 0 ≤ 601024; omega), (by show (504441 + (64 - cn) * 40302) + 0 ≤ 7293034; omega)⟩ ?_
  refine r_icmp_eq (tgt := 2568) X dL_law_1131 (by decide) h (fun c249 h => ?_) (fun c249 h => ?_)
  · refine r_iinc X 4 dL_law_2568 rfl (hL 4 (by decide)) (lv' := [(4, iv ((v4_j1111 + 8))), (0, .ref (b)), (1, .ref (p1)), (2, .ref (p2)), (3, .ref (p3))]) rfl ?_
    refine r_goto (tgt := 23) X dL_law_2571 (by decide) ?_
    exact V.widen (by show _ ≤ _; omega) (by show _ ≤ _; omega) <| V.sub [1, 2, 3, 4, 0] rfl (ihb1 _ (Option.some.inj h).symm)
  · have h := ex_some h ihe1
    refine V.widen (k' := 5616) (n' := 3083769) (by show _ ≤ _; omega) (by show _ ≤ _; omega) ?_
    refine r_iconst X dL_law_1134 ?_
    cases h
    exact absurd hw (by decide)
set_option maxHeartbeats 40000000 in
theorem w_L_J1086 {Γ : Ctx} {xs : Nat → Int} {L b p1 p2 p3 cn : Nat} {w : Int} {z1 : (Nat × Int × St) ⊕ Int} (X : Cx Γ cL_law "DayBoyLaw" ({ frames := 15, cells := 601024, slots := 7293034, locals := 634 } : Room)) (hL : ∀ i, i < 7 → i < nLc Γ) (htr : (lOf Γ).stackTraces = false) (hs : Scr Γ b L xs) (hLb : L < 2147483648) (hw : w = 1) (hn1 : 0 < cn) (hn2 : cn ≤ 64) (ihb1 : ∀ s : Nat × Int × St, z1 = Sum.inl s → V Γ (s.2.2) (112 + (64 - s.1) * 86) (504441 + (64 - s.1) * 40302) 23 [(0, .ref (b)), (1, .ref (p1)), (2, .ref (p2)), (3, .ref (p3)), (4, iv (s.2.1))] []) (ihe1 : ∀ r, z1 = Sum.inr r → r = w) : ∀ (v4_j1086 : Int) (σ_j1086 : St), f_L_law_j1086 (cn) (xs) (L) (b) (p1) (p2) (p3) v4_j1086 σ_j1086 = some z1 → V Γ σ_j1086 (112 + (64 - cn) * 86) (504441 + (64 - cn) * 40302) 1086 [(0, .ref (b)), (1, .ref (p1)), (2, .ref (p2)), (3, .ref (p3)), (4, iv (v4_j1086))] [] := by
  intro v4_j1086 σ_j1086 h
  unfold f_L_law_j1086 at h
  refine r_aload_n X 1 dL_law_1086 rfl rfl ?_
  refine r_aload_n X 0 dL_law_1087 rfl rfl ?_
  refine r_iload X 4 dL_law_1088 rfl ?_
  refine r_iconst X dL_law_1090 ?_
  refine r_iadd X dL_law_1091 ?_
  refine r_sld X hs hLb dL_law_1092 h (fun h => ?_)
  obtain ⟨ho251, h⟩ := cO_some h
  obtain ⟨r252, h250, h⟩ := bd_some h
  refine r_cV (Wd := 0) X (fun l D sz => w_X1_further l D sz h250) ho251.1 rfl q985 q986 q984 q104 q987 hy_X1_further rfl dL_law_1093 rfl rfl (Nat.le_of_ble_eq_true rfl) ⟨Nat.le_of_ble_eq_true rfl, Nat.le_of_ble_eq_true rfl⟩ ⟨(by show (112 + (64 - cn) * 86) + 0 ≤ 601024; omega), (by show (504441 + (64 - cn) * 40302) + 0 ≤ 7293034; omega)⟩ ?_
  refine r_aload_n X 2 dL_law_1096 rfl rfl ?_
  refine r_aload_n X 0 dL_law_1097 rfl rfl ?_
  refine r_iload X 4 dL_law_1098 rfl ?_
  refine r_iconst X dL_law_1100 ?_
  refine r_iadd X dL_law_1101 ?_
  refine r_sld X hs hLb dL_law_1102 h (fun h => ?_)
  obtain ⟨ho254, h⟩ := cO_some h
  obtain ⟨r255, h253, h⟩ := bd_some h
  refine r_cV (Wd := 1) X (fun l D sz => w_X6_further l D sz h253) ho254.1 rfl q1725 q1726 q1724 q109 q1727 hy_X6_further rfl dL_law_1103 rfl rfl (Nat.le_of_ble_eq_true rfl) ⟨Nat.le_of_ble_eq_true rfl, Nat.le_of_ble_eq_true rfl⟩ ⟨(by show (112 + (64 - cn) * 86) + 0 ≤ 601024; omega), (by show (504441 + (64 - cn) * 40302) + 0 ≤ 7293034; omega)⟩ ?_
  refine r_icmp_eq (tgt := 2568) X dL_law_1106 (by decide) h (fun c256 h => ?_) (fun c256 h => ?_)
  · refine r_iinc X 4 dL_law_2568 rfl (hL 4 (by decide)) (lv' := [(4, iv ((v4_j1086 + 8))), (0, .ref (b)), (1, .ref (p1)), (2, .ref (p2)), (3, .ref (p3))]) rfl ?_
    refine r_goto (tgt := 23) X dL_law_2571 (by decide) ?_
    exact V.widen (by show _ ≤ _; omega) (by show _ ≤ _; omega) <| V.sub [1, 2, 3, 4, 0] rfl (ihb1 _ (Option.some.inj h).symm)
  · have h := ex_some h ihe1
    refine V.widen (k' := 5616) (n' := 3083769) (by show _ ≤ _; omega) (by show _ ≤ _; omega) ?_
    refine r_iconst X dL_law_1109 ?_
    cases h
    exact absurd hw (by decide)
