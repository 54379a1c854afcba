/-! cases of the law (printed by gen.py, lawsplit.py) -/
set_option maxRecDepth 100000
set_option maxHeartbeats 40000000 in
theorem w_L_J2187 {Γ : Ctx} {xs : Nat → Int} {L b p1 p2 p3 cn : Nat} {w : Int} {z1 : (Nat × Int × St) ⊕ Int} (X : Cx Γ cL_law "DayBoyLaw" ({ frames := 15, cells := 601024, slots := 7293034, locals := 634 } : Room)) (hL : ∀ i, i < 7 → i < nLc Γ) (htr : (lOf Γ).stackTraces = false) (hs : Scr Γ b L xs) (hLb : L < 2147483648) (hw : w = 1) (hn1 : 0 < cn) (hn2 : cn ≤ 64) (ihb1 : ∀ s : Nat × Int × St, z1 = Sum.inl s → V Γ (s.2.2) (112 + (64 - s.1) * 86) (504441 + (64 - s.1) * 40302) 23 [(0, .ref (b)), (1, .ref (p1)), (2, .ref (p2)), (3, .ref (p3)), (4, iv (s.2.1))] []) (ihe1 : ∀ r, z1 = Sum.inr r → r = w) : ∀ (v4_j2187 : Int) (σ_j2187 : St), f_L_law_j2187 (cn) (xs) (L) (b) (p1) (p2) (p3) v4_j2187 σ_j2187 = some z1 → V Γ σ_j2187 (112 + (64 - cn) * 86) (504441 + (64 - cn) * 40302) 2187 [(0, .ref (b)), (1, .ref (p1)), (2, .ref (p2)), (3, .ref (p3)), (4, iv (v4_j2187))] [] := by
  intro v4_j2187 σ_j2187 h
  unfold f_L_law_j2187 at h
  refine r_aload_n X 1 dL_law_2187 rfl rfl ?_
  refine r_aload_n X 0 dL_law_2188 rfl rfl ?_
  refine r_iload X 4 dL_law_2189 rfl ?_
  refine r_iconst X dL_law_2191 ?_
  refine r_iadd X dL_law_2192 ?_
  refine r_sld X hs hLb dL_law_2193 h (fun h => ?_)
  refine r_aload_n X 0 dL_law_2194 rfl rfl ?_
  refine r_iload X 4 dL_law_2195 rfl ?_
  refine r_iconst X dL_law_2197 ?_
  refine r_iadd X dL_law_2198 ?_
  refine r_sld X hs hLb dL_law_2199 h (fun h => ?_)
  refine r_aload_n X 0 dL_law_2200 rfl rfl ?_
  refine r_iload X 4 dL_law_2201 rfl ?_
  refine r_iconst X dL_law_2203 ?_
  refine r_iadd X dL_law_2204 ?_
  refine r_sld X hs hLb dL_law_2205 h (fun h => ?_)
  refine r_aload_n X 0 dL_law_2206 rfl rfl ?_
  refine r_iload X 4 dL_law_2207 rfl ?_
  refine r_iconst X dL_law_2209 ?_
  refine r_iadd X dL_law_2210 ?_
  refine r_sld X hs hLb dL_law_2211 h (fun h => ?_)
  refine r_aload_n X 0 dL_law_2212 rfl rfl ?_
  refine r_iload X 4 dL_law_2213 rfl ?_
  refine r_iconst X dL_law_2215 ?_
  refine r_iadd X dL_law_2216 ?_
  refine r_sld X hs hLb dL_law_2217 h (fun h => ?_)
  refine r_aload_n X 0 dL_law_2218 rfl rfl ?_
  refine r_iload X 4 dL_law_2219 rfl ?_
  refine r_bipush X dL_law_2221 (by decide) ?_
  refine r_iadd X dL_law_2223 ?_
  refine r_sld X hs hLb dL_law_2224 h (fun h => ?_)
  obtain ⟨ho58, h⟩ := cO_some h
  obtain ⟨r59, h57, h⟩ := bd_some h
  refine r_cV (Wd := 0) X (fun l D sz => w_X1_holds_2 l D sz h57) ho58.1 rfl q1154 q1155 q1153 q104 q1156 hy_X1_holds_2 rfl dL_law_2225 rfl rfl (Nat.le_of_ble_eq_true rfl) ⟨Nat.le_of_ble_eq_true rfl, Nat.le_of_ble_eq_true rfl⟩ ⟨(by show (112 + (64 - cn) * 86) + 0 ≤ 601024; omega), (by show (504441 + (64 - cn) * 40302) + 0 ≤ 7293034; omega)⟩ ?_
  refine r_aload_n X 2 dL_law_2228 rfl rfl ?_
  refine r_aload_n X 0 dL_law_2229 rfl rfl ?_
  refine r_iload X 4 dL_law_2230 rfl ?_
  refine r_iconst X dL_law_2232 ?_
  refine r_iadd X dL_law_2233 ?_
  refine r_sld X hs hLb dL_law_2234 h (fun h => ?_)
  refine r_aload_n X 0 dL_law_2235 rfl rfl ?_
  refine r_iload X 4 dL_law_2236 rfl ?_
  refine r_iconst X dL_law_2238 ?_
  refine r_iadd X dL_law_2239 ?_
  refine r_sld X hs hLb dL_law_2240 h (fun h => ?_)
  refine r_aload_n X 0 dL_law_2241 rfl rfl ?_
  refine r_iload X 4 dL_law_2242 rfl ?_
  refine r_iconst X dL_law_2244 ?_
  refine r_iadd X dL_law_2245 ?_
  refine r_sld X hs hLb dL_law_2246 h (fun h => ?_)
  refine r_aload_n X 0 dL_law_2247 rfl rfl ?_
  refine r_iload X 4 dL_law_2248 rfl ?_
  refine r_iconst X dL_law_2250 ?_
  refine r_iadd X dL_law_2251 ?_
  refine r_sld X hs hLb dL_law_2252 h (fun h => ?_)
  refine r_aload_n X 0 dL_law_2253 rfl rfl ?_
  refine r_iload X 4 dL_law_2254 rfl ?_
  refine r_iconst X dL_law_2256 ?_
  refine r_iadd X dL_law_2257 ?_
  refine r_sld X hs hLb dL_law_2258 h (fun h => ?_)
  refine r_aload_n X 0 dL_law_2259 rfl rfl ?_
  refine r_iload X 4 dL_law_2260 rfl ?_
  refine r_bipush X dL_law_2262 (by decide) ?_
  refine r_iadd X dL_law_2264 ?_
  refine r_sld X hs hLb dL_law_2265 h (fun h => ?_)
  obtain ⟨ho61, h⟩ := cO_some h
  obtain ⟨r62, h60, h⟩ := bd_some h
  refine r_cV (Wd := 1) X (fun l D sz => w_X6_holds l D sz h60) ho61.1 rfl q1861 q1862 q1860 q109 q1863 hy_X6_holds rfl dL_law_2266 rfl rfl (Nat.le_of_ble_eq_true rfl) ⟨Nat.le_of_ble_eq_true rfl, Nat.le_of_ble_eq_true rfl⟩ ⟨(by show (112 + (64 - cn) * 86) + 0 ≤ 601024; omega), (by show (504441 + (64 - cn) * 40302) + 0 ≤ 7293034; omega)⟩ ?_
  refine r_icmp_eq (tgt := 2568) X dL_law_2269 (by decide) h (fun c63 h => ?_) (fun c63 h => ?_)
  · refine r_iinc X 4 dL_law_2568 rfl (hL 4 (by decide)) (lv' := [(4, iv ((v4_j2187 + 8))), (0, .ref (b)), (1, .ref (p1)), (2, .ref (p2)), (3, .ref (p3))]) rfl ?_
    refine r_goto (tgt := 23) X dL_law_2571 (by decide) ?_
    exact V.widen (by show _ ≤ _; omega) (by show _ ≤ _; omega) <| V.sub [1, 2, 3, 4, 0] rfl (ihb1 _ (Option.some.inj h).symm)
  · have h := ex_some h ihe1
    refine V.widen (k' := 5616) (n' := 3083769) (by show _ ≤ _; omega) (by show _ ≤ _; omega) ?_
    refine r_iconst X dL_law_2272 ?_
    cases h
    exact absurd hw (by decide)
set_option maxHeartbeats 40000000 in
theorem w_L_J2080 {Γ : Ctx} {xs : Nat → Int} {L b p1 p2 p3 cn : Nat} {w : Int} {z1 : (Nat × Int × St) ⊕ Int} (X : Cx Γ cL_law "DayBoyLaw" ({ frames := 15, cells := 601024, slots := 7293034, locals := 634 } : Room)) (hL : ∀ i, i < 7 → i < nLc Γ) (htr : (lOf Γ).stackTraces = false) (hs : Scr Γ b L xs) (hLb : L < 2147483648) (hw : w = 1) (hn1 : 0 < cn) (hn2 : cn ≤ 64) (ihb1 : ∀ s : Nat × Int × St, z1 = Sum.inl s → V Γ (s.2.2) (112 + (64 - s.1) * 86) (504441 + (64 - s.1) * 40302) 23 [(0, .ref (b)), (1, .ref (p1)), (2, .ref (p2)), (3, .ref (p3)), (4, iv (s.2.1))] []) (ihe1 : ∀ r, z1 = Sum.inr r → r = w) : ∀ (v4_j2080 : Int) (σ_j2080 : St), f_L_law_j2080 (cn) (xs) (L) (b) (p1) (p2) (p3) v4_j2080 σ_j2080 = some z1 → V Γ σ_j2080 (112 + (64 - cn) * 86) (504441 + (64 - cn) * 40302) 2080 [(0, .ref (b)), (1, .ref (p1)), (2, .ref (p2)), (3, .ref (p3)), (4, iv (v4_j2080))] [] := by
  intro v4_j2080 σ_j2080 h
  unfold f_L_law_j2080 at h
  refine r_aload_n X 1 dL_law_2080 rfl rfl ?_
  refine r_aload_n X 0 dL_law_2081 rfl rfl ?_
  refine r_iload X 4 dL_law_2082 rfl ?_
  refine r_iconst X dL_law_2084 ?_
  refine r_iadd X dL_law_2085 ?_
  refine r_sld X hs hLb dL_law_2086 h (fun h => ?_)
  refine r_aload_n X 0 dL_law_2087 rfl rfl ?_
  refine r_iload X 4 dL_law_2088 rfl ?_
  refine r_iconst X dL_law_2090 ?_
  refine r_iadd X dL_law_2091 ?_
  refine r_sld X hs hLb dL_law_2092 h (fun h => ?_)
  obtain ⟨c64, h⟩ := ck_some h
  refine r_i2l X dL_law_2093 c64 ?_
  refine r_bipush X dL_law_2094 (by decide) ?_
  refine r_lshl X dL_law_2096 ?_
  refine r_aload_n X 0 dL_law_2097 rfl rfl ?_
  refine r_iload X 4 dL_law_2098 rfl ?_
  refine r_iconst X dL_law_2100 ?_
  refine r_iadd X dL_law_2101 ?_
  refine r_sld X hs hLb dL_law_2102 h (fun h => ?_)
  obtain ⟨c65, h⟩ := ck_some h
  refine r_i2l X dL_law_2103 c65 ?_
  refine r_ldc2 (z := 4294967295) X q1909 dL_law_2104 rfl ?_
  refine r_land X dL_law_2107 ?_
  refine r_lor X dL_law_2108 ?_
  refine r_aload_n X 0 dL_law_2109 rfl rfl ?_
  refine r_iload X 4 dL_law_2110 rfl ?_
  refine r_iconst X dL_law_2112 ?_
  refine r_iadd X dL_law_2113 ?_
  refine r_sld X hs hLb dL_law_2114 h (fun h => ?_)
  refine r_aload_n X 0 dL_law_2115 rfl rfl ?_
  refine r_iload X 4 dL_law_2116 rfl ?_
  refine r_iconst X dL_law_2118 ?_
  refine r_iadd X dL_law_2119 ?_
  refine r_sld X hs hLb dL_law_2120 h (fun h => ?_)
  refine r_aload_n X 0 dL_law_2121 rfl rfl ?_
  refine r_iload X 4 dL_law_2122 rfl ?_
  refine r_bipush X dL_law_2124 (by decide) ?_
  refine r_iadd X dL_law_2126 ?_
  refine r_sld X hs hLb dL_law_2127 h (fun h => ?_)
  obtain ⟨ho67, h⟩ := cO_some h
  obtain ⟨r68, σ69, h66, h⟩ := bd2_some h
  refine r_cV (Wd := 0) X (fun l D sz => w_X1_run l D sz h66) ho67.1 rfl q1139 q1140 q1138 q104 q1141 hy_X1_run rfl dL_law_2128 rfl rfl (Nat.le_of_ble_eq_true rfl) ⟨Nat.le_of_ble_eq_true rfl, Nat.le_of_ble_eq_true rfl⟩ ⟨(by show (112 + (64 - cn) * 86) + 0 ≤ 601024; omega), (by show (504441 + (64 - cn) * 40302) + 0 ≤ 7293034; omega)⟩ ?_
  refine r_aload_n X 2 dL_law_2131 rfl rfl ?_
  refine r_aload_n X 0 dL_law_2132 rfl rfl ?_
  refine r_iload X 4 dL_law_2133 rfl ?_
  refine r_iconst X dL_law_2135 ?_
  refine r_iadd X dL_law_2136 ?_
  refine r_sld X hs hLb dL_law_2137 h (fun h => ?_)
  refine r_aload_n X 0 dL_law_2138 rfl rfl ?_
  refine r_iload X 4 dL_law_2139 rfl ?_
  refine r_iconst X dL_law_2141 ?_
  refine r_iadd X dL_law_2142 ?_
  refine r_sld X hs hLb dL_law_2143 h (fun h => ?_)
  obtain ⟨c70, h⟩ := ck_some h
  refine r_i2l X dL_law_2144 c70 ?_
  refine r_bipush X dL_law_2145 (by decide) ?_
  refine r_lshl X dL_law_2147 ?_
  refine r_aload_n X 0 dL_law_2148 rfl rfl ?_
  refine r_iload X 4 dL_law_2149 rfl ?_
  refine r_iconst X dL_law_2151 ?_
  refine r_iadd X dL_law_2152 ?_
  refine r_sld X hs hLb dL_law_2153 h (fun h => ?_)
  obtain ⟨c71, h⟩ := ck_some h
  refine r_i2l X dL_law_2154 c71 ?_
  refine r_ldc2 (z := 4294967295) X q1909 dL_law_2155 rfl ?_
  refine r_land X dL_law_2158 ?_
  refine r_lor X dL_law_2159 ?_
  refine r_aload_n X 0 dL_law_2160 rfl rfl ?_
  refine r_iload X 4 dL_law_2161 rfl ?_
  refine r_iconst X dL_law_2163 ?_
  refine r_iadd X dL_law_2164 ?_
  refine r_sld X hs hLb dL_law_2165 h (fun h => ?_)
  refine r_aload_n X 0 dL_law_2166 rfl rfl ?_
  refine r_iload X 4 dL_law_2167 rfl ?_
  refine r_iconst X dL_law_2169 ?_
  refine r_iadd X dL_law_2170 ?_
  refine r_sld X hs hLb dL_law_2171 h (fun h => ?_)
  refine r_aload_n X 0 dL_law_2172 rfl rfl ?_
  refine r_iload X 4 dL_law_2173 rfl ?_
  refine r_bipush X dL_law_2175 (by decide) ?_
  refine r_iadd X dL_law_2177 ?_
  refine r_sld X hs hLb dL_law_2178 h (fun h => ?_)
  obtain ⟨ho73, h⟩ := cO_some h
  obtain ⟨r74, σ75, h72, h⟩ := bd2_some h
  refine r_cV (Wd := 1) X (fun l D sz => w_X6_run l D sz h72) ho73.1 rfl q1847 q1848 q1846 q109 q1849 hy_X6_run rfl dL_law_2179 rfl rfl (Nat.le_of_ble_eq_true rfl) ⟨Nat.le_of_ble_eq_true rfl, Nat.le_of_ble_eq_true rfl⟩ ⟨(by show (112 + (64 - cn) * 86) + 0 ≤ 601024; omega), (by show (504441 + (64 - cn) * 40302) + 0 ≤ 7293034; omega)⟩ ?_
  refine r_icmp_eq (tgt := 2568) X dL_law_2182 (by decide) h (fun c76 h => ?_) (fun c76 h => ?_)
  · refine r_iinc X 4 dL_law_2568 rfl (hL 4 (by decide)) (lv' := [(4, iv ((v4_j2080 + 8))), (0, .ref (b)), (1, .ref (p1)), (2, .ref (p2)), (3, .ref (p3))]) rfl ?_
    refine r_goto (tgt := 23) X dL_law_2571 (by decide) ?_
    exact V.widen (by show _ ≤ _; omega) (by show _ ≤ _; omega) <| V.sub [1, 2, 3, 4, 0] rfl (ihb1 _ (Option.some.inj h).symm)
  · have h := ex_some h ihe1
    refine V.widen (k' := 5616) (n' := 3083769) (by show _ ≤ _; omega) (by show _ ≤ _; omega) ?_
    refine r_iconst X dL_law_2185 ?_
    cases h
    exact absurd hw (by decide)
set_option maxHeartbeats 40000000 in
theorem w_L_J2031 {Γ : Ctx} {xs : Nat → Int} {L b p1 p2 p3 cn : Nat} {w : Int} {z1 : (Nat × Int × St) ⊕ Int} (X : Cx Γ cL_law "DayBoyLaw" ({ frames := 15, cells := 601024, slots := 7293034, locals := 634 } : Room)) (hL : ∀ i, i < 7 → i < nLc Γ) (htr : (lOf Γ).stackTraces = false) (hs : Scr Γ b L xs) (hLb : L < 2147483648) (hw : w = 1) (hn1 : 0 < cn) (hn2 : cn ≤ 64) (ihb1 : ∀ s : Nat × Int × St, z1 = Sum.inl s → V Γ (s.2.2) (112 + (64 - s.1) * 86) (504441 + (64 - s.1) * 40302) 23 [(0, .ref (b)), (1, .ref (p1)), (2, .ref (p2)), (3, .ref (p3)), (4, iv (s.2.1))] []) (ihe1 : ∀ r, z1 = Sum.inr r → r = w) : ∀ (v4_j2031 : Int) (σ_j2031 : St), f_L_law_j2031 (cn) (xs) (L) (b) (p1) (p2) (p3) v4_j2031 σ_j2031 = some z1 → V Γ σ_j2031 (112 + (64 - cn) * 86) (504441 + (64 - cn) * 40302) 2031 [(0, .ref (b)), (1, .ref (p1)), (2, .ref (p2)), (3, .ref (p3)), (4, iv (v4_j2031))] [] := by
  intro v4_j2031 σ_j2031 h
  unfold f_L_law_j2031 at h
  refine r_aload_n X 1 dL_law_2031 rfl rfl ?_
  refine r_aload_n X 0 dL_law_2032 rfl rfl ?_
  refine r_iload X 4 dL_law_2033 rfl ?_
  refine r_iconst X dL_law_2035 ?_
  refine r_iadd X dL_law_2036 ?_
  refine r_sld X hs hLb dL_law_2037 h (fun h => ?_)
  refine r_aload_n X 0 dL_law_2038 rfl rfl ?_
  refine r_iload X 4 dL_law_2039 rfl ?_
  refine r_iconst X dL_law_2041 ?_
  refine r_iadd X dL_law_2042 ?_
  refine r_sld X hs hLb dL_law_2043 h (fun h => ?_)
  refine r_aload_n X 0 dL_law_2044 rfl rfl ?_
  refine r_iload X 4 dL_law_2045 rfl ?_
  refine r_iconst X dL_law_2047 ?_
  refine r_iadd X dL_law_2048 ?_
  refine r_sld X hs hLb dL_law_2049 h (fun h => ?_)
  obtain ⟨ho78, h⟩ := cO_some h
  obtain ⟨r79, σ80, h77, h⟩ := bd2_some h
  refine r_cV (Wd := 0) X (fun l D sz => w_X1_row l D sz h77) ho78.1 rfl q1131 q1132 q1130 q104 q1133 hy_X1_row rfl dL_law_2050 rfl rfl (Nat.le_of_ble_eq_true rfl) ⟨Nat.le_of_ble_eq_true rfl, Nat.le_of_ble_eq_true rfl⟩ ⟨(by show (112 + (64 - cn) * 86) + 0 ≤ 601024; omega), (by show (504441 + (64 - cn) * 40302) + 0 ≤ 7293034; omega)⟩ ?_
  refine r_aload_n X 2 dL_law_2053 rfl rfl ?_
  refine r_aload_n X 0 dL_law_2054 rfl rfl ?_
  refine r_iload X 4 dL_law_2055 rfl ?_
  refine r_iconst X dL_law_2057 ?_
  refine r_iadd X dL_law_2058 ?_
  refine r_sld X hs hLb dL_law_2059 h (fun h => ?_)
  refine r_aload_n X 0 dL_law_2060 rfl rfl ?_
  refine r_iload X 4 dL_law_2061 rfl ?_
  refine r_iconst X dL_law_2063 ?_
  refine r_iadd X dL_law_2064 ?_
  refine r_sld X hs hLb dL_law_2065 h (fun h => ?_)
  refine r_aload_n X 0 dL_law_2066 rfl rfl ?_
  refine r_iload X 4 dL_law_2067 rfl ?_
  refine r_iconst X dL_law_2069 ?_
  refine r_iadd X dL_law_2070 ?_
  refine r_sld X hs hLb dL_law_2071 h (fun h => ?_)
  obtain ⟨ho82, h⟩ := cO_some h
  obtain ⟨r83, σ84, h81, h⟩ := bd2_some h
  refine r_cV (Wd := 1) X (fun l D sz => w_X6_row l D sz h81) ho82.1 rfl q1843 q1844 q1842 q109 q1845 hy_X6_row rfl dL_law_2072 rfl rfl (Nat.le_of_ble_eq_true rfl) ⟨Nat.le_of_ble_eq_true rfl, Nat.le_of_ble_eq_true rfl⟩ ⟨(by show (112 + (64 - cn) * 86) + 0 ≤ 601024; omega), (by show (504441 + (64 - cn) * 40302) + 0 ≤ 7293034; omega)⟩ ?_
  refine r_icmp_eq (tgt := 2568) X dL_law_2075 (by decide) h (fun c85 h => ?_) (fun c85 h => ?_)
  · refine r_iinc X 4 dL_law_2568 rfl (hL 4 (by decide)) (lv' := [(4, iv ((v4_j2031 + 8))), (0, .ref (b)), (1, .ref (p1)), (2, .ref (p2)), (3, .ref (p3))]) rfl ?_
    refine r_goto (tgt := 23) X dL_law_2571 (by decide) ?_
    exact V.widen (by show _ ≤ _; omega) (by show _ ≤ _; omega) <| V.sub [1, 2, 3, 4, 0] rfl (ihb1 _ (Option.some.inj h).symm)
  · have h := ex_some h ihe1
    refine V.widen (k' := 5616) (n' := 3083769) (by show _ ≤ _; omega) (by show _ ≤ _; omega) ?_
    refine r_iconst X dL_law_2078 ?_
    cases h
    exact absurd hw (by decide)
set_option maxHeartbeats 40000000 in
theorem w_L_J2018 {Γ : Ctx} {xs : Nat → Int} {L b p1 p2 p3 cn : Nat} {w : Int} {z1 : (Nat × Int × St) ⊕ Int} (X : Cx Γ cL_law "DayBoyLaw" ({ frames := 15, cells := 601024, slots := 7293034, locals := 634 } : Room)) (hL : ∀ i, i < 7 → i < nLc Γ) (htr : (lOf Γ).stackTraces = false) (hs : Scr Γ b L xs) (hLb : L < 2147483648) (hw : w = 1) (hn1 : 0 < cn) (hn2 : cn ≤ 64) (ihb1 : ∀ s : Nat × Int × St, z1 = Sum.inl s → V Γ (s.2.2) (112 + (64 - s.1) * 86) (504441 + (64 - s.1) * 40302) 23 [(0, .ref (b)), (1, .ref (p1)), (2, .ref (p2)), (3, .ref (p3)), (4, iv (s.2.1))] []) (ihe1 : ∀ r, z1 = Sum.inr r → r = w) : ∀ (v4_j2018 : Int) (σ_j2018 : St), f_L_law_j2018 (cn) (xs) (L) (b) (p1) (p2) (p3) v4_j2018 σ_j2018 = some z1 → V Γ σ_j2018 (112 + (64 - cn) * 86) (504441 + (64 - cn) * 40302) 2018 [(0, .ref (b)), (1, .ref (p1)), (2, .ref (p2)), (3, .ref (p3)), (4, iv (v4_j2018))] [] := by
  intro v4_j2018 σ_j2018 h
  unfold f_L_law_j2018 at h
  refine r_aload_n X 1 dL_law_2018 rfl rfl ?_
  obtain ⟨ho87, h⟩ := cO_some h
  obtain ⟨r88, σ89, h86, h⟩ := bd2_some h
  refine r_cV (Wd := 0) X (fun l D sz => w_X1_back l D sz h86) ho87.1 rfl q1197 q1198 q1196 q104 q1199 hy_X1_back rfl dL_law_2019 rfl rfl (Nat.le_of_ble_eq_true rfl) ⟨Nat.le_of_ble_eq_true rfl, Nat.le_of_ble_eq_true rfl⟩ ⟨(by show (112 + (64 - cn) * 86) + 0 ≤ 601024; omega), (by show (504441 + (64 - cn) * 40302) + 0 ≤ 7293034; omega)⟩ ?_
  refine r_aload_n X 2 dL_law_2022 rfl rfl ?_
  obtain ⟨ho91, h⟩ := cO_some h
  obtain ⟨r92, σ93, h90, h⟩ := bd2_some h
  refine r_cV (Wd := 1) X (fun l D sz => w_X6_back l D sz h90) ho91.1 rfl q1839 q1840 q1838 q109 q1841 hy_X6_back rfl dL_law_2023 rfl rfl (Nat.le_of_ble_eq_true rfl) ⟨Nat.le_of_ble_eq_true rfl, Nat.le_of_ble_eq_true rfl⟩ ⟨(by show (112 + (64 - cn) * 86) + 0 ≤ 601024; omega), (by show (504441 + (64 - cn) * 40302) + 0 ≤ 7293034; omega)⟩ ?_
  refine r_icmp_eq (tgt := 2568) X dL_law_2026 (by decide) h (fun c94 h => ?_) (fun c94 h => ?_)
  · refine r_iinc X 4 dL_law_2568 rfl (hL 4 (by decide)) (lv' := [(4, iv ((v4_j2018 + 8))), (0, .ref (b)), (1, .ref (p1)), (2, .ref (p2)), (3, .ref (p3))]) rfl ?_
    refine r_goto (tgt := 23) X dL_law_2571 (by decide) ?_
    exact V.widen (by show _ ≤ _; omega) (by show _ ≤ _; omega) <| V.sub [1, 2, 3, 4, 0] rfl (ihb1 _ (Option.some.inj h).symm)
  · have h := ex_some h ihe1
    refine V.widen (k' := 5616) (n' := 3083769) (by show _ ≤ _; omega) (by show _ ≤ _; omega) ?_
    refine r_iconst X dL_law_2029 ?_
    cases h
    exact absurd hw (by decide)
set_option maxHeartbeats 40000000 in
theorem w_L_J2005 {Γ : Ctx} {xs : Nat → Int} {L b p1 p2 p3 cn : Nat} {w : Int} {z1 : (Nat × Int × St) ⊕ Int} (X : Cx Γ cL_law "DayBoyLaw" ({ frames := 15, cells := 601024, slots := 7293034, locals := 634 } : Room)) (hL : ∀ i, i < 7 → i < nLc Γ) (htr : (lOf Γ).stackTraces = false) (hs : Scr Γ b L xs) (hLb : L < 2147483648) (hw : w = 1) (hn1 : 0 < cn) (hn2 : cn ≤ 64) (ihb1 : ∀ s : Nat × Int × St, z1 = Sum.inl s → V Γ (s.2.2) (112 + (64 - s.1) * 86) (504441 + (64 - s.1) * 40302) 23 [(0, .ref (b)), (1, .ref (p1)), (2, .ref (p2)), (3, .ref (p3)), (4, iv (s.2.1))] []) (ihe1 : ∀ r, z1 = Sum.inr r → r = w) : ∀ (v4_j2005 : Int) (σ_j2005 : St), f_L_law_j2005 (cn) (xs) (L) (b) (p1) (p2) (p3) v4_j2005 σ_j2005 = some z1 → V Γ σ_j2005 (112 + (64 - cn) * 86) (504441 + (64 - cn) * 40302) 2005 [(0, .ref (b)), (1, .ref (p1)), (2, .ref (p2)), (3, .ref (p3)), (4, iv (v4_j2005))] [] := by
  intro v4_j2005 σ_j2005 h
  unfold f_L_law_j2005 at h
  refine r_aload_n X 1 dL_law_2005 rfl rfl ?_
  obtain ⟨ho96, h⟩ := cO_some h
  obtain ⟨r97, σ98, h95, h⟩ := bd2_some h
  refine r_cV (Wd := 0) X (fun l D sz => w_X1_keep l D sz h95) ho96.1 rfl q1193 q1194 q1192 q104 q1195 hy_X1_keep rfl dL_law_2006 rfl rfl (Nat.le_of_ble_eq_true rfl) ⟨Nat.le_of_ble_eq_true rfl, Nat.le_of_ble_eq_true rfl⟩ ⟨(by show (112 + (64 - cn) * 86) + 0 ≤ 601024; omega), (by show (504441 + (64 - cn) * 40302) + 0 ≤ 7293034; omega)⟩ ?_
  refine r_aload_n X 2 dL_law_2009 rfl rfl ?_
  obtain ⟨ho100, h⟩ := cO_some h
  obtain ⟨r101, σ102, h99, h⟩ := bd2_some h
  refine r_cV (Wd := 1) X (fun l D sz => w_X6_keep l D sz h99) ho100.1 rfl q1835 q1836 q1834 q109 q1837 hy_X6_keep rfl dL_law_2010 rfl rfl (Nat.le_of_ble_eq_true rfl) ⟨Nat.le_of_ble_eq_true rfl, Nat.le_of_ble_eq_true rfl⟩ ⟨(by show (112 + (64 - cn) * 86) + 0 ≤ 601024; omega), (by show (504441 + (64 - cn) * 40302) + 0 ≤ 7293034; omega)⟩ ?_
  refine r_icmp_eq (tgt := 2568) X dL_law_2013 (by decide) h (fun c103 h => ?_) (fun c103 h => ?_)
  · refine r_iinc X 4 dL_law_2568 rfl (hL 4 (by decide)) (lv' := [(4, iv ((v4_j2005 + 8))), (0, .ref (b)), (1, .ref (p1)), (2, .ref (p2)), (3, .ref (p3))]) rfl ?_
    refine r_goto (tgt := 23) X dL_law_2571 (by decide) ?_
    exact V.widen (by show _ ≤ _; omega) (by show _ ≤ _; omega) <| V.sub [1, 2, 3, 4, 0] rfl (ihb1 _ (Option.some.inj h).symm)
  · have h := ex_some h ihe1
    refine V.widen (k' := 5616) (n' := 3083769) (by show _ ≤ _; omega) (by show _ ≤ _; omega) ?_
    refine r_iconst X dL_law_2016 ?_
    cases h
    exact absurd hw (by decide)
set_option maxHeartbeats 40000000 in
theorem w_L_J1980 {Γ : Ctx} {xs : Nat → Int} {L b p1 p2 p3 cn : Nat} {w : Int} {z1 : (Nat × Int × St) ⊕ Int} (X : Cx Γ cL_law "DayBoyLaw" ({ frames := 15, cells := 601024, slots := 7293034, locals := 634 } : Room)) (hL : ∀ i, i < 7 → i < nLc Γ) (htr : (lOf Γ).stackTraces = false) (hs : Scr Γ b L xs) (hLb : L < 2147483648) (hw : w = 1) (hn1 : 0 < cn) (hn2 : cn ≤ 64) (ihb1 : ∀ s : Nat × Int × St, z1 = Sum.inl s → V Γ (s.2.2) (112 + (64 - s.1) * 86) (504441 + (64 - s.1) * 40302) 23 [(0, .ref (b)), (1, .ref (p1)), (2, .ref (p2)), (3, .ref (p3)), (4, iv (s.2.1))] []) (ihe1 : ∀ r, z1 = Sum.inr r → r = w) : ∀ (v4_j1980 : Int) (σ_j1980 : St), f_L_law_j1980 (cn) (xs) (L) (b) (p1) (p2) (p3) v4_j1980 σ_j1980 = some z1 → V Γ σ_j1980 (112 + (64 - cn) * 86) (504441 + (64 - cn) * 40302) 1980 [(0, .ref (b)), (1, .ref (p1)), (2, .ref (p2)), (3, .ref (p3)), (4, iv (v4_j1980))] [] := by
  intro v4_j1980 σ_j1980 h
  unfold f_L_law_j1980 at h
  refine r_aload_n X 1 dL_law_1980 rfl rfl ?_
  refine r_aload_n X 0 dL_law_1981 rfl rfl ?_
  refine r_iload X 4 dL_law_1982 rfl ?_
  refine r_iconst X dL_law_1984 ?_
  refine r_iadd X dL_law_1985 ?_
  refine r_sld X hs hLb dL_law_1986 h (fun h => ?_)
  obtain ⟨ho105, h⟩ := cO_some h
  obtain ⟨r106, h104, h⟩ := bd_some h
  refine r_cV (Wd := 0) X (fun l D sz => w_X1_spell l D sz h104) ho105.1 rfl q1124 q1125 q1123 q104 q1126 hy_X1_spell rfl dL_law_1987 rfl rfl (Nat.le_of_ble_eq_true rfl) ⟨Nat.le_of_ble_eq_true rfl, Nat.le_of_ble_eq_true rfl⟩ ⟨(by show (112 + (64 - cn) * 86) + 0 ≤ 601024; omega), (by show (504441 + (64 - cn) * 40302) + 0 ≤ 7293034; omega)⟩ ?_
  refine r_aload_n X 2 dL_law_1990 rfl rfl ?_
  refine r_aload_n X 0 dL_law_1991 rfl rfl ?_
  refine r_iload X 4 dL_law_1992 rfl ?_
  refine r_iconst X dL_law_1994 ?_
  refine r_iadd X dL_law_1995 ?_
  refine r_sld X hs hLb dL_law_1996 h (fun h => ?_)
  obtain ⟨ho108, h⟩ := cO_some h
  obtain ⟨r109, h107, h⟩ := bd_some h
  refine r_cV (Wd := 1) X (fun l D sz => w_X6_spell l D sz h107) ho108.1 rfl q1827 q1828 q1826 q109 q1829 hy_X6_spell rfl dL_law_1997 rfl rfl (Nat.le_of_ble_eq_true rfl) ⟨Nat.le_of_ble_eq_true rfl, Nat.le_of_ble_eq_true rfl⟩ ⟨(by show (112 + (64 - cn) * 86) + 0 ≤ 601024; omega), (by show (504441 + (64 - cn) * 40302) + 0 ≤ 7293034; omega)⟩ ?_
  refine r_icmp_eq (tgt := 2568) X dL_law_2000 (by decide) h (fun c110 h => ?_) (fun c110 h => ?_)
  · refine r_iinc X 4 dL_law_2568 rfl (hL 4 (by decide)) (lv' := [(4, iv ((v4_j1980 + 8))), (0, .ref (b)), (1, .ref (p1)), (2, .ref (p2)), (3, .ref (p3))]) rfl ?_
    refine r_goto (tgt := 23) X dL_law_2571 (by decide) ?_
    exact V.widen (by show _ ≤ _; omega) (by show _ ≤ _; omega) <| V.sub [1, 2, 3, 4, 0] rfl (ihb1 _ (Option.some.inj h).symm)
  · have h := ex_some h ihe1
    refine V.widen (k' := 5616) (n' := 3083769) (by show _ ≤ _; omega) (by show _ ≤ _; omega) ?_
    refine r_iconst X dL_law_2003 ?_
    cases h
    exact absurd hw (by decide)
