/-! cases of the law (printed by gen.py, lawsplit.py) -/
set_option maxRecDepth 100000
set_option maxHeartbeats 40000000 in
theorem w_L_J1919 {Γ : Ctx} {xs : Nat → Int} {L b p1 p2 p3 cn : Nat} {w : Int} {z1 : (Nat × Int × St) ⊕ Int} (X : Cx Γ cL_law "DayBoyLaw" ({ frames := 15, cells := 601024, slots := 7293034, locals := 634 } : Room)) (hL : ∀ i, i < 7 → i < nLc Γ) (htr : (lOf Γ).stackTraces = false) (hs : Scr Γ b L xs) (hLb : L < 2147483648) (hw : w = 1) (hn1 : 0 < cn) (hn2 : cn ≤ 64) (ihb1 : ∀ s : Nat × Int × St, z1 = Sum.inl s → V Γ (s.2.2) (112 + (64 - s.1) * 86) (504441 + (64 - s.1) * 40302) 23 [(0, .ref (b)), (1, .ref (p1)), (2, .ref (p2)), (3, .ref (p3)), (4, iv (s.2.1))] []) (ihe1 : ∀ r, z1 = Sum.inr r → r = w) : ∀ (v4_j1919 : Int) (σ_j1919 : St), f_L_law_j1919 (cn) (xs) (L) (b) (p1) (p2) (p3) v4_j1919 σ_j1919 = some z1 → V Γ σ_j1919 (112 + (64 - cn) * 86) (504441 + (64 - cn) * 40302) 1919 [(0, .ref (b)), (1, .ref (p1)), (2, .ref (p2)), (3, .ref (p3)), (4, iv (v4_j1919))] [] := by
  intro v4_j1919 σ_j1919 h
  unfold f_L_law_j1919 at h
  refine r_aload_n X 1 dL_law_1919 rfl rfl ?_
  refine r_aload_n X 0 dL_law_1920 rfl rfl ?_
  refine r_iload X 4 dL_law_1921 rfl ?_
  refine r_iconst X dL_law_1923 ?_
  refine r_iadd X dL_law_1924 ?_
  refine r_sld X hs hLb dL_law_1925 h (fun h => ?_)
  refine r_aload_n X 0 dL_law_1926 rfl rfl ?_
  refine r_iload X 4 dL_law_1927 rfl ?_
  refine r_iconst X dL_law_1929 ?_
  refine r_iadd X dL_law_1930 ?_
  refine r_sld X hs hLb dL_law_1931 h (fun h => ?_)
  refine r_aload_n X 0 dL_law_1932 rfl rfl ?_
  refine r_iload X 4 dL_law_1933 rfl ?_
  refine r_iconst X dL_law_1935 ?_
  refine r_iadd X dL_law_1936 ?_
  refine r_sld X hs hLb dL_law_1937 h (fun h => ?_)
  refine r_aload_n X 0 dL_law_1938 rfl rfl ?_
  refine r_iload X 4 dL_law_1939 rfl ?_
  refine r_iconst X dL_law_1941 ?_
  refine r_iadd X dL_law_1942 ?_
  refine r_sld X hs hLb dL_law_1943 h (fun h => ?_)
  obtain ⟨ho112, h⟩ := cO_some h
  obtain ⟨r113, h111, h⟩ := bd_some h
  refine r_cV (Wd := 0) X (fun l D sz => w_X1_held l D sz h111) ho112.1 rfl q1116 q1117 q1115 q104 q1118 hy_X1_held rfl dL_law_1944 rfl rfl (Nat.le_of_ble_eq_true rfl) ⟨Nat.le_of_ble_eq_true rfl, Nat.le_of_ble_eq_true rfl⟩ ⟨(by show (112 + (64 - cn) * 86) + 0 ≤ 601024; omega), (by show (504441 + (64 - cn) * 40302) + 0 ≤ 7293034; omega)⟩ ?_
  refine r_aload_n X 2 dL_law_1947 rfl rfl ?_
  refine r_aload_n X 0 dL_law_1948 rfl rfl ?_
  refine r_iload X 4 dL_law_1949 rfl ?_
  refine r_iconst X dL_law_1951 ?_
  refine r_iadd X dL_law_1952 ?_
  refine r_sld X hs hLb dL_law_1953 h (fun h => ?_)
  refine r_aload_n X 0 dL_law_1954 rfl rfl ?_
  refine r_iload X 4 dL_law_1955 rfl ?_
  refine r_iconst X dL_law_1957 ?_
  refine r_iadd X dL_law_1958 ?_
  refine r_sld X hs hLb dL_law_1959 h (fun h => ?_)
  refine r_aload_n X 0 dL_law_1960 rfl rfl ?_
  refine r_iload X 4 dL_law_1961 rfl ?_
  refine r_iconst X dL_law_1963 ?_
  refine r_iadd X dL_law_1964 ?_
  refine r_sld X hs hLb dL_law_1965 h (fun h => ?_)
  refine r_aload_n X 0 dL_law_1966 rfl rfl ?_
  refine r_iload X 4 dL_law_1967 rfl ?_
  refine r_iconst X dL_law_1969 ?_
  refine r_iadd X dL_law_1970 ?_
  refine r_sld X hs hLb dL_law_1971 h (fun h => ?_)
  obtain ⟨ho115, h⟩ := cO_some h
  obtain ⟨r116, h114, h⟩ := bd_some h
  refine r_cV (Wd := 1) X (fun l D sz => w_X6_held l D sz h114) ho115.1 rfl q1823 q1824 q1822 q109 q1825 hy_X6_held rfl dL_law_1972 rfl rfl (Nat.le_of_ble_eq_true rfl) ⟨Nat.le_of_ble_eq_true rfl, Nat.le_of_ble_eq_true rfl⟩ ⟨(by show (112 + (64 - cn) * 86) + 0 ≤ 601024; omega), (by show (504441 + (64 - cn) * 40302) + 0 ≤ 7293034; omega)⟩ ?_
  refine r_icmp_eq (tgt := 2568) X dL_law_1975 (by decide) h (fun c117 h => ?_) (fun c117 h => ?_)
  · refine r_iinc X 4 dL_law_2568 rfl (hL 4 (by decide)) (lv' := [(4, iv ((v4_j1919 + 8))), (0, .ref (b)), (1, .ref (p1)), (2, .ref (p2)), (3, .ref (p3))]) rfl ?_
    refine r_goto (tgt := 23) X dL_law_2571 (by decide) ?_
    exact V.widen (by show _ ≤ _; omega) (by show _ ≤ _; omega) <| V.sub [1, 2, 3, 4, 0] rfl (ihb1 _ (Option.some.inj h).symm)
  · have h := ex_some h ihe1
    refine V.widen (k' := 5616) (n' := 3083769) (by show _ ≤ _; omega) (by show _ ≤ _; omega) ?_
    refine r_iconst X dL_law_1978 ?_
    cases h
    exact absurd hw (by decide)
set_option maxHeartbeats 40000000 in
theorem w_L_J1846 {Γ : Ctx} {xs : Nat → Int} {L b p1 p2 p3 cn : Nat} {w : Int} {z1 : (Nat × Int × St) ⊕ Int} (X : Cx Γ cL_law "DayBoyLaw" ({ frames := 15, cells := 601024, slots := 7293034, locals := 634 } : Room)) (hL : ∀ i, i < 7 → i < nLc Γ) (htr : (lOf Γ).stackTraces = false) (hs : Scr Γ b L xs) (hLb : L < 2147483648) (hw : w = 1) (hn1 : 0 < cn) (hn2 : cn ≤ 64) (ihb1 : ∀ s : Nat × Int × St, z1 = Sum.inl s → V Γ (s.2.2) (112 + (64 - s.1) * 86) (504441 + (64 - s.1) * 40302) 23 [(0, .ref (b)), (1, .ref (p1)), (2, .ref (p2)), (3, .ref (p3)), (4, iv (s.2.1))] []) (ihe1 : ∀ r, z1 = Sum.inr r → r = w) : ∀ (v4_j1846 : Int) (σ_j1846 : St), f_L_law_j1846 (cn) (xs) (L) (b) (p1) (p2) (p3) v4_j1846 σ_j1846 = some z1 → V Γ σ_j1846 (112 + (64 - cn) * 86) (504441 + (64 - cn) * 40302) 1846 [(0, .ref (b)), (1, .ref (p1)), (2, .ref (p2)), (3, .ref (p3)), (4, iv (v4_j1846))] [] := by
  intro v4_j1846 σ_j1846 h
  unfold f_L_law_j1846 at h
  refine r_aload_n X 1 dL_law_1846 rfl rfl ?_
  refine r_aload_n X 0 dL_law_1847 rfl rfl ?_
  refine r_iload X 4 dL_law_1848 rfl ?_
  refine r_iconst X dL_law_1850 ?_
  refine r_iadd X dL_law_1851 ?_
  refine r_sld X hs hLb dL_law_1852 h (fun h => ?_)
  refine r_aload_n X 0 dL_law_1853 rfl rfl ?_
  refine r_iload X 4 dL_law_1854 rfl ?_
  refine r_iconst X dL_law_1856 ?_
  refine r_iadd X dL_law_1857 ?_
  refine r_sld X hs hLb dL_law_1858 h (fun h => ?_)
  refine r_aload_n X 0 dL_law_1859 rfl rfl ?_
  refine r_iload X 4 dL_law_1860 rfl ?_
  refine r_iconst X dL_law_1862 ?_
  refine r_iadd X dL_law_1863 ?_
  refine r_sld X hs hLb dL_law_1864 h (fun h => ?_)
  refine r_aload_n X 0 dL_law_1865 rfl rfl ?_
  refine r_iload X 4 dL_law_1866 rfl ?_
  refine r_iconst X dL_law_1868 ?_
  refine r_iadd X dL_law_1869 ?_
  refine r_sld X hs hLb dL_law_1870 h (fun h => ?_)
  refine r_aload_n X 0 dL_law_1871 rfl rfl ?_
  refine r_iload X 4 dL_law_1872 rfl ?_
  refine r_iconst X dL_law_1874 ?_
  refine r_iadd X dL_law_1875 ?_
  refine r_sld X hs hLb dL_law_1876 h (fun h => ?_)
  obtain ⟨ho119, h⟩ := cO_some h
  obtain ⟨r120, σ121, h118, h⟩ := bd2_some h
  refine r_cV (Wd := 0) X (fun l D sz => w_X1_event l D sz h118) ho119.1 rfl q1112 q1113 q1111 q104 q1114 hy_X1_event rfl dL_law_1877 rfl rfl (Nat.le_of_ble_eq_true rfl) ⟨Nat.le_of_ble_eq_true rfl, Nat.le_of_ble_eq_true rfl⟩ ⟨(by show (112 + (64 - cn) * 86) + 0 ≤ 601024; omega), (by show (504441 + (64 - cn) * 40302) + 0 ≤ 7293034; omega)⟩ ?_
  refine r_aload_n X 2 dL_law_1880 rfl rfl ?_
  refine r_aload_n X 0 dL_law_1881 rfl rfl ?_
  refine r_iload X 4 dL_law_1882 rfl ?_
  refine r_iconst X dL_law_1884 ?_
  refine r_iadd X dL_law_1885 ?_
  refine r_sld X hs hLb dL_law_1886 h (fun h => ?_)
  refine r_aload_n X 0 dL_law_1887 rfl rfl ?_
  refine r_iload X 4 dL_law_1888 rfl ?_
  refine r_iconst X dL_law_1890 ?_
  refine r_iadd X dL_law_1891 ?_
  refine r_sld X hs hLb dL_law_1892 h (fun h => ?_)
  refine r_aload_n X 0 dL_law_1893 rfl rfl ?_
  refine r_iload X 4 dL_law_1894 rfl ?_
  refine r_iconst X dL_law_1896 ?_
  refine r_iadd X dL_law_1897 ?_
  refine r_sld X hs hLb dL_law_1898 h (fun h => ?_)
  refine r_aload_n X 0 dL_law_1899 rfl rfl ?_
  refine r_iload X 4 dL_law_1900 rfl ?_
  refine r_iconst X dL_law_1902 ?_
  refine r_iadd X dL_law_1903 ?_
  refine r_sld X hs hLb dL_law_1904 h (fun h => ?_)
  refine r_aload_n X 0 dL_law_1905 rfl rfl ?_
  refine r_iload X 4 dL_law_1906 rfl ?_
  refine r_iconst X dL_law_1908 ?_
  refine r_iadd X dL_law_1909 ?_
  refine r_sld X hs hLb dL_law_1910 h (fun h => ?_)
  obtain ⟨ho123, h⟩ := cO_some h
  obtain ⟨r124, σ125, h122, h⟩ := bd2_some h
  refine r_cV (Wd := 1) X (fun l D sz => w_X6_event l D sz h122) ho123.1 rfl q1819 q1820 q1818 q109 q1821 hy_X6_event rfl dL_law_1911 rfl rfl (Nat.le_of_ble_eq_true rfl) ⟨Nat.le_of_ble_eq_true rfl, Nat.le_of_ble_eq_true rfl⟩ ⟨(by show (112 + (64 - cn) * 86) + 0 ≤ 601024; omega), (by show (504441 + (64 - cn) * 40302) + 0 ≤ 7293034; omega)⟩ ?_
  refine r_icmp_eq (tgt := 2568) X dL_law_1914 (by decide) h (fun c126 h => ?_) (fun c126 h => ?_)
  · refine r_iinc X 4 dL_law_2568 rfl (hL 4 (by decide)) (lv' := [(4, iv ((v4_j1846 + 8))), (0, .ref (b)), (1, .ref (p1)), (2, .ref (p2)), (3, .ref (p3))]) rfl ?_
    refine r_goto (tgt := 23) X dL_law_2571 (by decide) ?_
    exact V.widen (by show _ ≤ _; omega) (by show _ ≤ _; omega) <| V.sub [1, 2, 3, 4, 0] rfl (ihb1 _ (Option.some.inj h).symm)
  · have h := ex_some h ihe1
    refine V.widen (k' := 5616) (n' := 3083769) (by show _ ≤ _; omega) (by show _ ≤ _; omega) ?_
    refine r_iconst X dL_law_1917 ?_
    cases h
    exact absurd hw (by decide)
set_option maxHeartbeats 40000000 in
theorem w_L_J1785 {Γ : Ctx} {xs : Nat → Int} {L b p1 p2 p3 cn : Nat} {w : Int} {z1 : (Nat × Int × St) ⊕ Int} (X : Cx Γ cL_law "DayBoyLaw" ({ frames := 15, cells := 601024, slots := 7293034, locals := 634 } : Room)) (hL : ∀ i, i < 7 → i < nLc Γ) (htr : (lOf Γ).stackTraces = false) (hs : Scr Γ b L xs) (hLb : L < 2147483648) (hw : w = 1) (hn1 : 0 < cn) (hn2 : cn ≤ 64) (ihb1 : ∀ s : Nat × Int × St, z1 = Sum.inl s → V Γ (s.2.2) (112 + (64 - s.1) * 86) (504441 + (64 - s.1) * 40302) 23 [(0, .ref (b)), (1, .ref (p1)), (2, .ref (p2)), (3, .ref (p3)), (4, iv (s.2.1))] []) (ihe1 : ∀ r, z1 = Sum.inr r → r = w) : ∀ (v4_j1785 : Int) (σ_j1785 : St), f_L_law_j1785 (cn) (xs) (L) (b) (p1) (p2) (p3) v4_j1785 σ_j1785 = some z1 → V Γ σ_j1785 (112 + (64 - cn) * 86) (504441 + (64 - cn) * 40302) 1785 [(0, .ref (b)), (1, .ref (p1)), (2, .ref (p2)), (3, .ref (p3)), (4, iv (v4_j1785))] [] := by
  intro v4_j1785 σ_j1785 h
  unfold f_L_law_j1785 at h
  refine r_aload_n X 1 dL_law_1785 rfl rfl ?_
  refine r_aload_n X 0 dL_law_1786 rfl rfl ?_
  refine r_iload X 4 dL_law_1787 rfl ?_
  refine r_iconst X dL_law_1789 ?_
  refine r_iadd X dL_law_1790 ?_
  refine r_sld X hs hLb dL_law_1791 h (fun h => ?_)
  refine r_aload_n X 0 dL_law_1792 rfl rfl ?_
  refine r_iload X 4 dL_law_1793 rfl ?_
  refine r_iconst X dL_law_1795 ?_
  refine r_iadd X dL_law_1796 ?_
  refine r_sld X hs hLb dL_law_1797 h (fun h => ?_)
  refine r_aload_n X 0 dL_law_1798 rfl rfl ?_
  refine r_iload X 4 dL_law_1799 rfl ?_
  refine r_iconst X dL_law_1801 ?_
  refine r_iadd X dL_law_1802 ?_
  refine r_sld X hs hLb dL_law_1803 h (fun h => ?_)
  refine r_aload_n X 0 dL_law_1804 rfl rfl ?_
  refine r_iload X 4 dL_law_1805 rfl ?_
  refine r_iconst X dL_law_1807 ?_
  refine r_iadd X dL_law_1808 ?_
  refine r_sld X hs hLb dL_law_1809 h (fun h => ?_)
  obtain ⟨ho128, h⟩ := cO_some h
  obtain ⟨r129, h127, h⟩ := bd_some h
  refine r_cV (Wd := 0) X (fun l D sz => w_X1_age l D sz h127) ho128.1 rfl q996 q997 q995 q104 q998 hy_X1_age rfl dL_law_1810 rfl rfl (Nat.le_of_ble_eq_true rfl) ⟨Nat.le_of_ble_eq_true rfl, Nat.le_of_ble_eq_true rfl⟩ ⟨(by show (112 + (64 - cn) * 86) + 0 ≤ 601024; omega), (by show (504441 + (64 - cn) * 40302) + 0 ≤ 7293034; omega)⟩ ?_
  refine r_aload_n X 2 dL_law_1813 rfl rfl ?_
  refine r_aload_n X 0 dL_law_1814 rfl rfl ?_
  refine r_iload X 4 dL_law_1815 rfl ?_
  refine r_iconst X dL_law_1817 ?_
  refine r_iadd X dL_law_1818 ?_
  refine r_sld X hs hLb dL_law_1819 h (fun h => ?_)
  refine r_aload_n X 0 dL_law_1820 rfl rfl ?_
  refine r_iload X 4 dL_law_1821 rfl ?_
  refine r_iconst X dL_law_1823 ?_
  refine r_iadd X dL_law_1824 ?_
  refine r_sld X hs hLb dL_law_1825 h (fun h => ?_)
  refine r_aload_n X 0 dL_law_1826 rfl rfl ?_
  refine r_iload X 4 dL_law_1827 rfl ?_
  refine r_iconst X dL_law_1829 ?_
  refine r_iadd X dL_law_1830 ?_
  refine r_sld X hs hLb dL_law_1831 h (fun h => ?_)
  refine r_aload_n X 0 dL_law_1832 rfl rfl ?_
  refine r_iload X 4 dL_law_1833 rfl ?_
  refine r_iconst X dL_law_1835 ?_
  refine r_iadd X dL_law_1836 ?_
  refine r_sld X hs hLb dL_law_1837 h (fun h => ?_)
  obtain ⟨ho131, h⟩ := cO_some h
  obtain ⟨r132, h130, h⟩ := bd_some h
  refine r_cV (Wd := 1) X (fun l D sz => w_X6_age l D sz h130) ho131.1 rfl q1811 q1812 q1810 q109 q1813 hy_X6_age rfl dL_law_1838 rfl rfl (Nat.le_of_ble_eq_true rfl) ⟨Nat.le_of_ble_eq_true rfl, Nat.le_of_ble_eq_true rfl⟩ ⟨(by show (112 + (64 - cn) * 86) + 0 ≤ 601024; omega), (by show (504441 + (64 - cn) * 40302) + 0 ≤ 7293034; omega)⟩ ?_
  refine r_icmp_eq (tgt := 2568) X dL_law_1841 (by decide) h (fun c133 h => ?_) (fun c133 h => ?_)
  · refine r_iinc X 4 dL_law_2568 rfl (hL 4 (by decide)) (lv' := [(4, iv ((v4_j1785 + 8))), (0, .ref (b)), (1, .ref (p1)), (2, .ref (p2)), (3, .ref (p3))]) rfl ?_
    refine r_goto (tgt := 23) X dL_law_2571 (by decide) ?_
    exact V.widen (by show _ ≤ _; omega) (by show _ ≤ _; omega) <| V.sub [1, 2, 3, 4, 0] rfl (ihb1 _ (Option.some.inj h).symm)
  · have h := ex_some h ihe1
    refine V.widen (k' := 5616) (n' := 3083769) (by show _ ≤ _; omega) (by show _ ≤ _; omega) ?_
    refine r_iconst X dL_law_1844 ?_
    cases h
    exact absurd hw (by decide)
set_option maxHeartbeats 40000000 in
theorem w_L_J1724 {Γ : Ctx} {xs : Nat → Int} {L b p1 p2 p3 cn : Nat} {w : Int} {z1 : (Nat × Int × St) ⊕ Int} (X : Cx Γ cL_law "DayBoyLaw" ({ frames := 15, cells := 601024, slots := 7293034, locals := 634 } : Room)) (hL : ∀ i, i < 7 → i < nLc Γ) (htr : (lOf Γ).stackTraces = false) (hs : Scr Γ b L xs) (hLb : L < 2147483648) (hw : w = 1) (hn1 : 0 < cn) (hn2 : cn ≤ 64) (ihb1 : ∀ s : Nat × Int × St, z1 = Sum.inl s → V Γ (s.2.2) (112 + (64 - s.1) * 86) (504441 + (64 - s.1) * 40302) 23 [(0, .ref (b)), (1, .ref (p1)), (2, .ref (p2)), (3, .ref (p3)), (4, iv (s.2.1))] []) (ihe1 : ∀ r, z1 = Sum.inr r → r = w) : ∀ (v4_j1724 : Int) (σ_j1724 : St), f_L_law_j1724 (cn) (xs) (L) (b) (p1) (p2) (p3) v4_j1724 σ_j1724 = some z1 → V Γ σ_j1724 (112 + (64 - cn) * 86) (504441 + (64 - cn) * 40302) 1724 [(0, .ref (b)), (1, .ref (p1)), (2, .ref (p2)), (3, .ref (p3)), (4, iv (v4_j1724))] [] := by
  intro v4_j1724 σ_j1724 h
  unfold f_L_law_j1724 at h
  refine r_aload_n X 1 dL_law_1724 rfl rfl ?_
  refine r_aload_n X 0 dL_law_1725 rfl rfl ?_
  refine r_iload X 4 dL_law_1726 rfl ?_
  refine r_iconst X dL_law_1728 ?_
  refine r_iadd X dL_law_1729 ?_
  refine r_sld X hs hLb dL_law_1730 h (fun h => ?_)
  refine r_aload_n X 0 dL_law_1731 rfl rfl ?_
  refine r_iload X 4 dL_law_1732 rfl ?_
  refine r_iconst X dL_law_1734 ?_
  refine r_iadd X dL_law_1735 ?_
  refine r_sld X hs hLb dL_law_1736 h (fun h => ?_)
  refine r_aload_n X 0 dL_law_1737 rfl rfl ?_
  refine r_iload X 4 dL_law_1738 rfl ?_
  refine r_iconst X dL_law_1740 ?_
  refine r_iadd X dL_law_1741 ?_
  refine r_sld X hs hLb dL_law_1742 h (fun h => ?_)
  refine r_aload_n X 0 dL_law_1743 rfl rfl ?_
  refine r_iload X 4 dL_law_1744 rfl ?_
  refine r_iconst X dL_law_1746 ?_
  refine r_iadd X dL_law_1747 ?_
  refine r_sld X hs hLb dL_law_1748 h (fun h => ?_)
  obtain ⟨ho135, h⟩ := cO_some h
  obtain ⟨r136, σ137, h134, h⟩ := bd2_some h
  refine r_cV (Wd := 0) X (fun l D sz => w_X1_born l D sz h134) ho135.1 rfl q992 q993 q991 q104 q994 hy_X1_born rfl dL_law_1749 rfl rfl (Nat.le_of_ble_eq_true rfl) ⟨Nat.le_of_ble_eq_true rfl, Nat.le_of_ble_eq_true rfl⟩ ⟨(by show (112 + (64 - cn) * 86) + 0 ≤ 601024; omega), (by show (504441 + (64 - cn) * 40302) + 0 ≤ 7293034; omega)⟩ ?_
  refine r_aload_n X 2 dL_law_1752 rfl rfl ?_
  refine r_aload_n X 0 dL_law_1753 rfl rfl ?_
  refine r_iload X 4 dL_law_1754 rfl ?_
  refine r_iconst X dL_law_1756 ?_
  refine r_iadd X dL_law_1757 ?_
  refine r_sld X hs hLb dL_law_1758 h (fun h => ?_)
  refine r_aload_n X 0 dL_law_1759 rfl rfl ?_
  refine r_iload X 4 dL_law_1760 rfl ?_
  refine r_iconst X dL_law_1762 ?_
  refine r_iadd X dL_law_1763 ?_
  refine r_sld X hs hLb dL_law_1764 h (fun h => ?_)
  refine r_aload_n X 0 dL_law_1765 rfl rfl ?_
  refine r_iload X 4 dL_law_1766 rfl ?_
  refine r_iconst X dL_law_1768 ?_
  refine r_iadd X dL_law_1769 ?_
  refine r_sld X hs hLb dL_law_1770 h (fun h => ?_)
  refine r_aload_n X 0 dL_law_1771 rfl rfl ?_
  refine r_iload X 4 dL_law_1772 rfl ?_
  refine r_iconst X dL_law_1774 ?_
  refine r_iadd X dL_law_1775 ?_
  refine r_sld X hs hLb dL_law_1776 h (fun h => ?_)
  obtain ⟨ho139, h⟩ := cO_some h
  obtain ⟨r140, σ141, h138, h⟩ := bd2_some h
  refine r_cV (Wd := 1) X (fun l D sz => w_X6_born l D sz h138) ho139.1 rfl q1807 q1808 q1806 q109 q1809 hy_X6_born rfl dL_law_1777 rfl rfl (Nat.le_of_ble_eq_true rfl) ⟨Nat.le_of_ble_eq_true rfl, Nat.le_of_ble_eq_true rfl⟩ ⟨(by show (112 + (64 - cn) * 86) + 0 ≤ 601024; omega), (by show (504441 + (64 - cn) * 40302) + 0 ≤ 7293034; omega)⟩ ?_
  refine r_icmp_eq (tgt := 2568) X dL_law_1780 (by decide) h (fun c142 h => ?_) (fun c142 h => ?_)
  · refine r_iinc X 4 dL_law_2568 rfl (hL 4 (by decide)) (lv' := [(4, iv ((v4_j1724 + 8))), (0, .ref (b)), (1, .ref (p1)), (2, .ref (p2)), (3, .ref (p3))]) rfl ?_
    refine r_goto (tgt := 23) X dL_law_2571 (by decide) ?_
    exact V.widen (by show _ ≤ _; omega) (by show _ ≤ _; omega) <| V.sub [1, 2, 3, 4, 0] rfl (ihb1 _ (Option.some.inj h).symm)
  · have h := ex_some h ihe1
    refine V.widen (k' := 5616) (n' := 3083769) (by show _ ≤ _; omega) (by show _ ≤ _; omega) ?_
    refine r_iconst X dL_law_1783 ?_
    cases h
    exact absurd hw (by decide)
set_option maxHeartbeats 40000000 in
theorem w_L_J1675 {Γ : Ctx} {xs : Nat → Int} {L b p1 p2 p3 cn : Nat} {w : Int} {z1 : (Nat × Int × St) ⊕ Int} (X : Cx Γ cL_law "DayBoyLaw" ({ frames := 15, cells := 601024, slots := 7293034, locals := 634 } : Room)) (hL : ∀ i, i < 7 → i < nLc Γ) (htr : (lOf Γ).stackTraces = false) (hs : Scr Γ b L xs) (hLb : L < 2147483648) (hw : w = 1) (hn1 : 0 < cn) (hn2 : cn ≤ 64) (ihb1 : ∀ s : Nat × Int × St, z1 = Sum.inl s → V Γ (s.2.2) (112 + (64 - s.1) * 86) (504441 + (64 - s.1) * 40302) 23 [(0, .ref (b)), (1, .ref (p1)), (2, .ref (p2)), (3, .ref (p3)), (4, iv (s.2.1))] []) (ihe1 : ∀ r, z1 = Sum.inr r → r = w) : ∀ (v4_j1675 : Int) (σ_j1675 : St), f_L_law_j1675 (cn) (xs) (L) (b) (p1) (p2) (p3) v4_j1675 σ_j1675 = some z1 → V Γ σ_j1675 (112 + (64 - cn) * 86) (504441 + (64 - cn) * 40302) 1675 [(0, .ref (b)), (1, .ref (p1)), (2, .ref (p2)), (3, .ref (p3)), (4, iv (v4_j1675))] [] := by
  intro v4_j1675 σ_j1675 h
  unfold f_L_law_j1675 at h
  refine r_aload_n X 1 dL_law_1675 rfl rfl ?_
  refine r_aload_n X 0 dL_law_1676 rfl rfl ?_
  refine r_iload X 4 dL_law_1677 rfl ?_
  refine r_iconst X dL_law_1679 ?_
  refine r_iadd X dL_law_1680 ?_
  refine r_sld X hs hLb dL_law_1681 h (fun h => ?_)
  refine r_aload_n X 0 dL_law_1682 rfl rfl ?_
  refine r_iload X 4 dL_law_1683 rfl ?_
  refine r_iconst X dL_law_1685 ?_
  refine r_iadd X dL_law_1686 ?_
  refine r_sld X hs hLb dL_law_1687 h (fun h => ?_)
  refine r_aload_n X 0 dL_law_1688 rfl rfl ?_
  refine r_iload X 4 dL_law_1689 rfl ?_
  refine r_iconst X dL_law_1691 ?_
  refine r_iadd X dL_law_1692 ?_
  refine r_sld X hs hLb dL_law_1693 h (fun h => ?_)
  obtain ⟨ho144, h⟩ := cO_some h
  obtain ⟨r145, h143, h⟩ := bd_some h
  refine r_cV (Wd := 0) X (fun l D sz => w_X1_mates l D sz h143) ho144.1 rfl q1108 q1109 q1107 q104 q1110 hy_X1_mates rfl dL_law_1694 rfl rfl (Nat.le_of_ble_eq_true rfl) ⟨Nat.le_of_ble_eq_true rfl, Nat.le_of_ble_eq_true rfl⟩ ⟨(by show (112 + (64 - cn) * 86) + 0 ≤ 601024; omega), (by show (504441 + (64 - cn) * 40302) + 0 ≤ 7293034; omega)⟩ ?_
  refine r_aload_n X 2 dL_law_1697 rfl rfl ?_
  refine r_aload_n X 0 dL_law_1698 rfl rfl ?_
  refine r_iload X 4 dL_law_1699 rfl ?_
  refine r_iconst X dL_law_1701 ?_
  refine r_iadd X dL_law_1702 ?_
  refine r_sld X hs hLb dL_law_1703 h (fun h => ?_)
  refine r_aload_n X 0 dL_law_1704 rfl rfl ?_
  refine r_iload X 4 dL_law_1705 rfl ?_
  refine r_iconst X dL_law_1707 ?_
  refine r_iadd X dL_law_1708 ?_
  refine r_sld X hs hLb dL_law_1709 h (fun h => ?_)
  refine r_aload_n X 0 dL_law_1710 rfl rfl ?_
  refine r_iload X 4 dL_law_1711 rfl ?_
  refine r_iconst X dL_law_1713 ?_
  refine r_iadd X dL_law_1714 ?_
  refine r_sld X hs hLb dL_law_1715 h (fun h => ?_)
  obtain ⟨ho147, h⟩ := cO_some h
  obtain ⟨r148, h146, h⟩ := bd_some h
  refine r_cV (Wd := 1) X (fun l D sz => w_X6_mates l D sz h146) ho147.1 rfl q1803 q1804 q1802 q109 q1805 hy_X6_mates rfl dL_law_1716 rfl rfl (Nat.le_of_ble_eq_true rfl) ⟨Nat.le_of_ble_eq_true rfl, Nat.le_of_ble_eq_true rfl⟩ ⟨(by show (112 + (64 - cn) * 86) + 0 ≤ 601024; omega), (by show (504441 + (64 - cn) * 40302) + 0 ≤ 7293034; omega)⟩ ?_
  refine r_icmp_eq (tgt := 2568) X dL_law_1719 (by decide) h (fun c149 h => ?_) (fun c149 h => ?_)
  · refine r_iinc X 4 dL_law_2568 rfl (hL 4 (by decide)) (lv' := [(4, iv ((v4_j1675 + 8))), (0, .ref (b)), (1, .ref (p1)), (2, .ref (p2)), (3, .ref (p3))]) rfl ?_
    refine r_goto (tgt := 23) X dL_law_2571 (by decide) ?_
    exact V.widen (by show _ ≤ _; omega) (by show _ ≤ _; omega) <| V.sub [1, 2, 3, 4, 0] rfl (ihb1 _ (Option.some.inj h).symm)
  · have h := ex_some h ihe1
    refine V.widen (k' := 5616) (n' := 3083769) (by show _ ≤ _; omega) (by show _ ≤ _; omega) ?_
    refine r_iconst X dL_law_1722 ?_
    cases h
    exact absurd hw (by decide)
set_option maxHeartbeats 40000000 in
theorem w_L_J1614 {Γ : Ctx} {xs : Nat → Int} {L b p1 p2 p3 cn : Nat} {w : Int} {z1 : (Nat × Int × St) ⊕ Int} (X : Cx Γ cL_law "DayBoyLaw" ({ frames := 15, cells := 601024, slots := 7293034, locals := 634 } : Room)) (hL : ∀ i, i < 7 → i < nLc Γ) (htr : (lOf Γ).stackTraces = false) (hs : Scr Γ b L xs) (hLb : L < 2147483648) (hw : w = 1) (hn1 : 0 < cn) (hn2 : cn ≤ 64) (ihb1 : ∀ s : Nat × Int × St, z1 = Sum.inl s → V Γ (s.2.2) (112 + (64 - s.1) * 86) (504441 + (64 - s.1) * 40302) 23 [(0, .ref (b)), (1, .ref (p1)), (2, .ref (p2)), (3, .ref (p3)), (4, iv (s.2.1))] []) (ihe1 : ∀ r, z1 = Sum.inr r → r = w) : ∀ (v4_j1614 : Int) (σ_j1614 : St), f_L_law_j1614 (cn) (xs) (L) (b) (p1) (p2) (p3) v4_j1614 σ_j1614 = some z1 → V Γ σ_j1614 (112 + (64 - cn) * 86) (504441 + (64 - cn) * 40302) 1614 [(0, .ref (b)), (1, .ref (p1)), (2, .ref (p2)), (3, .ref (p3)), (4, iv (v4_j1614))] [] := by
  intro v4_j1614 σ_j1614 h
  unfold f_L_law_j1614 at h
  refine r_aload_n X 1 dL_law_1614 rfl rfl ?_
  refine r_aload_n X 0 dL_law_1615 rfl rfl ?_
  refine r_iload X 4 dL_law_1616 rfl ?_
  refine r_iconst X dL_law_1618 ?_
  refine r_iadd X dL_law_1619 ?_
  refine r_sld X hs hLb dL_law_1620 h (fun h => ?_)
  refine r_aload_n X 0 dL_law_1621 rfl rfl ?_
  refine r_iload X 4 dL_law_1622 rfl ?_
  refine r_iconst X dL_law_1624 ?_
  refine r_iadd X dL_law_1625 ?_
  refine r_sld X hs hLb dL_law_1626 h (fun h => ?_)
  refine r_aload_n X 0 dL_law_1627 rfl rfl ?_
  refine r_iload X 4 dL_law_1628 rfl ?_
  refine r_iconst X dL_law_1630 ?_
  refine r_iadd X dL_law_1631 ?_
  refine r_sld X hs hLb dL_law_1632 h (fun h => ?_)
  refine r_aload_n X 0 dL_law_1633 rfl rfl ?_
  refine r_iload X 4 dL_law_1634 rfl ?_
  refine r_iconst X dL_law_1636 ?_
  refine r_iadd X dL_law_1637 ?_
  refine r_sld X hs hLb dL_law_1638 h (fun h => ?_)
  obtain ⟨ho151, h⟩ := cO_some h
  obtain ⟨r152, h150, h⟩ := bd_some h
  refine r_cV (Wd := 0) X (fun l D sz => w_X1_thirteenths l D sz h150) ho151.1 rfl q1104 q1105 q1103 q104 q1106 hy_X1_thirteenths rfl dL_law_1639 rfl rfl (Nat.le_of_ble_eq_true rfl) ⟨Nat.le_of_ble_eq_true rfl, Nat.le_of_ble_eq_true rfl⟩ ⟨(by show (112 + (64 - cn) * 86) + 0 ≤ 601024; omega), (by show (504441 + (64 - cn) * 40302) + 0 ≤ 7293034; omega)⟩ ?_
  refine r_aload_n X 2 dL_law_1642 rfl rfl ?_
  refine r_aload_n X 0 dL_law_1643 rfl rfl ?_
  refine r_iload X 4 dL_law_1644 rfl ?_
  refine r_iconst X dL_law_1646 ?_
  refine r_iadd X dL_law_1647 ?_
  refine r_sld X hs hLb dL_law_1648 h (fun h => ?_)
  refine r_aload_n X 0 dL_law_1649 rfl rfl ?_
  refine r_iload X 4 dL_law_1650 rfl ?_
  refine r_iconst X dL_law_1652 ?_
  refine r_iadd X dL_law_1653 ?_
  refine r_sld X hs hLb dL_law_1654 h (fun h => ?_)
  refine r_aload_n X 0 dL_law_1655 rfl rfl ?_
  refine r_iload X 4 dL_law_1656 rfl ?_
  refine r_iconst X dL_law_1658 ?_
  refine r_iadd X dL_law_1659 ?_
  refine r_sld X hs hLb dL_law_1660 h (fun h => ?_)
  refine r_aload_n X 0 dL_law_1661 rfl rfl ?_
  refine r_iload X 4 dL_law_1662 rfl ?_
  refine r_iconst X dL_law_1664 ?_
  refine r_iadd X dL_law_1665 ?_
  refine r_sld X hs hLb dL_law_1666 h (fun h => ?_)
  obtain ⟨ho154, h⟩ := cO_some h
  obtain ⟨r155, h153, h⟩ := bd_some h
  refine r_cV (Wd := 1) X (fun l D sz => w_X6_thirteenths l D sz h153) ho154.1 rfl q1799 q1800 q1798 q109 q1801 hy_X6_thirteenths rfl dL_law_1667 rfl rfl (Nat.le_of_ble_eq_true rfl) ⟨Nat.le_of_ble_eq_true rfl, Nat.le_of_ble_eq_true rfl⟩ ⟨(by show (112 + (64 - cn) * 86) + 0 ≤ 601024; omega), (by show (504441 + (64 - cn) * 40302) + 0 ≤ 7293034; omega)⟩ ?_
  refine r_icmp_eq (tgt := 2568) X dL_law_1670 (by decide) h (fun c156 h => ?_) (fun c156 h => ?_)
  · refine r_iinc X 4 dL_law_2568 rfl (hL 4 (by decide)) (lv' := [(4, iv ((v4_j1614 + 8))), (0, .ref (b)), (1, .ref (p1)), (2, .ref (p2)), (3, .ref (p3))]) rfl ?_
    refine r_goto (tgt := 23) X dL_law_2571 (by decide) ?_
    exact V.widen (by show _ ≤ _; omega) (by show _ ≤ _; omega) <| V.sub [1, 2, 3, 4, 0] rfl (ihb1 _ (Option.some.inj h).symm)
  · have h := ex_some h ihe1
    refine V.widen (k' := 5616) (n' := 3083769) (by show _ ≤ _; omega) (by show _ ≤ _; omega) ?_
    refine r_iconst X dL_law_1673 ?_
    cases h
    exact absurd hw (by decide)
