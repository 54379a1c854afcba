/-! cases of the law (printed by gen.py, lawsplit.py) -/
set_option maxRecDepth 100000
set_option maxHeartbeats 40000000 in
theorem w_L_J1049 {Γ : Ctx} {xs : Nat → Int} {L b p1 p2 p3 cn : Nat} {w : Int} {z1 : (Nat × Int × St) ⊕ Int} (X : Cx Γ cL_law "DayBoyLaw" ({ frames := 15, cells := 601024, slots := 7293034, locals := 634 } : Room)) (hL : ∀ i, i < 7 → i < nLc Γ) (htr : (lOf Γ).stackTraces = false) (hs : Scr Γ b L xs) (hLb : L < 2147483648) (hw : w = 1) (hn1 : 0 < cn) (hn2 : cn ≤ 64) (ihb1 : ∀ s : Nat × Int × St, z1 = Sum.inl s → V Γ (s.2.2) (112 + (64 - s.1) * 86) (504441 + (64 - s.1) * 40302) 23 [(0, .ref (b)), (1, .ref (p1)), (2, .ref (p2)), (3, .ref (p3)), (4, iv (s.2.1))] []) (ihe1 : ∀ r, z1 = Sum.inr r → r = w) : ∀ (v4_j1049 : Int) (σ_j1049 : St), f_L_law_j1049 (cn) (xs) (L) (b) (p1) (p2) (p3) v4_j1049 σ_j1049 = some z1 → V Γ σ_j1049 (112 + (64 - cn) * 86) (504441 + (64 - cn) * 40302) 1049 [(0, .ref (b)), (1, .ref (p1)), (2, .ref (p2)), (3, .ref (p3)), (4, iv (v4_j1049))] [] := by
  intro v4_j1049 σ_j1049 h
  unfold f_L_law_j1049 at h
  refine r_aload_n X 1 dL_law_1049 rfl rfl ?_
  refine r_aload_n X 0 dL_law_1050 rfl rfl ?_
  refine r_iload X 4 dL_law_1051 rfl ?_
  refine r_iconst X dL_law_1053 ?_
  refine r_iadd X dL_law_1054 ?_
  refine r_sld X hs hLb dL_law_1055 h (fun h => ?_)
  refine r_aload_n X 0 dL_law_1056 rfl rfl ?_
  refine r_iload X 4 dL_law_1057 rfl ?_
  refine r_iconst X dL_law_1059 ?_
  refine r_iadd X dL_law_1060 ?_
  refine r_sld X hs hLb dL_law_1061 h (fun h => ?_)
  obtain ⟨ho258, h⟩ := cO_some h
  obtain ⟨r259, σ260, h257, h⟩ := bd2_some h
  refine r_cV (Wd := 0) X (fun l D sz => w_X1_so l D sz h257) ho258.1 rfl q981 q982 q980 q104 q983 hy_X1_so rfl dL_law_1062 rfl rfl (Nat.le_of_ble_eq_true rfl) ⟨Nat.le_of_ble_eq_true rfl, Nat.le_of_ble_eq_true rfl⟩ ⟨(by show (112 + (64 - cn) * 86) + 0 ≤ 601024; omega), (by show (504441 + (64 - cn) * 40302) + 0 ≤ 7293034; omega)⟩ ?_
  refine r_aload_n X 2 dL_law_1065 rfl rfl ?_
  refine r_aload_n X 0 dL_law_1066 rfl rfl ?_
  refine r_iload X 4 dL_law_1067 rfl ?_
  refine r_iconst X dL_law_1069 ?_
  refine r_iadd X dL_law_1070 ?_
  refine r_sld X hs hLb dL_law_1071 h (fun h => ?_)
  refine r_aload_n X 0 dL_law_1072 rfl rfl ?_
  refine r_iload X 4 dL_law_1073 rfl ?_
  refine r_iconst X dL_law_1075 ?_
  refine r_iadd X dL_law_1076 ?_
  refine r_sld X hs hLb dL_law_1077 h (fun h => ?_)
  obtain ⟨ho262, h⟩ := cO_some h
  obtain ⟨r263, σ264, h261, h⟩ := bd2_some h
  refine r_cV (Wd := 1) X (fun l D sz => w_X6_so l D sz h261) ho262.1 rfl q1721 q1722 q1720 q109 q1723 hy_X6_so rfl dL_law_1078 rfl rfl (Nat.le_of_ble_eq_true rfl) ⟨Nat.le_of_ble_eq_true rfl, Nat.le_of_ble_eq_true rfl⟩ ⟨(by show (112 + (64 - cn) * 86) + 0 ≤ 601024; omega), (by show (504441 + (64 - cn) * 40302) + 0 ≤ 7293034; omega)⟩ ?_
  refine r_icmp_eq (tgt := 2568) X dL_law_1081 (by decide) h (fun c265 h => ?_) (fun c265 h => ?_)
  · refine r_iinc X 4 dL_law_2568 rfl (hL 4 (by decide)) (lv' := [(4, iv ((v4_j1049 + 8))), (0, .ref (b)), (1, .ref (p1)), (2, .ref (p2)), (3, .ref (p3))]) rfl ?_
    refine r_goto (tgt := 23) X dL_law_2571 (by decide) ?_
    exact V.widen (by show _ ≤ _; omega) (by show _ ≤ _; omega) <| V.sub [1, 2, 3, 4, 0] rfl (ihb1 _ (Option.some.inj h).symm)
  · have h := ex_some h ihe1
    refine V.widen (k' := 5616) (n' := 3083769) (by show _ ≤ _; omega) (by show _ ≤ _; omega) ?_
    refine r_iconst X dL_law_1084 ?_
    cases h
    exact absurd hw (by decide)
set_option maxHeartbeats 40000000 in
theorem w_L_J1024 {Γ : Ctx} {xs : Nat → Int} {L b p1 p2 p3 cn : Nat} {w : Int} {z1 : (Nat × Int × St) ⊕ Int} (X : Cx Γ cL_law "DayBoyLaw" ({ frames := 15, cells := 601024, slots := 7293034, locals := 634 } : Room)) (hL : ∀ i, i < 7 → i < nLc Γ) (htr : (lOf Γ).stackTraces = false) (hs : Scr Γ b L xs) (hLb : L < 2147483648) (hw : w = 1) (hn1 : 0 < cn) (hn2 : cn ≤ 64) (ihb1 : ∀ s : Nat × Int × St, z1 = Sum.inl s → V Γ (s.2.2) (112 + (64 - s.1) * 86) (504441 + (64 - s.1) * 40302) 23 [(0, .ref (b)), (1, .ref (p1)), (2, .ref (p2)), (3, .ref (p3)), (4, iv (s.2.1))] []) (ihe1 : ∀ r, z1 = Sum.inr r → r = w) : ∀ (v4_j1024 : Int) (σ_j1024 : St), f_L_law_j1024 (cn) (xs) (L) (b) (p1) (p2) (p3) v4_j1024 σ_j1024 = some z1 → V Γ σ_j1024 (112 + (64 - cn) * 86) (504441 + (64 - cn) * 40302) 1024 [(0, .ref (b)), (1, .ref (p1)), (2, .ref (p2)), (3, .ref (p3)), (4, iv (v4_j1024))] [] := by
  intro v4_j1024 σ_j1024 h
  unfold f_L_law_j1024 at h
  refine r_aload_n X 1 dL_law_1024 rfl rfl ?_
  refine r_aload_n X 0 dL_law_1025 rfl rfl ?_
  refine r_iload X 4 dL_law_1026 rfl ?_
  refine r_iconst X dL_law_1028 ?_
  refine r_iadd X dL_law_1029 ?_
  refine r_sld X hs hLb dL_law_1030 h (fun h => ?_)
  obtain ⟨ho267, h⟩ := cO_some h
  obtain ⟨r268, σ269, h266, h⟩ := bd2_some h
  refine r_cV (Wd := 0) X (fun l D sz => w_X1_fits l D sz h266) ho267.1 rfl q963 q964 q962 q104 q965 hy_X1_fits rfl dL_law_1031 rfl rfl (Nat.le_of_ble_eq_true rfl) ⟨Nat.le_of_ble_eq_true rfl, Nat.le_of_ble_eq_true rfl⟩ ⟨(by show (112 + (64 - cn) * 86) + 0 ≤ 601024; omega), (by show (504441 + (64 - cn) * 40302) + 0 ≤ 7293034; omega)⟩ ?_
  refine r_aload_n X 2 dL_law_1034 rfl rfl ?_
  refine r_aload_n X 0 dL_law_1035 rfl rfl ?_
  refine r_iload X 4 dL_law_1036 rfl ?_
  refine r_iconst X dL_law_1038 ?_
  refine r_iadd X dL_law_1039 ?_
  refine r_sld X hs hLb dL_law_1040 h (fun h => ?_)
  obtain ⟨ho271, h⟩ := cO_some h
  obtain ⟨r272, σ273, h270, h⟩ := bd2_some h
  refine r_cV (Wd := 1) X (fun l D sz => w_X6_fits l D sz h270) ho271.1 rfl q1704 q1705 q1703 q109 q1706 hy_X6_fits rfl dL_law_1041 rfl rfl (Nat.le_of_ble_eq_true rfl) ⟨Nat.le_of_ble_eq_true rfl, Nat.le_of_ble_eq_true rfl⟩ ⟨(by show (112 + (64 - cn) * 86) + 0 ≤ 601024; omega), (by show (504441 + (64 - cn) * 40302) + 0 ≤ 7293034; omega)⟩ ?_
  refine r_icmp_eq (tgt := 2568) X dL_law_1044 (by decide) h (fun c274 h => ?_) (fun c274 h => ?_)
  · refine r_iinc X 4 dL_law_2568 rfl (hL 4 (by decide)) (lv' := [(4, iv ((v4_j1024 + 8))), (0, .ref (b)), (1, .ref (p1)), (2, .ref (p2)), (3, .ref (p3))]) rfl ?_
    refine r_goto (tgt := 23) X dL_law_2571 (by decide) ?_
    exact V.widen (by show _ ≤ _; omega) (by show _ ≤ _; omega) <| V.sub [1, 2, 3, 4, 0] rfl (ihb1 _ (Option.some.inj h).symm)
  · have h := ex_some h ihe1
    refine V.widen (k' := 5616) (n' := 3083769) (by show _ ≤ _; omega) (by show _ ≤ _; omega) ?_
    refine r_iconst X dL_law_1047 ?_
    cases h
    exact absurd hw (by decide)
set_option maxHeartbeats 40000000 in
theorem w_L_J987 {Γ : Ctx} {xs : Nat → Int} {L b p1 p2 p3 cn : Nat} {w : Int} {z1 : (Nat × Int × St) ⊕ Int} (X : Cx Γ cL_law "DayBoyLaw" ({ frames := 15, cells := 601024, slots := 7293034, locals := 634 } : Room)) (hL : ∀ i, i < 7 → i < nLc Γ) (htr : (lOf Γ).stackTraces = false) (hs : Scr Γ b L xs) (hLb : L < 2147483648) (hw : w = 1) (hn1 : 0 < cn) (hn2 : cn ≤ 64) (ihb1 : ∀ s : Nat × Int × St, z1 = Sum.inl s → V Γ (s.2.2) (112 + (64 - s.1) * 86) (504441 + (64 - s.1) * 40302) 23 [(0, .ref (b)), (1, .ref (p1)), (2, .ref (p2)), (3, .ref (p3)), (4, iv (s.2.1))] []) (ihe1 : ∀ r, z1 = Sum.inr r → r = w) : ∀ (v4_j987 : Int) (σ_j987 : St), f_L_law_j987 (cn) (xs) (L) (b) (p1) (p2) (p3) v4_j987 σ_j987 = some z1 → V Γ σ_j987 (112 + (64 - cn) * 86) (504441 + (64 - cn) * 40302) 987 [(0, .ref (b)), (1, .ref (p1)), (2, .ref (p2)), (3, .ref (p3)), (4, iv (v4_j987))] [] := by
  intro v4_j987 σ_j987 h
  unfold f_L_law_j987 at h
  refine r_aload_n X 1 dL_law_987 rfl rfl ?_
  refine r_aload_n X 0 dL_law_988 rfl rfl ?_
  refine r_iload X 4 dL_law_989 rfl ?_
  refine r_iconst X dL_law_991 ?_
  refine r_iadd X dL_law_992 ?_
  refine r_sld X hs hLb dL_law_993 h (fun h => ?_)
  refine r_aload_n X 0 dL_law_994 rfl rfl ?_
  refine r_iload X 4 dL_law_995 rfl ?_
  refine r_iconst X dL_law_997 ?_
  refine r_iadd X dL_law_998 ?_
  refine r_sld X hs hLb dL_law_999 h (fun h => ?_)
  obtain ⟨ho276, h⟩ := cO_some h
  obtain ⟨r277, h275, h⟩ := bd_some h
  refine r_cV (Wd := 0) X (fun l D sz => w_X1_asked l D sz h275) ho276.1 rfl q958 q959 q957 q104 q960 hy_X1_asked rfl dL_law_1000 rfl rfl (Nat.le_of_ble_eq_true rfl) ⟨Nat.le_of_ble_eq_true rfl, Nat.le_of_ble_eq_true rfl⟩ ⟨(by show (112 + (64 - cn) * 86) + 0 ≤ 601024; omega), (by show (504441 + (64 - cn) * 40302) + 0 ≤ 7293034; omega)⟩ ?_
  refine r_aload_n X 2 dL_law_1003 rfl rfl ?_
  refine r_aload_n X 0 dL_law_1004 rfl rfl ?_
  refine r_iload X 4 dL_law_1005 rfl ?_
  refine r_iconst X dL_law_1007 ?_
  refine r_iadd X dL_law_1008 ?_
  refine r_sld X hs hLb dL_law_1009 h (fun h => ?_)
  refine r_aload_n X 0 dL_law_1010 rfl rfl ?_
  refine r_iload X 4 dL_law_1011 rfl ?_
  refine r_iconst X dL_law_1013 ?_
  refine r_iadd X dL_law_1014 ?_
  refine r_sld X hs hLb dL_law_1015 h (fun h => ?_)
  obtain ⟨ho279, h⟩ := cO_some h
  obtain ⟨r280, h278, h⟩ := bd_some h
  refine r_cV (Wd := 1) X (fun l D sz => w_X6_asked l D sz h278) ho279.1 rfl q1696 q1697 q1695 q109 q1698 hy_X6_asked rfl dL_law_1016 rfl rfl (Nat.le_of_ble_eq_true rfl) ⟨Nat.le_of_ble_eq_true rfl, Nat.le_of_ble_eq_true rfl⟩ ⟨(by show (112 + (64 - cn) * 86) + 0 ≤ 601024; omega), (by show (504441 + (64 - cn) * 40302) + 0 ≤ 7293034; omega)⟩ ?_
  refine r_icmp_eq (tgt := 2568) X dL_law_1019 (by decide) h (fun c281 h => ?_) (fun c281 h => ?_)
  · refine r_iinc X 4 dL_law_2568 rfl (hL 4 (by decide)) (lv' := [(4, iv ((v4_j987 + 8))), (0, .ref (b)), (1, .ref (p1)), (2, .ref (p2)), (3, .ref (p3))]) rfl ?_
    refine r_goto (tgt := 23) X dL_law_2571 (by decide) ?_
    exact V.widen (by show _ ≤ _; omega) (by show _ ≤ _; omega) <| V.sub [1, 2, 3, 4, 0] rfl (ihb1 _ (Option.some.inj h).symm)
  · have h := ex_some h ihe1
    refine V.widen (k' := 5616) (n' := 3083769) (by show _ ≤ _; omega) (by show _ ≤ _; omega) ?_
    refine r_iconst X dL_law_1022 ?_
    cases h
    exact absurd hw (by decide)
set_option maxHeartbeats 40000000 in
theorem w_L_J886 {Γ : Ctx} {xs : Nat → Int} {L b p1 p2 p3 cn : Nat} {w : Int} {z1 : (Nat × Int × St) ⊕ Int} (X : Cx Γ cL_law "DayBoyLaw" ({ frames := 15, cells := 601024, slots := 7293034, locals := 634 } : Room)) (hL : ∀ i, i < 7 → i < nLc Γ) (htr : (lOf Γ).stackTraces = false) (hs : Scr Γ b L xs) (hLb : L < 2147483648) (hw : w = 1) (hn1 : 0 < cn) (hn2 : cn ≤ 64) (ihb1 : ∀ s : Nat × Int × St, z1 = Sum.inl s → V Γ (s.2.2) (112 + (64 - s.1) * 86) (504441 + (64 - s.1) * 40302) 23 [(0, .ref (b)), (1, .ref (p1)), (2, .ref (p2)), (3, .ref (p3)), (4, iv (s.2.1))] []) (ihe1 : ∀ r, z1 = Sum.inr r → r = w) : ∀ (v4_j886 : Int) (σ_j886 : St), f_L_law_j886 (cn) (xs) (L) (b) (p1) (p2) (p3) v4_j886 σ_j886 = some z1 → V Γ σ_j886 (112 + (64 - cn) * 86) (504441 + (64 - cn) * 40302) 886 [(0, .ref (b)), (1, .ref (p1)), (2, .ref (p2)), (3, .ref (p3)), (4, iv (v4_j886))] [] := by
  intro v4_j886 σ_j886 h
  unfold f_L_law_j886 at h
  refine r_aload_n X 1 dL_law_886 rfl rfl ?_
  refine r_aload_n X 0 dL_law_887 rfl rfl ?_
  refine r_iload X 4 dL_law_888 rfl ?_
  refine r_iconst X dL_law_890 ?_
  refine r_iadd X dL_law_891 ?_
  refine r_sld X hs hLb dL_law_892 h (fun h => ?_)
  refine r_aload_n X 0 dL_law_893 rfl rfl ?_
  refine r_iload X 4 dL_law_894 rfl ?_
  refine r_iconst X dL_law_896 ?_
  refine r_iadd X dL_law_897 ?_
  refine r_sld X hs hLb dL_law_898 h (fun h => ?_)
  refine r_aload_n X 0 dL_law_899 rfl rfl ?_
  refine r_iload X 4 dL_law_900 rfl ?_
  refine r_iconst X dL_law_902 ?_
  refine r_iadd X dL_law_903 ?_
  refine r_sld X hs hLb dL_law_904 h (fun h => ?_)
  refine r_aload_n X 0 dL_law_905 rfl rfl ?_
  refine r_iload X 4 dL_law_906 rfl ?_
  refine r_iconst X dL_law_908 ?_
  refine r_iadd X dL_law_909 ?_
  refine r_sld X hs hLb dL_law_910 h (fun h => ?_)
  refine r_aload_n X 0 dL_law_911 rfl rfl ?_
  refine r_iload X 4 dL_law_912 rfl ?_
  refine r_iconst X dL_law_914 ?_
  refine r_iadd X dL_law_915 ?_
  refine r_sld X hs hLb dL_law_916 h (fun h => ?_)
  refine r_aload_n X 0 dL_law_917 rfl rfl ?_
  refine r_iload X 4 dL_law_918 rfl ?_
  refine r_bipush X dL_law_920 (by decide) ?_
  refine r_iadd X dL_law_922 ?_
  refine r_sld X hs hLb dL_law_923 h (fun h => ?_)
  refine r_aload_n X 0 dL_law_924 rfl rfl ?_
  refine r_iload X 4 dL_law_925 rfl ?_
  refine r_bipush X dL_law_927 (by decide) ?_
  refine r_iadd X dL_law_929 ?_
  refine r_sld X hs hLb dL_law_930 h (fun h => ?_)
  obtain ⟨ho283, h⟩ := cO_some h
  obtain ⟨r284, σ285, h282, h⟩ := bd2_some h
  refine r_cV (Wd := 0) X (fun l D sz => w_X1_ask l D sz h282) ho283.1 rfl q914 q915 q913 q104 q916 hy_X1_ask rfl dL_law_931 rfl rfl (Nat.le_of_ble_eq_true rfl) ⟨Nat.le_of_ble_eq_true rfl, Nat.le_of_ble_eq_true rfl⟩ ⟨(by show (112 + (64 - cn) * 86) + 1 ≤ 601024; omega), (by show (504441 + (64 - cn) * 40302) + 8 ≤ 7293034; omega)⟩ ?_
  refine V.widen (k' := (113 + (64 - cn) * 86)) (n' := (504449 + (64 - cn) * 40302)) (by show _ ≤ _; omega) (by show _ ≤ _; omega) ?_
  refine r_aload_n X 2 dL_law_934 rfl rfl ?_
  refine r_aload_n X 0 dL_law_935 rfl rfl ?_
  refine r_iload X 4 dL_law_936 rfl ?_
  refine r_iconst X dL_law_938 ?_
  refine r_iadd X dL_law_939 ?_
  refine r_sld X hs hLb dL_law_940 h (fun h => ?_)
  refine r_aload_n X 0 dL_law_941 rfl rfl ?_
  refine r_iload X 4 dL_law_942 rfl ?_
  refine r_iconst X dL_law_944 ?_
  refine r_iadd X dL_law_945 ?_
  refine r_sld X hs hLb dL_law_946 h (fun h => ?_)
  refine r_aload_n X 0 dL_law_947 rfl rfl ?_
  refine r_iload X 4 dL_law_948 rfl ?_
  refine r_iconst X dL_law_950 ?_
  refine r_iadd X dL_law_951 ?_
  refine r_sld X hs hLb dL_law_952 h (fun h => ?_)
  refine r_aload_n X 0 dL_law_953 rfl rfl ?_
  refine r_iload X 4 dL_law_954 rfl ?_
  refine r_iconst X dL_law_956 ?_
  refine r_iadd X dL_law_957 ?_
  refine r_sld X hs hLb dL_law_958 h (fun h => ?_)
  refine r_aload_n X 0 dL_law_959 rfl rfl ?_
  refine r_iload X 4 dL_law_960 rfl ?_
  refine r_iconst X dL_law_962 ?_
  refine r_iadd X dL_law_963 ?_
  refine r_sld X hs hLb dL_law_964 h (fun h => ?_)
  refine r_aload_n X 0 dL_law_965 rfl rfl ?_
  refine r_iload X 4 dL_law_966 rfl ?_
  refine r_bipush X dL_law_968 (by decide) ?_
  refine r_iadd X dL_law_970 ?_
  refine r_sld X hs hLb dL_law_971 h (fun h => ?_)
  refine r_aload_n X 0 dL_law_972 rfl rfl ?_
  refine r_iload X 4 dL_law_973 rfl ?_
  refine r_bipush X dL_law_975 (by decide) ?_
  refine r_iadd X dL_law_977 ?_
  refine r_sld X hs hLb dL_law_978 h (fun h => ?_)
  obtain ⟨ho287, h⟩ := cO_some h
  obtain ⟨r288, σ289, h286, h⟩ := bd2_some h
  refine r_cV (Wd := 1) X (fun l D sz => w_X6_ask l D sz h286) ho287.1 rfl q1692 q1693 q1691 q109 q1694 hy_X6_ask rfl dL_law_979 rfl rfl (Nat.le_of_ble_eq_true rfl) ⟨Nat.le_of_ble_eq_true rfl, Nat.le_of_ble_eq_true rfl⟩ ⟨(by show (113 + (64 - cn) * 86) + 0 ≤ 601024; omega), (by show (504449 + (64 - cn) * 40302) + 0 ≤ 7293034; omega)⟩ ?_
  refine r_icmp_eq (tgt := 2568) X dL_law_982 (by decide) h (fun c290 h => ?_) (fun c290 h => ?_)
  · refine r_iinc X 4 dL_law_2568 rfl (hL 4 (by decide)) (lv' := [(4, iv ((v4_j886 + 8))), (0, .ref (b)), (1, .ref (p1)), (2, .ref (p2)), (3, .ref (p3))]) rfl ?_
    refine r_goto (tgt := 23) X dL_law_2571 (by decide) ?_
    exact V.widen (by show _ ≤ _; omega) (by show _ ≤ _; omega) <| V.sub [1, 2, 3, 4, 0] rfl (ihb1 _ (Option.some.inj h).symm)
  · have h := ex_some h ihe1
    refine V.widen (k' := 5617) (n' := 3083777) (by show _ ≤ _; omega) (by show _ ≤ _; omega) ?_
    refine r_iconst X dL_law_985 ?_
    cases h
    exact absurd hw (by decide)
set_option maxHeartbeats 40000000 in
theorem w_L_J799 {Γ : Ctx} {xs : Nat → Int} {L b p1 p2 p3 cn : Nat} {w : Int} {z1 : (Nat × Int × St) ⊕ Int} (X : Cx Γ cL_law "DayBoyLaw" ({ frames := 15, cells := 601024, slots := 7293034, locals := 634 } : Room)) (hL : ∀ i, i < 7 → i < nLc Γ) (htr : (lOf Γ).stackTraces = false) (hs : Scr Γ b L xs) (hLb : L < 2147483648) (hw : w = 1) (hn1 : 0 < cn) (hn2 : cn ≤ 64) (ihb1 : ∀ s : Nat × Int × St, z1 = Sum.inl s → V Γ (s.2.2) (112 + (64 - s.1) * 86) (504441 + (64 - s.1) * 40302) 23 [(0, .ref (b)), (1, .ref (p1)), (2, .ref (p2)), (3, .ref (p3)), (4, iv (s.2.1))] []) (ihe1 : ∀ r, z1 = Sum.inr r → r = w) : ∀ (v4_j799 : Int) (σ_j799 : St), f_L_law_j799 (cn) (xs) (L) (b) (p1) (p2) (p3) v4_j799 σ_j799 = some z1 → V Γ σ_j799 (112 + (64 - cn) * 86) (504441 + (64 - cn) * 40302) 799 [(0, .ref (b)), (1, .ref (p1)), (2, .ref (p2)), (3, .ref (p3)), (4, iv (v4_j799))] [] := by
  intro v4_j799 σ_j799 h
  unfold f_L_law_j799 at h
  refine r_aload_n X 1 dL_law_799 rfl rfl ?_
  refine r_aload_n X 0 dL_law_800 rfl rfl ?_
  refine r_iload X 4 dL_law_801 rfl ?_
  refine r_iconst X dL_law_803 ?_
  refine r_iadd X dL_law_804 ?_
  refine r_sld X hs hLb dL_law_805 h (fun h => ?_)
  refine r_aload_n X 0 dL_law_806 rfl rfl ?_
  refine r_iload X 4 dL_law_807 rfl ?_
  refine r_iconst X dL_law_809 ?_
  refine r_iadd X dL_law_810 ?_
  refine r_sld X hs hLb dL_law_811 h (fun h => ?_)
  refine r_aload_n X 0 dL_law_812 rfl rfl ?_
  refine r_iload X 4 dL_law_813 rfl ?_
  refine r_iconst X dL_law_815 ?_
  refine r_iadd X dL_law_816 ?_
  refine r_sld X hs hLb dL_law_817 h (fun h => ?_)
  refine r_aload_n X 0 dL_law_818 rfl rfl ?_
  refine r_iload X 4 dL_law_819 rfl ?_
  refine r_iconst X dL_law_821 ?_
  refine r_iadd X dL_law_822 ?_
  refine r_sld X hs hLb dL_law_823 h (fun h => ?_)
  refine r_aload_n X 0 dL_law_824 rfl rfl ?_
  refine r_iload X 4 dL_law_825 rfl ?_
  refine r_iconst X dL_law_827 ?_
  refine r_iadd X dL_law_828 ?_
  refine r_sld X hs hLb dL_law_829 h (fun h => ?_)
  refine r_aload_n X 0 dL_law_830 rfl rfl ?_
  refine r_iload X 4 dL_law_831 rfl ?_
  refine r_bipush X dL_law_833 (by decide) ?_
  refine r_iadd X dL_law_835 ?_
  refine r_sld X hs hLb dL_law_836 h (fun h => ?_)
  obtain ⟨ho292, h⟩ := cO_some h
  obtain ⟨r293, σ294, h291, h⟩ := bd2_some h
  refine r_cV (Wd := 0) X (fun l D sz => w_X1_answers l D sz h291) ho292.1 rfl q893 q894 q892 q104 q895 hy_X1_answers rfl dL_law_837 rfl rfl (Nat.le_of_ble_eq_true rfl) ⟨Nat.le_of_ble_eq_true rfl, Nat.le_of_ble_eq_true rfl⟩ ⟨(by show (112 + (64 - cn) * 86) + 0 ≤ 601024; omega), (by show (504441 + (64 - cn) * 40302) + 0 ≤ 7293034; omega)⟩ ?_
  refine r_aload_n X 2 dL_law_840 rfl rfl ?_
  refine r_aload_n X 0 dL_law_841 rfl rfl ?_
  refine r_iload X 4 dL_law_842 rfl ?_
  refine r_iconst X dL_law_844 ?_
  refine r_iadd X dL_law_845 ?_
  refine r_sld X hs hLb dL_law_846 h (fun h => ?_)
  refine r_aload_n X 0 dL_law_847 rfl rfl ?_
  refine r_iload X 4 dL_law_848 rfl ?_
  refine r_iconst X dL_law_850 ?_
  refine r_iadd X dL_law_851 ?_
  refine r_sld X hs hLb dL_law_852 h (fun h => ?_)
  refine r_aload_n X 0 dL_law_853 rfl rfl ?_
  refine r_iload X 4 dL_law_854 rfl ?_
  refine r_iconst X dL_law_856 ?_
  refine r_iadd X dL_law_857 ?_
  refine r_sld X hs hLb dL_law_858 h (fun h => ?_)
  refine r_aload_n X 0 dL_law_859 rfl rfl ?_
  refine r_iload X 4 dL_law_860 rfl ?_
  refine r_iconst X dL_law_862 ?_
  refine r_iadd X dL_law_863 ?_
  refine r_sld X hs hLb dL_law_864 h (fun h => ?_)
  refine r_aload_n X 0 dL_law_865 rfl rfl ?_
  refine r_iload X 4 dL_law_866 rfl ?_
  refine r_iconst X dL_law_868 ?_
  refine r_iadd X dL_law_869 ?_
  refine r_sld X hs hLb dL_law_870 h (fun h => ?_)
  refine r_aload_n X 0 dL_law_871 rfl rfl ?_
  refine r_iload X 4 dL_law_872 rfl ?_
  refine r_bipush X dL_law_874 (by decide) ?_
  refine r_iadd X dL_law_876 ?_
  refine r_sld X hs hLb dL_law_877 h (fun h => ?_)
  obtain ⟨ho296, h⟩ := cO_some h
  obtain ⟨r297, σ298, h295, h⟩ := bd2_some h
  refine r_cV (Wd := 1) X (fun l D sz => w_X6_answers l D sz h295) ho296.1 rfl q1677 q1678 q1676 q109 q1679 hy_X6_answers rfl dL_law_878 rfl rfl (Nat.le_of_ble_eq_true rfl) ⟨Nat.le_of_ble_eq_true rfl, Nat.le_of_ble_eq_true rfl⟩ ⟨(by show (112 + (64 - cn) * 86) + 0 ≤ 601024; omega), (by show (504441 + (64 - cn) * 40302) + 0 ≤ 7293034; omega)⟩ ?_
  refine r_icmp_eq (tgt := 2568) X dL_law_881 (by decide) h (fun c299 h => ?_) (fun c299 h => ?_)
  · refine r_iinc X 4 dL_law_2568 rfl (hL 4 (by decide)) (lv' := [(4, iv ((v4_j799 + 8))), (0, .ref (b)), (1, .ref (p1)), (2, .ref (p2)), (3, .ref (p3))]) rfl ?_
    refine r_goto (tgt := 23) X dL_law_2571 (by decide) ?_
    exact V.widen (by show _ ≤ _; omega) (by show _ ≤ _; omega) <| V.sub [1, 2, 3, 4, 0] rfl (ihb1 _ (Option.some.inj h).symm)
  · have h := ex_some h ihe1
    refine V.widen (k' := 5616) (n' := 3083769) (by show _ ≤ _; omega) (by show _ ≤ _; omega) ?_
    refine r_iconst X dL_law_884 ?_
    cases h
    exact absurd hw (by decide)
set_option maxHeartbeats 40000000 in
theorem w_L_J698 {Γ : Ctx} {xs : Nat → Int} {L b p1 p2 p3 cn : Nat} {w : Int} {z1 : (Nat × Int × St) ⊕ Int} (X : Cx Γ cL_law "DayBoyLaw" ({ frames := 15, cells := 601024, slots := 7293034, locals := 634 } : Room)) (hL : ∀ i, i < 7 → i < nLc Γ) (htr : (lOf Γ).stackTraces = false) (hs : Scr Γ b L xs) (hLb : L < 2147483648) (hw : w = 1) (hn1 : 0 < cn) (hn2 : cn ≤ 64) (ihb1 : ∀ s : Nat × Int × St, z1 = Sum.inl s → V Γ (s.2.2) (112 + (64 - s.1) * 86) (504441 + (64 - s.1) * 40302) 23 [(0, .ref (b)), (1, .ref (p1)), (2, .ref (p2)), (3, .ref (p3)), (4, iv (s.2.1))] []) (ihe1 : ∀ r, z1 = Sum.inr r → r = w) : ∀ (v4_j698 : Int) (σ_j698 : St), f_L_law_j698 (cn) (xs) (L) (b) (p1) (p2) (p3) v4_j698 σ_j698 = some z1 → V Γ σ_j698 (112 + (64 - cn) * 86) (504441 + (64 - cn) * 40302) 698 [(0, .ref (b)), (1, .ref (p1)), (2, .ref (p2)), (3, .ref (p3)), (4, iv (v4_j698))] [] := by
  intro v4_j698 σ_j698 h
  unfold f_L_law_j698 at h
  refine r_aload_n X 1 dL_law_698 rfl rfl ?_
  refine r_aload_n X 0 dL_law_699 rfl rfl ?_
  refine r_iload X 4 dL_law_700 rfl ?_
  refine r_iconst X dL_law_702 ?_
  refine r_iadd X dL_law_703 ?_
  refine r_sld X hs hLb dL_law_704 h (fun h => ?_)
  refine r_aload_n X 0 dL_law_705 rfl rfl ?_
  refine r_iload X 4 dL_law_706 rfl ?_
  refine r_iconst X dL_law_708 ?_
  refine r_iadd X dL_law_709 ?_
  refine r_sld X hs hLb dL_law_710 h (fun h => ?_)
  refine r_aload_n X 0 dL_law_711 rfl rfl ?_
  refine r_iload X 4 dL_law_712 rfl ?_
  refine r_iconst X dL_law_714 ?_
  refine r_iadd X dL_law_715 ?_
  refine r_sld X hs hLb dL_law_716 h (fun h => ?_)
  refine r_aload_n X 0 dL_law_717 rfl rfl ?_
  refine r_iload X 4 dL_law_718 rfl ?_
  refine r_iconst X dL_law_720 ?_
  refine r_iadd X dL_law_721 ?_
  refine r_sld X hs hLb dL_law_722 h (fun h => ?_)
  refine r_aload_n X 0 dL_law_723 rfl rfl ?_
  refine r_iload X 4 dL_law_724 rfl ?_
  refine r_iconst X dL_law_726 ?_
  refine r_iadd X dL_law_727 ?_
  refine r_sld X hs hLb dL_law_728 h (fun h => ?_)
  refine r_aload_n X 0 dL_law_729 rfl rfl ?_
  refine r_iload X 4 dL_law_730 rfl ?_
  refine r_bipush X dL_law_732 (by decide) ?_
  refine r_iadd X dL_law_734 ?_
  refine r_sld X hs hLb dL_law_735 h (fun h => ?_)
  refine r_aload_n X 0 dL_law_736 rfl rfl ?_
  refine r_iload X 4 dL_law_737 rfl ?_
  refine r_bipush X dL_law_739 (by decide) ?_
  refine r_iadd X dL_law_741 ?_
  refine r_sld X hs hLb dL_law_742 h (fun h => ?_)
  obtain ⟨ho301, h⟩ := cO_some h
  obtain ⟨r302, σ303, h300, h⟩ := bd2_some h
  refine r_cV (Wd := 0) X (fun l D sz => w_X1_way l D sz h300) ho301.1 rfl q843 q844 q842 q104 q845 hy_X1_way rfl dL_law_743 rfl rfl (Nat.le_of_ble_eq_true rfl) ⟨Nat.le_of_ble_eq_true rfl, Nat.le_of_ble_eq_true rfl⟩ ⟨(by show (112 + (64 - cn) * 86) + 0 ≤ 601024; omega), (by show (504441 + (64 - cn) * 40302) + 0 ≤ 7293034; omega)⟩ ?_
  refine r_aload_n X 2 dL_law_746 rfl rfl ?_
  refine r_aload_n X 0 dL_law_747 rfl rfl ?_
  refine r_iload X 4 dL_law_748 rfl ?_
  refine r_iconst X dL_law_750 ?_
  refine r_iadd X dL_law_751 ?_
  refine r_sld X hs hLb dL_law_752 h (fun h => ?_)
  refine r_aload_n X 0 dL_law_753 rfl rfl ?_
  refine r_iload X 4 dL_law_754 rfl ?_
  refine r_iconst X dL_law_756 ?_
  refine r_iadd X dL_law_757 ?_
  refine r_sld X hs hLb dL_law_758 h (fun h => ?_)
  refine r_aload_n X 0 dL_law_759 rfl rfl ?_
  refine r_iload X 4 dL_law_760 rfl ?_
  refine r_iconst X dL_law_762 ?_
  refine r_iadd X dL_law_763 ?_
  refine r_sld X hs hLb dL_law_764 h (fun h => ?_)
  refine r_aload_n X 0 dL_law_765 rfl rfl ?_
  refine r_iload X 4 dL_law_766 rfl ?_
  refine r_iconst X dL_law_768 ?_
  refine r_iadd X dL_law_769 ?_
  refine r_sld X hs hLb dL_law_770 h (fun h => ?_)
  refine r_aload_n X 0 dL_law_771 rfl rfl ?_
  refine r_iload X 4 dL_law_772 rfl ?_
  refine r_iconst X dL_law_774 ?_
  refine r_iadd X dL_law_775 ?_
  refine r_sld X hs hLb dL_law_776 h (fun h => ?_)
  refine r_aload_n X 0 dL_law_777 rfl rfl ?_
  refine r_iload X 4 dL_law_778 rfl ?_
  refine r_bipush X dL_law_780 (by decide) ?_
  refine r_iadd X dL_law_782 ?_
  refine r_sld X hs hLb dL_law_783 h (fun h => ?_)
  refine r_aload_n X 0 dL_law_784 rfl rfl ?_
  refine r_iload X 4 dL_law_785 rfl ?_
  refine r_bipush X dL_law_787 (by decide) ?_
  refine r_iadd X dL_law_789 ?_
  refine r_sld X hs hLb dL_law_790 h (fun h => ?_)
  obtain ⟨ho305, h⟩ := cO_some h
  obtain ⟨r306, σ307, h304, h⟩ := bd2_some h
  refine r_cV (Wd := 1) X (fun l D sz => w_X6_way l D sz h304) ho305.1 rfl q1657 q1658 q1656 q109 q1659 hy_X6_way rfl dL_law_791 rfl rfl (Nat.le_of_ble_eq_true rfl) ⟨Nat.le_of_ble_eq_true rfl, Nat.le_of_ble_eq_true rfl⟩ ⟨(by show (112 + (64 - cn) * 86) + 0 ≤ 601024; omega), (by show (504441 + (64 - cn) * 40302) + 0 ≤ 7293034; omega)⟩ ?_
  refine r_icmp_eq (tgt := 2568) X dL_law_794 (by decide) h (fun c308 h => ?_) (fun c308 h => ?_)
  · refine r_iinc X 4 dL_law_2568 rfl (hL 4 (by decide)) (lv' := [(4, iv ((v4_j698 + 8))), (0, .ref (b)), (1, .ref (p1)), (2, .ref (p2)), (3, .ref (p3))]) rfl ?_
    refine r_goto (tgt := 23) X dL_law_2571 (by decide) ?_
    exact V.widen (by show _ ≤ _; omega) (by show _ ≤ _; omega) <| V.sub [1, 2, 3, 4, 0] rfl (ihb1 _ (Option.some.inj h).symm)
  · have h := ex_some h ihe1
    refine V.widen (k' := 5616) (n' := 3083769) (by show _ ≤ _; omega) (by show _ ≤ _; omega) ?_
    refine r_iconst X dL_law_797 ?_
    cases h
    exact absurd hw (by decide)
