/-! cases of the law (printed by gen.py, lawsplit.py) -/
set_option maxRecDepth 100000
set_option maxHeartbeats 40000000 in
theorem w_L_J1565 {Γ : Ctx} {xs : Nat → Int} {L b p1 p2 p3 cn : Nat} {w : Int} {z1 : (Nat × Int × St) ⊕ Int} (X : Cx Γ cL_law "DayBoyLaw" ({ frames := 15, cells := 601024, slots := 7293034, locals := 634 } : Room)) (hL : ∀ i, i < 7 → i < nLc Γ) (htr : (lOf Γ).stackTraces = false) (hs : Scr Γ b L xs) (hLb : L < 2147483648) (hw : w = 1) (hn1 : 0 < cn) (hn2 : cn ≤ 64) (ihb1 : ∀ s : Nat × Int × St, z1 = Sum.inl s → V Γ (s.2.2) (112 + (64 - s.1) * 86) (504441 + (64 - s.1) * 40302) 23 [(0, .ref (b)), (1, .ref (p1)), (2, .ref (p2)), (3, .ref (p3)), (4, iv (s.2.1))] []) (ihe1 : ∀ r, z1 = Sum.inr r → r = w) : ∀ (v4_j1565 : Int) (σ_j1565 : St), f_L_law_j1565 (cn) (xs) (L) (b) (p1) (p2) (p3) v4_j1565 σ_j1565 = some z1 → V Γ σ_j1565 (112 + (64 - cn) * 86) (504441 + (64 - cn) * 40302) 1565 [(0, .ref (b)), (1, .ref (p1)), (2, .ref (p2)), (3, .ref (p3)), (4, iv (v4_j1565))] [] := by
  intro v4_j1565 σ_j1565 h
  unfold f_L_law_j1565 at h
  refine r_aload_n X 1 dL_law_1565 rfl rfl ?_
  refine r_aload_n X 0 dL_law_1566 rfl rfl ?_
  refine r_iload X 4 dL_law_1567 rfl ?_
  refine r_iconst X dL_law_1569 ?_
  refine r_iadd X dL_law_1570 ?_
  refine r_sld X hs hLb dL_law_1571 h (fun h => ?_)
  refine r_aload_n X 0 dL_law_1572 rfl rfl ?_
  refine r_iload X 4 dL_law_1573 rfl ?_
  refine r_iconst X dL_law_1575 ?_
  refine r_iadd X dL_law_1576 ?_
  refine r_sld X hs hLb dL_law_1577 h (fun h => ?_)
  refine r_aload_n X 0 dL_law_1578 rfl rfl ?_
  refine r_iload X 4 dL_law_1579 rfl ?_
  refine r_iconst X dL_law_1581 ?_
  refine r_iadd X dL_law_1582 ?_
  refine r_sld X hs hLb dL_law_1583 h (fun h => ?_)
  obtain ⟨ho158, h⟩ := cO_some h
  obtain ⟨r159, h157, h⟩ := bd_some h
  refine r_cV (Wd := 0) X (fun l D sz => w_X1_like l D sz h157) ho158.1 rfl q1100 q1101 q1099 q104 q1102 hy_X1_like rfl dL_law_1584 rfl rfl (Nat.le_of_ble_eq_true rfl) ⟨Nat.le_of_ble_eq_true rfl, Nat.le_of_ble_eq_true rfl⟩ ⟨(by show (112 + (64 - cn) * 86) + 0 ≤ 601024; omega), (by show (504441 + (64 - cn) * 40302) + 0 ≤ 7293034; omega)⟩ ?_
  refine r_aload_n X 2 dL_law_1587 rfl rfl ?_
  refine r_aload_n X 0 dL_law_1588 rfl rfl ?_
  refine r_iload X 4 dL_law_1589 rfl ?_
  refine r_iconst X dL_law_1591 ?_
  refine r_iadd X dL_law_1592 ?_
  refine r_sld X hs hLb dL_law_1593 h (fun h => ?_)
  refine r_aload_n X 0 dL_law_1594 rfl rfl ?_
  refine r_iload X 4 dL_law_1595 rfl ?_
  refine r_iconst X dL_law_1597 ?_
  refine r_iadd X dL_law_1598 ?_
  refine r_sld X hs hLb dL_law_1599 h (fun h => ?_)
  refine r_aload_n X 0 dL_law_1600 rfl rfl ?_
  refine r_iload X 4 dL_law_1601 rfl ?_
  refine r_iconst X dL_law_1603 ?_
  refine r_iadd X dL_law_1604 ?_
  refine r_sld X hs hLb dL_law_1605 h (fun h => ?_)
  obtain ⟨ho161, h⟩ := cO_some h
  obtain ⟨r162, h160, h⟩ := bd_some h
  refine r_cV (Wd := 1) X (fun l D sz => w_X6_like l D sz h160) ho161.1 rfl q1795 q1796 q1794 q109 q1797 hy_X6_like rfl dL_law_1606 rfl rfl (Nat.le_of_ble_eq_true rfl) ⟨Nat.le_of_ble_eq_true rfl, Nat.le_of_ble_eq_true rfl⟩ ⟨(by show (112 + (64 - cn) * 86) + 0 ≤ 601024; omega), (by show (504441 + (64 - cn) * 40302) + 0 ≤ 7293034; omega)⟩ ?_
  refine r_icmp_eq (tgt := 2568) X dL_law_1609 (by decide) h (fun c163 h => ?_) (fun c163 h => ?_)
  · refine r_iinc X 4 dL_law_2568 rfl (hL 4 (by decide)) (lv' := [(4, iv ((v4_j1565 + 8))), (0, .ref (b)), (1, .ref (p1)), (2, .ref (p2)), (3, .ref (p3))]) rfl ?_
    refine r_goto (tgt := 23) X dL_law_2571 (by decide) ?_
    exact V.widen (by show _ ≤ _; omega) (by show _ ≤ _; omega) <| V.sub [1, 2, 3, 4, 0] rfl (ihb1 _ (Option.some.inj h).symm)
  · have h := ex_some h ihe1
    refine V.widen (k' := 5616) (n' := 3083769) (by show _ ≤ _; omega) (by show _ ≤ _; omega) ?_
    refine r_iconst X dL_law_1612 ?_
    cases h
    exact absurd hw (by decide)
set_option maxHeartbeats 40000000 in
theorem w_L_J1492 {Γ : Ctx} {xs : Nat → Int} {L b p1 p2 p3 cn : Nat} {w : Int} {z1 : (Nat × Int × St) ⊕ Int} (X : Cx Γ cL_law "DayBoyLaw" ({ frames := 15, cells := 601024, slots := 7293034, locals := 634 } : Room)) (hL : ∀ i, i < 7 → i < nLc Γ) (htr : (lOf Γ).stackTraces = false) (hs : Scr Γ b L xs) (hLb : L < 2147483648) (hw : w = 1) (hn1 : 0 < cn) (hn2 : cn ≤ 64) (ihb1 : ∀ s : Nat × Int × St, z1 = Sum.inl s → V Γ (s.2.2) (112 + (64 - s.1) * 86) (504441 + (64 - s.1) * 40302) 23 [(0, .ref (b)), (1, .ref (p1)), (2, .ref (p2)), (3, .ref (p3)), (4, iv (s.2.1))] []) (ihe1 : ∀ r, z1 = Sum.inr r → r = w) : ∀ (v4_j1492 : Int) (σ_j1492 : St), f_L_law_j1492 (cn) (xs) (L) (b) (p1) (p2) (p3) v4_j1492 σ_j1492 = some z1 → V Γ σ_j1492 (112 + (64 - cn) * 86) (504441 + (64 - cn) * 40302) 1492 [(0, .ref (b)), (1, .ref (p1)), (2, .ref (p2)), (3, .ref (p3)), (4, iv (v4_j1492))] [] := by
  intro v4_j1492 σ_j1492 h
  unfold f_L_law_j1492 at h
  refine r_aload_n X 1 dL_law_1492 rfl rfl ?_
  refine r_aload_n X 0 dL_law_1493 rfl rfl ?_
  refine r_iload X 4 dL_law_1494 rfl ?_
  refine r_iconst X dL_law_1496 ?_
  refine r_iadd X dL_law_1497 ?_
  refine r_sld X hs hLb dL_law_1498 h (fun h => ?_)
  refine r_aload_n X 0 dL_law_1499 rfl rfl ?_
  refine r_iload X 4 dL_law_1500 rfl ?_
  refine r_iconst X dL_law_1502 ?_
  refine r_iadd X dL_law_1503 ?_
  refine r_sld X hs hLb dL_law_1504 h (fun h => ?_)
  refine r_aload_n X 0 dL_law_1505 rfl rfl ?_
  refine r_iload X 4 dL_law_1506 rfl ?_
  refine r_iconst X dL_law_1508 ?_
  refine r_iadd X dL_law_1509 ?_
  refine r_sld X hs hLb dL_law_1510 h (fun h => ?_)
  refine r_aload_n X 0 dL_law_1511 rfl rfl ?_
  refine r_iload X 4 dL_law_1512 rfl ?_
  refine r_iconst X dL_law_1514 ?_
  refine r_iadd X dL_law_1515 ?_
  refine r_sld X hs hLb dL_law_1516 h (fun h => ?_)
  refine r_aload_n X 0 dL_law_1517 rfl rfl ?_
  refine r_iload X 4 dL_law_1518 rfl ?_
  refine r_iconst X dL_law_1520 ?_
  refine r_iadd X dL_law_1521 ?_
  refine r_sld X hs hLb dL_law_1522 h (fun h => ?_)
  obtain ⟨ho165, h⟩ := cO_some h
  obtain ⟨r166, σ167, h164, h⟩ := bd2_some h
  refine r_cV (Wd := 0) X (fun l D sz => w_X1_least l D sz h164) ho165.1 rfl q1069 q1070 q1068 q104 q1071 hy_X1_least rfl dL_law_1523 rfl rfl (Nat.le_of_ble_eq_true rfl) ⟨Nat.le_of_ble_eq_true rfl, Nat.le_of_ble_eq_true rfl⟩ ⟨(by show (112 + (64 - cn) * 86) + 7 ≤ 601024; omega), (by show (504441 + (64 - cn) * 40302) + 14 ≤ 7293034; omega)⟩ ?_
  refine V.widen (k' := (118 + (64 - cn) * 86)) (n' := (504453 + (64 - cn) * 40302)) (by show _ ≤ _; omega) (by show _ ≤ _; omega) ?_
  refine r_aload_n X 2 dL_law_1526 rfl rfl ?_
  refine r_aload_n X 0 dL_law_1527 rfl rfl ?_
  refine r_iload X 4 dL_law_1528 rfl ?_
  refine r_iconst X dL_law_1530 ?_
  refine r_iadd X dL_law_1531 ?_
  refine r_sld X hs hLb dL_law_1532 h (fun h => ?_)
  refine r_aload_n X 0 dL_law_1533 rfl rfl ?_
  refine r_iload X 4 dL_law_1534 rfl ?_
  refine r_iconst X dL_law_1536 ?_
  refine r_iadd X dL_law_1537 ?_
  refine r_sld X hs hLb dL_law_1538 h (fun h => ?_)
  refine r_aload_n X 0 dL_law_1539 rfl rfl ?_
  refine r_iload X 4 dL_law_1540 rfl ?_
  refine r_iconst X dL_law_1542 ?_
  refine r_iadd X dL_law_1543 ?_
  refine r_sld X hs hLb dL_law_1544 h (fun h => ?_)
  refine r_aload_n X 0 dL_law_1545 rfl rfl ?_
  refine r_iload X 4 dL_law_1546 rfl ?_
  refine r_iconst X dL_law_1548 ?_
  refine r_iadd X dL_law_1549 ?_
  refine r_sld X hs hLb dL_law_1550 h (fun h => ?_)
  refine r_aload_n X 0 dL_law_1551 rfl rfl ?_
  refine r_iload X 4 dL_law_1552 rfl ?_
  refine r_iconst X dL_law_1554 ?_
  refine r_iadd X dL_law_1555 ?_
  refine r_sld X hs hLb dL_law_1556 h (fun h => ?_)
  obtain ⟨ho169, h⟩ := cO_some h
  obtain ⟨r170, σ171, h168, h⟩ := bd2_some h
  refine r_cV (Wd := 1) X (fun l D sz => w_X6_least l D sz h168) ho169.1 rfl q1781 q1782 q1780 q109 q1783 hy_X6_least rfl dL_law_1557 rfl rfl (Nat.le_of_ble_eq_true rfl) ⟨Nat.le_of_ble_eq_true rfl, Nat.le_of_ble_eq_true rfl⟩ ⟨(by show (118 + (64 - cn) * 86) + 0 ≤ 601024; omega), (by show (504453 + (64 - cn) * 40302) + 0 ≤ 7293034; omega)⟩ ?_
  refine r_icmp_eq (tgt := 2568) X dL_law_1560 (by decide) h (fun c172 h => ?_) (fun c172 h => ?_)
  · refine r_iinc X 4 dL_law_2568 rfl (hL 4 (by decide)) (lv' := [(4, iv ((v4_j1492 + 8))), (0, .ref (b)), (1, .ref (p1)), (2, .ref (p2)), (3, .ref (p3))]) rfl ?_
    refine r_goto (tgt := 23) X dL_law_2571 (by decide) ?_
    exact V.widen (by show _ ≤ _; omega) (by show _ ≤ _; omega) <| V.sub [1, 2, 3, 4, 0] rfl (ihb1 _ (Option.some.inj h).symm)
  · have h := ex_some h ihe1
    refine V.widen (k' := 5622) (n' := 3083781) (by show _ ≤ _; omega) (by show _ ≤ _; omega) ?_
    refine r_iconst X dL_law_1563 ?_
    cases h
    exact absurd hw (by decide)
set_option maxHeartbeats 40000000 in
theorem w_L_J1419 {Γ : Ctx} {xs : Nat → Int} {L b p1 p2 p3 cn : Nat} {w : Int} {z1 : (Nat × Int × St) ⊕ Int} (X : Cx Γ cL_law "DayBoyLaw" ({ frames := 15, cells := 601024, slots := 7293034, locals := 634 } : Room)) (hL : ∀ i, i < 7 → i < nLc Γ) (htr : (lOf Γ).stackTraces = false) (hs : Scr Γ b L xs) (hLb : L < 2147483648) (hw : w = 1) (hn1 : 0 < cn) (hn2 : cn ≤ 64) (ihb1 : ∀ s : Nat × Int × St, z1 = Sum.inl s → V Γ (s.2.2) (112 + (64 - s.1) * 86) (504441 + (64 - s.1) * 40302) 23 [(0, .ref (b)), (1, .ref (p1)), (2, .ref (p2)), (3, .ref (p3)), (4, iv (s.2.1))] []) (ihe1 : ∀ r, z1 = Sum.inr r → r = w) : ∀ (v4_j1419 : Int) (σ_j1419 : St), f_L_law_j1419 (cn) (xs) (L) (b) (p1) (p2) (p3) v4_j1419 σ_j1419 = some z1 → V Γ σ_j1419 (112 + (64 - cn) * 86) (504441 + (64 - cn) * 40302) 1419 [(0, .ref (b)), (1, .ref (p1)), (2, .ref (p2)), (3, .ref (p3)), (4, iv (v4_j1419))] [] := by
  intro v4_j1419 σ_j1419 h
  unfold f_L_law_j1419 at h
  refine r_aload_n X 1 dL_law_1419 rfl rfl ?_
  refine r_aload_n X 0 dL_law_1420 rfl rfl ?_
  refine r_iload X 4 dL_law_1421 rfl ?_
  refine r_iconst X dL_law_1423 ?_
  refine r_iadd X dL_law_1424 ?_
  refine r_sld X hs hLb dL_law_1425 h (fun h => ?_)
  refine r_aload_n X 0 dL_law_1426 rfl rfl ?_
  refine r_iload X 4 dL_law_1427 rfl ?_
  refine r_iconst X dL_law_1429 ?_
  refine r_iadd X dL_law_1430 ?_
  refine r_sld X hs hLb dL_law_1431 h (fun h => ?_)
  refine r_aload_n X 0 dL_law_1432 rfl rfl ?_
  refine r_iload X 4 dL_law_1433 rfl ?_
  refine r_iconst X dL_law_1435 ?_
  refine r_iadd X dL_law_1436 ?_
  refine r_sld X hs hLb dL_law_1437 h (fun h => ?_)
  refine r_aload_n X 0 dL_law_1438 rfl rfl ?_
  refine r_iload X 4 dL_law_1439 rfl ?_
  refine r_iconst X dL_law_1441 ?_
  refine r_iadd X dL_law_1442 ?_
  refine r_sld X hs hLb dL_law_1443 h (fun h => ?_)
  refine r_aload_n X 0 dL_law_1444 rfl rfl ?_
  refine r_iload X 4 dL_law_1445 rfl ?_
  refine r_iconst X dL_law_1447 ?_
  refine r_iadd X dL_law_1448 ?_
  refine r_sld X hs hLb dL_law_1449 h (fun h => ?_)
  obtain ⟨ho174, h⟩ := cO_some h
  obtain ⟨r175, σ176, h173, h⟩ := bd2_some h
  refine r_cV (Wd := 0) X (fun l D sz => w_X1_part l D sz h173) ho174.1 rfl q1064 q1065 q1063 q104 q1066 hy_X1_part rfl dL_law_1450 rfl rfl (Nat.le_of_ble_eq_true rfl) ⟨Nat.le_of_ble_eq_true rfl, Nat.le_of_ble_eq_true rfl⟩ ⟨(by show (112 + (64 - cn) * 86) + 0 ≤ 601024; omega), (by show (504441 + (64 - cn) * 40302) + 0 ≤ 7293034; omega)⟩ ?_
  refine r_aload_n X 2 dL_law_1453 rfl rfl ?_
  refine r_aload_n X 0 dL_law_1454 rfl rfl ?_
  refine r_iload X 4 dL_law_1455 rfl ?_
  refine r_iconst X dL_law_1457 ?_
  refine r_iadd X dL_law_1458 ?_
  refine r_sld X hs hLb dL_law_1459 h (fun h => ?_)
  refine r_aload_n X 0 dL_law_1460 rfl rfl ?_
  refine r_iload X 4 dL_law_1461 rfl ?_
  refine r_iconst X dL_law_1463 ?_
  refine r_iadd X dL_law_1464 ?_
  refine r_sld X hs hLb dL_law_1465 h (fun h => ?_)
  refine r_aload_n X 0 dL_law_1466 rfl rfl ?_
  refine r_iload X 4 dL_law_1467 rfl ?_
  refine r_iconst X dL_law_1469 ?_
  refine r_iadd X dL_law_1470 ?_
  refine r_sld X hs hLb dL_law_1471 h (fun h => ?_)
  refine r_aload_n X 0 dL_law_1472 rfl rfl ?_
  refine r_iload X 4 dL_law_1473 rfl ?_
  refine r_iconst X dL_law_1475 ?_
  refine r_iadd X dL_law_1476 ?_
  refine r_sld X hs hLb dL_law_1477 h (fun h => ?_)
  refine r_aload_n X 0 dL_law_1478 rfl rfl ?_
  refine r_iload X 4 dL_law_1479 rfl ?_
  refine r_iconst X dL_law_1481 ?_
  refine r_iadd X dL_law_1482 ?_
  refine r_sld X hs hLb dL_law_1483 h (fun h => ?_)
  obtain ⟨ho178, h⟩ := cO_some h
  obtain ⟨r179, σ180, h177, h⟩ := bd2_some h
  refine r_cV (Wd := 1) X (fun l D sz => w_X6_part l D sz h177) ho178.1 rfl q1777 q1778 q1776 q109 q1779 hy_X6_part rfl dL_law_1484 rfl rfl (Nat.le_of_ble_eq_true rfl) ⟨Nat.le_of_ble_eq_true rfl, Nat.le_of_ble_eq_true rfl⟩ ⟨(by show (112 + (64 - cn) * 86) + 0 ≤ 601024; omega), (by show (504441 + (64 - cn) * 40302) + 0 ≤ 7293034; omega)⟩ ?_
  refine r_icmp_eq (tgt := 2568) X dL_law_1487 (by decide) h (fun c181 h => ?_) (fun c181 h => ?_)
  · refine r_iinc X 4 dL_law_2568 rfl (hL 4 (by decide)) (lv' := [(4, iv ((v4_j1419 + 8))), (0, .ref (b)), (1, .ref (p1)), (2, .ref (p2)), (3, .ref (p3))]) rfl ?_
    refine r_goto (tgt := 23) X dL_law_2571 (by decide) ?_
    exact V.widen (by show _ ≤ _; omega) (by show _ ≤ _; omega) <| V.sub [1, 2, 3, 4, 0] rfl (ihb1 _ (Option.some.inj h).symm)
  · have h := ex_some h ihe1
    refine V.widen (k' := 5616) (n' := 3083769) (by show _ ≤ _; omega) (by show _ ≤ _; omega) ?_
    refine r_iconst X dL_law_1490 ?_
    cases h
    exact absurd hw (by decide)
set_option maxHeartbeats 40000000 in
theorem w_L_J1394 {Γ : Ctx} {xs : Nat → Int} {L b p1 p2 p3 cn : Nat} {w : Int} {z1 : (Nat × Int × St) ⊕ Int} (X : Cx Γ cL_law "DayBoyLaw" ({ frames := 15, cells := 601024, slots := 7293034, locals := 634 } : Room)) (hL : ∀ i, i < 7 → i < nLc Γ) (htr : (lOf Γ).stackTraces = false) (hs : Scr Γ b L xs) (hLb : L < 2147483648) (hw : w = 1) (hn1 : 0 < cn) (hn2 : cn ≤ 64) (ihb1 : ∀ s : Nat × Int × St, z1 = Sum.inl s → V Γ (s.2.2) (112 + (64 - s.1) * 86) (504441 + (64 - s.1) * 40302) 23 [(0, .ref (b)), (1, .ref (p1)), (2, .ref (p2)), (3, .ref (p3)), (4, iv (s.2.1))] []) (ihe1 : ∀ r, z1 = Sum.inr r → r = w) : ∀ (v4_j1394 : Int) (σ_j1394 : St), f_L_law_j1394 (cn) (xs) (L) (b) (p1) (p2) (p3) v4_j1394 σ_j1394 = some z1 → V Γ σ_j1394 (112 + (64 - cn) * 86) (504441 + (64 - cn) * 40302) 1394 [(0, .ref (b)), (1, .ref (p1)), (2, .ref (p2)), (3, .ref (p3)), (4, iv (v4_j1394))] [] := by
  intro v4_j1394 σ_j1394 h
  unfold f_L_law_j1394 at h
  refine r_aload_n X 1 dL_law_1394 rfl rfl ?_
  refine r_aload_n X 0 dL_law_1395 rfl rfl ?_
  refine r_iload X 4 dL_law_1396 rfl ?_
  refine r_iconst X dL_law_1398 ?_
  refine r_iadd X dL_law_1399 ?_
  refine r_sld X hs hLb dL_law_1400 h (fun h => ?_)
  obtain ⟨ho183, h⟩ := cO_some h
  obtain ⟨r184, σ185, h182, h⟩ := bd2_some h
  refine r_cV (Wd := 0) X (fun l D sz => w_X1_next l D sz h182) ho183.1 rfl q1060 q1061 q1059 q104 q1062 hy_X1_next rfl dL_law_1401 rfl rfl (Nat.le_of_ble_eq_true rfl) ⟨Nat.le_of_ble_eq_true rfl, Nat.le_of_ble_eq_true rfl⟩ ⟨(by show (112 + (64 - cn) * 86) + 0 ≤ 601024; omega), (by show (504441 + (64 - cn) * 40302) + 0 ≤ 7293034; omega)⟩ ?_
  refine r_aload_n X 2 dL_law_1404 rfl rfl ?_
  refine r_aload_n X 0 dL_law_1405 rfl rfl ?_
  refine r_iload X 4 dL_law_1406 rfl ?_
  refine r_iconst X dL_law_1408 ?_
  refine r_iadd X dL_law_1409 ?_
  refine r_sld X hs hLb dL_law_1410 h (fun h => ?_)
  obtain ⟨ho187, h⟩ := cO_some h
  obtain ⟨r188, σ189, h186, h⟩ := bd2_some h
  refine r_cV (Wd := 1) X (fun l D sz => w_X6_next l D sz h186) ho187.1 rfl q1773 q1774 q1772 q109 q1775 hy_X6_next rfl dL_law_1411 rfl rfl (Nat.le_of_ble_eq_true rfl) ⟨Nat.le_of_ble_eq_true rfl, Nat.le_of_ble_eq_true rfl⟩ ⟨(by show (112 + (64 - cn) * 86) + 0 ≤ 601024; omega), (by show (504441 + (64 - cn) * 40302) + 0 ≤ 7293034; omega)⟩ ?_
  refine r_icmp_eq (tgt := 2568) X dL_law_1414 (by decide) h (fun c190 h => ?_) (fun c190 h => ?_)
  · refine r_iinc X 4 dL_law_2568 rfl (hL 4 (by decide)) (lv' := [(4, iv ((v4_j1394 + 8))), (0, .ref (b)), (1, .ref (p1)), (2, .ref (p2)), (3, .ref (p3))]) rfl ?_
    refine r_goto (tgt := 23) X dL_law_2571 (by decide) ?_
    exact V.widen (by show _ ≤ _; omega) (by show _ ≤ _; omega) <| V.sub [1, 2, 3, 4, 0] rfl (ihb1 _ (Option.some.inj h).symm)
  · have h := ex_some h ihe1
    refine V.widen (k' := 5616) (n' := 3083769) (by show _ ≤ _; omega) (by show _ ≤ _; omega) ?_
    refine r_iconst X dL_law_1417 ?_
    cases h
    exact absurd hw (by decide)
set_option maxHeartbeats 40000000 in
theorem w_L_J1357 {Γ : Ctx} {xs : Nat → Int} {L b p1 p2 p3 cn : Nat} {w : Int} {z1 : (Nat × Int × St) ⊕ Int} (X : Cx Γ cL_law "DayBoyLaw" ({ frames := 15, cells := 601024, slots := 7293034, locals := 634 } : Room)) (hL : ∀ i, i < 7 → i < nLc Γ) (htr : (lOf Γ).stackTraces = false) (hs : Scr Γ b L xs) (hLb : L < 2147483648) (hw : w = 1) (hn1 : 0 < cn) (hn2 : cn ≤ 64) (ihb1 : ∀ s : Nat × Int × St, z1 = Sum.inl s → V Γ (s.2.2) (112 + (64 - s.1) * 86) (504441 + (64 - s.1) * 40302) 23 [(0, .ref (b)), (1, .ref (p1)), (2, .ref (p2)), (3, .ref (p3)), (4, iv (s.2.1))] []) (ihe1 : ∀ r, z1 = Sum.inr r → r = w) : ∀ (v4_j1357 : Int) (σ_j1357 : St), f_L_law_j1357 (cn) (xs) (L) (b) (p1) (p2) (p3) v4_j1357 σ_j1357 = some z1 → V Γ σ_j1357 (112 + (64 - cn) * 86) (504441 + (64 - cn) * 40302) 1357 [(0, .ref (b)), (1, .ref (p1)), (2, .ref (p2)), (3, .ref (p3)), (4, iv (v4_j1357))] [] := by
  intro v4_j1357 σ_j1357 h
  unfold f_L_law_j1357 at h
  refine r_aload_n X 1 dL_law_1357 rfl rfl ?_
  refine r_aload_n X 0 dL_law_1358 rfl rfl ?_
  refine r_iload X 4 dL_law_1359 rfl ?_
  refine r_iconst X dL_law_1361 ?_
  refine r_iadd X dL_law_1362 ?_
  refine r_sld X hs hLb dL_law_1363 h (fun h => ?_)
  refine r_aload_n X 0 dL_law_1364 rfl rfl ?_
  refine r_iload X 4 dL_law_1365 rfl ?_
  refine r_iconst X dL_law_1367 ?_
  refine r_iadd X dL_law_1368 ?_
  refine r_sld X hs hLb dL_law_1369 h (fun h => ?_)
  obtain ⟨ho192, h⟩ := cO_some h
  obtain ⟨r193, σ194, h191, h⟩ := bd2_some h
  refine r_cV (Wd := 0) X (fun l D sz => w_X1_parted l D sz h191) ho192.1 rfl q1041 q1042 q1040 q104 q1043 hy_X1_parted rfl dL_law_1370 rfl rfl (Nat.le_of_ble_eq_true rfl) ⟨Nat.le_of_ble_eq_true rfl, Nat.le_of_ble_eq_true rfl⟩ ⟨(by show (112 + (64 - cn) * 86) + 0 ≤ 601024; omega), (by show (504441 + (64 - cn) * 40302) + 0 ≤ 7293034; omega)⟩ ?_
  refine r_aload_n X 2 dL_law_1373 rfl rfl ?_
  refine r_aload_n X 0 dL_law_1374 rfl rfl ?_
  refine r_iload X 4 dL_law_1375 rfl ?_
  refine r_iconst X dL_law_1377 ?_
  refine r_iadd X dL_law_1378 ?_
  refine r_sld X hs hLb dL_law_1379 h (fun h => ?_)
  refine r_aload_n X 0 dL_law_1380 rfl rfl ?_
  refine r_iload X 4 dL_law_1381 rfl ?_
  refine r_iconst X dL_law_1383 ?_
  refine r_iadd X dL_law_1384 ?_
  refine r_sld X hs hLb dL_law_1385 h (fun h => ?_)
  obtain ⟨ho196, h⟩ := cO_some h
  obtain ⟨r197, σ198, h195, h⟩ := bd2_some h
  refine r_cV (Wd := 1) X (fun l D sz => w_X6_parted l D sz h195) ho196.1 rfl q1757 q1758 q1756 q109 q1759 hy_X6_parted rfl dL_law_1386 rfl rfl (Nat.le_of_ble_eq_true rfl) ⟨Nat.le_of_ble_eq_true rfl, Nat.le_of_ble_eq_true rfl⟩ ⟨(by show (112 + (64 - cn) * 86) + 0 ≤ 601024; omega), (by show (504441 + (64 - cn) * 40302) + 0 ≤ 7293034; omega)⟩ ?_
  refine r_icmp_eq (tgt := 2568) X dL_law_1389 (by decide) h (fun c199 h => ?_) (fun c199 h => ?_)
  · refine r_iinc X 4 dL_law_2568 rfl (hL 4 (by decide)) (lv' := [(4, iv ((v4_j1357 + 8))), (0, .ref (b)), (1, .ref (p1)), (2, .ref (p2)), (3, .ref (p3))]) rfl ?_
    refine r_goto (tgt := 23) X dL_law_2571 (by decide) ?_
    exact V.widen (by show _ ≤ _; omega) (by show _ ≤ _; omega) <| V.sub [1, 2, 3, 4, 0] rfl (ihb1 _ (Option.some.inj h).symm)
  · have h := ex_some h ihe1
    refine V.widen (k' := 5616) (n' := 3083769) (by show _ ≤ _; omega) (by show _ ≤ _; omega) ?_
    refine r_iconst X dL_law_1392 ?_
    cases h
    exact absurd hw (by decide)
set_option maxHeartbeats 40000000 in
theorem w_L_J1296 {Γ : Ctx} {xs : Nat → Int} {L b p1 p2 p3 cn : Nat} {w : Int} {z1 : (Nat × Int × St) ⊕ Int} (X : Cx Γ cL_law "DayBoyLaw" ({ frames := 15, cells := 601024, slots := 7293034, locals := 634 } : Room)) (hL : ∀ i, i < 7 → i < nLc Γ) (htr : (lOf Γ).stackTraces = false) (hs : Scr Γ b L xs) (hLb : L < 2147483648) (hw : w = 1) (hn1 : 0 < cn) (hn2 : cn ≤ 64) (ihb1 : ∀ s : Nat × Int × St, z1 = Sum.inl s → V Γ (s.2.2) (112 + (64 - s.1) * 86) (504441 + (64 - s.1) * 40302) 23 [(0, .ref (b)), (1, .ref (p1)), (2, .ref (p2)), (3, .ref (p3)), (4, iv (s.2.1))] []) (ihe1 : ∀ r, z1 = Sum.inr r → r = w) : ∀ (v4_j1296 : Int) (σ_j1296 : St), f_L_law_j1296 (cn) (xs) (L) (b) (p1) (p2) (p3) v4_j1296 σ_j1296 = some z1 → V Γ σ_j1296 (112 + (64 - cn) * 86) (504441 + (64 - cn) * 40302) 1296 [(0, .ref (b)), (1, .ref (p1)), (2, .ref (p2)), (3, .ref (p3)), (4, iv (v4_j1296))] [] := by
  intro v4_j1296 σ_j1296 h
  unfold f_L_law_j1296 at h
  refine r_aload_n X 1 dL_law_1296 rfl rfl ?_
  refine r_aload_n X 0 dL_law_1297 rfl rfl ?_
  refine r_iload X 4 dL_law_1298 rfl ?_
  refine r_iconst X dL_law_1300 ?_
  refine r_iadd X dL_law_1301 ?_
  refine r_sld X hs hLb dL_law_1302 h (fun h => ?_)
  refine r_aload_n X 0 dL_law_1303 rfl rfl ?_
  refine r_iload X 4 dL_law_1304 rfl ?_
  refine r_iconst X dL_law_1306 ?_
  refine r_iadd X dL_law_1307 ?_
  refine r_sld X hs hLb dL_law_1308 h (fun h => ?_)
  refine r_aload_n X 0 dL_law_1309 rfl rfl ?_
  refine r_iload X 4 dL_law_1310 rfl ?_
  refine r_iconst X dL_law_1312 ?_
  refine r_iadd X dL_law_1313 ?_
  refine r_sld X hs hLb dL_law_1314 h (fun h => ?_)
  refine r_aload_n X 0 dL_law_1315 rfl rfl ?_
  refine r_iload X 4 dL_law_1316 rfl ?_
  refine r_iconst X dL_law_1318 ?_
  refine r_iadd X dL_law_1319 ?_
  refine r_sld X hs hLb dL_law_1320 h (fun h => ?_)
  obtain ⟨ho201, h⟩ := cO_some h
  obtain ⟨r202, σ203, h200, h⟩ := bd2_some h
  refine r_cV (Wd := 0) X (fun l D sz => w_X1_plan l D sz h200) ho201.1 rfl q1037 q1038 q1036 q104 q1039 hy_X1_plan rfl dL_law_1321 rfl rfl (Nat.le_of_ble_eq_true rfl) ⟨Nat.le_of_ble_eq_true rfl, Nat.le_of_ble_eq_true rfl⟩ ⟨(by show (112 + (64 - cn) * 86) + 0 ≤ 601024; omega), (by show (504441 + (64 - cn) * 40302) + 0 ≤ 7293034; omega)⟩ ?_
  refine r_aload_n X 2 dL_law_1324 rfl rfl ?_
  refine r_aload_n X 0 dL_law_1325 rfl rfl ?_
  refine r_iload X 4 dL_law_1326 rfl ?_
  refine r_iconst X dL_law_1328 ?_
  refine r_iadd X dL_law_1329 ?_
  refine r_sld X hs hLb dL_law_1330 h (fun h => ?_)
  refine r_aload_n X 0 dL_law_1331 rfl rfl ?_
  refine r_iload X 4 dL_law_1332 rfl ?_
  refine r_iconst X dL_law_1334 ?_
  refine r_iadd X dL_law_1335 ?_
  refine r_sld X hs hLb dL_law_1336 h (fun h => ?_)
  refine r_aload_n X 0 dL_law_1337 rfl rfl ?_
  refine r_iload X 4 dL_law_1338 rfl ?_
  refine r_iconst X dL_law_1340 ?_
  refine r_iadd X dL_law_1341 ?_
  refine r_sld X hs hLb dL_law_1342 h (fun h => ?_)
  refine r_aload_n X 0 dL_law_1343 rfl rfl ?_
  refine r_iload X 4 dL_law_1344 rfl ?_
  refine r_iconst X dL_law_1346 ?_
  refine r_iadd X dL_law_1347 ?_
  refine r_sld X hs hLb dL_law_1348 h (fun h => ?_)
  obtain ⟨ho205, h⟩ := cO_some h
  obtain ⟨r206, σ207, h204, h⟩ := bd2_some h
  refine r_cV (Wd := 1) X (fun l D sz => w_X6_plan l D sz h204) ho205.1 rfl q1753 q1754 q1752 q109 q1755 hy_X6_plan rfl dL_law_1349 rfl rfl (Nat.le_of_ble_eq_true rfl) ⟨Nat.le_of_ble_eq_true rfl, Nat.le_of_ble_eq_true rfl⟩ ⟨(by show (112 + (64 - cn) * 86) + 0 ≤ 601024; omega), (by show (504441 + (64 - cn) * 40302) + 0 ≤ 7293034; omega)⟩ ?_
  refine r_icmp_eq (tgt := 2568) X dL_law_1352 (by decide) h (fun c208 h => ?_) (fun c208 h => ?_)
  · refine r_iinc X 4 dL_law_2568 rfl (hL 4 (by decide)) (lv' := [(4, iv ((v4_j1296 + 8))), (0, .ref (b)), (1, .ref (p1)), (2, .ref (p2)), (3, .ref (p3))]) rfl ?_
    refine r_goto (tgt := 23) X dL_law_2571 (by decide) ?_
    exact V.widen (by show _ ≤ _; omega) (by show _ ≤ _; omega) <| V.sub [1, 2, 3, 4, 0] rfl (ihb1 _ (Option.some.inj h).symm)
  · have h := ex_some h ihe1
    refine V.widen (k' := 5616) (n' := 3083769) (by show _ ≤ _; omega) (by show _ ≤ _; omega) ?_
    refine r_iconst X dL_law_1355 ?_
    cases h
    exact absurd hw (by decide)
