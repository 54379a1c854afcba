/-! cases of the law (printed by gen.py, lawsplit.py) -/
set_option maxRecDepth 100000
set_option maxHeartbeats 40000000 in
theorem w_L_J661 {Γ : Ctx} {xs : Nat → Int} {L b p1 p2 p3 cn : Nat} {w : Int} {z1 : (Nat × Int × St) ⊕ Int} (X : Cx Γ cL_law "DayBoyLaw" ({ frames := 15, cells := 601024, slots := 7293034, locals := 634 } : Room)) (hL : ∀ i, i < 7 → i < nLc Γ) (htr : (lOf Γ).stackTraces = false) (hs : Scr Γ b L xs) (hLb : L < 2147483648) (hw : w = 1) (hn1 : 0 < cn) (hn2 : cn ≤ 64) (ihb1 : ∀ s : Nat × Int × St, z1 = Sum.inl s → V Γ (s.2.2) (112 + (64 - s.1) * 86) (504441 + (64 - s.1) * 40302) 23 [(0, .ref (b)), (1, .ref (p1)), (2, .ref (p2)), (3, .ref (p3)), (4, iv (s.2.1))] []) (ihe1 : ∀ r, z1 = Sum.inr r → r = w) : ∀ (v4_j661 : Int) (σ_j661 : St), f_L_law_j661 (cn) (xs) (L) (b) (p1) (p2) (p3) v4_j661 σ_j661 = some z1 → V Γ σ_j661 (112 + (64 - cn) * 86) (504441 + (64 - cn) * 40302) 661 [(0, .ref (b)), (1, .ref (p1)), (2, .ref (p2)), (3, .ref (p3)), (4, iv (v4_j661))] [] := by
  intro v4_j661 σ_j661 h
  unfold f_L_law_j661 at h
  refine r_aload_n X 1 dL_law_661 rfl rfl ?_
  refine r_aload_n X 0 dL_law_662 rfl rfl ?_
  refine r_iload X 4 dL_law_663 rfl ?_
  refine r_iconst X dL_law_665 ?_
  refine r_iadd X dL_law_666 ?_
  refine r_sld X hs hLb dL_law_667 h (fun h => ?_)
  refine r_aload_n X 0 dL_law_668 rfl rfl ?_
  refine r_iload X 4 dL_law_669 rfl ?_
  refine r_iconst X dL_law_671 ?_
  refine r_iadd X dL_law_672 ?_
  refine r_sld X hs hLb dL_law_673 h (fun h => ?_)
  obtain ⟨ho310, h⟩ := cO_some h
  obtain ⟨r311, h309, h⟩ := bd_some h
  refine r_cV (Wd := 0) X (fun l D sz => w_X1_kind l D sz h309) ho310.1 rfl q830 q831 q829 q104 q832 hy_X1_kind rfl dL_law_674 rfl rfl (Nat.le_of_ble_eq_true rfl) ⟨Nat.le_of_ble_eq_true rfl, Nat.le_of_ble_eq_true rfl⟩ ⟨(by show (112 + (64 - cn) * 86) + 0 ≤ 601024; omega), (by show (504441 + (64 - cn) * 40302) + 0 ≤ 7293034; omega)⟩ ?_
  refine r_aload_n X 2 dL_law_677 rfl rfl ?_
  refine r_aload_n X 0 dL_law_678 rfl rfl ?_
  refine r_iload X 4 dL_law_679 rfl ?_
  refine r_iconst X dL_law_681 ?_
  refine r_iadd X dL_law_682 ?_
  refine r_sld X hs hLb dL_law_683 h (fun h => ?_)
  refine r_aload_n X 0 dL_law_684 rfl rfl ?_
  refine r_iload X 4 dL_law_685 rfl ?_
  refine r_iconst X dL_law_687 ?_
  refine r_iadd X dL_law_688 ?_
  refine r_sld X hs hLb dL_law_689 h (fun h => ?_)
  obtain ⟨ho313, h⟩ := cO_some h
  obtain ⟨r314, h312, h⟩ := bd_some h
  refine r_cV (Wd := 1) X (fun l D sz => w_X6_kind l D sz h312) ho313.1 rfl q1649 q1650 q1648 q109 q1651 hy_X6_kind rfl dL_law_690 rfl rfl (Nat.le_of_ble_eq_true rfl) ⟨Nat.le_of_ble_eq_true rfl, Nat.le_of_ble_eq_true rfl⟩ ⟨(by show (112 + (64 - cn) * 86) + 0 ≤ 601024; omega), (by show (504441 + (64 - cn) * 40302) + 0 ≤ 7293034; omega)⟩ ?_
  refine r_icmp_eq (tgt := 2568) X dL_law_693 (by decide) h (fun c315 h => ?_) (fun c315 h => ?_)
  · refine r_iinc X 4 dL_law_2568 rfl (hL 4 (by decide)) (lv' := [(4, iv ((v4_j661 + 8))), (0, .ref (b)), (1, .ref (p1)), (2, .ref (p2)), (3, .ref (p3))]) rfl ?_
    refine r_goto (tgt := 23) X dL_law_2571 (by decide) ?_
    exact V.widen (by show _ ≤ _; omega) (by show _ ≤ _; omega) <| V.sub [1, 2, 3, 4, 0] rfl (ihb1 _ (Option.some.inj h).symm)
  · have h := ex_some h ihe1
    refine V.widen (k' := 5616) (n' := 3083769) (by show _ ≤ _; omega) (by show _ ≤ _; omega) ?_
    refine r_iconst X dL_law_696 ?_
    cases h
    exact absurd hw (by decide)
set_option maxHeartbeats 40000000 in
theorem w_L_J612 {Γ : Ctx} {xs : Nat → Int} {L b p1 p2 p3 cn : Nat} {w : Int} {z1 : (Nat × Int × St) ⊕ Int} (X : Cx Γ cL_law "DayBoyLaw" ({ frames := 15, cells := 601024, slots := 7293034, locals := 634 } : Room)) (hL : ∀ i, i < 7 → i < nLc Γ) (htr : (lOf Γ).stackTraces = false) (hs : Scr Γ b L xs) (hLb : L < 2147483648) (hw : w = 1) (hn1 : 0 < cn) (hn2 : cn ≤ 64) (ihb1 : ∀ s : Nat × Int × St, z1 = Sum.inl s → V Γ (s.2.2) (112 + (64 - s.1) * 86) (504441 + (64 - s.1) * 40302) 23 [(0, .ref (b)), (1, .ref (p1)), (2, .ref (p2)), (3, .ref (p3)), (4, iv (s.2.1))] []) (ihe1 : ∀ r, z1 = Sum.inr r → r = w) : ∀ (v4_j612 : Int) (σ_j612 : St), f_L_law_j612 (cn) (xs) (L) (b) (p1) (p2) (p3) v4_j612 σ_j612 = some z1 → V Γ σ_j612 (112 + (64 - cn) * 86) (504441 + (64 - cn) * 40302) 612 [(0, .ref (b)), (1, .ref (p1)), (2, .ref (p2)), (3, .ref (p3)), (4, iv (v4_j612))] [] := by
  intro v4_j612 σ_j612 h
  unfold f_L_law_j612 at h
  refine r_aload_n X 1 dL_law_612 rfl rfl ?_
  refine r_aload_n X 0 dL_law_613 rfl rfl ?_
  refine r_iload X 4 dL_law_614 rfl ?_
  refine r_iconst X dL_law_616 ?_
  refine r_iadd X dL_law_617 ?_
  refine r_sld X hs hLb dL_law_618 h (fun h => ?_)
  refine r_aload_n X 0 dL_law_619 rfl rfl ?_
  refine r_iload X 4 dL_law_620 rfl ?_
  refine r_iconst X dL_law_622 ?_
  refine r_iadd X dL_law_623 ?_
  refine r_sld X hs hLb dL_law_624 h (fun h => ?_)
  refine r_aload_n X 0 dL_law_625 rfl rfl ?_
  refine r_iload X 4 dL_law_626 rfl ?_
  refine r_iconst X dL_law_628 ?_
  refine r_iadd X dL_law_629 ?_
  refine r_sld X hs hLb dL_law_630 h (fun h => ?_)
  obtain ⟨ho317, h⟩ := cO_some h
  obtain ⟨r318, h316, h⟩ := bd_some h
  refine r_cV (Wd := 0) X (fun l D sz => w_X1_many l D sz h316) ho317.1 rfl q816 q817 q815 q104 q818 hy_X1_many rfl dL_law_631 rfl rfl (Nat.le_of_ble_eq_true rfl) ⟨Nat.le_of_ble_eq_true rfl, Nat.le_of_ble_eq_true rfl⟩ ⟨(by show (112 + (64 - cn) * 86) + 0 ≤ 601024; omega), (by show (504441 + (64 - cn) * 40302) + 0 ≤ 7293034; omega)⟩ ?_
  refine r_aload_n X 2 dL_law_634 rfl rfl ?_
  refine r_aload_n X 0 dL_law_635 rfl rfl ?_
  refine r_iload X 4 dL_law_636 rfl ?_
  refine r_iconst X dL_law_638 ?_
  refine r_iadd X dL_law_639 ?_
  refine r_sld X hs hLb dL_law_640 h (fun h => ?_)
  refine r_aload_n X 0 dL_law_641 rfl rfl ?_
  refine r_iload X 4 dL_law_642 rfl ?_
  refine r_iconst X dL_law_644 ?_
  refine r_iadd X dL_law_645 ?_
  refine r_sld X hs hLb dL_law_646 h (fun h => ?_)
  refine r_aload_n X 0 dL_law_647 rfl rfl ?_
  refine r_iload X 4 dL_law_648 rfl ?_
  refine r_iconst X dL_law_650 ?_
  refine r_iadd X dL_law_651 ?_
  refine r_sld X hs hLb dL_law_652 h (fun h => ?_)
  obtain ⟨ho320, h⟩ := cO_some h
  obtain ⟨r321, h319, h⟩ := bd_some h
  refine r_cV (Wd := 1) X (fun l D sz => w_X6_many l D sz h319) ho320.1 rfl q1645 q1646 q1644 q109 q1647 hy_X6_many rfl dL_law_653 rfl rfl (Nat.le_of_ble_eq_true rfl) ⟨Nat.le_of_ble_eq_true rfl, Nat.le_of_ble_eq_true rfl⟩ ⟨(by show (112 + (64 - cn) * 86) + 0 ≤ 601024; omega), (by show (504441 + (64 - cn) * 40302) + 0 ≤ 7293034; omega)⟩ ?_
  refine r_icmp_eq (tgt := 2568) X dL_law_656 (by decide) h (fun c322 h => ?_) (fun c322 h => ?_)
  · refine r_iinc X 4 dL_law_2568 rfl (hL 4 (by decide)) (lv' := [(4, iv ((v4_j612 + 8))), (0, .ref (b)), (1, .ref (p1)), (2, .ref (p2)), (3, .ref (p3))]) rfl ?_
    refine r_goto (tgt := 23) X dL_law_2571 (by decide) ?_
    exact V.widen (by show _ ≤ _; omega) (by show _ ≤ _; omega) <| V.sub [1, 2, 3, 4, 0] rfl (ihb1 _ (Option.some.inj h).symm)
  · have h := ex_some h ihe1
    refine V.widen (k' := 5616) (n' := 3083769) (by show _ ≤ _; omega) (by show _ ≤ _; omega) ?_
    refine r_iconst X dL_law_659 ?_
    cases h
    exact absurd hw (by decide)
set_option maxHeartbeats 40000000 in
theorem w_L_J525 {Γ : Ctx} {xs : Nat → Int} {L b p1 p2 p3 cn : Nat} {w : Int} {z1 : (Nat × Int × St) ⊕ Int} (X : Cx Γ cL_law "DayBoyLaw" ({ frames := 15, cells := 601024, slots := 7293034, locals := 634 } : Room)) (hL : ∀ i, i < 7 → i < nLc Γ) (htr : (lOf Γ).stackTraces = false) (hs : Scr Γ b L xs) (hLb : L < 2147483648) (hw : w = 1) (hn1 : 0 < cn) (hn2 : cn ≤ 64) (ihb1 : ∀ s : Nat × Int × St, z1 = Sum.inl s → V Γ (s.2.2) (112 + (64 - s.1) * 86) (504441 + (64 - s.1) * 40302) 23 [(0, .ref (b)), (1, .ref (p1)), (2, .ref (p2)), (3, .ref (p3)), (4, iv (s.2.1))] []) (ihe1 : ∀ r, z1 = Sum.inr r → r = w) : ∀ (v4_j525 : Int) (σ_j525 : St), f_L_law_j525 (cn) (xs) (L) (b) (p1) (p2) (p3) v4_j525 σ_j525 = some z1 → V Γ σ_j525 (112 + (64 - cn) * 86) (504441 + (64 - cn) * 40302) 525 [(0, .ref (b)), (1, .ref (p1)), (2, .ref (p2)), (3, .ref (p3)), (4, iv (v4_j525))] [] := by
  intro v4_j525 σ_j525 h
  unfold f_L_law_j525 at h
  refine r_aload_n X 1 dL_law_525 rfl rfl ?_
  refine r_aload_n X 0 dL_law_526 rfl rfl ?_
  refine r_iload X 4 dL_law_527 rfl ?_
  refine r_iconst X dL_law_529 ?_
  refine r_iadd X dL_law_530 ?_
  refine r_sld X hs hLb dL_law_531 h (fun h => ?_)
  refine r_aload_n X 0 dL_law_532 rfl rfl ?_
  refine r_iload X 4 dL_law_533 rfl ?_
  refine r_iconst X dL_law_535 ?_
  refine r_iadd X dL_law_536 ?_
  refine r_sld X hs hLb dL_law_537 h (fun h => ?_)
  refine r_aload_n X 0 dL_law_538 rfl rfl ?_
  refine r_iload X 4 dL_law_539 rfl ?_
  refine r_iconst X dL_law_541 ?_
  refine r_iadd X dL_law_542 ?_
  refine r_sld X hs hLb dL_law_543 h (fun h => ?_)
  refine r_aload_n X 0 dL_law_544 rfl rfl ?_
  refine r_iload X 4 dL_law_545 rfl ?_
  refine r_iconst X dL_law_547 ?_
  refine r_iadd X dL_law_548 ?_
  refine r_sld X hs hLb dL_law_549 h (fun h => ?_)
  refine r_aload_n X 0 dL_law_550 rfl rfl ?_
  refine r_iload X 4 dL_law_551 rfl ?_
  refine r_iconst X dL_law_553 ?_
  refine r_iadd X dL_law_554 ?_
  refine r_sld X hs hLb dL_law_555 h (fun h => ?_)
  refine r_aload_n X 0 dL_law_556 rfl rfl ?_
  refine r_iload X 4 dL_law_557 rfl ?_
  refine r_bipush X dL_law_559 (by decide) ?_
  refine r_iadd X dL_law_561 ?_
  refine r_sld X hs hLb dL_law_562 h (fun h => ?_)
  obtain ⟨ho324, h⟩ := cO_some h
  obtain ⟨r325, h323, h⟩ := bd_some h
  refine r_cV (Wd := 0) X (fun l D sz => w_X1_turned l D sz h323) ho324.1 rfl q785 q786 q784 q104 q787 hy_X1_turned rfl dL_law_563 rfl rfl (Nat.le_of_ble_eq_true rfl) ⟨Nat.le_of_ble_eq_true rfl, Nat.le_of_ble_eq_true rfl⟩ ⟨(by show (112 + (64 - cn) * 86) + 0 ≤ 601024; omega), (by show (504441 + (64 - cn) * 40302) + 0 ≤ 7293034; omega)⟩ ?_
  refine r_aload_n X 2 dL_law_566 rfl rfl ?_
  refine r_aload_n X 0 dL_law_567 rfl rfl ?_
  refine r_iload X 4 dL_law_568 rfl ?_
  refine r_iconst X dL_law_570 ?_
  refine r_iadd X dL_law_571 ?_
  refine r_sld X hs hLb dL_law_572 h (fun h => ?_)
  refine r_aload_n X 0 dL_law_573 rfl rfl ?_
  refine r_iload X 4 dL_law_574 rfl ?_
  refine r_iconst X dL_law_576 ?_
  refine r_iadd X dL_law_577 ?_
  refine r_sld X hs hLb dL_law_578 h (fun h => ?_)
  refine r_aload_n X 0 dL_law_579 rfl rfl ?_
  refine r_iload X 4 dL_law_580 rfl ?_
  refine r_iconst X dL_law_582 ?_
  refine r_iadd X dL_law_583 ?_
  refine r_sld X hs hLb dL_law_584 h (fun h => ?_)
  refine r_aload_n X 0 dL_law_585 rfl rfl ?_
  refine r_iload X 4 dL_law_586 rfl ?_
  refine r_iconst X dL_law_588 ?_
  refine r_iadd X dL_law_589 ?_
  refine r_sld X hs hLb dL_law_590 h (fun h => ?_)
  refine r_aload_n X 0 dL_law_591 rfl rfl ?_
  refine r_iload X 4 dL_law_592 rfl ?_
  refine r_iconst X dL_law_594 ?_
  refine r_iadd X dL_law_595 ?_
  refine r_sld X hs hLb dL_law_596 h (fun h => ?_)
  refine r_aload_n X 0 dL_law_597 rfl rfl ?_
  refine r_iload X 4 dL_law_598 rfl ?_
  refine r_bipush X dL_law_600 (by decide) ?_
  refine r_iadd X dL_law_602 ?_
  refine r_sld X hs hLb dL_law_603 h (fun h => ?_)
  obtain ⟨ho327, h⟩ := cO_some h
  obtain ⟨r328, h326, h⟩ := bd_some h
  refine r_cV (Wd := 1) X (fun l D sz => w_X6_turned l D sz h326) ho327.1 rfl q1640 q1641 q1639 q109 q1642 hy_X6_turned rfl dL_law_604 rfl rfl (Nat.le_of_ble_eq_true rfl) ⟨Nat.le_of_ble_eq_true rfl, Nat.le_of_ble_eq_true rfl⟩ ⟨(by show (112 + (64 - cn) * 86) + 0 ≤ 601024; omega), (by show (504441 + (64 - cn) * 40302) + 0 ≤ 7293034; omega)⟩ ?_
  refine r_icmp_eq (tgt := 2568) X dL_law_607 (by decide) h (fun c329 h => ?_) (fun c329 h => ?_)
  · refine r_iinc X 4 dL_law_2568 rfl (hL 4 (by decide)) (lv' := [(4, iv ((v4_j525 + 8))), (0, .ref (b)), (1, .ref (p1)), (2, .ref (p2)), (3, .ref (p3))]) rfl ?_
    refine r_goto (tgt := 23) X dL_law_2571 (by decide) ?_
    exact V.widen (by show _ ≤ _; omega) (by show _ ≤ _; omega) <| V.sub [1, 2, 3, 4, 0] rfl (ihb1 _ (Option.some.inj h).symm)
  · have h := ex_some h ihe1
    refine V.widen (k' := 5616) (n' := 3083769) (by show _ ≤ _; omega) (by show _ ≤ _; omega) ?_
    refine r_iconst X dL_law_610 ?_
    cases h
    exact absurd hw (by decide)
set_option maxHeartbeats 40000000 in
theorem w_L_J476 {Γ : Ctx} {xs : Nat → Int} {L b p1 p2 p3 cn : Nat} {w : Int} {z1 : (Nat × Int × St) ⊕ Int} (X : Cx Γ cL_law "DayBoyLaw" ({ frames := 15, cells := 601024, slots := 7293034, locals := 634 } : Room)) (hL : ∀ i, i < 7 → i < nLc Γ) (htr : (lOf Γ).stackTraces = false) (hs : Scr Γ b L xs) (hLb : L < 2147483648) (hw : w = 1) (hn1 : 0 < cn) (hn2 : cn ≤ 64) (ihb1 : ∀ s : Nat × Int × St, z1 = Sum.inl s → V Γ (s.2.2) (112 + (64 - s.1) * 86) (504441 + (64 - s.1) * 40302) 23 [(0, .ref (b)), (1, .ref (p1)), (2, .ref (p2)), (3, .ref (p3)), (4, iv (s.2.1))] []) (ihe1 : ∀ r, z1 = Sum.inr r → r = w) : ∀ (v4_j476 : Int) (σ_j476 : St), f_L_law_j476 (cn) (xs) (L) (b) (p1) (p2) (p3) v4_j476 σ_j476 = some z1 → V Γ σ_j476 (112 + (64 - cn) * 86) (504441 + (64 - cn) * 40302) 476 [(0, .ref (b)), (1, .ref (p1)), (2, .ref (p2)), (3, .ref (p3)), (4, iv (v4_j476))] [] := by
  intro v4_j476 σ_j476 h
  unfold f_L_law_j476 at h
  refine r_aload_n X 1 dL_law_476 rfl rfl ?_
  refine r_aload_n X 0 dL_law_477 rfl rfl ?_
  refine r_iload X 4 dL_law_478 rfl ?_
  refine r_iconst X dL_law_480 ?_
  refine r_iadd X dL_law_481 ?_
  refine r_sld X hs hLb dL_law_482 h (fun h => ?_)
  refine r_aload_n X 0 dL_law_483 rfl rfl ?_
  refine r_iload X 4 dL_law_484 rfl ?_
  refine r_iconst X dL_law_486 ?_
  refine r_iadd X dL_law_487 ?_
  refine r_sld X hs hLb dL_law_488 h (fun h => ?_)
  refine r_aload_n X 0 dL_law_489 rfl rfl ?_
  refine r_iload X 4 dL_law_490 rfl ?_
  refine r_iconst X dL_law_492 ?_
  refine r_iadd X dL_law_493 ?_
  refine r_sld X hs hLb dL_law_494 h (fun h => ?_)
  obtain ⟨ho331, h⟩ := cO_some h
  obtain ⟨r332, h330, h⟩ := bd_some h
  refine r_cV (Wd := 0) X (fun l D sz => w_X1_date l D sz h330) ho331.1 rfl q746 q747 q745 q104 q748 hy_X1_date rfl dL_law_495 rfl rfl (Nat.le_of_ble_eq_true rfl) ⟨Nat.le_of_ble_eq_true rfl, Nat.le_of_ble_eq_true rfl⟩ ⟨(by show (112 + (64 - cn) * 86) + 0 ≤ 601024; omega), (by show (504441 + (64 - cn) * 40302) + 0 ≤ 7293034; omega)⟩ ?_
  refine r_aload_n X 2 dL_law_498 rfl rfl ?_
  refine r_aload_n X 0 dL_law_499 rfl rfl ?_
  refine r_iload X 4 dL_law_500 rfl ?_
  refine r_iconst X dL_law_502 ?_
  refine r_iadd X dL_law_503 ?_
  refine r_sld X hs hLb dL_law_504 h (fun h => ?_)
  refine r_aload_n X 0 dL_law_505 rfl rfl ?_
  refine r_iload X 4 dL_law_506 rfl ?_
  refine r_iconst X dL_law_508 ?_
  refine r_iadd X dL_law_509 ?_
  refine r_sld X hs hLb dL_law_510 h (fun h => ?_)
  refine r_aload_n X 0 dL_law_511 rfl rfl ?_
  refine r_iload X 4 dL_law_512 rfl ?_
  refine r_iconst X dL_law_514 ?_
  refine r_iadd X dL_law_515 ?_
  refine r_sld X hs hLb dL_law_516 h (fun h => ?_)
  obtain ⟨ho334, h⟩ := cO_some h
  obtain ⟨r335, h333, h⟩ := bd_some h
  refine r_cV (Wd := 1) X (fun l D sz => w_X6_date l D sz h333) ho334.1 rfl q1629 q1630 q1628 q109 q1631 hy_X6_date rfl dL_law_517 rfl rfl (Nat.le_of_ble_eq_true rfl) ⟨Nat.le_of_ble_eq_true rfl, Nat.le_of_ble_eq_true rfl⟩ ⟨(by show (112 + (64 - cn) * 86) + 0 ≤ 601024; omega), (by show (504441 + (64 - cn) * 40302) + 0 ≤ 7293034; omega)⟩ ?_
  refine r_icmp_eq (tgt := 2568) X dL_law_520 (by decide) h (fun c336 h => ?_) (fun c336 h => ?_)
  · refine r_iinc X 4 dL_law_2568 rfl (hL 4 (by decide)) (lv' := [(4, iv ((v4_j476 + 8))), (0, .ref (b)), (1, .ref (p1)), (2, .ref (p2)), (3, .ref (p3))]) rfl ?_
    refine r_goto (tgt := 23) X dL_law_2571 (by decide) ?_
    exact V.widen (by show _ ≤ _; omega) (by show _ ≤ _; omega) <| V.sub [1, 2, 3, 4, 0] rfl (ihb1 _ (Option.some.inj h).symm)
  · have h := ex_some h ihe1
    refine V.widen (k' := 5616) (n' := 3083769) (by show _ ≤ _; omega) (by show _ ≤ _; omega) ?_
    refine r_iconst X dL_law_523 ?_
    cases h
    exact absurd hw (by decide)
set_option maxHeartbeats 40000000 in
theorem w_L_J384 {Γ : Ctx} {xs : Nat → Int} {L b p1 p2 p3 cn : Nat} {w : Int} {z1 : (Nat × Int × St) ⊕ Int} (X : Cx Γ cL_law "DayBoyLaw" ({ frames := 15, cells := 601024, slots := 7293034, locals := 634 } : Room)) (hL : ∀ i, i < 7 → i < nLc Γ) (htr : (lOf Γ).stackTraces = false) (hs : Scr Γ b L xs) (hLb : L < 2147483648) (hw : w = 1) (hn1 : 0 < cn) (hn2 : cn ≤ 64) (ihb1 : ∀ s : Nat × Int × St, z1 = Sum.inl s → V Γ (s.2.2) (112 + (64 - s.1) * 86) (504441 + (64 - s.1) * 40302) 23 [(0, .ref (b)), (1, .ref (p1)), (2, .ref (p2)), (3, .ref (p3)), (4, iv (s.2.1))] []) (ihe1 : ∀ r, z1 = Sum.inr r → r = w) : ∀ (v4_j384 : Int) (σ_j384 : St), f_L_law_j384 (cn) (xs) (L) (b) (p1) (p2) (p3) v4_j384 σ_j384 = some z1 → V Γ σ_j384 (112 + (64 - cn) * 86) (504441 + (64 - cn) * 40302) 384 [(0, .ref (b)), (1, .ref (p1)), (2, .ref (p2)), (3, .ref (p3)), (4, iv (v4_j384))] [] := by
  intro v4_j384 σ_j384 h
  unfold f_L_law_j384 at h
  refine r_aload_n X 1 dL_law_384 rfl rfl ?_
  refine r_aload_n X 0 dL_law_385 rfl rfl ?_
  refine r_iload X 4 dL_law_386 rfl ?_
  refine r_iconst X dL_law_388 ?_
  refine r_iadd X dL_law_389 ?_
  refine r_sld X hs hLb dL_law_390 h (fun h => ?_)
  refine r_aload_n X 0 dL_law_391 rfl rfl ?_
  refine r_iload X 4 dL_law_392 rfl ?_
  refine r_iconst X dL_law_394 ?_
  refine r_iadd X dL_law_395 ?_
  refine r_sld X hs hLb dL_law_396 h (fun h => ?_)
  refine r_aload_n X 0 dL_law_397 rfl rfl ?_
  refine r_iload X 4 dL_law_398 rfl ?_
  refine r_iconst X dL_law_400 ?_
  refine r_iadd X dL_law_401 ?_
  refine r_sld X hs hLb dL_law_402 h (fun h => ?_)
  refine r_aload_n X 0 dL_law_403 rfl rfl ?_
  refine r_iload X 4 dL_law_404 rfl ?_
  refine r_iconst X dL_law_406 ?_
  refine r_iadd X dL_law_407 ?_
  refine r_sld X hs hLb dL_law_408 h (fun h => ?_)
  refine r_aload_n X 3 dL_law_409 rfl rfl ?_
  obtain ⟨ho338, h⟩ := ck_some h
  obtain ⟨r339, σ340, h337, h⟩ := bd2_some h
  refine r_cSWL (Wd := 0) X (fun D sz => w_X0_dayO (lOf Γ) htr D sz ho338 h337) q1205 q1204 q103 q1206 hy_X0_day rfl dL_law_410 rfl rfl (Nat.le_of_ble_eq_true rfl) ⟨Nat.le_of_ble_eq_true rfl, Nat.le_of_ble_eq_true rfl⟩ ⟨(by show (112 + (64 - cn) * 86) + 1 ≤ 601024; omega), (by show (504441 + (64 - cn) * 40302) + 6 ≤ 7293034; omega)⟩ ?_
  refine V.widen (k' := (113 + (64 - cn) * 86)) (n' := (504447 + (64 - cn) * 40302)) (by show _ ≤ _; omega) (by show _ ≤ _; omega) ?_
  refine r_istore X dL_law_413 (hL 5 (by decide)) (lv' := [(5, iv (r339)), (0, .ref (b)), (1, .ref (p1)), (2, .ref (p2)), (3, .ref (p3)), (4, iv (v4_j384))]) rfl ?_
  refine r_aload_n X 3 dL_law_415 rfl rfl ?_
  refine r_aload_n X 1 dL_law_416 rfl rfl ?_
  refine r_iload X 5 dL_law_417 rfl ?_
  refine r_iconst X dL_law_419 ?_
  refine r_iadd X dL_law_420 ?_
  refine r_sld X hs hLb dL_law_421 h (fun h => ?_)
  refine r_aload_n X 1 dL_law_422 rfl rfl ?_
  refine r_iload X 5 dL_law_423 rfl ?_
  refine r_iconst X dL_law_425 ?_
  refine r_iadd X dL_law_426 ?_
  refine r_sld X hs hLb dL_law_427 h (fun h => ?_)
  refine r_aload_n X 1 dL_law_428 rfl rfl ?_
  refine r_iload X 5 dL_law_429 rfl ?_
  refine r_iconst X dL_law_431 ?_
  refine r_iadd X dL_law_432 ?_
  refine r_sld X hs hLb dL_law_433 h (fun h => ?_)
  refine r_aload_n X 1 dL_law_434 rfl rfl ?_
  refine r_iload X 5 dL_law_435 rfl ?_
  refine r_iconst X dL_law_437 ?_
  refine r_iadd X dL_law_438 ?_
  refine r_sld X hs hLb dL_law_439 h (fun h => ?_)
  obtain ⟨ho342, h⟩ := cO_some h
  obtain ⟨r343, σ344, h341, h⟩ := bd2_some h
  refine r_cV (Wd := 0) X (fun l D sz => w_X6_day l D sz h341) ho342.1 rfl q1609 q1610 q1608 q109 q1611 hy_X6_day rfl dL_law_440 rfl rfl (Nat.le_of_ble_eq_true rfl) ⟨Nat.le_of_ble_eq_true rfl, Nat.le_of_ble_eq_true rfl⟩ ⟨(by show (113 + (64 - cn) * 86) + 0 ≤ 601024; omega), (by show (504447 + (64 - cn) * 40302) + 0 ≤ 7293034; omega)⟩ ?_
  refine r_istore X dL_law_443 (hL 6 (by decide)) (lv' := [(6, iv (r343)), (5, iv (r339)), (0, .ref (b)), (1, .ref (p1)), (2, .ref (p2)), (3, .ref (p3)), (4, iv (v4_j384))]) rfl ?_
  refine r_aload_n X 4 dL_law_445 rfl rfl ?_
  obtain ⟨ho346, h⟩ := cO_some h
  obtain ⟨r347, h345, h⟩ := bd_some h
  refine r_cV (Wd := 0) X (fun l D sz => w_X6_thrown l D sz h345) ho346.1 rfl q1456 q1457 q1455 q109 q1458 hy_X6_thrown rfl dL_law_446 rfl rfl (Nat.le_of_ble_eq_true rfl) ⟨Nat.le_of_ble_eq_true rfl, Nat.le_of_ble_eq_true rfl⟩ ⟨(by show (113 + (64 - cn) * 86) + 0 ≤ 601024; omega), (by show (504447 + (64 - cn) * 40302) + 0 ≤ 7293034; omega)⟩ ?_
  refine r_iload X 1 dL_law_449 rfl ?_
  refine r_icmp_eq (tgt := 456) X dL_law_451 (by decide) h (fun c348 h => ?_) (fun c348 h => ?_)
  · refine r_iload X 1 dL_law_456 rfl ?_
    refine r_if_ne (tgt := 473) X dL_law_458 (by decide) h (fun c349 h => ?_) (fun c349 h => ?_)
    · refine r_aload_n X 5 dL_law_461 rfl rfl ?_
      refine r_iconst X dL_law_462 ?_
      obtain ⟨ho350, h⟩ := ck_some h
      refine r_laldO X ho346.1 ho350 rfl rfl rfl (by decide) dL_law_463 h (fun h => ?_)
      refine r_iload X 0 dL_law_464 rfl ?_
      obtain ⟨c351, h⟩ := ck_some h
      refine r_i2l X dL_law_466 c351 ?_
      refine r_lcmp_eq (tgt := 473) X dL_law_467 dL_law_468 (by decide) h (fun c352 h => ?_) (fun c352 h => ?_)
      · refine r_goto (tgt := 2568) X dL_law_473 (by decide) ?_
        refine r_iinc X 6 dL_law_2568 rfl (hL 4 (by decide)) (lv' := [(4, iv ((v4_j384 + 8))), (6, iv (r343)), (5, iv (r339)), (0, .ref (b)), (1, .ref (p1)), (2, .ref (p2)), (3, .ref (p3))]) rfl ?_
        refine r_goto (tgt := 23) X dL_law_2571 (by decide) ?_
        exact V.widen (by show _ ≤ _; omega) (by show _ ≤ _; omega) <| V.sub [3, 4, 5, 6, 0] rfl (ihb1 _ (Option.some.inj h).symm)
      · have h := ex_some h ihe1
        refine V.widen (k' := 5617) (n' := 3083775) (by show _ ≤ _; omega) (by show _ ≤ _; omega) ?_
        refine r_iconst X dL_law_471 ?_
        cases h
        exact absurd hw (by decide)
    · refine r_goto (tgt := 2568) X dL_law_473 (by decide) ?_
      refine r_iinc X 6 dL_law_2568 rfl (hL 4 (by decide)) (lv' := [(4, iv ((v4_j384 + 8))), (6, iv (r343)), (5, iv (r339)), (0, .ref (b)), (1, .ref (p1)), (2, .ref (p2)), (3, .ref (p3))]) rfl ?_
      refine r_goto (tgt := 23) X dL_law_2571 (by decide) ?_
      exact V.widen (by show _ ≤ _; omega) (by show _ ≤ _; omega) <| V.sub [3, 4, 5, 6, 0] rfl (ihb1 _ (Option.some.inj h).symm)
  · have h := ex_some h ihe1
    refine V.widen (k' := 5617) (n' := 3083775) (by show _ ≤ _; omega) (by show _ ≤ _; omega) ?_
    refine r_iconst X dL_law_454 ?_
    cases h
    exact absurd hw (by decide)
set_option maxHeartbeats 40000000 in
theorem w_L_J359 {Γ : Ctx} {xs : Nat → Int} {L b p1 p2 p3 cn : Nat} {w : Int} {z1 : (Nat × Int × St) ⊕ Int} (X : Cx Γ cL_law "DayBoyLaw" ({ frames := 15, cells := 601024, slots := 7293034, locals := 634 } : Room)) (hL : ∀ i, i < 7 → i < nLc Γ) (htr : (lOf Γ).stackTraces = false) (hs : Scr Γ b L xs) (hLb : L < 2147483648) (hw : w = 1) (hn1 : 0 < cn) (hn2 : cn ≤ 64) (ihb1 : ∀ s : Nat × Int × St, z1 = Sum.inl s → V Γ (s.2.2) (112 + (64 - s.1) * 86) (504441 + (64 - s.1) * 40302) 23 [(0, .ref (b)), (1, .ref (p1)), (2, .ref (p2)), (3, .ref (p3)), (4, iv (s.2.1))] []) (ihe1 : ∀ r, z1 = Sum.inr r → r = w) : ∀ (v4_j359 : Int) (σ_j359 : St), f_L_law_j359 (cn) (xs) (L) (b) (p1) (p2) (p3) v4_j359 σ_j359 = some z1 → V Γ σ_j359 (112 + (64 - cn) * 86) (504441 + (64 - cn) * 40302) 359 [(0, .ref (b)), (1, .ref (p1)), (2, .ref (p2)), (3, .ref (p3)), (4, iv (v4_j359))] [] := by
  intro v4_j359 σ_j359 h
  unfold f_L_law_j359 at h
  refine r_aload_n X 1 dL_law_359 rfl rfl ?_
  refine r_aload_n X 0 dL_law_360 rfl rfl ?_
  refine r_iload X 4 dL_law_361 rfl ?_
  refine r_iconst X dL_law_363 ?_
  refine r_iadd X dL_law_364 ?_
  refine r_sld X hs hLb dL_law_365 h (fun h => ?_)
  obtain ⟨ho354, h⟩ := cO_some h
  obtain ⟨r355, σ356, h353, h⟩ := bd2_some h
  refine r_cV (Wd := 0) X (fun l D sz => w_X1_text l D sz h353) ho354.1 rfl q715 q716 q714 q104 q717 hy_X1_text rfl dL_law_366 rfl rfl (Nat.le_of_ble_eq_true rfl) ⟨Nat.le_of_ble_eq_true rfl, Nat.le_of_ble_eq_true rfl⟩ ⟨(by show (112 + (64 - cn) * 86) + 91 ≤ 601024; omega), (by show (504441 + (64 - cn) * 40302) + 50327 ≤ 7293034; omega)⟩ ?_
  refine V.widen (k' := (198 + (64 - cn) * 86)) (n' := (544743 + (64 - cn) * 40302)) (by show _ ≤ _; omega) (by show _ ≤ _; omega) ?_
  refine r_aload_n X 2 dL_law_369 rfl rfl ?_
  refine r_aload_n X 0 dL_law_370 rfl rfl ?_
  refine r_iload X 4 dL_law_371 rfl ?_
  refine r_iconst X dL_law_373 ?_
  refine r_iadd X dL_law_374 ?_
  refine r_sld X hs hLb dL_law_375 h (fun h => ?_)
  obtain ⟨ho358, h⟩ := cO_some h
  obtain ⟨r359, σ360, h357, h⟩ := bd2_some h
  refine r_cV (Wd := 1) X (fun l D sz => w_X6_text l D sz h357) ho358.1 rfl q1578 q1579 q1577 q109 q1580 hy_X6_text rfl dL_law_376 rfl rfl (Nat.le_of_ble_eq_true rfl) ⟨Nat.le_of_ble_eq_true rfl, Nat.le_of_ble_eq_true rfl⟩ ⟨(by show (198 + (64 - cn) * 86) + 0 ≤ 601024; omega), (by show (544743 + (64 - cn) * 40302) + 0 ≤ 7293034; omega)⟩ ?_
  refine r_icmp_eq (tgt := 2568) X dL_law_379 (by decide) h (fun c361 h => ?_) (fun c361 h => ?_)
  · refine r_iinc X 4 dL_law_2568 rfl (hL 4 (by decide)) (lv' := [(4, iv ((v4_j359 + 8))), (0, .ref (b)), (1, .ref (p1)), (2, .ref (p2)), (3, .ref (p3))]) rfl ?_
    refine r_goto (tgt := 23) X dL_law_2571 (by decide) ?_
    exact V.widen (by show _ ≤ _; omega) (by show _ ≤ _; omega) <| V.sub [1, 2, 3, 4, 0] rfl (ihb1 _ (Option.some.inj h).symm)
  · have h := ex_some h ihe1
    refine V.widen (k' := 5702) (n' := 3124071) (by show _ ≤ _; omega) (by show _ ≤ _; omega) ?_
    refine r_iconst X dL_law_382 ?_
    cases h
    exact absurd hw (by decide)
