/-! the law as a plain function, and its walk (printed by gen.py) -/
set_option maxRecDepth 100000
noncomputable def f_L_law_j2543 (xs : Nat → Int) (L : Nat) (b : Nat) (u1 : Nat) (u2 : Nat) (u3 : Nat) (v4_j2543 : Int) (σ_j2543 : St) : Option ((Nat × Int × St) ⊕ (Int)) := ck (0 ≤ ((v4_j2543 + 1) : Int) ∧ ((v4_j2543 + 1) : Int) < (L : Int)) (cO (σ_j2543) (u1) 0 ((f_X1_count (σ_j2543) (u1) ((xs ((v4_j2543 + 1)).toNat))).bind fun r13 => ck (0 ≤ ((v4_j2543 + 1) : Int) ∧ ((v4_j2543 + 1) : Int) < (L : Int)) (cO (σ_j2543) (u2) 5 ((f_X6_count (σ_j2543) (u2) ((xs ((v4_j2543 + 1)).toNat))).bind fun r16 => cEq (r13) (r16) (some (.inl (cn - 1, (v4_j2543 + 8), σ_j2543))) (ex (some (0)))))))
noncomputable def f_L_law_j2482 (xs : Nat → Int) (L : Nat) (b : Nat) (u1 : Nat) (u2 : Nat) (u3 : Nat) (v4_j2482 : Int) (σ_j2482 : St) : Option ((Nat × Int × St) ⊕ (Int)) := ck (0 ≤ ((v4_j2482 + 1) : Int) ∧ ((v4_j2482 + 1) : Int) < (L : Int)) (ck (0 ≤ ((v4_j2482 + 2) : Int) ∧ ((v4_j2482 + 2) : Int) < (L : Int)) (ck (0 ≤ ((v4_j2482 + 3) : Int) ∧ ((v4_j2482 + 3) : Int) < (L : Int)) (ck (0 ≤ ((v4_j2482 + 4) : Int) ∧ ((v4_j2482 + 4) : Int) < (L : Int)) (cO (σ_j2482) (u1) 0 ((f_X1_rises (σ_j2482) (u1) ((xs ((v4_j2482 + 1)).toNat)) ((xs ((v4_j2482 + 2)).toNat)) ((xs ((v4_j2482 + 3)).toNat)) ((xs ((v4_j2482 + 4)).toNat))).bind fun r20 => ck (0 ≤ ((v4_j2482 + 1) : Int) ∧ ((v4_j2482 + 1) : Int) < (L : Int)) (ck (0 ≤ ((v4_j2482 + 2) : Int) ∧ ((v4_j2482 + 2) : Int) < (L : Int)) (ck (0 ≤ ((v4_j2482 + 3) : Int) ∧ ((v4_j2482 + 3) : Int) < (L : Int)) (ck (0 ≤ ((v4_j2482 + 4) : Int) ∧ ((v4_j2482 + 4) : Int) < (L : Int)) (cO (σ_j2482) (u2) 5 ((f_X6_rises (σ_j2482) (u2) ((xs ((v4_j2482 + 1)).toNat)) ((xs ((v4_j2482 + 2)).toNat)) ((xs ((v4_j2482 + 3)).toNat)) ((xs ((v4_j2482 + 4)).toNat))).bind fun r23 => cEq (r20) (r23) (some (.inl (cn - 1, (v4_j2482 + 8), σ_j2482))) (ex (some (0)))))))))))))
noncomputable def f_L_law_j2433 (xs : Nat → Int) (L : Nat) (b : Nat) (u1 : Nat) (u2 : Nat) (u3 : Nat) (v4_j2433 : Int) (σ_j2433 : St) : Option ((Nat × Int × St) ⊕ (Int)) := ck (0 ≤ ((v4_j2433 + 1) : Int) ∧ ((v4_j2433 + 1) : Int) < (L : Int)) (ck (0 ≤ ((v4_j2433 + 2) : Int) ∧ ((v4_j2433 + 2) : Int) < (L : Int)) (ck (0 ≤ ((v4_j2433 + 3) : Int) ∧ ((v4_j2433 + 3) : Int) < (L : Int)) (cO (σ_j2433) (u1) 0 ((f_X1_unlike (σ_j2433) (u1) ((xs ((v4_j2433 + 1)).toNat)) ((xs ((v4_j2433 + 2)).toNat)) ((xs ((v4_j2433 + 3)).toNat))).bind fun r27 => ck (0 ≤ ((v4_j2433 + 1) : Int) ∧ ((v4_j2433 + 1) : Int) < (L : Int)) (ck (0 ≤ ((v4_j2433 + 2) : Int) ∧ ((v4_j2433 + 2) : Int) < (L : Int)) (ck (0 ≤ ((v4_j2433 + 3) : Int) ∧ ((v4_j2433 + 3) : Int) < (L : Int)) (cO (σ_j2433) (u2) 5 ((f_X6_unlike (σ_j2433) (u2) ((xs ((v4_j2433 + 1)).toNat)) ((xs ((v4_j2433 + 2)).toNat)) ((xs ((v4_j2433 + 3)).toNat))).bind fun r30 => cEq (r27) (r30) (some (.inl (cn - 1, (v4_j2433 + 8), σ_j2433))) (ex (some (0)))))))))))
noncomputable def f_L_law_j2396 (xs : Nat → Int) (L : Nat) (b : Nat) (u1 : Nat) (u2 : Nat) (u3 : Nat) (v4_j2396 : Int) (σ_j2396 : St) : Option ((Nat × Int × St) ⊕ (Int)) := ck (0 ≤ ((v4_j2396 + 1) : Int) ∧ ((v4_j2396 + 1) : Int) < (L : Int)) (ck (0 ≤ ((v4_j2396 + 2) : Int) ∧ ((v4_j2396 + 2) : Int) < (L : Int)) (cO (σ_j2396) (u1) 0 (bd2 (f_X1_spare (σ_j2396) (u1) ((xs ((v4_j2396 + 1)).toNat)) ((xs ((v4_j2396 + 2)).toNat))) fun r34 σ35 => ck (0 ≤ ((v4_j2396 + 1) : Int) ∧ ((v4_j2396 + 1) : Int) < (L : Int)) (ck (0 ≤ ((v4_j2396 + 2) : Int) ∧ ((v4_j2396 + 2) : Int) < (L : Int)) (cO (σ35) (u2) 5 (bd2 (f_X6_spare (σ35) (u2) ((xs ((v4_j2396 + 1)).toNat)) ((xs ((v4_j2396 + 2)).toNat))) fun r38 σ39 => cEq (r34) (r38) (some (.inl (cn - 1, (v4_j2396 + 8), σ39))) (ex (some (0)))))))))
noncomputable def f_L_law_j2335 (xs : Nat → Int) (L : Nat) (b : Nat) (u1 : Nat) (u2 : Nat) (u3 : Nat) (v4_j2335 : Int) (σ_j2335 : St) : Option ((Nat × Int × St) ⊕ (Int)) := ck (0 ≤ ((v4_j2335 + 1) : Int) ∧ ((v4_j2335 + 1) : Int) < (L : Int)) (ck (0 ≤ ((v4_j2335 + 2) : Int) ∧ ((v4_j2335 + 2) : Int) < (L : Int)) (ck (0 ≤ ((v4_j2335 + 3) : Int) ∧ ((v4_j2335 + 3) : Int) < (L : Int)) (ck (0 ≤ ((v4_j2335 + 4) : Int) ∧ ((v4_j2335 + 4) : Int) < (L : Int)) (cO (σ_j2335) (u1) 0 ((f_X1_lacks (σ_j2335) (u1) ((xs ((v4_j2335 + 1)).toNat)) ((xs ((v4_j2335 + 2)).toNat)) ((xs ((v4_j2335 + 3)).toNat)) ((xs ((v4_j2335 + 4)).toNat))).bind fun r43 => ck (0 ≤ ((v4_j2335 + 1) : Int) ∧ ((v4_j2335 + 1) : Int) < (L : Int)) (ck (0 ≤ ((v4_j2335 + 2) : Int) ∧ ((v4_j2335 + 2) : Int) < (L : Int)) (ck (0 ≤ ((v4_j2335 + 3) : Int) ∧ ((v4_j2335 + 3) : Int) < (L : Int)) (ck (0 ≤ ((v4_j2335 + 4) : Int) ∧ ((v4_j2335 + 4) : Int) < (L : Int)) (cO (σ_j2335) (u2) 5 ((f_X6_lacks (σ_j2335) (u2) ((xs ((v4_j2335 + 1)).toNat)) ((xs ((v4_j2335 + 2)).toNat)) ((xs ((v4_j2335 + 3)).toNat)) ((xs ((v4_j2335 + 4)).toNat))).bind fun r46 => cEq (r43) (r46) (some (.inl (cn - 1, (v4_j2335 + 8), σ_j2335))) (ex (some (0)))))))))))))
noncomputable def f_L_law_j2274 (xs : Nat → Int) (L : Nat) (b : Nat) (u1 : Nat) (u2 : Nat) (u3 : Nat) (v4_j2274 : Int) (σ_j2274 : St) : Option ((Nat × Int × St) ⊕ (Int)) := ck (0 ≤ ((v4_j2274 + 1) : Int) ∧ ((v4_j2274 + 1) : Int) < (L : Int)) (ck (0 ≤ ((v4_j2274 + 2) : Int) ∧ ((v4_j2274 + 2) : Int) < (L : Int)) (ck (0 ≤ ((v4_j2274 + 3) : Int) ∧ ((v4_j2274 + 3) : Int) < (L : Int)) (ck (0 ≤ ((v4_j2274 + 4) : Int) ∧ ((v4_j2274 + 4) : Int) < (L : Int)) (cO (σ_j2274) (u1) 0 (bd2 (f_X1_right (σ_j2274) (u1) ((xs ((v4_j2274 + 1)).toNat)) ((xs ((v4_j2274 + 2)).toNat)) ((xs ((v4_j2274 + 3)).toNat)) ((xs ((v4_j2274 + 4)).toNat))) fun r50 σ51 => ck (0 ≤ ((v4_j2274 + 1) : Int) ∧ ((v4_j2274 + 1) : Int) < (L : Int)) (ck (0 ≤ ((v4_j2274 + 2) : Int) ∧ ((v4_j2274 + 2) : Int) < (L : Int)) (ck (0 ≤ ((v4_j2274 + 3) : Int) ∧ ((v4_j2274 + 3) : Int) < (L : Int)) (ck (0 ≤ ((v4_j2274 + 4) : Int) ∧ ((v4_j2274 + 4) : Int) < (L : Int)) (cO (σ51) (u2) 5 (bd2 (f_X6_right (σ51) (u2) ((xs ((v4_j2274 + 1)).toNat)) ((xs ((v4_j2274 + 2)).toNat)) ((xs ((v4_j2274 + 3)).toNat)) ((xs ((v4_j2274 + 4)).toNat))) fun r54 σ55 => cEq (r50) (r54) (some (.inl (cn - 1, (v4_j2274 + 8), σ55))) (ex (some (0)))))))))))))
noncomputable def f_L_law_j2187 (xs : Nat → Int) (L : Nat) (b : Nat) (u1 : Nat) (u2 : Nat) (u3 : Nat) (v4_j2187 : Int) (σ_j2187 : St) : Option ((Nat × Int × St) ⊕ (Int)) := ck (0 ≤ ((v4_j2187 + 1) : Int) ∧ ((v4_j2187 + 1) : Int) < (L : Int)) (ck (0 ≤ ((v4_j2187 + 2) : Int) ∧ ((v4_j2187 + 2) : Int) < (L : Int)) (ck (0 ≤ ((v4_j2187 + 3) : Int) ∧ ((v4_j2187 + 3) : Int) < (L : Int)) (ck (0 ≤ ((v4_j2187 + 4) : Int) ∧ ((v4_j2187 + 4) : Int) < (L : Int)) (ck (0 ≤ ((v4_j2187 + 5) : Int) ∧ ((v4_j2187 + 5) : Int) < (L : Int)) (ck (0 ≤ ((v4_j2187 + 6) : Int) ∧ ((v4_j2187 + 6) : Int) < (L : Int)) (cO (σ_j2187) (u1) 0 ((f_X1_holds_2 (σ_j2187) (u1) ((xs ((v4_j2187 + 1)).toNat)) ((xs ((v4_j2187 + 2)).toNat)) ((xs ((v4_j2187 + 3)).toNat)) ((xs ((v4_j2187 + 4)).toNat)) ((xs ((v4_j2187 + 5)).toNat)) ((xs ((v4_j2187 + 6)).toNat))).bind fun r59 => ck (0 ≤ ((v4_j2187 + 1) : Int) ∧ ((v4_j2187 + 1) : Int) < (L : Int)) (ck (0 ≤ ((v4_j2187 + 2) : Int) ∧ ((v4_j2187 + 2) : Int) < (L : Int)) (ck (0 ≤ ((v4_j2187 + 3) : Int) ∧ ((v4_j2187 + 3) : Int) < (L : Int)) (ck (0 ≤ ((v4_j2187 + 4) : Int) ∧ ((v4_j2187 + 4) : Int) < (L : Int)) (ck (0 ≤ ((v4_j2187 + 5) : Int) ∧ ((v4_j2187 + 5) : Int) < (L : Int)) (ck (0 ≤ ((v4_j2187 + 6) : Int) ∧ ((v4_j2187 + 6) : Int) < (L : Int)) (cO (σ_j2187) (u2) 5 ((f_X6_holds (σ_j2187) (u2) ((xs ((v4_j2187 + 1)).toNat)) ((xs ((v4_j2187 + 2)).toNat)) ((xs ((v4_j2187 + 3)).toNat)) ((xs ((v4_j2187 + 4)).toNat)) ((xs ((v4_j2187 + 5)).toNat)) ((xs ((v4_j2187 + 6)).toNat))).bind fun r62 => cEq (r59) (r62) (some (.inl (cn - 1, (v4_j2187 + 8), σ_j2187))) (ex (some (0)))))))))))))))))
noncomputable def f_L_law_j2080 (xs : Nat → Int) (L : Nat) (b : Nat) (u1 : Nat) (u2 : Nat) (u3 : Nat) (v4_j2080 : Int) (σ_j2080 : St) : Option ((Nat × Int × St) ⊕ (Int)) := ck (0 ≤ ((v4_j2080 + 1) : Int) ∧ ((v4_j2080 + 1) : Int) < (L : Int)) (ck (0 ≤ ((v4_j2080 + 2) : Int) ∧ ((v4_j2080 + 2) : Int) < (L : Int)) (ck (inR ((xs ((v4_j2080 + 2)).toNat))) (ck (0 ≤ ((v4_j2080 + 3) : Int) ∧ ((v4_j2080 + 3) : Int) < (L : Int)) (ck (inR ((xs ((v4_j2080 + 3)).toNat))) (ck (0 ≤ ((v4_j2080 + 4) : Int) ∧ ((v4_j2080 + 4) : Int) < (L : Int)) (ck (0 ≤ ((v4_j2080 + 5) : Int) ∧ ((v4_j2080 + 5) : Int) < (L : Int)) (ck (0 ≤ ((v4_j2080 + 6) : Int) ∧ ((v4_j2080 + 6) : Int) < (L : Int)) (cO (σ_j2080) (u1) 0 (bd2 (f_X1_run (σ_j2080) (u1) ((xs ((v4_j2080 + 1)).toNat)) ((jOr ((jShl ((xs ((v4_j2080 + 2)).toNat)) (32))) ((jAnd ((xs ((v4_j2080 + 3)).toNat)) (4294967295))))) ((xs ((v4_j2080 + 4)).toNat)) ((xs ((v4_j2080 + 5)).toNat)) ((xs ((v4_j2080 + 6)).toNat))) fun r68 σ69 => ck (0 ≤ ((v4_j2080 + 1) : Int) ∧ ((v4_j2080 + 1) : Int) < (L : Int)) (ck (0 ≤ ((v4_j2080 + 2) : Int) ∧ ((v4_j2080 + 2) : Int) < (L : Int)) (ck (inR ((xs ((v4_j2080 + 2)).toNat))) (ck (0 ≤ ((v4_j2080 + 3) : Int) ∧ ((v4_j2080 + 3) : Int) < (L : Int)) (ck (inR ((xs ((v4_j2080 + 3)).toNat))) (ck (0 ≤ ((v4_j2080 + 4) : Int) ∧ ((v4_j2080 + 4) : Int) < (L : Int)) (ck (0 ≤ ((v4_j2080 + 5) : Int) ∧ ((v4_j2080 + 5) : Int) < (L : Int)) (ck (0 ≤ ((v4_j2080 + 6) : Int) ∧ ((v4_j2080 + 6) : Int) < (L : Int)) (cO (σ69) (u2) 5 (bd2 (f_X6_run (σ69) (u2) ((xs ((v4_j2080 + 1)).toNat)) ((jOr ((jShl ((xs ((v4_j2080 + 2)).toNat)) (32))) ((jAnd ((xs ((v4_j2080 + 3)).toNat)) (4294967295))))) ((xs ((v4_j2080 + 4)).toNat)) ((xs ((v4_j2080 + 5)).toNat)) ((xs ((v4_j2080 + 6)).toNat))) fun r74 σ75 => cEq (r68) (r74) (some (.inl (cn - 1, (v4_j2080 + 8), σ75))) (ex (some (0)))))))))))))))))))))
noncomputable def f_L_law_j2031 (xs : Nat → Int) (L : Nat) (b : Nat) (u1 : Nat) (u2 : Nat) (u3 : Nat) (v4_j2031 : Int) (σ_j2031 : St) : Option ((Nat × Int × St) ⊕ (Int)) := ck (0 ≤ ((v4_j2031 + 1) : Int) ∧ ((v4_j2031 + 1) : Int) < (L : Int)) (ck (0 ≤ ((v4_j2031 + 2) : Int) ∧ ((v4_j2031 + 2) : Int) < (L : Int)) (ck (0 ≤ ((v4_j2031 + 3) : Int) ∧ ((v4_j2031 + 3) : Int) < (L : Int)) (cO (σ_j2031) (u1) 0 (bd2 (f_X1_row (σ_j2031) (u1) ((xs ((v4_j2031 + 1)).toNat)) ((xs ((v4_j2031 + 2)).toNat)) ((xs ((v4_j2031 + 3)).toNat))) fun r79 σ80 => ck (0 ≤ ((v4_j2031 + 1) : Int) ∧ ((v4_j2031 + 1) : Int) < (L : Int)) (ck (0 ≤ ((v4_j2031 + 2) : Int) ∧ ((v4_j2031 + 2) : Int) < (L : Int)) (ck (0 ≤ ((v4_j2031 + 3) : Int) ∧ ((v4_j2031 + 3) : Int) < (L : Int)) (cO (σ80) (u2) 5 (bd2 (f_X6_row (σ80) (u2) ((xs ((v4_j2031 + 1)).toNat)) ((xs ((v4_j2031 + 2)).toNat)) ((xs ((v4_j2031 + 3)).toNat))) fun r83 σ84 => cEq (r79) (r83) (some (.inl (cn - 1, (v4_j2031 + 8), σ84))) (ex (some (0)))))))))))
noncomputable def f_L_law_j2018 (xs : Nat → Int) (L : Nat) (b : Nat) (u1 : Nat) (u2 : Nat) (u3 : Nat) (v4_j2018 : Int) (σ_j2018 : St) : Option ((Nat × Int × St) ⊕ (Int)) := cO (σ_j2018) (u1) 0 (bd2 (f_X1_back (σ_j2018) (u1)) fun r88 σ89 => cO (σ89) (u2) 5 (bd2 (f_X6_back (σ89) (u2)) fun r92 σ93 => cEq (r88) (r92) (some (.inl (cn - 1, (v4_j2018 + 8), σ93))) (ex (some (0)))))
noncomputable def f_L_law_j2005 (xs : Nat → Int) (L : Nat) (b : Nat) (u1 : Nat) (u2 : Nat) (u3 : Nat) (v4_j2005 : Int) (σ_j2005 : St) : Option ((Nat × Int × St) ⊕ (Int)) := cO (σ_j2005) (u1) 0 (bd2 (f_X1_keep (σ_j2005) (u1)) fun r97 σ98 => cO (σ98) (u2) 5 (bd2 (f_X6_keep (σ98) (u2)) fun r101 σ102 => cEq (r97) (r101) (some (.inl (cn - 1, (v4_j2005 + 8), σ102))) (ex (some (0)))))
noncomputable def f_L_law_j1980 (xs : Nat → Int) (L : Nat) (b : Nat) (u1 : Nat) (u2 : Nat) (u3 : Nat) (v4_j1980 : Int) (σ_j1980 : St) : Option ((Nat × Int × St) ⊕ (Int)) := ck (0 ≤ ((v4_j1980 + 1) : Int) ∧ ((v4_j1980 + 1) : Int) < (L : Int)) (cO (σ_j1980) (u1) 0 ((f_X1_spell (σ_j1980) (u1) ((xs ((v4_j1980 + 1)).toNat))).bind fun r106 => ck (0 ≤ ((v4_j1980 + 1) : Int) ∧ ((v4_j1980 + 1) : Int) < (L : Int)) (cO (σ_j1980) (u2) 5 ((f_X6_spell (σ_j1980) (u2) ((xs ((v4_j1980 + 1)).toNat))).bind fun r109 => cEq (r106) (r109) (some (.inl (cn - 1, (v4_j1980 + 8), σ_j1980))) (ex (some (0)))))))
noncomputable def f_L_law_j1919 (xs : Nat → Int) (L : Nat) (b : Nat) (u1 : Nat) (u2 : Nat) (u3 : Nat) (v4_j1919 : Int) (σ_j1919 : St) : Option ((Nat × Int × St) ⊕ (Int)) := ck (0 ≤ ((v4_j1919 + 1) : Int) ∧ ((v4_j1919 + 1) : Int) < (L : Int)) (ck (0 ≤ ((v4_j1919 + 2) : Int) ∧ ((v4_j1919 + 2) : Int) < (L : Int)) (ck (0 ≤ ((v4_j1919 + 3) : Int) ∧ ((v4_j1919 + 3) : Int) < (L : Int)) (ck (0 ≤ ((v4_j1919 + 4) : Int) ∧ ((v4_j1919 + 4) : Int) < (L : Int)) (cO (σ_j1919) (u1) 0 ((f_X1_held (σ_j1919) (u1) ((xs ((v4_j1919 + 1)).toNat)) ((xs ((v4_j1919 + 2)).toNat)) ((xs ((v4_j1919 + 3)).toNat)) ((xs ((v4_j1919 + 4)).toNat))).bind fun r113 => ck (0 ≤ ((v4_j1919 + 1) : Int) ∧ ((v4_j1919 + 1) : Int) < (L : Int)) (ck (0 ≤ ((v4_j1919 + 2) : Int) ∧ ((v4_j1919 + 2) : Int) < (L : Int)) (ck (0 ≤ ((v4_j1919 + 3) : Int) ∧ ((v4_j1919 + 3) : Int) < (L : Int)) (ck (0 ≤ ((v4_j1919 + 4) : Int) ∧ ((v4_j1919 + 4) : Int) < (L : Int)) (cO (σ_j1919) (u2) 5 ((f_X6_held (σ_j1919) (u2) ((xs ((v4_j1919 + 1)).toNat)) ((xs ((v4_j1919 + 2)).toNat)) ((xs ((v4_j1919 + 3)).toNat)) ((xs ((v4_j1919 + 4)).toNat))).bind fun r116 => cEq (r113) (r116) (some (.inl (cn - 1, (v4_j1919 + 8), σ_j1919))) (ex (some (0)))))))))))))
noncomputable def f_L_law_j1846 (xs : Nat → Int) (L : Nat) (b : Nat) (u1 : Nat) (u2 : Nat) (u3 : Nat) (v4_j1846 : Int) (σ_j1846 : St) : Option ((Nat × Int × St) ⊕ (Int)) := ck (0 ≤ ((v4_j1846 + 1) : Int) ∧ ((v4_j1846 + 1) : Int) < (L : Int)) (ck (0 ≤ ((v4_j1846 + 2) : Int) ∧ ((v4_j1846 + 2) : Int) < (L : Int)) (ck (0 ≤ ((v4_j1846 + 3) : Int) ∧ ((v4_j1846 + 3) : Int) < (L : Int)) (ck (0 ≤ ((v4_j1846 + 4) : Int) ∧ ((v4_j1846 + 4) : Int) < (L : Int)) (ck (0 ≤ ((v4_j1846 + 5) : Int) ∧ ((v4_j1846 + 5) : Int) < (L : Int)) (cO (σ_j1846) (u1) 0 (bd2 (f_X1_event (σ_j1846) (u1) ((xs ((v4_j1846 + 1)).toNat)) ((xs ((v4_j1846 + 2)).toNat)) ((xs ((v4_j1846 + 3)).toNat)) ((xs ((v4_j1846 + 4)).toNat)) ((xs ((v4_j1846 + 5)).toNat))) fun r120 σ121 => ck (0 ≤ ((v4_j1846 + 1) : Int) ∧ ((v4_j1846 + 1) : Int) < (L : Int)) (ck (0 ≤ ((v4_j1846 + 2) : Int) ∧ ((v4_j1846 + 2) : Int) < (L : Int)) (ck (0 ≤ ((v4_j1846 + 3) : Int) ∧ ((v4_j1846 + 3) : Int) < (L : Int)) (ck (0 ≤ ((v4_j1846 + 4) : Int) ∧ ((v4_j1846 + 4) : Int) < (L : Int)) (ck (0 ≤ ((v4_j1846 + 5) : Int) ∧ ((v4_j1846 + 5) : Int) < (L : Int)) (cO (σ121) (u2) 5 (bd2 (f_X6_event (σ121) (u2) ((xs ((v4_j1846 + 1)).toNat)) ((xs ((v4_j1846 + 2)).toNat)) ((xs ((v4_j1846 + 3)).toNat)) ((xs ((v4_j1846 + 4)).toNat)) ((xs ((v4_j1846 + 5)).toNat))) fun r124 σ125 => cEq (r120) (r124) (some (.inl (cn - 1, (v4_j1846 + 8), σ125))) (ex (some (0)))))))))))))))
noncomputable def f_L_law_j1785 (xs : Nat → Int) (L : Nat) (b : Nat) (u1 : Nat) (u2 : Nat) (u3 : Nat) (v4_j1785 : Int) (σ_j1785 : St) : Option ((Nat × Int × St) ⊕ (Int)) := ck (0 ≤ ((v4_j1785 + 1) : Int) ∧ ((v4_j1785 + 1) : Int) < (L : Int)) (ck (0 ≤ ((v4_j1785 + 2) : Int) ∧ ((v4_j1785 + 2) : Int) < (L : Int)) (ck (0 ≤ ((v4_j1785 + 3) : Int) ∧ ((v4_j1785 + 3) : Int) < (L : Int)) (ck (0 ≤ ((v4_j1785 + 4) : Int) ∧ ((v4_j1785 + 4) : Int) < (L : Int)) (cO (σ_j1785) (u1) 0 ((f_X1_age (σ_j1785) (u1) ((xs ((v4_j1785 + 1)).toNat)) ((xs ((v4_j1785 + 2)).toNat)) ((xs ((v4_j1785 + 3)).toNat)) ((xs ((v4_j1785 + 4)).toNat))).bind fun r129 => ck (0 ≤ ((v4_j1785 + 1) : Int) ∧ ((v4_j1785 + 1) : Int) < (L : Int)) (ck (0 ≤ ((v4_j1785 + 2) : Int) ∧ ((v4_j1785 + 2) : Int) < (L : Int)) (ck (0 ≤ ((v4_j1785 + 3) : Int) ∧ ((v4_j1785 + 3) : Int) < (L : Int)) (ck (0 ≤ ((v4_j1785 + 4) : Int) ∧ ((v4_j1785 + 4) : Int) < (L : Int)) (cO (σ_j1785) (u2) 5 ((f_X6_age (σ_j1785) (u2) ((xs ((v4_j1785 + 1)).toNat)) ((xs ((v4_j1785 + 2)).toNat)) ((xs ((v4_j1785 + 3)).toNat)) ((xs ((v4_j1785 + 4)).toNat))).bind fun r132 => cEq (r129) (r132) (some (.inl (cn - 1, (v4_j1785 + 8), σ_j1785))) (ex (some (0)))))))))))))
noncomputable def f_L_law_j1724 (xs : Nat → Int) (L : Nat) (b : Nat) (u1 : Nat) (u2 : Nat) (u3 : Nat) (v4_j1724 : Int) (σ_j1724 : St) : Option ((Nat × Int × St) ⊕ (Int)) := ck (0 ≤ ((v4_j1724 + 1) : Int) ∧ ((v4_j1724 + 1) : Int) < (L : Int)) (ck (0 ≤ ((v4_j1724 + 2) : Int) ∧ ((v4_j1724 + 2) : Int) < (L : Int)) (ck (0 ≤ ((v4_j1724 + 3) : Int) ∧ ((v4_j1724 + 3) : Int) < (L : Int)) (ck (0 ≤ ((v4_j1724 + 4) : Int) ∧ ((v4_j1724 + 4) : Int) < (L : Int)) (cO (σ_j1724) (u1) 0 (bd2 (f_X1_born (σ_j1724) (u1) ((xs ((v4_j1724 + 1)).toNat)) ((xs ((v4_j1724 + 2)).toNat)) ((xs ((v4_j1724 + 3)).toNat)) ((xs ((v4_j1724 + 4)).toNat))) fun r136 σ137 => ck (0 ≤ ((v4_j1724 + 1) : Int) ∧ ((v4_j1724 + 1) : Int) < (L : Int)) (ck (0 ≤ ((v4_j1724 + 2) : Int) ∧ ((v4_j1724 + 2) : Int) < (L : Int)) (ck (0 ≤ ((v4_j1724 + 3) : Int) ∧ ((v4_j1724 + 3) : Int) < (L : Int)) (ck (0 ≤ ((v4_j1724 + 4) : Int) ∧ ((v4_j1724 + 4) : Int) < (L : Int)) (cO (σ137) (u2) 5 (bd2 (f_X6_born (σ137) (u2) ((xs ((v4_j1724 + 1)).toNat)) ((xs ((v4_j1724 + 2)).toNat)) ((xs ((v4_j1724 + 3)).toNat)) ((xs ((v4_j1724 + 4)).toNat))) fun r140 σ141 => cEq (r136) (r140) (some (.inl (cn - 1, (v4_j1724 + 8), σ141))) (ex (some (0)))))))))))))
noncomputable def f_L_law_j1675 (xs : Nat → Int) (L : Nat) (b : Nat) (u1 : Nat) (u2 : Nat) (u3 : Nat) (v4_j1675 : Int) (σ_j1675 : St) : Option ((Nat × Int × St) ⊕ (Int)) := ck (0 ≤ ((v4_j1675 + 1) : Int) ∧ ((v4_j1675 + 1) : Int) < (L : Int)) (ck (0 ≤ ((v4_j1675 + 2) : Int) ∧ ((v4_j1675 + 2) : Int) < (L : Int)) (ck (0 ≤ ((v4_j1675 + 3) : Int) ∧ ((v4_j1675 + 3) : Int) < (L : Int)) (cO (σ_j1675) (u1) 0 ((f_X1_mates (σ_j1675) (u1) ((xs ((v4_j1675 + 1)).toNat)) ((xs ((v4_j1675 + 2)).toNat)) ((xs ((v4_j1675 + 3)).toNat))).bind fun r145 => ck (0 ≤ ((v4_j1675 + 1) : Int) ∧ ((v4_j1675 + 1) : Int) < (L : Int)) (ck (0 ≤ ((v4_j1675 + 2) : Int) ∧ ((v4_j1675 + 2) : Int) < (L : Int)) (ck (0 ≤ ((v4_j1675 + 3) : Int) ∧ ((v4_j1675 + 3) : Int) < (L : Int)) (cO (σ_j1675) (u2) 5 ((f_X6_mates (σ_j1675) (u2) ((xs ((v4_j1675 + 1)).toNat)) ((xs ((v4_j1675 + 2)).toNat)) ((xs ((v4_j1675 + 3)).toNat))).bind fun r148 => cEq (r145) (r148) (some (.inl (cn - 1, (v4_j1675 + 8), σ_j1675))) (ex (some (0)))))))))))
noncomputable def f_L_law_j1614 (xs : Nat → Int) (L : Nat) (b : Nat) (u1 : Nat) (u2 : Nat) (u3 : Nat) (v4_j1614 : Int) (σ_j1614 : St) : Option ((Nat × Int × St) ⊕ (Int)) := ck (0 ≤ ((v4_j1614 + 1) : Int) ∧ ((v4_j1614 + 1) : Int) < (L : Int)) (ck (0 ≤ ((v4_j1614 + 2) : Int) ∧ ((v4_j1614 + 2) : Int) < (L : Int)) (ck (0 ≤ ((v4_j1614 + 3) : Int) ∧ ((v4_j1614 + 3) : Int) < (L : Int)) (ck (0 ≤ ((v4_j1614 + 4) : Int) ∧ ((v4_j1614 + 4) : Int) < (L : Int)) (cO (σ_j1614) (u1) 0 ((f_X1_thirteenths (σ_j1614) (u1) ((xs ((v4_j1614 + 1)).toNat)) ((xs ((v4_j1614 + 2)).toNat)) ((xs ((v4_j1614 + 3)).toNat)) ((xs ((v4_j1614 + 4)).toNat))).bind fun r152 => ck (0 ≤ ((v4_j1614 + 1) : Int) ∧ ((v4_j1614 + 1) : Int) < (L : Int)) (ck (0 ≤ ((v4_j1614 + 2) : Int) ∧ ((v4_j1614 + 2) : Int) < (L : Int)) (ck (0 ≤ ((v4_j1614 + 3) : Int) ∧ ((v4_j1614 + 3) : Int) < (L : Int)) (ck (0 ≤ ((v4_j1614 + 4) : Int) ∧ ((v4_j1614 + 4) : Int) < (L : Int)) (cO (σ_j1614) (u2) 5 ((f_X6_thirteenths (σ_j1614) (u2) ((xs ((v4_j1614 + 1)).toNat)) ((xs ((v4_j1614 + 2)).toNat)) ((xs ((v4_j1614 + 3)).toNat)) ((xs ((v4_j1614 + 4)).toNat))).bind fun r155 => cEq (r152) (r155) (some (.inl (cn - 1, (v4_j1614 + 8), σ_j1614))) (ex (some (0)))))))))))))
noncomputable def f_L_law_j1565 (xs : Nat → Int) (L : Nat) (b : Nat) (u1 : Nat) (u2 : Nat) (u3 : Nat) (v4_j1565 : Int) (σ_j1565 : St) : Option ((Nat × Int × St) ⊕ (Int)) := ck (0 ≤ ((v4_j1565 + 1) : Int) ∧ ((v4_j1565 + 1) : Int) < (L : Int)) (ck (0 ≤ ((v4_j1565 + 2) : Int) ∧ ((v4_j1565 + 2) : Int) < (L : Int)) (ck (0 ≤ ((v4_j1565 + 3) : Int) ∧ ((v4_j1565 + 3) : Int) < (L : Int)) (cO (σ_j1565) (u1) 0 ((f_X1_like (σ_j1565) (u1) ((xs ((v4_j1565 + 1)).toNat)) ((xs ((v4_j1565 + 2)).toNat)) ((xs ((v4_j1565 + 3)).toNat))).bind fun r159 => ck (0 ≤ ((v4_j1565 + 1) : Int) ∧ ((v4_j1565 + 1) : Int) < (L : Int)) (ck (0 ≤ ((v4_j1565 + 2) : Int) ∧ ((v4_j1565 + 2) : Int) < (L : Int)) (ck (0 ≤ ((v4_j1565 + 3) : Int) ∧ ((v4_j1565 + 3) : Int) < (L : Int)) (cO (σ_j1565) (u2) 5 ((f_X6_like (σ_j1565) (u2) ((xs ((v4_j1565 + 1)).toNat)) ((xs ((v4_j1565 + 2)).toNat)) ((xs ((v4_j1565 + 3)).toNat))).bind fun r162 => cEq (r159) (r162) (some (.inl (cn - 1, (v4_j1565 + 8), σ_j1565))) (ex (some (0)))))))))))
noncomputable def f_L_law_j1492 (xs : Nat → Int) (L : Nat) (b : Nat) (u1 : Nat) (u2 : Nat) (u3 : Nat) (v4_j1492 : Int) (σ_j1492 : St) : Option ((Nat × Int × St) ⊕ (Int)) := ck (0 ≤ ((v4_j1492 + 1) : Int) ∧ ((v4_j1492 + 1) : Int) < (L : Int)) (ck (0 ≤ ((v4_j1492 + 2) : Int) ∧ ((v4_j1492 + 2) : Int) < (L : Int)) (ck (0 ≤ ((v4_j1492 + 3) : Int) ∧ ((v4_j1492 + 3) : Int) < (L : Int)) (ck (0 ≤ ((v4_j1492 + 4) : Int) ∧ ((v4_j1492 + 4) : Int) < (L : Int)) (ck (0 ≤ ((v4_j1492 + 5) : Int) ∧ ((v4_j1492 + 5) : Int) < (L : Int)) (cO (σ_j1492) (u1) 0 (bd2 (f_X1_least (σ_j1492) (u1) ((xs ((v4_j1492 + 1)).toNat)) ((xs ((v4_j1492 + 2)).toNat)) ((xs ((v4_j1492 + 3)).toNat)) ((xs ((v4_j1492 + 4)).toNat)) ((xs ((v4_j1492 + 5)).toNat))) fun r166 σ167 => ck (0 ≤ ((v4_j1492 + 1) : Int) ∧ ((v4_j1492 + 1) : Int) < (L : Int)) (ck (0 ≤ ((v4_j1492 + 2) : Int) ∧ ((v4_j1492 + 2) : Int) < (L : Int)) (ck (0 ≤ ((v4_j1492 + 3) : Int) ∧ ((v4_j1492 + 3) : Int) < (L : Int)) (ck (0 ≤ ((v4_j1492 + 4) : Int) ∧ ((v4_j1492 + 4) : Int) < (L : Int)) (ck (0 ≤ ((v4_j1492 + 5) : Int) ∧ ((v4_j1492 + 5) : Int) < (L : Int)) (cO (σ167) (u2) 5 (bd2 (f_X6_least (σ167) (u2) ((xs ((v4_j1492 + 1)).toNat)) ((xs ((v4_j1492 + 2)).toNat)) ((xs ((v4_j1492 + 3)).toNat)) ((xs ((v4_j1492 + 4)).toNat)) ((xs ((v4_j1492 + 5)).toNat))) fun r170 σ171 => cEq (r166) (r170) (some (.inl (cn - 1, (v4_j1492 + 8), σ171))) (ex (some (0)))))))))))))))
noncomputable def f_L_law_j1419 (xs : Nat → Int) (L : Nat) (b : Nat) (u1 : Nat) (u2 : Nat) (u3 : Nat) (v4_j1419 : Int) (σ_j1419 : St) : Option ((Nat × Int × St) ⊕ (Int)) := ck (0 ≤ ((v4_j1419 + 1) : Int) ∧ ((v4_j1419 + 1) : Int) < (L : Int)) (ck (0 ≤ ((v4_j1419 + 2) : Int) ∧ ((v4_j1419 + 2) : Int) < (L : Int)) (ck (0 ≤ ((v4_j1419 + 3) : Int) ∧ ((v4_j1419 + 3) : Int) < (L : Int)) (ck (0 ≤ ((v4_j1419 + 4) : Int) ∧ ((v4_j1419 + 4) : Int) < (L : Int)) (ck (0 ≤ ((v4_j1419 + 5) : Int) ∧ ((v4_j1419 + 5) : Int) < (L : Int)) (cO (σ_j1419) (u1) 0 (bd2 (f_X1_part (σ_j1419) (u1) ((xs ((v4_j1419 + 1)).toNat)) ((xs ((v4_j1419 + 2)).toNat)) ((xs ((v4_j1419 + 3)).toNat)) ((xs ((v4_j1419 + 4)).toNat)) ((xs ((v4_j1419 + 5)).toNat))) fun r175 σ176 => ck (0 ≤ ((v4_j1419 + 1) : Int) ∧ ((v4_j1419 + 1) : Int) < (L : Int)) (ck (0 ≤ ((v4_j1419 + 2) : Int) ∧ ((v4_j1419 + 2) : Int) < (L : Int)) (ck (0 ≤ ((v4_j1419 + 3) : Int) ∧ ((v4_j1419 + 3) : Int) < (L : Int)) (ck (0 ≤ ((v4_j1419 + 4) : Int) ∧ ((v4_j1419 + 4) : Int) < (L : Int)) (ck (0 ≤ ((v4_j1419 + 5) : Int) ∧ ((v4_j1419 + 5) : Int) < (L : Int)) (cO (σ176) (u2) 5 (bd2 (f_X6_part (σ176) (u2) ((xs ((v4_j1419 + 1)).toNat)) ((xs ((v4_j1419 + 2)).toNat)) ((xs ((v4_j1419 + 3)).toNat)) ((xs ((v4_j1419 + 4)).toNat)) ((xs ((v4_j1419 + 5)).toNat))) fun r179 σ180 => cEq (r175) (r179) (some (.inl (cn - 1, (v4_j1419 + 8), σ180))) (ex (some (0)))))))))))))))
noncomputable def f_L_law_j1394 (xs : Nat → Int) (L : Nat) (b : Nat) (u1 : Nat) (u2 : Nat) (u3 : Nat) (v4_j1394 : Int) (σ_j1394 : St) : Option ((Nat × Int × St) ⊕ (Int)) := ck (0 ≤ ((v4_j1394 + 1) : Int) ∧ ((v4_j1394 + 1) : Int) < (L : Int)) (cO (σ_j1394) (u1) 0 (bd2 (f_X1_next (σ_j1394) (u1) ((xs ((v4_j1394 + 1)).toNat))) fun r184 σ185 => ck (0 ≤ ((v4_j1394 + 1) : Int) ∧ ((v4_j1394 + 1) : Int) < (L : Int)) (cO (σ185) (u2) 5 (bd2 (f_X6_next (σ185) (u2) ((xs ((v4_j1394 + 1)).toNat))) fun r188 σ189 => cEq (r184) (r188) (some (.inl (cn - 1, (v4_j1394 + 8), σ189))) (ex (some (0)))))))
noncomputable def f_L_law_j1357 (xs : Nat → Int) (L : Nat) (b : Nat) (u1 : Nat) (u2 : Nat) (u3 : Nat) (v4_j1357 : Int) (σ_j1357 : St) : Option ((Nat × Int × St) ⊕ (Int)) := ck (0 ≤ ((v4_j1357 + 1) : Int) ∧ ((v4_j1357 + 1) : Int) < (L : Int)) (ck (0 ≤ ((v4_j1357 + 2) : Int) ∧ ((v4_j1357 + 2) : Int) < (L : Int)) (cO (σ_j1357) (u1) 0 (bd2 (f_X1_parted (σ_j1357) (u1) ((xs ((v4_j1357 + 1)).toNat)) ((xs ((v4_j1357 + 2)).toNat))) fun r193 σ194 => ck (0 ≤ ((v4_j1357 + 1) : Int) ∧ ((v4_j1357 + 1) : Int) < (L : Int)) (ck (0 ≤ ((v4_j1357 + 2) : Int) ∧ ((v4_j1357 + 2) : Int) < (L : Int)) (cO (σ194) (u2) 5 (bd2 (f_X6_parted (σ194) (u2) ((xs ((v4_j1357 + 1)).toNat)) ((xs ((v4_j1357 + 2)).toNat))) fun r197 σ198 => cEq (r193) (r197) (some (.inl (cn - 1, (v4_j1357 + 8), σ198))) (ex (some (0)))))))))
noncomputable def f_L_law_j1296 (xs : Nat → Int) (L : Nat) (b : Nat) (u1 : Nat) (u2 : Nat) (u3 : Nat) (v4_j1296 : Int) (σ_j1296 : St) : Option ((Nat × Int × St) ⊕ (Int)) := ck (0 ≤ ((v4_j1296 + 1) : Int) ∧ ((v4_j1296 + 1) : Int) < (L : Int)) (ck (0 ≤ ((v4_j1296 + 2) : Int) ∧ ((v4_j1296 + 2) : Int) < (L : Int)) (ck (0 ≤ ((v4_j1296 + 3) : Int) ∧ ((v4_j1296 + 3) : Int) < (L : Int)) (ck (0 ≤ ((v4_j1296 + 4) : Int) ∧ ((v4_j1296 + 4) : Int) < (L : Int)) (cO (σ_j1296) (u1) 0 (bd2 (f_X1_plan (σ_j1296) (u1) ((xs ((v4_j1296 + 1)).toNat)) ((xs ((v4_j1296 + 2)).toNat)) ((xs ((v4_j1296 + 3)).toNat)) ((xs ((v4_j1296 + 4)).toNat))) fun r202 σ203 => ck (0 ≤ ((v4_j1296 + 1) : Int) ∧ ((v4_j1296 + 1) : Int) < (L : Int)) (ck (0 ≤ ((v4_j1296 + 2) : Int) ∧ ((v4_j1296 + 2) : Int) < (L : Int)) (ck (0 ≤ ((v4_j1296 + 3) : Int) ∧ ((v4_j1296 + 3) : Int) < (L : Int)) (ck (0 ≤ ((v4_j1296 + 4) : Int) ∧ ((v4_j1296 + 4) : Int) < (L : Int)) (cO (σ203) (u2) 5 (bd2 (f_X6_plan (σ203) (u2) ((xs ((v4_j1296 + 1)).toNat)) ((xs ((v4_j1296 + 2)).toNat)) ((xs ((v4_j1296 + 3)).toNat)) ((xs ((v4_j1296 + 4)).toNat))) fun r206 σ207 => cEq (r202) (r206) (some (.inl (cn - 1, (v4_j1296 + 8), σ207))) (ex (some (0)))))))))))))
noncomputable def f_L_law_j1259 (xs : Nat → Int) (L : Nat) (b : Nat) (u1 : Nat) (u2 : Nat) (u3 : Nat) (v4_j1259 : Int) (σ_j1259 : St) : Option ((Nat × Int × St) ⊕ (Int)) := ck (0 ≤ ((v4_j1259 + 1) : Int) ∧ ((v4_j1259 + 1) : Int) < (L : Int)) (ck (0 ≤ ((v4_j1259 + 2) : Int) ∧ ((v4_j1259 + 2) : Int) < (L : Int)) (cO (σ_j1259) (u1) 0 (bd2 (f_X1_odds (σ_j1259) (u1) ((xs ((v4_j1259 + 1)).toNat)) ((xs ((v4_j1259 + 2)).toNat))) fun r211 σ212 => ck (0 ≤ ((v4_j1259 + 1) : Int) ∧ ((v4_j1259 + 1) : Int) < (L : Int)) (ck (0 ≤ ((v4_j1259 + 2) : Int) ∧ ((v4_j1259 + 2) : Int) < (L : Int)) (cO (σ212) (u2) 5 (bd2 (f_X6_odds (σ212) (u2) ((xs ((v4_j1259 + 1)).toNat)) ((xs ((v4_j1259 + 2)).toNat))) fun r215 σ216 => cEq (r211) (r215) (some (.inl (cn - 1, (v4_j1259 + 8), σ216))) (ex (some (0)))))))))
noncomputable def f_L_law_j1222 (xs : Nat → Int) (L : Nat) (b : Nat) (u1 : Nat) (u2 : Nat) (u3 : Nat) (v4_j1222 : Int) (σ_j1222 : St) : Option ((Nat × Int × St) ⊕ (Int)) := ck (0 ≤ ((v4_j1222 + 1) : Int) ∧ ((v4_j1222 + 1) : Int) < (L : Int)) (ck (0 ≤ ((v4_j1222 + 2) : Int) ∧ ((v4_j1222 + 2) : Int) < (L : Int)) (cO (σ_j1222) (u1) 0 (bd2 (f_X1_weigh (σ_j1222) (u1) ((xs ((v4_j1222 + 1)).toNat)) ((xs ((v4_j1222 + 2)).toNat))) fun r220 σ221 => ck (0 ≤ ((v4_j1222 + 1) : Int) ∧ ((v4_j1222 + 1) : Int) < (L : Int)) (ck (0 ≤ ((v4_j1222 + 2) : Int) ∧ ((v4_j1222 + 2) : Int) < (L : Int)) (cO (σ221) (u2) 5 (bd2 (f_X6_weigh (σ221) (u2) ((xs ((v4_j1222 + 1)).toNat)) ((xs ((v4_j1222 + 2)).toNat))) fun r224 σ225 => cEq (r220) (r224) (some (.inl (cn - 1, (v4_j1222 + 8), σ225))) (ex (some (0)))))))))
noncomputable def f_L_law_j1161 (xs : Nat → Int) (L : Nat) (b : Nat) (u1 : Nat) (u2 : Nat) (u3 : Nat) (v4_j1161 : Int) (σ_j1161 : St) : Option ((Nat × Int × St) ⊕ (Int)) := ck (0 ≤ ((v4_j1161 + 1) : Int) ∧ ((v4_j1161 + 1) : Int) < (L : Int)) (ck (0 ≤ ((v4_j1161 + 2) : Int) ∧ ((v4_j1161 + 2) : Int) < (L : Int)) (ck (0 ≤ ((v4_j1161 + 3) : Int) ∧ ((v4_j1161 + 3) : Int) < (L : Int)) (ck (0 ≤ ((v4_j1161 + 4) : Int) ∧ ((v4_j1161 + 4) : Int) < (L : Int)) (cO (σ_j1161) (u1) 0 (bd2 (f_X1_learnt (σ_j1161) (u1) ((xs ((v4_j1161 + 1)).toNat)) ((xs ((v4_j1161 + 2)).toNat)) ((xs ((v4_j1161 + 3)).toNat)) ((xs ((v4_j1161 + 4)).toNat))) fun r229 σ230 => ck (0 ≤ ((v4_j1161 + 1) : Int) ∧ ((v4_j1161 + 1) : Int) < (L : Int)) (ck (0 ≤ ((v4_j1161 + 2) : Int) ∧ ((v4_j1161 + 2) : Int) < (L : Int)) (ck (0 ≤ ((v4_j1161 + 3) : Int) ∧ ((v4_j1161 + 3) : Int) < (L : Int)) (ck (0 ≤ ((v4_j1161 + 4) : Int) ∧ ((v4_j1161 + 4) : Int) < (L : Int)) (cO (σ230) (u2) 5 (bd2 (f_X6_learnt (σ230) (u2) ((xs ((v4_j1161 + 1)).toNat)) ((xs ((v4_j1161 + 2)).toNat)) ((xs ((v4_j1161 + 3)).toNat)) ((xs ((v4_j1161 + 4)).toNat))) fun r233 σ234 => cEq (r229) (r233) (some (.inl (cn - 1, (v4_j1161 + 8), σ234))) (ex (some (0)))))))))))))
noncomputable def f_L_law_j1136 (xs : Nat → Int) (L : Nat) (b : Nat) (u1 : Nat) (u2 : Nat) (u3 : Nat) (v4_j1136 : Int) (σ_j1136 : St) : Option ((Nat × Int × St) ⊕ (Int)) := ck (0 ≤ ((v4_j1136 + 1) : Int) ∧ ((v4_j1136 + 1) : Int) < (L : Int)) (cO (σ_j1136) (u1) 0 ((f_X1_after (σ_j1136) (u1) ((xs ((v4_j1136 + 1)).toNat))).bind fun r238 => ck (0 ≤ ((v4_j1136 + 1) : Int) ∧ ((v4_j1136 + 1) : Int) < (L : Int)) (cO (σ_j1136) (u2) 5 ((f_X6_after (σ_j1136) (u2) ((xs ((v4_j1136 + 1)).toNat))).bind fun r241 => cEq (r238) (r241) (some (.inl (cn - 1, (v4_j1136 + 8), σ_j1136))) (ex (some (0)))))))
noncomputable def f_L_law_j1111 (xs : Nat → Int) (L : Nat) (b : Nat) (u1 : Nat) (u2 : Nat) (u3 : Nat) (v4_j1111 : Int) (σ_j1111 : St) : Option ((Nat × Int × St) ⊕ (Int)) := ck (0 ≤ ((v4_j1111 + 1) : Int) ∧ ((v4_j1111 + 1) : Int) < (L : Int)) (cO (σ_j1111) (u1) 0 ((f_X1_lived (σ_j1111) (u1) ((xs ((v4_j1111 + 1)).toNat))).bind fun r245 => ck (0 ≤ ((v4_j1111 + 1) : Int) ∧ ((v4_j1111 + 1) : Int) < (L : Int)) (cO (σ_j1111) (u2) 5 ((f_X6_lived (σ_j1111) (u2) ((xs ((v4_j1111 + 1)).toNat))).bind fun r248 => cEq (r245) (r248) (some (.inl (cn - 1, (v4_j1111 + 8), σ_j1111))) (ex (some (0)))))))
noncomputable def f_L_law_j1086 (xs : Nat → Int) (L : Nat) (b : Nat) (u1 : Nat) (u2 : Nat) (u3 : Nat) (v4_j1086 : Int) (σ_j1086 : St) : Option ((Nat × Int × St) ⊕ (Int)) := ck (0 ≤ ((v4_j1086 + 1) : Int) ∧ ((v4_j1086 + 1) : Int) < (L : Int)) (cO (σ_j1086) (u1) 0 ((f_X1_further (σ_j1086) (u1) ((xs ((v4_j1086 + 1)).toNat))).bind fun r252 => ck (0 ≤ ((v4_j1086 + 1) : Int) ∧ ((v4_j1086 + 1) : Int) < (L : Int)) (cO (σ_j1086) (u2) 5 ((f_X6_further (σ_j1086) (u2) ((xs ((v4_j1086 + 1)).toNat))).bind fun r255 => cEq (r252) (r255) (some (.inl (cn - 1, (v4_j1086 + 8), σ_j1086))) (ex (some (0)))))))
noncomputable def f_L_law_j1049 (xs : Nat → Int) (L : Nat) (b : Nat) (u1 : Nat) (u2 : Nat) (u3 : Nat) (v4_j1049 : Int) (σ_j1049 : St) : Option ((Nat × Int × St) ⊕ (Int)) := ck (0 ≤ ((v4_j1049 + 1) : Int) ∧ ((v4_j1049 + 1) : Int) < (L : Int)) (ck (0 ≤ ((v4_j1049 + 2) : Int) ∧ ((v4_j1049 + 2) : Int) < (L : Int)) (cO (σ_j1049) (u1) 0 (bd2 (f_X1_so (σ_j1049) (u1) ((xs ((v4_j1049 + 1)).toNat)) ((xs ((v4_j1049 + 2)).toNat))) fun r259 σ260 => ck (0 ≤ ((v4_j1049 + 1) : Int) ∧ ((v4_j1049 + 1) : Int) < (L : Int)) (ck (0 ≤ ((v4_j1049 + 2) : Int) ∧ ((v4_j1049 + 2) : Int) < (L : Int)) (cO (σ260) (u2) 5 (bd2 (f_X6_so (σ260) (u2) ((xs ((v4_j1049 + 1)).toNat)) ((xs ((v4_j1049 + 2)).toNat))) fun r263 σ264 => cEq (r259) (r263) (some (.inl (cn - 1, (v4_j1049 + 8), σ264))) (ex (some (0)))))))))
noncomputable def f_L_law_j1024 (xs : Nat → Int) (L : Nat) (b : Nat) (u1 : Nat) (u2 : Nat) (u3 : Nat) (v4_j1024 : Int) (σ_j1024 : St) : Option ((Nat × Int × St) ⊕ (Int)) := ck (0 ≤ ((v4_j1024 + 1) : Int) ∧ ((v4_j1024 + 1) : Int) < (L : Int)) (cO (σ_j1024) (u1) 0 (bd2 (f_X1_fits (σ_j1024) (u1) ((xs ((v4_j1024 + 1)).toNat))) fun r268 σ269 => ck (0 ≤ ((v4_j1024 + 1) : Int) ∧ ((v4_j1024 + 1) : Int) < (L : Int)) (cO (σ269) (u2) 5 (bd2 (f_X6_fits (σ269) (u2) ((xs ((v4_j1024 + 1)).toNat))) fun r272 σ273 => cEq (r268) (r272) (some (.inl (cn - 1, (v4_j1024 + 8), σ273))) (ex (some (0)))))))
noncomputable def f_L_law_j987 (xs : Nat → Int) (L : Nat) (b : Nat) (u1 : Nat) (u2 : Nat) (u3 : Nat) (v4_j987 : Int) (σ_j987 : St) : Option ((Nat × Int × St) ⊕ (Int)) := ck (0 ≤ ((v4_j987 + 1) : Int) ∧ ((v4_j987 + 1) : Int) < (L : Int)) (ck (0 ≤ ((v4_j987 + 2) : Int) ∧ ((v4_j987 + 2) : Int) < (L : Int)) (cO (σ_j987) (u1) 0 ((f_X1_asked (σ_j987) (u1) ((xs ((v4_j987 + 1)).toNat)) ((xs ((v4_j987 + 2)).toNat))).bind fun r277 => ck (0 ≤ ((v4_j987 + 1) : Int) ∧ ((v4_j987 + 1) : Int) < (L : Int)) (ck (0 ≤ ((v4_j987 + 2) : Int) ∧ ((v4_j987 + 2) : Int) < (L : Int)) (cO (σ_j987) (u2) 5 ((f_X6_asked (σ_j987) (u2) ((xs ((v4_j987 + 1)).toNat)) ((xs ((v4_j987 + 2)).toNat))).bind fun r280 => cEq (r277) (r280) (some (.inl (cn - 1, (v4_j987 + 8), σ_j987))) (ex (some (0)))))))))
noncomputable def f_L_law_j886 (xs : Nat → Int) (L : Nat) (b : Nat) (u1 : Nat) (u2 : Nat) (u3 : Nat) (v4_j886 : Int) (σ_j886 : St) : Option ((Nat × Int × St) ⊕ (Int)) := ck (0 ≤ ((v4_j886 + 1) : Int) ∧ ((v4_j886 + 1) : Int) < (L : Int)) (ck (0 ≤ ((v4_j886 + 2) : Int) ∧ ((v4_j886 + 2) : Int) < (L : Int)) (ck (0 ≤ ((v4_j886 + 3) : Int) ∧ ((v4_j886 + 3) : Int) < (L : Int)) (ck (0 ≤ ((v4_j886 + 4) : Int) ∧ ((v4_j886 + 4) : Int) < (L : Int)) (ck (0 ≤ ((v4_j886 + 5) : Int) ∧ ((v4_j886 + 5) : Int) < (L : Int)) (ck (0 ≤ ((v4_j886 + 6) : Int) ∧ ((v4_j886 + 6) : Int) < (L : Int)) (ck (0 ≤ ((v4_j886 + 7) : Int) ∧ ((v4_j886 + 7) : Int) < (L : Int)) (cO (σ_j886) (u1) 0 (bd2 (f_X1_ask (σ_j886) (u1) ((xs ((v4_j886 + 1)).toNat)) ((xs ((v4_j886 + 2)).toNat)) ((xs ((v4_j886 + 3)).toNat)) ((xs ((v4_j886 + 4)).toNat)) ((xs ((v4_j886 + 5)).toNat)) ((xs ((v4_j886 + 6)).toNat)) ((xs ((v4_j886 + 7)).toNat))) fun r284 σ285 => ck (0 ≤ ((v4_j886 + 1) : Int) ∧ ((v4_j886 + 1) : Int) < (L : Int)) (ck (0 ≤ ((v4_j886 + 2) : Int) ∧ ((v4_j886 + 2) : Int) < (L : Int)) (ck (0 ≤ ((v4_j886 + 3) : Int) ∧ ((v4_j886 + 3) : Int) < (L : Int)) (ck (0 ≤ ((v4_j886 + 4) : Int) ∧ ((v4_j886 + 4) : Int) < (L : Int)) (ck (0 ≤ ((v4_j886 + 5) : Int) ∧ ((v4_j886 + 5) : Int) < (L : Int)) (ck (0 ≤ ((v4_j886 + 6) : Int) ∧ ((v4_j886 + 6) : Int) < (L : Int)) (ck (0 ≤ ((v4_j886 + 7) : Int) ∧ ((v4_j886 + 7) : Int) < (L : Int)) (cO (σ285) (u2) 5 (bd2 (f_X6_ask (σ285) (u2) ((xs ((v4_j886 + 1)).toNat)) ((xs ((v4_j886 + 2)).toNat)) ((xs ((v4_j886 + 3)).toNat)) ((xs ((v4_j886 + 4)).toNat)) ((xs ((v4_j886 + 5)).toNat)) ((xs ((v4_j886 + 6)).toNat)) ((xs ((v4_j886 + 7)).toNat))) fun r288 σ289 => cEq (r284) (r288) (some (.inl (cn - 1, (v4_j886 + 8), σ289))) (ex (some (0)))))))))))))))))))
noncomputable def f_L_law_j799 (xs : Nat → Int) (L : Nat) (b : Nat) (u1 : Nat) (u2 : Nat) (u3 : Nat) (v4_j799 : Int) (σ_j799 : St) : Option ((Nat × Int × St) ⊕ (Int)) := ck (0 ≤ ((v4_j799 + 1) : Int) ∧ ((v4_j799 + 1) : Int) < (L : Int)) (ck (0 ≤ ((v4_j799 + 2) : Int) ∧ ((v4_j799 + 2) : Int) < (L : Int)) (ck (0 ≤ ((v4_j799 + 3) : Int) ∧ ((v4_j799 + 3) : Int) < (L : Int)) (ck (0 ≤ ((v4_j799 + 4) : Int) ∧ ((v4_j799 + 4) : Int) < (L : Int)) (ck (0 ≤ ((v4_j799 + 5) : Int) ∧ ((v4_j799 + 5) : Int) < (L : Int)) (ck (0 ≤ ((v4_j799 + 6) : Int) ∧ ((v4_j799 + 6) : Int) < (L : Int)) (cO (σ_j799) (u1) 0 (bd2 (f_X1_answers (σ_j799) (u1) ((xs ((v4_j799 + 1)).toNat)) ((xs ((v4_j799 + 2)).toNat)) ((xs ((v4_j799 + 3)).toNat)) ((xs ((v4_j799 + 4)).toNat)) ((xs ((v4_j799 + 5)).toNat)) ((xs ((v4_j799 + 6)).toNat))) fun r293 σ294 => ck (0 ≤ ((v4_j799 + 1) : Int) ∧ ((v4_j799 + 1) : Int) < (L : Int)) (ck (0 ≤ ((v4_j799 + 2) : Int) ∧ ((v4_j799 + 2) : Int) < (L : Int)) (ck (0 ≤ ((v4_j799 + 3) : Int) ∧ ((v4_j799 + 3) : Int) < (L : Int)) (ck (0 ≤ ((v4_j799 + 4) : Int) ∧ ((v4_j799 + 4) : Int) < (L : Int)) (ck (0 ≤ ((v4_j799 + 5) : Int) ∧ ((v4_j799 + 5) : Int) < (L : Int)) (ck (0 ≤ ((v4_j799 + 6) : Int) ∧ ((v4_j799 + 6) : Int) < (L : Int)) (cO (σ294) (u2) 5 (bd2 (f_X6_answers (σ294) (u2) ((xs ((v4_j799 + 1)).toNat)) ((xs ((v4_j799 + 2)).toNat)) ((xs ((v4_j799 + 3)).toNat)) ((xs ((v4_j799 + 4)).toNat)) ((xs ((v4_j799 + 5)).toNat)) ((xs ((v4_j799 + 6)).toNat))) fun r297 σ298 => cEq (r293) (r297) (some (.inl (cn - 1, (v4_j799 + 8), σ298))) (ex (some (0)))))))))))))))))
noncomputable def f_L_law_j698 (xs : Nat → Int) (L : Nat) (b : Nat) (u1 : Nat) (u2 : Nat) (u3 : Nat) (v4_j698 : Int) (σ_j698 : St) : Option ((Nat × Int × St) ⊕ (Int)) := ck (0 ≤ ((v4_j698 + 1) : Int) ∧ ((v4_j698 + 1) : Int) < (L : Int)) (ck (0 ≤ ((v4_j698 + 2) : Int) ∧ ((v4_j698 + 2) : Int) < (L : Int)) (ck (0 ≤ ((v4_j698 + 3) : Int) ∧ ((v4_j698 + 3) : Int) < (L : Int)) (ck (0 ≤ ((v4_j698 + 4) : Int) ∧ ((v4_j698 + 4) : Int) < (L : Int)) (ck (0 ≤ ((v4_j698 + 5) : Int) ∧ ((v4_j698 + 5) : Int) < (L : Int)) (ck (0 ≤ ((v4_j698 + 6) : Int) ∧ ((v4_j698 + 6) : Int) < (L : Int)) (ck (0 ≤ ((v4_j698 + 7) : Int) ∧ ((v4_j698 + 7) : Int) < (L : Int)) (cO (σ_j698) (u1) 0 (bd2 (f_X1_way (σ_j698) (u1) ((xs ((v4_j698 + 1)).toNat)) ((xs ((v4_j698 + 2)).toNat)) ((xs ((v4_j698 + 3)).toNat)) ((xs ((v4_j698 + 4)).toNat)) ((xs ((v4_j698 + 5)).toNat)) ((xs ((v4_j698 + 6)).toNat)) ((xs ((v4_j698 + 7)).toNat))) fun r302 σ303 => ck (0 ≤ ((v4_j698 + 1) : Int) ∧ ((v4_j698 + 1) : Int) < (L : Int)) (ck (0 ≤ ((v4_j698 + 2) : Int) ∧ ((v4_j698 + 2) : Int) < (L : Int)) (ck (0 ≤ ((v4_j698 + 3) : Int) ∧ ((v4_j698 + 3) : Int) < (L : Int)) (ck (0 ≤ ((v4_j698 + 4) : Int) ∧ ((v4_j698 + 4) : Int) < (L : Int)) (ck (0 ≤ ((v4_j698 + 5) : Int) ∧ ((v4_j698 + 5) : Int) < (L : Int)) (ck (0 ≤ ((v4_j698 + 6) : Int) ∧ ((v4_j698 + 6) : Int) < (L : Int)) (ck (0 ≤ ((v4_j698 + 7) : Int) ∧ ((v4_j698 + 7) : Int) < (L : Int)) (cO (σ303) (u2) 5 (bd2 (f_X6_way (σ303) (u2) ((xs ((v4_j698 + 1)).toNat)) ((xs ((v4_j698 + 2)).toNat)) ((xs ((v4_j698 + 3)).toNat)) ((xs ((v4_j698 + 4)).toNat)) ((xs ((v4_j698 + 5)).toNat)) ((xs ((v4_j698 + 6)).toNat)) ((xs ((v4_j698 + 7)).toNat))) fun r306 σ307 => cEq (r302) (r306) (some (.inl (cn - 1, (v4_j698 + 8), σ307))) (ex (some (0)))))))))))))))))))
noncomputable def f_L_law_j661 (xs : Nat → Int) (L : Nat) (b : Nat) (u1 : Nat) (u2 : Nat) (u3 : Nat) (v4_j661 : Int) (σ_j661 : St) : Option ((Nat × Int × St) ⊕ (Int)) := ck (0 ≤ ((v4_j661 + 1) : Int) ∧ ((v4_j661 + 1) : Int) < (L : Int)) (ck (0 ≤ ((v4_j661 + 2) : Int) ∧ ((v4_j661 + 2) : Int) < (L : Int)) (cO (σ_j661) (u1) 0 ((f_X1_kind (σ_j661) (u1) ((xs ((v4_j661 + 1)).toNat)) ((xs ((v4_j661 + 2)).toNat))).bind fun r311 => ck (0 ≤ ((v4_j661 + 1) : Int) ∧ ((v4_j661 + 1) : Int) < (L : Int)) (ck (0 ≤ ((v4_j661 + 2) : Int) ∧ ((v4_j661 + 2) : Int) < (L : Int)) (cO (σ_j661) (u2) 5 ((f_X6_kind (σ_j661) (u2) ((xs ((v4_j661 + 1)).toNat)) ((xs ((v4_j661 + 2)).toNat))).bind fun r314 => cEq (r311) (r314) (some (.inl (cn - 1, (v4_j661 + 8), σ_j661))) (ex (some (0)))))))))
noncomputable def f_L_law_j612 (xs : Nat → Int) (L : Nat) (b : Nat) (u1 : Nat) (u2 : Nat) (u3 : Nat) (v4_j612 : Int) (σ_j612 : St) : Option ((Nat × Int × St) ⊕ (Int)) := ck (0 ≤ ((v4_j612 + 1) : Int) ∧ ((v4_j612 + 1) : Int) < (L : Int)) (ck (0 ≤ ((v4_j612 + 2) : Int) ∧ ((v4_j612 + 2) : Int) < (L : Int)) (ck (0 ≤ ((v4_j612 + 3) : Int) ∧ ((v4_j612 + 3) : Int) < (L : Int)) (cO (σ_j612) (u1) 0 ((f_X1_many (σ_j612) (u1) ((xs ((v4_j612 + 1)).toNat)) ((xs ((v4_j612 + 2)).toNat)) ((xs ((v4_j612 + 3)).toNat))).bind fun r318 => ck (0 ≤ ((v4_j612 + 1) : Int) ∧ ((v4_j612 + 1) : Int) < (L : Int)) (ck (0 ≤ ((v4_j612 + 2) : Int) ∧ ((v4_j612 + 2) : Int) < (L : Int)) (ck (0 ≤ ((v4_j612 + 3) : Int) ∧ ((v4_j612 + 3) : Int) < (L : Int)) (cO (σ_j612) (u2) 5 ((f_X6_many (σ_j612) (u2) ((xs ((v4_j612 + 1)).toNat)) ((xs ((v4_j612 + 2)).toNat)) ((xs ((v4_j612 + 3)).toNat))).bind fun r321 => cEq (r318) (r321) (some (.inl (cn - 1, (v4_j612 + 8), σ_j612))) (ex (some (0)))))))))))
noncomputable def f_L_law_j525 (xs : Nat → Int) (L : Nat) (b : Nat) (u1 : Nat) (u2 : Nat) (u3 : Nat) (v4_j525 : Int) (σ_j525 : St) : Option ((Nat × Int × St) ⊕ (Int)) := ck (0 ≤ ((v4_j525 + 1) : Int) ∧ ((v4_j525 + 1) : Int) < (L : Int)) (ck (0 ≤ ((v4_j525 + 2) : Int) ∧ ((v4_j525 + 2) : Int) < (L : Int)) (ck (0 ≤ ((v4_j525 + 3) : Int) ∧ ((v4_j525 + 3) : Int) < (L : Int)) (ck (0 ≤ ((v4_j525 + 4) : Int) ∧ ((v4_j525 + 4) : Int) < (L : Int)) (ck (0 ≤ ((v4_j525 + 5) : Int) ∧ ((v4_j525 + 5) : Int) < (L : Int)) (ck (0 ≤ ((v4_j525 + 6) : Int) ∧ ((v4_j525 + 6) : Int) < (L : Int)) (cO (σ_j525) (u1) 0 ((f_X1_turned (σ_j525) (u1) ((xs ((v4_j525 + 1)).toNat)) ((xs ((v4_j525 + 2)).toNat)) ((xs ((v4_j525 + 3)).toNat)) ((xs ((v4_j525 + 4)).toNat)) ((xs ((v4_j525 + 5)).toNat)) ((xs ((v4_j525 + 6)).toNat))).bind fun r325 => ck (0 ≤ ((v4_j525 + 1) : Int) ∧ ((v4_j525 + 1) : Int) < (L : Int)) (ck (0 ≤ ((v4_j525 + 2) : Int) ∧ ((v4_j525 + 2) : Int) < (L : Int)) (ck (0 ≤ ((v4_j525 + 3) : Int) ∧ ((v4_j525 + 3) : Int) < (L : Int)) (ck (0 ≤ ((v4_j525 + 4) : Int) ∧ ((v4_j525 + 4) : Int) < (L : Int)) (ck (0 ≤ ((v4_j525 + 5) : Int) ∧ ((v4_j525 + 5) : Int) < (L : Int)) (ck (0 ≤ ((v4_j525 + 6) : Int) ∧ ((v4_j525 + 6) : Int) < (L : Int)) (cO (σ_j525) (u2) 5 ((f_X6_turned (σ_j525) (u2) ((xs ((v4_j525 + 1)).toNat)) ((xs ((v4_j525 + 2)).toNat)) ((xs ((v4_j525 + 3)).toNat)) ((xs ((v4_j525 + 4)).toNat)) ((xs ((v4_j525 + 5)).toNat)) ((xs ((v4_j525 + 6)).toNat))).bind fun r328 => cEq (r325) (r328) (some (.inl (cn - 1, (v4_j525 + 8), σ_j525))) (ex (some (0)))))))))))))))))
noncomputable def f_L_law_j476 (xs : Nat → Int) (L : Nat) (b : Nat) (u1 : Nat) (u2 : Nat) (u3 : Nat) (v4_j476 : Int) (σ_j476 : St) : Option ((Nat × Int × St) ⊕ (Int)) := ck (0 ≤ ((v4_j476 + 1) : Int) ∧ ((v4_j476 + 1) : Int) < (L : Int)) (ck (0 ≤ ((v4_j476 + 2) : Int) ∧ ((v4_j476 + 2) : Int) < (L : Int)) (ck (0 ≤ ((v4_j476 + 3) : Int) ∧ ((v4_j476 + 3) : Int) < (L : Int)) (cO (σ_j476) (u1) 0 ((f_X1_date (σ_j476) (u1) ((xs ((v4_j476 + 1)).toNat)) ((xs ((v4_j476 + 2)).toNat)) ((xs ((v4_j476 + 3)).toNat))).bind fun r332 => ck (0 ≤ ((v4_j476 + 1) : Int) ∧ ((v4_j476 + 1) : Int) < (L : Int)) (ck (0 ≤ ((v4_j476 + 2) : Int) ∧ ((v4_j476 + 2) : Int) < (L : Int)) (ck (0 ≤ ((v4_j476 + 3) : Int) ∧ ((v4_j476 + 3) : Int) < (L : Int)) (cO (σ_j476) (u2) 5 ((f_X6_date (σ_j476) (u2) ((xs ((v4_j476 + 1)).toNat)) ((xs ((v4_j476 + 2)).toNat)) ((xs ((v4_j476 + 3)).toNat))).bind fun r335 => cEq (r332) (r335) (some (.inl (cn - 1, (v4_j476 + 8), σ_j476))) (ex (some (0)))))))))))
noncomputable def f_L_law_j384 (xs : Nat → Int) (L : Nat) (b : Nat) (u1 : Nat) (u2 : Nat) (u3 : Nat) (v4_j384 : Int) (σ_j384 : St) : Option ((Nat × Int × St) ⊕ (Int)) := ck (0 ≤ ((v4_j384 + 1) : Int) ∧ ((v4_j384 + 1) : Int) < (L : Int)) (ck (0 ≤ ((v4_j384 + 2) : Int) ∧ ((v4_j384 + 2) : Int) < (L : Int)) (ck (0 ≤ ((v4_j384 + 3) : Int) ∧ ((v4_j384 + 3) : Int) < (L : Int)) (ck (0 ≤ ((v4_j384 + 4) : Int) ∧ ((v4_j384 + 4) : Int) < (L : Int)) (ck (aR (σ_j384) (u2) 200 = some (u3)) (bd2 (f_X0_day (σ_j384) (u1) ((xs ((v4_j384 + 1)).toNat)) ((xs ((v4_j384 + 2)).toNat)) ((xs ((v4_j384 + 3)).toNat)) ((xs ((v4_j384 + 4)).toNat)) (u2)) fun r339 σ340 => ck (0 ≤ ((v4_j384 + 1) : Int) ∧ ((v4_j384 + 1) : Int) < (L : Int)) (ck (0 ≤ ((v4_j384 + 2) : Int) ∧ ((v4_j384 + 2) : Int) < (L : Int)) (ck (0 ≤ ((v4_j384 + 3) : Int) ∧ ((v4_j384 + 3) : Int) < (L : Int)) (ck (0 ≤ ((v4_j384 + 4) : Int) ∧ ((v4_j384 + 4) : Int) < (L : Int)) (cO (σ340) (u2) 5 (bd2 (f_X6_day (σ340) (u2) ((xs ((v4_j384 + 1)).toNat)) ((xs ((v4_j384 + 2)).toNat)) ((xs ((v4_j384 + 3)).toNat)) ((xs ((v4_j384 + 4)).toNat))) fun r343 σ344 => cO (σ344) (u2) 5 ((f_X6_thrown (σ344) (u2)).bind fun r347 => cEq (r347) (r339) (cEq (r339) (0) (ck (aR (σ344) (u2) 200 = some (u3)) (ck (0 ≤ (0 : Int) ∧ (0 : Int) < 1) (ck (inR (r343)) (jEq ((gJ (σ344) (u2) 200 (0))) (r343) (some (.inl (cn - 1, (v4_j384 + 8), σ344))) (ex (some (0))))))) (some (.inl (cn - 1, (v4_j384 + 8), σ344)))) (ex (some (0))))))))))))))
noncomputable def f_L_law_j359 (xs : Nat → Int) (L : Nat) (b : Nat) (u1 : Nat) (u2 : Nat) (u3 : Nat) (v4_j359 : Int) (σ_j359 : St) : Option ((Nat × Int × St) ⊕ (Int)) := ck (0 ≤ ((v4_j359 + 1) : Int) ∧ ((v4_j359 + 1) : Int) < (L : Int)) (cO (σ_j359) (u1) 0 (bd2 (f_X1_text (σ_j359) (u1) ((xs ((v4_j359 + 1)).toNat))) fun r355 σ356 => ck (0 ≤ ((v4_j359 + 1) : Int) ∧ ((v4_j359 + 1) : Int) < (L : Int)) (cO (σ356) (u2) 5 (bd2 (f_X6_text (σ356) (u2) ((xs ((v4_j359 + 1)).toNat))) fun r359 σ360 => cEq (r355) (r359) (some (.inl (cn - 1, (v4_j359 + 8), σ360))) (ex (some (0)))))))
noncomputable def f_L_law_j334 (xs : Nat → Int) (L : Nat) (b : Nat) (u1 : Nat) (u2 : Nat) (u3 : Nat) (v4_j334 : Int) (σ_j334 : St) : Option ((Nat × Int × St) ⊕ (Int)) := ck (0 ≤ ((v4_j334 + 1) : Int) ∧ ((v4_j334 + 1) : Int) < (L : Int)) (cO (σ_j334) (u1) 0 (bd2 (f_X1_fault (σ_j334) (u1) ((xs ((v4_j334 + 1)).toNat))) fun r364 σ365 => ck (0 ≤ ((v4_j334 + 1) : Int) ∧ ((v4_j334 + 1) : Int) < (L : Int)) (cO (σ365) (u2) 5 (bd2 (f_X6_fault (σ365) (u2) ((xs ((v4_j334 + 1)).toNat))) fun r368 σ369 => cEq (r364) (r368) (some (.inl (cn - 1, (v4_j334 + 8), σ369))) (ex (some (0)))))))
noncomputable def f_L_law_j309 (xs : Nat → Int) (L : Nat) (b : Nat) (u1 : Nat) (u2 : Nat) (u3 : Nat) (v4_j309 : Int) (σ_j309 : St) : Option ((Nat × Int × St) ⊕ (Int)) := ck (0 ≤ ((v4_j309 + 1) : Int) ∧ ((v4_j309 + 1) : Int) < (L : Int)) (cO (σ_j309) (u1) 0 (bd2 (f_X1_end (σ_j309) (u1) ((xs ((v4_j309 + 1)).toNat))) fun r373 σ374 => ck (0 ≤ ((v4_j309 + 1) : Int) ∧ ((v4_j309 + 1) : Int) < (L : Int)) (cO (σ374) (u2) 5 (bd2 (f_X6_end (σ374) (u2) ((xs ((v4_j309 + 1)).toNat))) fun r377 σ378 => cEq (r373) (r377) (some (.inl (cn - 1, (v4_j309 + 8), σ378))) (ex (some (0)))))))
noncomputable def f_L_law_j236 (xs : Nat → Int) (L : Nat) (b : Nat) (u1 : Nat) (u2 : Nat) (u3 : Nat) (v4_j236 : Int) (σ_j236 : St) : Option ((Nat × Int × St) ⊕ (Int)) := ck (0 ≤ ((v4_j236 + 1) : Int) ∧ ((v4_j236 + 1) : Int) < (L : Int)) (ck (0 ≤ ((v4_j236 + 2) : Int) ∧ ((v4_j236 + 2) : Int) < (L : Int)) (ck (0 ≤ ((v4_j236 + 3) : Int) ∧ ((v4_j236 + 3) : Int) < (L : Int)) (ck (0 ≤ ((v4_j236 + 4) : Int) ∧ ((v4_j236 + 4) : Int) < (L : Int)) (ck (0 ≤ ((v4_j236 + 5) : Int) ∧ ((v4_j236 + 5) : Int) < (L : Int)) (cO (σ_j236) (u1) 0 (bd2 (f_X1_feed (σ_j236) (u1) ((xs ((v4_j236 + 1)).toNat)) ((xs ((v4_j236 + 2)).toNat)) ((xs ((v4_j236 + 3)).toNat)) ((xs ((v4_j236 + 4)).toNat)) ((xs ((v4_j236 + 5)).toNat))) fun r382 σ383 => ck (0 ≤ ((v4_j236 + 1) : Int) ∧ ((v4_j236 + 1) : Int) < (L : Int)) (ck (0 ≤ ((v4_j236 + 2) : Int) ∧ ((v4_j236 + 2) : Int) < (L : Int)) (ck (0 ≤ ((v4_j236 + 3) : Int) ∧ ((v4_j236 + 3) : Int) < (L : Int)) (ck (0 ≤ ((v4_j236 + 4) : Int) ∧ ((v4_j236 + 4) : Int) < (L : Int)) (ck (0 ≤ ((v4_j236 + 5) : Int) ∧ ((v4_j236 + 5) : Int) < (L : Int)) (cO (σ383) (u2) 5 (bd2 (f_X6_feed (σ383) (u2) ((xs ((v4_j236 + 1)).toNat)) ((xs ((v4_j236 + 2)).toNat)) ((xs ((v4_j236 + 3)).toNat)) ((xs ((v4_j236 + 4)).toNat)) ((xs ((v4_j236 + 5)).toNat))) fun r386 σ387 => cEq (r382) (r386) (some (.inl (cn - 1, (v4_j236 + 8), σ387))) (ex (some (0)))))))))))))))
noncomputable def f_L_law_b23 (xs : Nat → Int) (L : Nat) (b : Nat) (u1 : Nat) (u2 : Nat) (u3 : Nat) (cn : Nat) (v4_1 : Int) (σ_1 : St) : Option ((Nat × Int × St) ⊕ (Int)) := ck (0 < cn ∧ cn ≤ 64) (cLt (((L : Int) - 8)) (v4_1) (ex (some (1))) (ck (0 ≤ (v4_1 : Int) ∧ (v4_1 : Int) < (L : Int)) (cEq ((bAnd ((xs (v4_1).toNat)) (63))) 0 (f_L_law_j236 xs L (b) (u1) (u2) (u3) (v4_1) (σ_1)) (cEq ((bAnd ((xs (v4_1).toNat)) (63))) 1 (f_L_law_j309 xs L (b) (u1) (u2) (u3) (v4_1) (σ_1)) (cEq ((bAnd ((xs (v4_1).toNat)) (63))) 2 (f_L_law_j334 xs L (b) (u1) (u2) (u3) (v4_1) (σ_1)) (cEq ((bAnd ((xs (v4_1).toNat)) (63))) 3 (f_L_law_j359 xs L (b) (u1) (u2) (u3) (v4_1) (σ_1)) (cEq ((bAnd ((xs (v4_1).toNat)) (63))) 4 (f_L_law_j384 xs L (b) (u1) (u2) (u3) (v4_1) (σ_1)) (cEq ((bAnd ((xs (v4_1).toNat)) (63))) 5 (f_L_law_j476 xs L (b) (u1) (u2) (u3) (v4_1) (σ_1)) (cEq ((bAnd ((xs (v4_1).toNat)) (63))) 6 (f_L_law_j525 xs L (b) (u1) (u2) (u3) (v4_1) (σ_1)) (cEq ((bAnd ((xs (v4_1).toNat)) (63))) 7 (f_L_law_j612 xs L (b) (u1) (u2) (u3) (v4_1) (σ_1)) (cEq ((bAnd ((xs (v4_1).toNat)) (63))) 8 (f_L_law_j661 xs L (b) (u1) (u2) (u3) (v4_1) (σ_1)) (cEq ((bAnd ((xs (v4_1).toNat)) (63))) 9 (f_L_law_j698 xs L (b) (u1) (u2) (u3) (v4_1) (σ_1)) (cEq ((bAnd ((xs (v4_1).toNat)) (63))) 10 (f_L_law_j799 xs L (b) (u1) (u2) (u3) (v4_1) (σ_1)) (cEq ((bAnd ((xs (v4_1).toNat)) (63))) 11 (f_L_law_j886 xs L (b) (u1) (u2) (u3) (v4_1) (σ_1)) (cEq ((bAnd ((xs (v4_1).toNat)) (63))) 12 (f_L_law_j987 xs L (b) (u1) (u2) (u3) (v4_1) (σ_1)) (cEq ((bAnd ((xs (v4_1).toNat)) (63))) 13 (f_L_law_j1024 xs L (b) (u1) (u2) (u3) (v4_1) (σ_1)) (cEq ((bAnd ((xs (v4_1).toNat)) (63))) 14 (f_L_law_j1049 xs L (b) (u1) (u2) (u3) (v4_1) (σ_1)) (cEq ((bAnd ((xs (v4_1).toNat)) (63))) 15 (f_L_law_j1086 xs L (b) (u1) (u2) (u3) (v4_1) (σ_1)) (cEq ((bAnd ((xs (v4_1).toNat)) (63))) 16 (f_L_law_j1111 xs L (b) (u1) (u2) (u3) (v4_1) (σ_1)) (cEq ((bAnd ((xs (v4_1).toNat)) (63))) 17 (f_L_law_j1136 xs L (b) (u1) (u2) (u3) (v4_1) (σ_1)) (cEq ((bAnd ((xs (v4_1).toNat)) (63))) 18 (f_L_law_j1161 xs L (b) (u1) (u2) (u3) (v4_1) (σ_1)) (cEq ((bAnd ((xs (v4_1).toNat)) (63))) 19 (f_L_law_j1222 xs L (b) (u1) (u2) (u3) (v4_1) (σ_1)) (cEq ((bAnd ((xs (v4_1).toNat)) (63))) 20 (f_L_law_j1259 xs L (b) (u1) (u2) (u3) (v4_1) (σ_1)) (cEq ((bAnd ((xs (v4_1).toNat)) (63))) 21 (f_L_law_j1296 xs L (b) (u1) (u2) (u3) (v4_1) (σ_1)) (cEq ((bAnd ((xs (v4_1).toNat)) (63))) 22 (f_L_law_j1357 xs L (b) (u1) (u2) (u3) (v4_1) (σ_1)) (cEq ((bAnd ((xs (v4_1).toNat)) (63))) 23 (f_L_law_j1394 xs L (b) (u1) (u2) (u3) (v4_1) (σ_1)) (cEq ((bAnd ((xs (v4_1).toNat)) (63))) 24 (f_L_law_j1419 xs L (b) (u1) (u2) (u3) (v4_1) (σ_1)) (cEq ((bAnd ((xs (v4_1).toNat)) (63))) 25 (f_L_law_j1492 xs L (b) (u1) (u2) (u3) (v4_1) (σ_1)) (cEq ((bAnd ((xs (v4_1).toNat)) (63))) 26 (f_L_law_j1565 xs L (b) (u1) (u2) (u3) (v4_1) (σ_1)) (cEq ((bAnd ((xs (v4_1).toNat)) (63))) 27 (f_L_law_j1614 xs L (b) (u1) (u2) (u3) (v4_1) (σ_1)) (cEq ((bAnd ((xs (v4_1).toNat)) (63))) 28 (f_L_law_j1675 xs L (b) (u1) (u2) (u3) (v4_1) (σ_1)) (cEq ((bAnd ((xs (v4_1).toNat)) (63))) 29 (f_L_law_j1724 xs L (b) (u1) (u2) (u3) (v4_1) (σ_1)) (cEq ((bAnd ((xs (v4_1).toNat)) (63))) 30 (f_L_law_j1785 xs L (b) (u1) (u2) (u3) (v4_1) (σ_1)) (cEq ((bAnd ((xs (v4_1).toNat)) (63))) 31 (f_L_law_j1846 xs L (b) (u1) (u2) (u3) (v4_1) (σ_1)) (cEq ((bAnd ((xs (v4_1).toNat)) (63))) 32 (f_L_law_j1919 xs L (b) (u1) (u2) (u3) (v4_1) (σ_1)) (cEq ((bAnd ((xs (v4_1).toNat)) (63))) 33 (f_L_law_j1980 xs L (b) (u1) (u2) (u3) (v4_1) (σ_1)) (cEq ((bAnd ((xs (v4_1).toNat)) (63))) 34 (f_L_law_j2005 xs L (b) (u1) (u2) (u3) (v4_1) (σ_1)) (cEq ((bAnd ((xs (v4_1).toNat)) (63))) 35 (f_L_law_j2018 xs L (b) (u1) (u2) (u3) (v4_1) (σ_1)) (cEq ((bAnd ((xs (v4_1).toNat)) (63))) 36 (f_L_law_j2031 xs L (b) (u1) (u2) (u3) (v4_1) (σ_1)) (cEq ((bAnd ((xs (v4_1).toNat)) (63))) 37 (f_L_law_j2080 xs L (b) (u1) (u2) (u3) (v4_1) (σ_1)) (cEq ((bAnd ((xs (v4_1).toNat)) (63))) 38 (f_L_law_j2187 xs L (b) (u1) (u2) (u3) (v4_1) (σ_1)) (cEq ((bAnd ((xs (v4_1).toNat)) (63))) 39 (f_L_law_j2274 xs L (b) (u1) (u2) (u3) (v4_1) (σ_1)) (cEq ((bAnd ((xs (v4_1).toNat)) (63))) 40 (f_L_law_j2335 xs L (b) (u1) (u2) (u3) (v4_1) (σ_1)) (cEq ((bAnd ((xs (v4_1).toNat)) (63))) 41 (f_L_law_j2396 xs L (b) (u1) (u2) (u3) (v4_1) (σ_1)) (cEq ((bAnd ((xs (v4_1).toNat)) (63))) 42 (f_L_law_j2433 xs L (b) (u1) (u2) (u3) (v4_1) (σ_1)) (cEq ((bAnd ((xs (v4_1).toNat)) (63))) 43 (f_L_law_j2482 xs L (b) (u1) (u2) (u3) (v4_1) (σ_1)) (cEq ((bAnd ((xs (v4_1).toNat)) (63))) 44 (f_L_law_j2543 xs L (b) (u1) (u2) (u3) (v4_1) (σ_1)) (some (.inl (cn - 1, (v4_1 + 8), σ_1))))))))))))))))))))))))))))))))))))))))))))))))))
noncomputable def f_L_law (xs : Nat → Int) (L : Nat) (σ : St) (b : Nat) : Option Int := wS (nO (σ) 0) fun σ1 => (f_X1_init (σ1) (nX (σ))).bind fun σ4 => wS (nO (σ4) 5) fun σ5 => (f_X6_init (σ5) (nX (σ4))).bind fun σ8 => cO (σ8) (nX (σ4)) 5 (wS (nA (σ8) (nX (σ4)) 200) fun σ10 => lp (fun s => f_L_law_b23 (xs) (L) (b) (nX (σ)) (nX (σ4)) (nX (σ8)) s.1 s.2.1 s.2.2) (64, 0, σ10))
theorem w_X0_dayO (l : Launch) (hl : l.stackTraces = false) (D : DD) (sz : Nat) {σ : St} {p0 : Nat} {x1 x2 x3 x4 : Int} {p5 o : Nat} {w : Int × St} (ho : aR σ p5 200 = some o) (h : f_X0_day σ p0 x1 x2 x3 x4 p5 = some w) : MtW l yX0_day cX0_day 7 (some FieldType.int) [(0, 14, 17, 13)] ({ frames := 9, cells := 1, slots := 6, locals := 141 } : Room) D sz σ [.ref p0, iv x1, iv x2, iv x3, iv x4, .ref o] (.returned (some (iv w.1))) w.2 1 6 := by
  have h1 := w_X0_day l hl D sz h
  rw [ho] at h1
  exact h1
set_option maxHeartbeats 40000000 in
theorem w_L_law {Γ : Ctx} {xs : Nat → Int} {L : Nat} {σ : St} {b : Nat} {w : Int} (X : Cx Γ cL_law "DayBoyLaw" ({ frames := 15, cells := 601024, slots := 7293034, locals := 634 } : Room)) (hnl : nLc Γ = 7) (htr : (lOf Γ).stackTraces = false) (hs : Scr Γ b L xs) (hLb : L < 2147483648)
    (hend : ∀ {σ : St} {k n pc : Nat} {lv : List (Nat × Value)}, k ≤ 601024 → n ≤ 7293034 → decode cL_law pc = .ok (.ireturn, 1) → V Γ σ k n pc lv [iv 1]) (h : f_L_law xs L σ b = some w) (hw : w = 1) : V Γ σ 0 0 0 [(0, .ref (b))] [] := by
  have hL : ∀ i, i < 7 → i < nLc Γ := fun i q => by rw [hnl]; exact q
  unfold f_L_law at h
  refine r_new (c := 0) (N := 28) X rfl rfl (by decide) q127 q128 q104 dL_law_0 (by decide) (by decide) ?_
  refine r_let h (fun σ1 eσ1 h => ?_)
  have hk2 : cL σ1 (nX (σ)) = some 0 := by rw [eσ1, cL_nO, if_pos rfl]
  refine r_dup X dL_law_3 rfl ?_
  obtain ⟨σ4, h3, h⟩ := bd_some h
  refine r_cI (Wd := 1) X (fun l D sz => w_X1_init l D sz h3) rfl rfl q130 q129 q104 q131 hy_X1_init rfl dL_law_4 rfl rfl (Nat.le_of_ble_eq_true rfl) ⟨Nat.le_of_ble_eq_true rfl, Nat.le_of_ble_eq_true rfl⟩ ⟨Nat.le_of_ble_eq_true rfl, Nat.le_of_ble_eq_true rfl⟩ ?_
  refine r_astore_n X dL_law_7 rfl (hL 1 (by decide)) (lv' := [(1, .ref (nX (σ))), (0, .ref (b))]) rfl ?_
  refine r_new (c := 5) (N := 71) X rfl rfl (by decide) q1233 q1234 q109 dL_law_8 (by decide) (by decide) ?_
  refine r_let h (fun σ5 eσ5 h => ?_)
  have hk6 : cL σ5 (nX (σ4)) = some 5 := by rw [eσ5, cL_nO, if_pos rfl]
  refine r_dup X dL_law_11 rfl ?_
  obtain ⟨σ8, h7, h⟩ := bd_some h
  refine r_cI (Wd := 1) X (fun l D sz => w_X6_init l D sz h7) rfl rfl q1236 q1235 q109 q1237 hy_X6_init rfl dL_law_12 rfl rfl (Nat.le_of_ble_eq_true rfl) ⟨Nat.le_of_ble_eq_true rfl, Nat.le_of_ble_eq_true rfl⟩ ⟨Nat.le_of_ble_eq_true rfl, Nat.le_of_ble_eq_true rfl⟩ ?_
  refine r_astore_n X dL_law_15 rfl (hL 2 (by decide)) (lv' := [(2, .ref (nX (σ4))), (1, .ref (nX (σ))), (0, .ref (b))]) rfl ?_
  refine r_iconst X dL_law_16 ?_
  obtain ⟨ho9, h⟩ := cO_some h
  refine r_newP X ho9.1 dL_law_17 (Nat.le_of_ble_eq_true rfl) (Nat.le_of_ble_eq_true rfl) ?_
  refine r_let h (fun σ10 eσ10 h => ?_)
  refine r_astore_n X dL_law_19 rfl (hL 3 (by decide)) (lv' := [(3, .ref (nX (σ8))), (2, .ref (nX (σ4))), (1, .ref (nX (σ))), (0, .ref (b))]) rfl ?_
  refine r_iconst X dL_law_20 ?_
  refine r_istore X dL_law_21 (hL 4 (by decide)) (lv' := [(4, iv (0)), (3, .ref (nX (σ8))), (2, .ref (nX (σ4))), (1, .ref (nX (σ))), (0, .ref (b))]) rfl ?_
  have L23 : ∀ s : Nat × Int × St, lp (fun s => f_L_law_b23 (xs) (L) (b) (nX (σ)) (nX (σ4)) (nX (σ8)) s.1 s.2.1 s.2.2) s = some w → V Γ (s.2.2) (112 + (64 - s.1) * 86) (504441 + (64 - s.1) * 40302) 23 [(0, .ref (b)), (1, .ref (nX (σ))), (2, .ref (nX (σ4))), (3, .ref (nX (σ8))), (4, iv (s.2.1))] [] := by
    refine lp_rule (P := fun s : Nat × Int × St => V Γ (s.2.2) (112 + (64 - s.1) * 86) (504441 + (64 - s.1) * 40302) 23 [(0, .ref (b)), (1, .ref (nX (σ))), (2, .ref (nX (σ4))), (3, .ref (nX (σ8))), (4, iv (s.2.1))] []) ?_
    intro s z1 h ihb1 ihe1
    obtain ⟨cn, v4_1, σ_1⟩ := s
    have h : f_L_law_b23 (xs) (L) (b) (nX (σ)) (nX (σ4)) (nX (σ8)) cn v4_1 σ_1 = some z1 := h
    unfold f_L_law_b23 at h
    show V Γ σ_1 (112 + (64 - cn) * 86) (504441 + (64 - cn) * 40302) 23 [(0, .ref (b)), (1, .ref (nX (σ))), (2, .ref (nX (σ4))), (3, .ref (nX (σ8))), (4, iv (v4_1))] []
    have J2543 : ∀ (v4_j2543 : Int) (σ_j2543 : St), f_L_law_j2543 (xs) (L) (b) (nX (σ)) (nX (σ4)) (nX (σ8)) v4_j2543 σ_j2543 = some z1 → V Γ σ_j2543 (112 + (64 - cn) * 86) (504441 + (64 - cn) * 40302) 2543 [(0, .ref (b)), (1, .ref (nX (σ))), (2, .ref (nX (σ4))), (3, .ref (nX (σ8))), (4, iv (v4_j2543))] [] := by
      intro v4_j2543 σ_j2543 h
      unfold f_L_law_j2543 at h
      refine r_aload_n X 1 dL_law_2543 rfl rfl ?_
      refine r_aload_n X 0 dL_law_2544 rfl rfl ?_
      refine r_iload X 4 dL_law_2545 rfl ?_
      refine r_iconst X dL_law_2547 ?_
      refine r_iadd X dL_law_2548 ?_
      refine r_sld X hs hLb dL_law_2549 h (fun h => ?_)
      obtain ⟨ho12, h⟩ := cO_some h
      obtain ⟨r13, h11, h⟩ := bd_some h
      refine r_cV (Wd := 0) X (fun l D sz => w_X1_count l D sz h11) ho12.1 rfl q1201 q1202 q1200 q104 q1203 hy_X1_count rfl dL_law_2550 rfl rfl (Nat.le_of_ble_eq_true rfl) ⟨Nat.le_of_ble_eq_true rfl, Nat.le_of_ble_eq_true rfl⟩ ⟨(by show (112 + (64 - cn) * 86) + 0 ≤ 5707; omega), (by show (504441 + (64 - cn) * 40302) + 0 ≤ 3134096; omega)⟩ ?_
      refine r_aload_n X 2 dL_law_2553 rfl rfl ?_
      refine r_aload_n X 0 dL_law_2554 rfl rfl ?_
      refine r_iload X 4 dL_law_2555 rfl ?_
      refine r_iconst X dL_law_2557 ?_
      refine r_iadd X dL_law_2558 ?_
      refine r_sld X hs hLb dL_law_2559 h (fun h => ?_)
      obtain ⟨ho15, h⟩ := cO_some h
      obtain ⟨r16, h14, h⟩ := bd_some h
      refine r_cV (Wd := 1) X (fun l D sz => w_X6_count l D sz h14) ho15.1 rfl q1906 q1907 q1905 q109 q1908 hy_X6_count rfl dL_law_2560 rfl rfl (Nat.le_of_ble_eq_true rfl) ⟨Nat.le_of_ble_eq_true rfl, Nat.le_of_ble_eq_true rfl⟩ ⟨(by show (112 + (64 - cn) * 86) + 0 ≤ 5707; omega), (by show (504441 + (64 - cn) * 40302) + 0 ≤ 3134096; omega)⟩ ?_
      refine r_icmp_eq (tgt := 2568) X dL_law_2563 (by decide) h (fun c17 h => ?_) (fun c17 h => ?_)
      · refine r_iinc X 4 dL_law_2568 rfl (hL 4 (by decide)) (lv' := [(4, iv ((v4_j2543 + 8))), (0, .ref (b)), (1, .ref (nX (σ))), (2, .ref (nX (σ4))), (3, .ref (nX (σ8)))]) rfl ?_
        refine r_goto (tgt := 23) X dL_law_2571 (by decide) ?_
        exact V.widen (by show _ ≤ _; omega) (by show _ ≤ _; omega) <| V.sub [1, 2, 3, 4, 0] rfl (ihb1 _ (Option.some.inj h).symm)
      · have h := ex_some h ihe1
        refine V.widen (k' := 5616) (n' := 3083769) (by show _ ≤ _; omega) (by show _ ≤ _; omega) ?_
        refine r_iconst X dL_law_2566 ?_
        cases h
        exact absurd hw (by decide)
    have J2482 : ∀ (v4_j2482 : Int) (σ_j2482 : St), f_L_law_j2482 (xs) (L) (b) (nX (σ)) (nX (σ4)) (nX (σ8)) v4_j2482 σ_j2482 = some z1 → V Γ σ_j2482 (112 + (64 - cn) * 86) (504441 + (64 - cn) * 40302) 2482 [(0, .ref (b)), (1, .ref (nX (σ))), (2, .ref (nX (σ4))), (3, .ref (nX (σ8))), (4, iv (v4_j2482))] [] := by
      intro v4_j2482 σ_j2482 h
      unfold f_L_law_j2482 at h
      refine r_aload_n X 1 dL_law_2482 rfl rfl ?_
      refine r_aload_n X 0 dL_law_2483 rfl rfl ?_
      refine r_iload X 4 dL_law_2484 rfl ?_
      refine r_iconst X dL_law_2486 ?_
      refine r_iadd X dL_law_2487 ?_
      refine r_sld X hs hLb dL_law_2488 h (fun h => ?_)
      refine r_aload_n X 0 dL_law_2489 rfl rfl ?_
      refine r_iload X 4 dL_law_2490 rfl ?_
      refine r_iconst X dL_law_2492 ?_
      refine r_iadd X dL_law_2493 ?_
      refine r_sld X hs hLb dL_law_2494 h (fun h => ?_)
      refine r_aload_n X 0 dL_law_2495 rfl rfl ?_
      refine r_iload X 4 dL_law_2496 rfl ?_
      refine r_iconst X dL_law_2498 ?_
      refine r_iadd X dL_law_2499 ?_
      refine r_sld X hs hLb dL_law_2500 h (fun h => ?_)
      refine r_aload_n X 0 dL_law_2501 rfl rfl ?_
      refine r_iload X 4 dL_law_2502 rfl ?_
      refine r_iconst X dL_law_2504 ?_
      refine r_iadd X dL_law_2505 ?_
      refine r_sld X hs hLb dL_law_2506 h (fun h => ?_)
      obtain ⟨ho19, h⟩ := cO_some h
      obtain ⟨r20, h18, h⟩ := bd_some h
      refine r_cV (Wd := 0) X (fun l D sz => w_X1_rises l D sz h18) ho19.1 rfl q1186 q1187 q1185 q104 q1188 hy_X1_rises rfl dL_law_2507 rfl rfl (Nat.le_of_ble_eq_true rfl) ⟨Nat.le_of_ble_eq_true rfl, Nat.le_of_ble_eq_true rfl⟩ ⟨(by show (112 + (64 - cn) * 86) + 0 ≤ 5707; omega), (by show (504441 + (64 - cn) * 40302) + 0 ≤ 3134096; omega)⟩ ?_
      refine r_aload_n X 2 dL_law_2510 rfl rfl ?_
      refine r_aload_n X 0 dL_law_2511 rfl rfl ?_
      refine r_iload X 4 dL_law_2512 rfl ?_
      refine r_iconst X dL_law_2514 ?_
      refine r_iadd X dL_law_2515 ?_
      refine r_sld X hs hLb dL_law_2516 h (fun h => ?_)
      refine r_aload_n X 0 dL_law_2517 rfl rfl ?_
      refine r_iload X 4 dL_law_2518 rfl ?_
      refine r_iconst X dL_law_2520 ?_
      refine r_iadd X dL_law_2521 ?_
      refine r_sld X hs hLb dL_law_2522 h (fun h => ?_)
      refine r_aload_n X 0 dL_law_2523 rfl rfl ?_
      refine r_iload X 4 dL_law_2524 rfl ?_
      refine r_iconst X dL_law_2526 ?_
      refine r_iadd X dL_law_2527 ?_
      refine r_sld X hs hLb dL_law_2528 h (fun h => ?_)
      refine r_aload_n X 0 dL_law_2529 rfl rfl ?_
      refine r_iload X 4 dL_law_2530 rfl ?_
      refine r_iconst X dL_law_2532 ?_
      refine r_iadd X dL_law_2533 ?_
      refine r_sld X hs hLb dL_law_2534 h (fun h => ?_)
      obtain ⟨ho22, h⟩ := cO_some h
      obtain ⟨r23, h21, h⟩ := bd_some h
      refine r_cV (Wd := 1) X (fun l D sz => w_X6_rises l D sz h21) ho22.1 rfl q1902 q1903 q1901 q109 q1904 hy_X6_rises rfl dL_law_2535 rfl rfl (Nat.le_of_ble_eq_true rfl) ⟨Nat.le_of_ble_eq_true rfl, Nat.le_of_ble_eq_true rfl⟩ ⟨(by show (112 + (64 - cn) * 86) + 0 ≤ 5707; omega), (by show (504441 + (64 - cn) * 40302) + 0 ≤ 3134096; omega)⟩ ?_
      refine r_icmp_eq (tgt := 2568) X dL_law_2538 (by decide) h (fun c24 h => ?_) (fun c24 h => ?_)
      · refine r_iinc X 4 dL_law_2568 rfl (hL 4 (by decide)) (lv' := [(4, iv ((v4_j2482 + 8))), (0, .ref (b)), (1, .ref (nX (σ))), (2, .ref (nX (σ4))), (3, .ref (nX (σ8)))]) rfl ?_
        refine r_goto (tgt := 23) X dL_law_2571 (by decide) ?_
        exact V.widen (by show _ ≤ _; omega) (by show _ ≤ _; omega) <| V.sub [1, 2, 3, 4, 0] rfl (ihb1 _ (Option.some.inj h).symm)
      · have h := ex_some h ihe1
        refine V.widen (k' := 5616) (n' := 3083769) (by show _ ≤ _; omega) (by show _ ≤ _; omega) ?_
        refine r_iconst X dL_law_2541 ?_
        cases h
        exact absurd hw (by decide)
    have J2433 : ∀ (v4_j2433 : Int) (σ_j2433 : St), f_L_law_j2433 (xs) (L) (b) (nX (σ)) (nX (σ4)) (nX (σ8)) v4_j2433 σ_j2433 = some z1 → V Γ σ_j2433 (112 + (64 - cn) * 86) (504441 + (64 - cn) * 40302) 2433 [(0, .ref (b)), (1, .ref (nX (σ))), (2, .ref (nX (σ4))), (3, .ref (nX (σ8))), (4, iv (v4_j2433))] [] := by
      intro v4_j2433 σ_j2433 h
      unfold f_L_law_j2433 at h
      refine r_aload_n X 1 dL_law_2433 rfl rfl ?_
      refine r_aload_n X 0 dL_law_2434 rfl rfl ?_
      refine r_iload X 4 dL_law_2435 rfl ?_
      refine r_iconst X dL_law_2437 ?_
      refine r_iadd X dL_law_2438 ?_
      refine r_sld X hs hLb dL_law_2439 h (fun h => ?_)
      refine r_aload_n X 0 dL_law_2440 rfl rfl ?_
      refine r_iload X 4 dL_law_2441 rfl ?_
      refine r_iconst X dL_law_2443 ?_
      refine r_iadd X dL_law_2444 ?_
      refine r_sld X hs hLb dL_law_2445 h (fun h => ?_)
      refine r_aload_n X 0 dL_law_2446 rfl rfl ?_
      refine r_iload X 4 dL_law_2447 rfl ?_
      refine r_iconst X dL_law_2449 ?_
      refine r_iadd X dL_law_2450 ?_
      refine r_sld X hs hLb dL_law_2451 h (fun h => ?_)
      obtain ⟨ho26, h⟩ := cO_some h
      obtain ⟨r27, h25, h⟩ := bd_some h
      refine r_cV (Wd := 0) X (fun l D sz => w_X1_unlike l D sz h25) ho26.1 rfl q1178 q1179 q1177 q104 q1180 hy_X1_unlike rfl dL_law_2452 rfl rfl (Nat.le_of_ble_eq_true rfl) ⟨Nat.le_of_ble_eq_true rfl, Nat.le_of_ble_eq_true rfl⟩ ⟨(by show (112 + (64 - cn) * 86) + 0 ≤ 5707; omega), (by show (504441 + (64 - cn) * 40302) + 0 ≤ 3134096; omega)⟩ ?_
      refine r_aload_n X 2 dL_law_2455 rfl rfl ?_
      refine r_aload_n X 0 dL_law_2456 rfl rfl ?_
      refine r_iload X 4 dL_law_2457 rfl ?_
      refine r_iconst X dL_law_2459 ?_
      refine r_iadd X dL_law_2460 ?_
      refine r_sld X hs hLb dL_law_2461 h (fun h => ?_)
      refine r_aload_n X 0 dL_law_2462 rfl rfl ?_
      refine r_iload X 4 dL_law_2463 rfl ?_
      refine r_iconst X dL_law_2465 ?_
      refine r_iadd X dL_law_2466 ?_
      refine r_sld X hs hLb dL_law_2467 h (fun h => ?_)
      refine r_aload_n X 0 dL_law_2468 rfl rfl ?_
      refine r_iload X 4 dL_law_2469 rfl ?_
      refine r_iconst X dL_law_2471 ?_
      refine r_iadd X dL_law_2472 ?_
      refine r_sld X hs hLb dL_law_2473 h (fun h => ?_)
      obtain ⟨ho29, h⟩ := cO_some h
      obtain ⟨r30, h28, h⟩ := bd_some h
      refine r_cV (Wd := 1) X (fun l D sz => w_X6_unlike l D sz h28) ho29.1 rfl q1897 q1898 q1896 q109 q1899 hy_X6_unlike rfl dL_law_2474 rfl rfl (Nat.le_of_ble_eq_true rfl) ⟨Nat.le_of_ble_eq_true rfl, Nat.le_of_ble_eq_true rfl⟩ ⟨(by show (112 + (64 - cn) * 86) + 0 ≤ 5707; omega), (by show (504441 + (64 - cn) * 40302) + 0 ≤ 3134096; omega)⟩ ?_
      refine r_icmp_eq (tgt := 2568) X dL_law_2477 (by decide) h (fun c31 h => ?_) (fun c31 h => ?_)
      · refine r_iinc X 4 dL_law_2568 rfl (hL 4 (by decide)) (lv' := [(4, iv ((v4_j2433 + 8))), (0, .ref (b)), (1, .ref (nX (σ))), (2, .ref (nX (σ4))), (3, .ref (nX (σ8)))]) rfl ?_
        refine r_goto (tgt := 23) X dL_law_2571 (by decide) ?_
        exact V.widen (by show _ ≤ _; omega) (by show _ ≤ _; omega) <| V.sub [1, 2, 3, 4, 0] rfl (ihb1 _ (Option.some.inj h).symm)
      · have h := ex_some h ihe1
        refine V.widen (k' := 5616) (n' := 3083769) (by show _ ≤ _; omega) (by show _ ≤ _; omega) ?_
        refine r_iconst X dL_law_2480 ?_
        cases h
        exact absurd hw (by decide)
    have J2396 : ∀ (v4_j2396 : Int) (σ_j2396 : St), f_L_law_j2396 (xs) (L) (b) (nX (σ)) (nX (σ4)) (nX (σ8)) v4_j2396 σ_j2396 = some z1 → V Γ σ_j2396 (112 + (64 - cn) * 86) (504441 + (64 - cn) * 40302) 2396 [(0, .ref (b)), (1, .ref (nX (σ))), (2, .ref (nX (σ4))), (3, .ref (nX (σ8))), (4, iv (v4_j2396))] [] := by
      intro v4_j2396 σ_j2396 h
      unfold f_L_law_j2396 at h
      refine r_aload_n X 1 dL_law_2396 rfl rfl ?_
      refine r_aload_n X 0 dL_law_2397 rfl rfl ?_
      refine r_iload X 4 dL_law_2398 rfl ?_
      refine r_iconst X dL_law_2400 ?_
      refine r_iadd X dL_law_2401 ?_
      refine r_sld X hs hLb dL_law_2402 h (fun h => ?_)
      refine r_aload_n X 0 dL_law_2403 rfl rfl ?_
      refine r_iload X 4 dL_law_2404 rfl ?_
      refine r_iconst X dL_law_2406 ?_
      refine r_iadd X dL_law_2407 ?_
      refine r_sld X hs hLb dL_law_2408 h (fun h => ?_)
      obtain ⟨ho33, h⟩ := cO_some h
      obtain ⟨r34, σ35, h32, h⟩ := bd2_some h
      refine r_cV (Wd := 0) X (fun l D sz => w_X1_spare l D sz h32) ho33.1 rfl q1173 q1174 q1172 q104 q1175 hy_X1_spare rfl dL_law_2409 rfl rfl (Nat.le_of_ble_eq_true rfl) ⟨Nat.le_of_ble_eq_true rfl, Nat.le_of_ble_eq_true rfl⟩ ⟨(by show (112 + (64 - cn) * 86) + 0 ≤ 5707; omega), (by show (504441 + (64 - cn) * 40302) + 0 ≤ 3134096; omega)⟩ ?_
      refine r_aload_n X 2 dL_law_2412 rfl rfl ?_
      refine r_aload_n X 0 dL_law_2413 rfl rfl ?_
      refine r_iload X 4 dL_law_2414 rfl ?_
      refine r_iconst X dL_law_2416 ?_
      refine r_iadd X dL_law_2417 ?_
      refine r_sld X hs hLb dL_law_2418 h (fun h => ?_)
      refine r_aload_n X 0 dL_law_2419 rfl rfl ?_
      refine r_iload X 4 dL_law_2420 rfl ?_
      refine r_iconst X dL_law_2422 ?_
      refine r_iadd X dL_law_2423 ?_
      refine r_sld X hs hLb dL_law_2424 h (fun h => ?_)
      obtain ⟨ho37, h⟩ := cO_some h
      obtain ⟨r38, σ39, h36, h⟩ := bd2_some h
      refine r_cV (Wd := 1) X (fun l D sz => w_X6_spare l D sz h36) ho37.1 rfl q1893 q1894 q1892 q109 q1895 hy_X6_spare rfl dL_law_2425 rfl rfl (Nat.le_of_ble_eq_true rfl) ⟨Nat.le_of_ble_eq_true rfl, Nat.le_of_ble_eq_true rfl⟩ ⟨(by show (112 + (64 - cn) * 86) + 0 ≤ 5707; omega), (by show (504441 + (64 - cn) * 40302) + 0 ≤ 3134096; omega)⟩ ?_
      refine r_icmp_eq (tgt := 2568) X dL_law_2428 (by decide) h (fun c40 h => ?_) (fun c40 h => ?_)
      · refine r_iinc X 4 dL_law_2568 rfl (hL 4 (by decide)) (lv' := [(4, iv ((v4_j2396 + 8))), (0, .ref (b)), (1, .ref (nX (σ))), (2, .ref (nX (σ4))), (3, .ref (nX (σ8)))]) rfl ?_
        refine r_goto (tgt := 23) X dL_law_2571 (by decide) ?_
        exact V.widen (by show _ ≤ _; omega) (by show _ ≤ _; omega) <| V.sub [1, 2, 3, 4, 0] rfl (ihb1 _ (Option.some.inj h).symm)
      · have h := ex_some h ihe1
        refine V.widen (k' := 5616) (n' := 3083769) (by show _ ≤ _; omega) (by show _ ≤ _; omega) ?_
        refine r_iconst X dL_law_2431 ?_
        cases h
        exact absurd hw (by decide)
    have J2335 : ∀ (v4_j2335 : Int) (σ_j2335 : St), f_L_law_j2335 (xs) (L) (b) (nX (σ)) (nX (σ4)) (nX (σ8)) v4_j2335 σ_j2335 = some z1 → V Γ σ_j2335 (112 + (64 - cn) * 86) (504441 + (64 - cn) * 40302) 2335 [(0, .ref (b)), (1, .ref (nX (σ))), (2, .ref (nX (σ4))), (3, .ref (nX (σ8))), (4, iv (v4_j2335))] [] := by
      intro v4_j2335 σ_j2335 h
      unfold f_L_law_j2335 at h
      refine r_aload_n X 1 dL_law_2335 rfl rfl ?_
      refine r_aload_n X 0 dL_law_2336 rfl rfl ?_
      refine r_iload X 4 dL_law_2337 rfl ?_
      refine r_iconst X dL_law_2339 ?_
      refine r_iadd X dL_law_2340 ?_
      refine r_sld X hs hLb dL_law_2341 h (fun h => ?_)
      refine r_aload_n X 0 dL_law_2342 rfl rfl ?_
      refine r_iload X 4 dL_law_2343 rfl ?_
      refine r_iconst X dL_law_2345 ?_
      refine r_iadd X dL_law_2346 ?_
      refine r_sld X hs hLb dL_law_2347 h (fun h => ?_)
      refine r_aload_n X 0 dL_law_2348 rfl rfl ?_
      refine r_iload X 4 dL_law_2349 rfl ?_
      refine r_iconst X dL_law_2351 ?_
      refine r_iadd X dL_law_2352 ?_
      refine r_sld X hs hLb dL_law_2353 h (fun h => ?_)
      refine r_aload_n X 0 dL_law_2354 rfl rfl ?_
      refine r_iload X 4 dL_law_2355 rfl ?_
      refine r_iconst X dL_law_2357 ?_
      refine r_iadd X dL_law_2358 ?_
      refine r_sld X hs hLb dL_law_2359 h (fun h => ?_)
      obtain ⟨ho42, h⟩ := cO_some h
      obtain ⟨r43, h41, h⟩ := bd_some h
      refine r_cV (Wd := 0) X (fun l D sz => w_X1_lacks l D sz h41) ho42.1 rfl q1165 q1166 q1164 q104 q1167 hy_X1_lacks rfl dL_law_2360 rfl rfl (Nat.le_of_ble_eq_true rfl) ⟨Nat.le_of_ble_eq_true rfl, Nat.le_of_ble_eq_true rfl⟩ ⟨(by show (112 + (64 - cn) * 86) + 0 ≤ 5707; omega), (by show (504441 + (64 - cn) * 40302) + 0 ≤ 3134096; omega)⟩ ?_
      refine r_aload_n X 2 dL_law_2363 rfl rfl ?_
      refine r_aload_n X 0 dL_law_2364 rfl rfl ?_
      refine r_iload X 4 dL_law_2365 rfl ?_
      refine r_iconst X dL_law_2367 ?_
      refine r_iadd X dL_law_2368 ?_
      refine r_sld X hs hLb dL_law_2369 h (fun h => ?_)
      refine r_aload_n X 0 dL_law_2370 rfl rfl ?_
      refine r_iload X 4 dL_law_2371 rfl ?_
      refine r_iconst X dL_law_2373 ?_
      refine r_iadd X dL_law_2374 ?_
      refine r_sld X hs hLb dL_law_2375 h (fun h => ?_)
      refine r_aload_n X 0 dL_law_2376 rfl rfl ?_
      refine r_iload X 4 dL_law_2377 rfl ?_
      refine r_iconst X dL_law_2379 ?_
      refine r_iadd X dL_law_2380 ?_
      refine r_sld X hs hLb dL_law_2381 h (fun h => ?_)
      refine r_aload_n X 0 dL_law_2382 rfl rfl ?_
      refine r_iload X 4 dL_law_2383 rfl ?_
      refine r_iconst X dL_law_2385 ?_
      refine r_iadd X dL_law_2386 ?_
      refine r_sld X hs hLb dL_law_2387 h (fun h => ?_)
      obtain ⟨ho45, h⟩ := cO_some h
      obtain ⟨r46, h44, h⟩ := bd_some h
      refine r_cV (Wd := 1) X (fun l D sz => w_X6_lacks l D sz h44) ho45.1 rfl q1881 q1882 q1880 q109 q1883 hy_X6_lacks rfl dL_law_2388 rfl rfl (Nat.le_of_ble_eq_true rfl) ⟨Nat.le_of_ble_eq_true rfl, Nat.le_of_ble_eq_true rfl⟩ ⟨(by show (112 + (64 - cn) * 86) + 0 ≤ 5707; omega), (by show (504441 + (64 - cn) * 40302) + 0 ≤ 3134096; omega)⟩ ?_
      refine r_icmp_eq (tgt := 2568) X dL_law_2391 (by decide) h (fun c47 h => ?_) (fun c47 h => ?_)
      · refine r_iinc X 4 dL_law_2568 rfl (hL 4 (by decide)) (lv' := [(4, iv ((v4_j2335 + 8))), (0, .ref (b)), (1, .ref (nX (σ))), (2, .ref (nX (σ4))), (3, .ref (nX (σ8)))]) rfl ?_
        refine r_goto (tgt := 23) X dL_law_2571 (by decide) ?_
        exact V.widen (by show _ ≤ _; omega) (by show _ ≤ _; omega) <| V.sub [1, 2, 3, 4, 0] rfl (ihb1 _ (Option.some.inj h).symm)
      · have h := ex_some h ihe1
        refine V.widen (k' := 5616) (n' := 3083769) (by show _ ≤ _; omega) (by show _ ≤ _; omega) ?_
        refine r_iconst X dL_law_2394 ?_
        cases h
        exact absurd hw (by decide)
    have J2274 : ∀ (v4_j2274 : Int) (σ_j2274 : St), f_L_law_j2274 (xs) (L) (b) (nX (σ)) (nX (σ4)) (nX (σ8)) v4_j2274 σ_j2274 = some z1 → V Γ σ_j2274 (112 + (64 - cn) * 86) (504441 + (64 - cn) * 40302) 2274 [(0, .ref (b)), (1, .ref (nX (σ))), (2, .ref (nX (σ4))), (3, .ref (nX (σ8))), (4, iv (v4_j2274))] [] := by
      intro v4_j2274 σ_j2274 h
      unfold f_L_law_j2274 at h
      refine r_aload_n X 1 dL_law_2274 rfl rfl ?_
      refine r_aload_n X 0 dL_law_2275 rfl rfl ?_
      refine r_iload X 4 dL_law_2276 rfl ?_
      refine r_iconst X dL_law_2278 ?_
      refine r_iadd X dL_law_2279 ?_
      refine r_sld X hs hLb dL_law_2280 h (fun h => ?_)
      refine r_aload_n X 0 dL_law_2281 rfl rfl ?_
      refine r_iload X 4 dL_law_2282 rfl ?_
      refine r_iconst X dL_law_2284 ?_
      refine r_iadd X dL_law_2285 ?_
      refine r_sld X hs hLb dL_law_2286 h (fun h => ?_)
      refine r_aload_n X 0 dL_law_2287 rfl rfl ?_
      refine r_iload X 4 dL_law_2288 rfl ?_
      refine r_iconst X dL_law_2290 ?_
      refine r_iadd X dL_law_2291 ?_
      refine r_sld X hs hLb dL_law_2292 h (fun h => ?_)
      refine r_aload_n X 0 dL_law_2293 rfl rfl ?_
      refine r_iload X 4 dL_law_2294 rfl ?_
      refine r_iconst X dL_law_2296 ?_
      refine r_iadd X dL_law_2297 ?_
      refine r_sld X hs hLb dL_law_2298 h (fun h => ?_)
      obtain ⟨ho49, h⟩ := cO_some h
      obtain ⟨r50, σ51, h48, h⟩ := bd2_some h
      refine r_cV (Wd := 0) X (fun l D sz => w_X1_right l D sz h48) ho49.1 rfl q1161 q1162 q1160 q104 q1163 hy_X1_right rfl dL_law_2299 rfl rfl (Nat.le_of_ble_eq_true rfl) ⟨Nat.le_of_ble_eq_true rfl, Nat.le_of_ble_eq_true rfl⟩ ⟨(by show (112 + (64 - cn) * 86) + 0 ≤ 5707; omega), (by show (504441 + (64 - cn) * 40302) + 0 ≤ 3134096; omega)⟩ ?_
      refine r_aload_n X 2 dL_law_2302 rfl rfl ?_
      refine r_aload_n X 0 dL_law_2303 rfl rfl ?_
      refine r_iload X 4 dL_law_2304 rfl ?_
      refine r_iconst X dL_law_2306 ?_
      refine r_iadd X dL_law_2307 ?_
      refine r_sld X hs hLb dL_law_2308 h (fun h => ?_)
      refine r_aload_n X 0 dL_law_2309 rfl rfl ?_
      refine r_iload X 4 dL_law_2310 rfl ?_
      refine r_iconst X dL_law_2312 ?_
      refine r_iadd X dL_law_2313 ?_
      refine r_sld X hs hLb dL_law_2314 h (fun h => ?_)
      refine r_aload_n X 0 dL_law_2315 rfl rfl ?_
      refine r_iload X 4 dL_law_2316 rfl ?_
      refine r_iconst X dL_law_2318 ?_
      refine r_iadd X dL_law_2319 ?_
      refine r_sld X hs hLb dL_law_2320 h (fun h => ?_)
      refine r_aload_n X 0 dL_law_2321 rfl rfl ?_
      refine r_iload X 4 dL_law_2322 rfl ?_
      refine r_iconst X dL_law_2324 ?_
      refine r_iadd X dL_law_2325 ?_
      refine r_sld X hs hLb dL_law_2326 h (fun h => ?_)
      obtain ⟨ho53, h⟩ := cO_some h
      obtain ⟨r54, σ55, h52, h⟩ := bd2_some h
      refine r_cV (Wd := 1) X (fun l D sz => w_X6_right l D sz h52) ho53.1 rfl q1877 q1878 q1876 q109 q1879 hy_X6_right rfl dL_law_2327 rfl rfl (Nat.le_of_ble_eq_true rfl) ⟨Nat.le_of_ble_eq_true rfl, Nat.le_of_ble_eq_true rfl⟩ ⟨(by show (112 + (64 - cn) * 86) + 0 ≤ 5707; omega), (by show (504441 + (64 - cn) * 40302) + 0 ≤ 3134096; omega)⟩ ?_
      refine r_icmp_eq (tgt := 2568) X dL_law_2330 (by decide) h (fun c56 h => ?_) (fun c56 h => ?_)
      · refine r_iinc X 4 dL_law_2568 rfl (hL 4 (by decide)) (lv' := [(4, iv ((v4_j2274 + 8))), (0, .ref (b)), (1, .ref (nX (σ))), (2, .ref (nX (σ4))), (3, .ref (nX (σ8)))]) rfl ?_
        refine r_goto (tgt := 23) X dL_law_2571 (by decide) ?_
        exact V.widen (by show _ ≤ _; omega) (by show _ ≤ _; omega) <| V.sub [1, 2, 3, 4, 0] rfl (ihb1 _ (Option.some.inj h).symm)
      · have h := ex_some h ihe1
        refine V.widen (k' := 5616) (n' := 3083769) (by show _ ≤ _; omega) (by show _ ≤ _; omega) ?_
        refine r_iconst X dL_law_2333 ?_
        cases h
        exact absurd hw (by decide)
    have J2187 : ∀ (v4_j2187 : Int) (σ_j2187 : St), f_L_law_j2187 (xs) (L) (b) (nX (σ)) (nX (σ4)) (nX (σ8)) v4_j2187 σ_j2187 = some z1 → V Γ σ_j2187 (112 + (64 - cn) * 86) (504441 + (64 - cn) * 40302) 2187 [(0, .ref (b)), (1, .ref (nX (σ))), (2, .ref (nX (σ4))), (3, .ref (nX (σ8))), (4, iv (v4_j2187))] [] := by
      intro v4_j2187 σ_j2187 h
      unfold f_L_law_j2187 at h
      refine r_aload_n X 1 dL_law_2187 rfl rfl ?_
      refine r_aload_n X 0 dL_law_2188 rfl rfl ?_
      refine r_iload X 4 dL_law_2189 rfl ?_
      refine r_iconst X dL_law_2191 ?_
      refine r_iadd X dL_law_2192 ?_
      refine r_sld X hs hLb dL_law_2193 h (fun h => ?_)
      refine r_aload_n X 0 dL_law_2194 rfl rfl ?_
      refine r_iload X 4 dL_law_2195 rfl ?_
      refine r_iconst X dL_law_2197 ?_
      refine r_iadd X dL_law_2198 ?_
      refine r_sld X hs hLb dL_law_2199 h (fun h => ?_)
      refine r_aload_n X 0 dL_law_2200 rfl rfl ?_
      refine r_iload X 4 dL_law_2201 rfl ?_
      refine r_iconst X dL_law_2203 ?_
      refine r_iadd X dL_law_2204 ?_
      refine r_sld X hs hLb dL_law_2205 h (fun h => ?_)
      refine r_aload_n X 0 dL_law_2206 rfl rfl ?_
      refine r_iload X 4 dL_law_2207 rfl ?_
      refine r_iconst X dL_law_2209 ?_
      refine r_iadd X dL_law_2210 ?_
      refine r_sld X hs hLb dL_law_2211 h (fun h => ?_)
      refine r_aload_n X 0 dL_law_2212 rfl rfl ?_
      refine r_iload X 4 dL_law_2213 rfl ?_
      refine r_iconst X dL_law_2215 ?_
      refine r_iadd X dL_law_2216 ?_
      refine r_sld X hs hLb dL_law_2217 h (fun h => ?_)
      refine r_aload_n X 0 dL_law_2218 rfl rfl ?_
      refine r_iload X 4 dL_law_2219 rfl ?_
      refine r_bipush X dL_law_2221 (by decide) ?_
      refine r_iadd X dL_law_2223 ?_
      refine r_sld X hs hLb dL_law_2224 h (fun h => ?_)
      obtain ⟨ho58, h⟩ := cO_some h
      obtain ⟨r59, h57, h⟩ := bd_some h
      refine r_cV (Wd := 0) X (fun l D sz => w_X1_holds_2 l D sz h57) ho58.1 rfl q1154 q1155 q1153 q104 q1156 hy_X1_holds_2 rfl dL_law_2225 rfl rfl (Nat.le_of_ble_eq_true rfl) ⟨Nat.le_of_ble_eq_true rfl, Nat.le_of_ble_eq_true rfl⟩ ⟨(by show (112 + (64 - cn) * 86) + 0 ≤ 5707; omega), (by show (504441 + (64 - cn) * 40302) + 0 ≤ 3134096; omega)⟩ ?_
      refine r_aload_n X 2 dL_law_2228 rfl rfl ?_
      refine r_aload_n X 0 dL_law_2229 rfl rfl ?_
      refine r_iload X 4 dL_law_2230 rfl ?_
      refine r_iconst X dL_law_2232 ?_
      refine r_iadd X dL_law_2233 ?_
      refine r_sld X hs hLb dL_law_2234 h (fun h => ?_)
      refine r_aload_n X 0 dL_law_2235 rfl rfl ?_
      refine r_iload X 4 dL_law_2236 rfl ?_
      refine r_iconst X dL_law_2238 ?_
      refine r_iadd X dL_law_2239 ?_
      refine r_sld X hs hLb dL_law_2240 h (fun h => ?_)
      refine r_aload_n X 0 dL_law_2241 rfl rfl ?_
      refine r_iload X 4 dL_law_2242 rfl ?_
      refine r_iconst X dL_law_2244 ?_
      refine r_iadd X dL_law_2245 ?_
      refine r_sld X hs hLb dL_law_2246 h (fun h => ?_)
      refine r_aload_n X 0 dL_law_2247 rfl rfl ?_
      refine r_iload X 4 dL_law_2248 rfl ?_
      refine r_iconst X dL_law_2250 ?_
      refine r_iadd X dL_law_2251 ?_
      refine r_sld X hs hLb dL_law_2252 h (fun h => ?_)
      refine r_aload_n X 0 dL_law_2253 rfl rfl ?_
      refine r_iload X 4 dL_law_2254 rfl ?_
      refine r_iconst X dL_law_2256 ?_
      refine r_iadd X dL_law_2257 ?_
      refine r_sld X hs hLb dL_law_2258 h (fun h => ?_)
      refine r_aload_n X 0 dL_law_2259 rfl rfl ?_
      refine r_iload X 4 dL_law_2260 rfl ?_
      refine r_bipush X dL_law_2262 (by decide) ?_
      refine r_iadd X dL_law_2264 ?_
      refine r_sld X hs hLb dL_law_2265 h (fun h => ?_)
      obtain ⟨ho61, h⟩ := cO_some h
      obtain ⟨r62, h60, h⟩ := bd_some h
      refine r_cV (Wd := 1) X (fun l D sz => w_X6_holds l D sz h60) ho61.1 rfl q1861 q1862 q1860 q109 q1863 hy_X6_holds rfl dL_law_2266 rfl rfl (Nat.le_of_ble_eq_true rfl) ⟨Nat.le_of_ble_eq_true rfl, Nat.le_of_ble_eq_true rfl⟩ ⟨(by show (112 + (64 - cn) * 86) + 0 ≤ 5707; omega), (by show (504441 + (64 - cn) * 40302) + 0 ≤ 3134096; omega)⟩ ?_
      refine r_icmp_eq (tgt := 2568) X dL_law_2269 (by decide) h (fun c63 h => ?_) (fun c63 h => ?_)
      · refine r_iinc X 4 dL_law_2568 rfl (hL 4 (by decide)) (lv' := [(4, iv ((v4_j2187 + 8))), (0, .ref (b)), (1, .ref (nX (σ))), (2, .ref (nX (σ4))), (3, .ref (nX (σ8)))]) rfl ?_
        refine r_goto (tgt := 23) X dL_law_2571 (by decide) ?_
        exact V.widen (by show _ ≤ _; omega) (by show _ ≤ _; omega) <| V.sub [1, 2, 3, 4, 0] rfl (ihb1 _ (Option.some.inj h).symm)
      · have h := ex_some h ihe1
        refine V.widen (k' := 5616) (n' := 3083769) (by show _ ≤ _; omega) (by show _ ≤ _; omega) ?_
        refine r_iconst X dL_law_2272 ?_
        cases h
        exact absurd hw (by decide)
    have J2080 : ∀ (v4_j2080 : Int) (σ_j2080 : St), f_L_law_j2080 (xs) (L) (b) (nX (σ)) (nX (σ4)) (nX (σ8)) v4_j2080 σ_j2080 = some z1 → V Γ σ_j2080 (112 + (64 - cn) * 86) (504441 + (64 - cn) * 40302) 2080 [(0, .ref (b)), (1, .ref (nX (σ))), (2, .ref (nX (σ4))), (3, .ref (nX (σ8))), (4, iv (v4_j2080))] [] := by
      intro v4_j2080 σ_j2080 h
      unfold f_L_law_j2080 at h
      refine r_aload_n X 1 dL_law_2080 rfl rfl ?_
      refine r_aload_n X 0 dL_law_2081 rfl rfl ?_
      refine r_iload X 4 dL_law_2082 rfl ?_
      refine r_iconst X dL_law_2084 ?_
      refine r_iadd X dL_law_2085 ?_
      refine r_sld X hs hLb dL_law_2086 h (fun h => ?_)
      refine r_aload_n X 0 dL_law_2087 rfl rfl ?_
      refine r_iload X 4 dL_law_2088 rfl ?_
      refine r_iconst X dL_law_2090 ?_
      refine r_iadd X dL_law_2091 ?_
      refine r_sld X hs hLb dL_law_2092 h (fun h => ?_)
      obtain ⟨c64, h⟩ := ck_some h
      refine r_i2l X dL_law_2093 c64 ?_
      refine r_bipush X dL_law_2094 (by decide) ?_
      refine r_lshl X dL_law_2096 ?_
      refine r_aload_n X 0 dL_law_2097 rfl rfl ?_
      refine r_iload X 4 dL_law_2098 rfl ?_
      refine r_iconst X dL_law_2100 ?_
      refine r_iadd X dL_law_2101 ?_
      refine r_sld X hs hLb dL_law_2102 h (fun h => ?_)
      obtain ⟨c65, h⟩ := ck_some h
      refine r_i2l X dL_law_2103 c65 ?_
      refine r_ldc2 (z := 4294967295) X q1909 dL_law_2104 rfl ?_
      refine r_land X dL_law_2107 ?_
      refine r_lor X dL_law_2108 ?_
      refine r_aload_n X 0 dL_law_2109 rfl rfl ?_
      refine r_iload X 4 dL_law_2110 rfl ?_
      refine r_iconst X dL_law_2112 ?_
      refine r_iadd X dL_law_2113 ?_
      refine r_sld X hs hLb dL_law_2114 h (fun h => ?_)
      refine r_aload_n X 0 dL_law_2115 rfl rfl ?_
      refine r_iload X 4 dL_law_2116 rfl ?_
      refine r_iconst X dL_law_2118 ?_
      refine r_iadd X dL_law_2119 ?_
      refine r_sld X hs hLb dL_law_2120 h (fun h => ?_)
      refine r_aload_n X 0 dL_law_2121 rfl rfl ?_
      refine r_iload X 4 dL_law_2122 rfl ?_
      refine r_bipush X dL_law_2124 (by decide) ?_
      refine r_iadd X dL_law_2126 ?_
      refine r_sld X hs hLb dL_law_2127 h (fun h => ?_)
      obtain ⟨ho67, h⟩ := cO_some h
      obtain ⟨r68, σ69, h66, h⟩ := bd2_some h
      refine r_cV (Wd := 0) X (fun l D sz => w_X1_run l D sz h66) ho67.1 rfl q1139 q1140 q1138 q104 q1141 hy_X1_run rfl dL_law_2128 rfl rfl (Nat.le_of_ble_eq_true rfl) ⟨Nat.le_of_ble_eq_true rfl, Nat.le_of_ble_eq_true rfl⟩ ⟨(by show (112 + (64 - cn) * 86) + 0 ≤ 5707; omega), (by show (504441 + (64 - cn) * 40302) + 0 ≤ 3134096; omega)⟩ ?_
      refine r_aload_n X 2 dL_law_2131 rfl rfl ?_
      refine r_aload_n X 0 dL_law_2132 rfl rfl ?_
      refine r_iload X 4 dL_law_2133 rfl ?_
      refine r_iconst X dL_law_2135 ?_
      refine r_iadd X dL_law_2136 ?_
      refine r_sld X hs hLb dL_law_2137 h (fun h => ?_)
      refine r_aload_n X 0 dL_law_2138 rfl rfl ?_
      refine r_iload X 4 dL_law_2139 rfl ?_
      refine r_iconst X dL_law_2141 ?_
      refine r_iadd X dL_law_2142 ?_
      refine r_sld X hs hLb dL_law_2143 h (fun h => ?_)
      obtain ⟨c70, h⟩ := ck_some h
      refine r_i2l X dL_law_2144 c70 ?_
      refine r_bipush X dL_law_2145 (by decide) ?_
      refine r_lshl X dL_law_2147 ?_
      refine r_aload_n X 0 dL_law_2148 rfl rfl ?_
      refine r_iload X 4 dL_law_2149 rfl ?_
      refine r_iconst X dL_law_2151 ?_
      refine r_iadd X dL_law_2152 ?_
      refine r_sld X hs hLb dL_law_2153 h (fun h => ?_)
      obtain ⟨c71, h⟩ := ck_some h
      refine r_i2l X dL_law_2154 c71 ?_
      refine r_ldc2 (z := 4294967295) X q1909 dL_law_2155 rfl ?_
      refine r_land X dL_law_2158 ?_
      refine r_lor X dL_law_2159 ?_
      refine r_aload_n X 0 dL_law_2160 rfl rfl ?_
      refine r_iload X 4 dL_law_2161 rfl ?_
      refine r_iconst X dL_law_2163 ?_
      refine r_iadd X dL_law_2164 ?_
      refine r_sld X hs hLb dL_law_2165 h (fun h => ?_)
      refine r_aload_n X 0 dL_law_2166 rfl rfl ?_
      refine r_iload X 4 dL_law_2167 rfl ?_
      refine r_iconst X dL_law_2169 ?_
      refine r_iadd X dL_law_2170 ?_
      refine r_sld X hs hLb dL_law_2171 h (fun h => ?_)
      refine r_aload_n X 0 dL_law_2172 rfl rfl ?_
      refine r_iload X 4 dL_law_2173 rfl ?_
      refine r_bipush X dL_law_2175 (by decide) ?_
      refine r_iadd X dL_law_2177 ?_
      refine r_sld X hs hLb dL_law_2178 h (fun h => ?_)
      obtain ⟨ho73, h⟩ := cO_some h
      obtain ⟨r74, σ75, h72, h⟩ := bd2_some h
      refine r_cV (Wd := 1) X (fun l D sz => w_X6_run l D sz h72) ho73.1 rfl q1847 q1848 q1846 q109 q1849 hy_X6_run rfl dL_law_2179 rfl rfl (Nat.le_of_ble_eq_true rfl) ⟨Nat.le_of_ble_eq_true rfl, Nat.le_of_ble_eq_true rfl⟩ ⟨(by show (112 + (64 - cn) * 86) + 0 ≤ 5707; omega), (by show (504441 + (64 - cn) * 40302) + 0 ≤ 3134096; omega)⟩ ?_
      refine r_icmp_eq (tgt := 2568) X dL_law_2182 (by decide) h (fun c76 h => ?_) (fun c76 h => ?_)
      · refine r_iinc X 4 dL_law_2568 rfl (hL 4 (by decide)) (lv' := [(4, iv ((v4_j2080 + 8))), (0, .ref (b)), (1, .ref (nX (σ))), (2, .ref (nX (σ4))), (3, .ref (nX (σ8)))]) rfl ?_
        refine r_goto (tgt := 23) X dL_law_2571 (by decide) ?_
        exact V.widen (by show _ ≤ _; omega) (by show _ ≤ _; omega) <| V.sub [1, 2, 3, 4, 0] rfl (ihb1 _ (Option.some.inj h).symm)
      · have h := ex_some h ihe1
        refine V.widen (k' := 5616) (n' := 3083769) (by show _ ≤ _; omega) (by show _ ≤ _; omega) ?_
        refine r_iconst X dL_law_2185 ?_
        cases h
        exact absurd hw (by decide)
    have J2031 : ∀ (v4_j2031 : Int) (σ_j2031 : St), f_L_law_j2031 (xs) (L) (b) (nX (σ)) (nX (σ4)) (nX (σ8)) v4_j2031 σ_j2031 = some z1 → V Γ σ_j2031 (112 + (64 - cn) * 86) (504441 + (64 - cn) * 40302) 2031 [(0, .ref (b)), (1, .ref (nX (σ))), (2, .ref (nX (σ4))), (3, .ref (nX (σ8))), (4, iv (v4_j2031))] [] := by
      intro v4_j2031 σ_j2031 h
      unfold f_L_law_j2031 at h
      refine r_aload_n X 1 dL_law_2031 rfl rfl ?_
      refine r_aload_n X 0 dL_law_2032 rfl rfl ?_
      refine r_iload X 4 dL_law_2033 rfl ?_
      refine r_iconst X dL_law_2035 ?_
      refine r_iadd X dL_law_2036 ?_
      refine r_sld X hs hLb dL_law_2037 h (fun h => ?_)
      refine r_aload_n X 0 dL_law_2038 rfl rfl ?_
      refine r_iload X 4 dL_law_2039 rfl ?_
      refine r_iconst X dL_law_2041 ?_
      refine r_iadd X dL_law_2042 ?_
      refine r_sld X hs hLb dL_law_2043 h (fun h => ?_)
      refine r_aload_n X 0 dL_law_2044 rfl rfl ?_
      refine r_iload X 4 dL_law_2045 rfl ?_
      refine r_iconst X dL_law_2047 ?_
      refine r_iadd X dL_law_2048 ?_
      refine r_sld X hs hLb dL_law_2049 h (fun h => ?_)
      obtain ⟨ho78, h⟩ := cO_some h
      obtain ⟨r79, σ80, h77, h⟩ := bd2_some h
      refine r_cV (Wd := 0) X (fun l D sz => w_X1_row l D sz h77) ho78.1 rfl q1131 q1132 q1130 q104 q1133 hy_X1_row rfl dL_law_2050 rfl rfl (Nat.le_of_ble_eq_true rfl) ⟨Nat.le_of_ble_eq_true rfl, Nat.le_of_ble_eq_true rfl⟩ ⟨(by show (112 + (64 - cn) * 86) + 0 ≤ 5707; omega), (by show (504441 + (64 - cn) * 40302) + 0 ≤ 3134096; omega)⟩ ?_
      refine r_aload_n X 2 dL_law_2053 rfl rfl ?_
      refine r_aload_n X 0 dL_law_2054 rfl rfl ?_
      refine r_iload X 4 dL_law_2055 rfl ?_
      refine r_iconst X dL_law_2057 ?_
      refine r_iadd X dL_law_2058 ?_
      refine r_sld X hs hLb dL_law_2059 h (fun h => ?_)
      refine r_aload_n X 0 dL_law_2060 rfl rfl ?_
      refine r_iload X 4 dL_law_2061 rfl ?_
      refine r_iconst X dL_law_2063 ?_
      refine r_iadd X dL_law_2064 ?_
      refine r_sld X hs hLb dL_law_2065 h (fun h => ?_)
      refine r_aload_n X 0 dL_law_2066 rfl rfl ?_
      refine r_iload X 4 dL_law_2067 rfl ?_
      refine r_iconst X dL_law_2069 ?_
      refine r_iadd X dL_law_2070 ?_
      refine r_sld X hs hLb dL_law_2071 h (fun h => ?_)
      obtain ⟨ho82, h⟩ := cO_some h
      obtain ⟨r83, σ84, h81, h⟩ := bd2_some h
      refine r_cV (Wd := 1) X (fun l D sz => w_X6_row l D sz h81) ho82.1 rfl q1843 q1844 q1842 q109 q1845 hy_X6_row rfl dL_law_2072 rfl rfl (Nat.le_of_ble_eq_true rfl) ⟨Nat.le_of_ble_eq_true rfl, Nat.le_of_ble_eq_true rfl⟩ ⟨(by show (112 + (64 - cn) * 86) + 0 ≤ 5707; omega), (by show (504441 + (64 - cn) * 40302) + 0 ≤ 3134096; omega)⟩ ?_
      refine r_icmp_eq (tgt := 2568) X dL_law_2075 (by decide) h (fun c85 h => ?_) (fun c85 h => ?_)
      · refine r_iinc X 4 dL_law_2568 rfl (hL 4 (by decide)) (lv' := [(4, iv ((v4_j2031 + 8))), (0, .ref (b)), (1, .ref (nX (σ))), (2, .ref (nX (σ4))), (3, .ref (nX (σ8)))]) rfl ?_
        refine r_goto (tgt := 23) X dL_law_2571 (by decide) ?_
        exact V.widen (by show _ ≤ _; omega) (by show _ ≤ _; omega) <| V.sub [1, 2, 3, 4, 0] rfl (ihb1 _ (Option.some.inj h).symm)
      · have h := ex_some h ihe1
        refine V.widen (k' := 5616) (n' := 3083769) (by show _ ≤ _; omega) (by show _ ≤ _; omega) ?_
        refine r_iconst X dL_law_2078 ?_
        cases h
        exact absurd hw (by decide)
    have J2018 : ∀ (v4_j2018 : Int) (σ_j2018 : St), f_L_law_j2018 (xs) (L) (b) (nX (σ)) (nX (σ4)) (nX (σ8)) v4_j2018 σ_j2018 = some z1 → V Γ σ_j2018 (112 + (64 - cn) * 86) (504441 + (64 - cn) * 40302) 2018 [(0, .ref (b)), (1, .ref (nX (σ))), (2, .ref (nX (σ4))), (3, .ref (nX (σ8))), (4, iv (v4_j2018))] [] := by
      intro v4_j2018 σ_j2018 h
      unfold f_L_law_j2018 at h
      refine r_aload_n X 1 dL_law_2018 rfl rfl ?_
      obtain ⟨ho87, h⟩ := cO_some h
      obtain ⟨r88, σ89, h86, h⟩ := bd2_some h
      refine r_cV (Wd := 0) X (fun l D sz => w_X1_back l D sz h86) ho87.1 rfl q1197 q1198 q1196 q104 q1199 hy_X1_back rfl dL_law_2019 rfl rfl (Nat.le_of_ble_eq_true rfl) ⟨Nat.le_of_ble_eq_true rfl, Nat.le_of_ble_eq_true rfl⟩ ⟨(by show (112 + (64 - cn) * 86) + 0 ≤ 5707; omega), (by show (504441 + (64 - cn) * 40302) + 0 ≤ 3134096; omega)⟩ ?_
      refine r_aload_n X 2 dL_law_2022 rfl rfl ?_
      obtain ⟨ho91, h⟩ := cO_some h
      obtain ⟨r92, σ93, h90, h⟩ := bd2_some h
      refine r_cV (Wd := 1) X (fun l D sz => w_X6_back l D sz h90) ho91.1 rfl q1839 q1840 q1838 q109 q1841 hy_X6_back rfl dL_law_2023 rfl rfl (Nat.le_of_ble_eq_true rfl) ⟨Nat.le_of_ble_eq_true rfl, Nat.le_of_ble_eq_true rfl⟩ ⟨(by show (112 + (64 - cn) * 86) + 0 ≤ 5707; omega), (by show (504441 + (64 - cn) * 40302) + 0 ≤ 3134096; omega)⟩ ?_
      refine r_icmp_eq (tgt := 2568) X dL_law_2026 (by decide) h (fun c94 h => ?_) (fun c94 h => ?_)
      · refine r_iinc X 4 dL_law_2568 rfl (hL 4 (by decide)) (lv' := [(4, iv ((v4_j2018 + 8))), (0, .ref (b)), (1, .ref (nX (σ))), (2, .ref (nX (σ4))), (3, .ref (nX (σ8)))]) rfl ?_
        refine r_goto (tgt := 23) X dL_law_2571 (by decide) ?_
        exact V.widen (by show _ ≤ _; omega) (by show _ ≤ _; omega) <| V.sub [1, 2, 3, 4, 0] rfl (ihb1 _ (Option.some.inj h).symm)
      · have h := ex_some h ihe1
        refine V.widen (k' := 5616) (n' := 3083769) (by show _ ≤ _; omega) (by show _ ≤ _; omega) ?_
        refine r_iconst X dL_law_2029 ?_
        cases h
        exact absurd hw (by decide)
    have J2005 : ∀ (v4_j2005 : Int) (σ_j2005 : St), f_L_law_j2005 (xs) (L) (b) (nX (σ)) (nX (σ4)) (nX (σ8)) v4_j2005 σ_j2005 = some z1 → V Γ σ_j2005 (112 + (64 - cn) * 86) (504441 + (64 - cn) * 40302) 2005 [(0, .ref (b)), (1, .ref (nX (σ))), (2, .ref (nX (σ4))), (3, .ref (nX (σ8))), (4, iv (v4_j2005))] [] := by
      intro v4_j2005 σ_j2005 h
      unfold f_L_law_j2005 at h
      refine r_aload_n X 1 dL_law_2005 rfl rfl ?_
      obtain ⟨ho96, h⟩ := cO_some h
      obtain ⟨r97, σ98, h95, h⟩ := bd2_some h
      refine r_cV (Wd := 0) X (fun l D sz => w_X1_keep l D sz h95) ho96.1 rfl q1193 q1194 q1192 q104 q1195 hy_X1_keep rfl dL_law_2006 rfl rfl (Nat.le_of_ble_eq_true rfl) ⟨Nat.le_of_ble_eq_true rfl, Nat.le_of_ble_eq_true rfl⟩ ⟨(by show (112 + (64 - cn) * 86) + 0 ≤ 5707; omega), (by show (504441 + (64 - cn) * 40302) + 0 ≤ 3134096; omega)⟩ ?_
      refine r_aload_n X 2 dL_law_2009 rfl rfl ?_
      obtain ⟨ho100, h⟩ := cO_some h
      obtain ⟨r101, σ102, h99, h⟩ := bd2_some h
      refine r_cV (Wd := 1) X (fun l D sz => w_X6_keep l D sz h99) ho100.1 rfl q1835 q1836 q1834 q109 q1837 hy_X6_keep rfl dL_law_2010 rfl rfl (Nat.le_of_ble_eq_true rfl) ⟨Nat.le_of_ble_eq_true rfl, Nat.le_of_ble_eq_true rfl⟩ ⟨(by show (112 + (64 - cn) * 86) + 0 ≤ 5707; omega), (by show (504441 + (64 - cn) * 40302) + 0 ≤ 3134096; omega)⟩ ?_
      refine r_icmp_eq (tgt := 2568) X dL_law_2013 (by decide) h (fun c103 h => ?_) (fun c103 h => ?_)
      · refine r_iinc X 4 dL_law_2568 rfl (hL 4 (by decide)) (lv' := [(4, iv ((v4_j2005 + 8))), (0, .ref (b)), (1, .ref (nX (σ))), (2, .ref (nX (σ4))), (3, .ref (nX (σ8)))]) rfl ?_
        refine r_goto (tgt := 23) X dL_law_2571 (by decide) ?_
        exact V.widen (by show _ ≤ _; omega) (by show _ ≤ _; omega) <| V.sub [1, 2, 3, 4, 0] rfl (ihb1 _ (Option.some.inj h).symm)
      · have h := ex_some h ihe1
        refine V.widen (k' := 5616) (n' := 3083769) (by show _ ≤ _; omega) (by show _ ≤ _; omega) ?_
        refine r_iconst X dL_law_2016 ?_
        cases h
        exact absurd hw (by decide)
    have J1980 : ∀ (v4_j1980 : Int) (σ_j1980 : St), f_L_law_j1980 (xs) (L) (b) (nX (σ)) (nX (σ4)) (nX (σ8)) v4_j1980 σ_j1980 = some z1 → V Γ σ_j1980 (112 + (64 - cn) * 86) (504441 + (64 - cn) * 40302) 1980 [(0, .ref (b)), (1, .ref (nX (σ))), (2, .ref (nX (σ4))), (3, .ref (nX (σ8))), (4, iv (v4_j1980))] [] := by
      intro v4_j1980 σ_j1980 h
      unfold f_L_law_j1980 at h
      refine r_aload_n X 1 dL_law_1980 rfl rfl ?_
      refine r_aload_n X 0 dL_law_1981 rfl rfl ?_
      refine r_iload X 4 dL_law_1982 rfl ?_
      refine r_iconst X dL_law_1984 ?_
      refine r_iadd X dL_law_1985 ?_
      refine r_sld X hs hLb dL_law_1986 h (fun h => ?_)
      obtain ⟨ho105, h⟩ := cO_some h
      obtain ⟨r106, h104, h⟩ := bd_some h
      refine r_cV (Wd := 0) X (fun l D sz => w_X1_spell l D sz h104) ho105.1 rfl q1124 q1125 q1123 q104 q1126 hy_X1_spell rfl dL_law_1987 rfl rfl (Nat.le_of_ble_eq_true rfl) ⟨Nat.le_of_ble_eq_true rfl, Nat.le_of_ble_eq_true rfl⟩ ⟨(by show (112 + (64 - cn) * 86) + 0 ≤ 5707; omega), (by show (504441 + (64 - cn) * 40302) + 0 ≤ 3134096; omega)⟩ ?_
      refine r_aload_n X 2 dL_law_1990 rfl rfl ?_
      refine r_aload_n X 0 dL_law_1991 rfl rfl ?_
      refine r_iload X 4 dL_law_1992 rfl ?_
      refine r_iconst X dL_law_1994 ?_
      refine r_iadd X dL_law_1995 ?_
      refine r_sld X hs hLb dL_law_1996 h (fun h => ?_)
      obtain ⟨ho108, h⟩ := cO_some h
      obtain ⟨r109, h107, h⟩ := bd_some h
      refine r_cV (Wd := 1) X (fun l D sz => w_X6_spell l D sz h107) ho108.1 rfl q1827 q1828 q1826 q109 q1829 hy_X6_spell rfl dL_law_1997 rfl rfl (Nat.le_of_ble_eq_true rfl) ⟨Nat.le_of_ble_eq_true rfl, Nat.le_of_ble_eq_true rfl⟩ ⟨(by show (112 + (64 - cn) * 86) + 0 ≤ 5707; omega), (by show (504441 + (64 - cn) * 40302) + 0 ≤ 3134096; omega)⟩ ?_
      refine r_icmp_eq (tgt := 2568) X dL_law_2000 (by decide) h (fun c110 h => ?_) (fun c110 h => ?_)
      · refine r_iinc X 4 dL_law_2568 rfl (hL 4 (by decide)) (lv' := [(4, iv ((v4_j1980 + 8))), (0, .ref (b)), (1, .ref (nX (σ))), (2, .ref (nX (σ4))), (3, .ref (nX (σ8)))]) rfl ?_
        refine r_goto (tgt := 23) X dL_law_2571 (by decide) ?_
        exact V.widen (by show _ ≤ _; omega) (by show _ ≤ _; omega) <| V.sub [1, 2, 3, 4, 0] rfl (ihb1 _ (Option.some.inj h).symm)
      · have h := ex_some h ihe1
        refine V.widen (k' := 5616) (n' := 3083769) (by show _ ≤ _; omega) (by show _ ≤ _; omega) ?_
        refine r_iconst X dL_law_2003 ?_
        cases h
        exact absurd hw (by decide)
    have J1919 : ∀ (v4_j1919 : Int) (σ_j1919 : St), f_L_law_j1919 (xs) (L) (b) (nX (σ)) (nX (σ4)) (nX (σ8)) v4_j1919 σ_j1919 = some z1 → V Γ σ_j1919 (112 + (64 - cn) * 86) (504441 + (64 - cn) * 40302) 1919 [(0, .ref (b)), (1, .ref (nX (σ))), (2, .ref (nX (σ4))), (3, .ref (nX (σ8))), (4, iv (v4_j1919))] [] := by
      intro v4_j1919 σ_j1919 h
      unfold f_L_law_j1919 at h
      refine r_aload_n X 1 dL_law_1919 rfl rfl ?_
      refine r_aload_n X 0 dL_law_1920 rfl rfl ?_
      refine r_iload X 4 dL_law_1921 rfl ?_
      refine r_iconst X dL_law_1923 ?_
      refine r_iadd X dL_law_1924 ?_
      refine r_sld X hs hLb dL_law_1925 h (fun h => ?_)
      refine r_aload_n X 0 dL_law_1926 rfl rfl ?_
      refine r_iload X 4 dL_law_1927 rfl ?_
      refine r_iconst X dL_law_1929 ?_
      refine r_iadd X dL_law_1930 ?_
      refine r_sld X hs hLb dL_law_1931 h (fun h => ?_)
      refine r_aload_n X 0 dL_law_1932 rfl rfl ?_
      refine r_iload X 4 dL_law_1933 rfl ?_
      refine r_iconst X dL_law_1935 ?_
      refine r_iadd X dL_law_1936 ?_
      refine r_sld X hs hLb dL_law_1937 h (fun h => ?_)
      refine r_aload_n X 0 dL_law_1938 rfl rfl ?_
      refine r_iload X 4 dL_law_1939 rfl ?_
      refine r_iconst X dL_law_1941 ?_
      refine r_iadd X dL_law_1942 ?_
      refine r_sld X hs hLb dL_law_1943 h (fun h => ?_)
      obtain ⟨ho112, h⟩ := cO_some h
      obtain ⟨r113, h111, h⟩ := bd_some h
      refine r_cV (Wd := 0) X (fun l D sz => w_X1_held l D sz h111) ho112.1 rfl q1116 q1117 q1115 q104 q1118 hy_X1_held rfl dL_law_1944 rfl rfl (Nat.le_of_ble_eq_true rfl) ⟨Nat.le_of_ble_eq_true rfl, Nat.le_of_ble_eq_true rfl⟩ ⟨(by show (112 + (64 - cn) * 86) + 0 ≤ 5707; omega), (by show (504441 + (64 - cn) * 40302) + 0 ≤ 3134096; omega)⟩ ?_
      refine r_aload_n X 2 dL_law_1947 rfl rfl ?_
      refine r_aload_n X 0 dL_law_1948 rfl rfl ?_
      refine r_iload X 4 dL_law_1949 rfl ?_
      refine r_iconst X dL_law_1951 ?_
      refine r_iadd X dL_law_1952 ?_
      refine r_sld X hs hLb dL_law_1953 h (fun h => ?_)
      refine r_aload_n X 0 dL_law_1954 rfl rfl ?_
      refine r_iload X 4 dL_law_1955 rfl ?_
      refine r_iconst X dL_law_1957 ?_
      refine r_iadd X dL_law_1958 ?_
      refine r_sld X hs hLb dL_law_1959 h (fun h => ?_)
      refine r_aload_n X 0 dL_law_1960 rfl rfl ?_
      refine r_iload X 4 dL_law_1961 rfl ?_
      refine r_iconst X dL_law_1963 ?_
      refine r_iadd X dL_law_1964 ?_
      refine r_sld X hs hLb dL_law_1965 h (fun h => ?_)
      refine r_aload_n X 0 dL_law_1966 rfl rfl ?_
      refine r_iload X 4 dL_law_1967 rfl ?_
      refine r_iconst X dL_law_1969 ?_
      refine r_iadd X dL_law_1970 ?_
      refine r_sld X hs hLb dL_law_1971 h (fun h => ?_)
      obtain ⟨ho115, h⟩ := cO_some h
      obtain ⟨r116, h114, h⟩ := bd_some h
      refine r_cV (Wd := 1) X (fun l D sz => w_X6_held l D sz h114) ho115.1 rfl q1823 q1824 q1822 q109 q1825 hy_X6_held rfl dL_law_1972 rfl rfl (Nat.le_of_ble_eq_true rfl) ⟨Nat.le_of_ble_eq_true rfl, Nat.le_of_ble_eq_true rfl⟩ ⟨(by show (112 + (64 - cn) * 86) + 0 ≤ 5707; omega), (by show (504441 + (64 - cn) * 40302) + 0 ≤ 3134096; omega)⟩ ?_
      refine r_icmp_eq (tgt := 2568) X dL_law_1975 (by decide) h (fun c117 h => ?_) (fun c117 h => ?_)
      · refine r_iinc X 4 dL_law_2568 rfl (hL 4 (by decide)) (lv' := [(4, iv ((v4_j1919 + 8))), (0, .ref (b)), (1, .ref (nX (σ))), (2, .ref (nX (σ4))), (3, .ref (nX (σ8)))]) rfl ?_
        refine r_goto (tgt := 23) X dL_law_2571 (by decide) ?_
        exact V.widen (by show _ ≤ _; omega) (by show _ ≤ _; omega) <| V.sub [1, 2, 3, 4, 0] rfl (ihb1 _ (Option.some.inj h).symm)
      · have h := ex_some h ihe1
        refine V.widen (k' := 5616) (n' := 3083769) (by show _ ≤ _; omega) (by show _ ≤ _; omega) ?_
        refine r_iconst X dL_law_1978 ?_
        cases h
        exact absurd hw (by decide)
    have J1846 : ∀ (v4_j1846 : Int) (σ_j1846 : St), f_L_law_j1846 (xs) (L) (b) (nX (σ)) (nX (σ4)) (nX (σ8)) v4_j1846 σ_j1846 = some z1 → V Γ σ_j1846 (112 + (64 - cn) * 86) (504441 + (64 - cn) * 40302) 1846 [(0, .ref (b)), (1, .ref (nX (σ))), (2, .ref (nX (σ4))), (3, .ref (nX (σ8))), (4, iv (v4_j1846))] [] := by
      intro v4_j1846 σ_j1846 h
      unfold f_L_law_j1846 at h
      refine r_aload_n X 1 dL_law_1846 rfl rfl ?_
      refine r_aload_n X 0 dL_law_1847 rfl rfl ?_
      refine r_iload X 4 dL_law_1848 rfl ?_
      refine r_iconst X dL_law_1850 ?_
      refine r_iadd X dL_law_1851 ?_
      refine r_sld X hs hLb dL_law_1852 h (fun h => ?_)
      refine r_aload_n X 0 dL_law_1853 rfl rfl ?_
      refine r_iload X 4 dL_law_1854 rfl ?_
      refine r_iconst X dL_law_1856 ?_
      refine r_iadd X dL_law_1857 ?_
      refine r_sld X hs hLb dL_law_1858 h (fun h => ?_)
      refine r_aload_n X 0 dL_law_1859 rfl rfl ?_
      refine r_iload X 4 dL_law_1860 rfl ?_
      refine r_iconst X dL_law_1862 ?_
      refine r_iadd X dL_law_1863 ?_
      refine r_sld X hs hLb dL_law_1864 h (fun h => ?_)
      refine r_aload_n X 0 dL_law_1865 rfl rfl ?_
      refine r_iload X 4 dL_law_1866 rfl ?_
      refine r_iconst X dL_law_1868 ?_
      refine r_iadd X dL_law_1869 ?_
      refine r_sld X hs hLb dL_law_1870 h (fun h => ?_)
      refine r_aload_n X 0 dL_law_1871 rfl rfl ?_
      refine r_iload X 4 dL_law_1872 rfl ?_
      refine r_iconst X dL_law_1874 ?_
      refine r_iadd X dL_law_1875 ?_
      refine r_sld X hs hLb dL_law_1876 h (fun h => ?_)
      obtain ⟨ho119, h⟩ := cO_some h
      obtain ⟨r120, σ121, h118, h⟩ := bd2_some h
      refine r_cV (Wd := 0) X (fun l D sz => w_X1_event l D sz h118) ho119.1 rfl q1112 q1113 q1111 q104 q1114 hy_X1_event rfl dL_law_1877 rfl rfl (Nat.le_of_ble_eq_true rfl) ⟨Nat.le_of_ble_eq_true rfl, Nat.le_of_ble_eq_true rfl⟩ ⟨(by show (112 + (64 - cn) * 86) + 0 ≤ 5707; omega), (by show (504441 + (64 - cn) * 40302) + 0 ≤ 3134096; omega)⟩ ?_
      refine r_aload_n X 2 dL_law_1880 rfl rfl ?_
      refine r_aload_n X 0 dL_law_1881 rfl rfl ?_
      refine r_iload X 4 dL_law_1882 rfl ?_
      refine r_iconst X dL_law_1884 ?_
      refine r_iadd X dL_law_1885 ?_
      refine r_sld X hs hLb dL_law_1886 h (fun h => ?_)
      refine r_aload_n X 0 dL_law_1887 rfl rfl ?_
      refine r_iload X 4 dL_law_1888 rfl ?_
      refine r_iconst X dL_law_1890 ?_
      refine r_iadd X dL_law_1891 ?_
      refine r_sld X hs hLb dL_law_1892 h (fun h => ?_)
      refine r_aload_n X 0 dL_law_1893 rfl rfl ?_
      refine r_iload X 4 dL_law_1894 rfl ?_
      refine r_iconst X dL_law_1896 ?_
      refine r_iadd X dL_law_1897 ?_
      refine r_sld X hs hLb dL_law_1898 h (fun h => ?_)
      refine r_aload_n X 0 dL_law_1899 rfl rfl ?_
      refine r_iload X 4 dL_law_1900 rfl ?_
      refine r_iconst X dL_law_1902 ?_
      refine r_iadd X dL_law_1903 ?_
      refine r_sld X hs hLb dL_law_1904 h (fun h => ?_)
      refine r_aload_n X 0 dL_law_1905 rfl rfl ?_
      refine r_iload X 4 dL_law_1906 rfl ?_
      refine r_iconst X dL_law_1908 ?_
      refine r_iadd X dL_law_1909 ?_
      refine r_sld X hs hLb dL_law_1910 h (fun h => ?_)
      obtain ⟨ho123, h⟩ := cO_some h
      obtain ⟨r124, σ125, h122, h⟩ := bd2_some h
      refine r_cV (Wd := 1) X (fun l D sz => w_X6_event l D sz h122) ho123.1 rfl q1819 q1820 q1818 q109 q1821 hy_X6_event rfl dL_law_1911 rfl rfl (Nat.le_of_ble_eq_true rfl) ⟨Nat.le_of_ble_eq_true rfl, Nat.le_of_ble_eq_true rfl⟩ ⟨(by show (112 + (64 - cn) * 86) + 0 ≤ 5707; omega), (by show (504441 + (64 - cn) * 40302) + 0 ≤ 3134096; omega)⟩ ?_
      refine r_icmp_eq (tgt := 2568) X dL_law_1914 (by decide) h (fun c126 h => ?_) (fun c126 h => ?_)
      · refine r_iinc X 4 dL_law_2568 rfl (hL 4 (by decide)) (lv' := [(4, iv ((v4_j1846 + 8))), (0, .ref (b)), (1, .ref (nX (σ))), (2, .ref (nX (σ4))), (3, .ref (nX (σ8)))]) rfl ?_
        refine r_goto (tgt := 23) X dL_law_2571 (by decide) ?_
        exact V.widen (by show _ ≤ _; omega) (by show _ ≤ _; omega) <| V.sub [1, 2, 3, 4, 0] rfl (ihb1 _ (Option.some.inj h).symm)
      · have h := ex_some h ihe1
        refine V.widen (k' := 5616) (n' := 3083769) (by show _ ≤ _; omega) (by show _ ≤ _; omega) ?_
        refine r_iconst X dL_law_1917 ?_
        cases h
        exact absurd hw (by decide)
    have J1785 : ∀ (v4_j1785 : Int) (σ_j1785 : St), f_L_law_j1785 (xs) (L) (b) (nX (σ)) (nX (σ4)) (nX (σ8)) v4_j1785 σ_j1785 = some z1 → V Γ σ_j1785 (112 + (64 - cn) * 86) (504441 + (64 - cn) * 40302) 1785 [(0, .ref (b)), (1, .ref (nX (σ))), (2, .ref (nX (σ4))), (3, .ref (nX (σ8))), (4, iv (v4_j1785))] [] := by
      intro v4_j1785 σ_j1785 h
      unfold f_L_law_j1785 at h
      refine r_aload_n X 1 dL_law_1785 rfl rfl ?_
      refine r_aload_n X 0 dL_law_1786 rfl rfl ?_
      refine r_iload X 4 dL_law_1787 rfl ?_
      refine r_iconst X dL_law_1789 ?_
      refine r_iadd X dL_law_1790 ?_
      refine r_sld X hs hLb dL_law_1791 h (fun h => ?_)
      refine r_aload_n X 0 dL_law_1792 rfl rfl ?_
      refine r_iload X 4 dL_law_1793 rfl ?_
      refine r_iconst X dL_law_1795 ?_
      refine r_iadd X dL_law_1796 ?_
      refine r_sld X hs hLb dL_law_1797 h (fun h => ?_)
      refine r_aload_n X 0 dL_law_1798 rfl rfl ?_
      refine r_iload X 4 dL_law_1799 rfl ?_
      refine r_iconst X dL_law_1801 ?_
      refine r_iadd X dL_law_1802 ?_
      refine r_sld X hs hLb dL_law_1803 h (fun h => ?_)
      refine r_aload_n X 0 dL_law_1804 rfl rfl ?_
      refine r_iload X 4 dL_law_1805 rfl ?_
      refine r_iconst X dL_law_1807 ?_
      refine r_iadd X dL_law_1808 ?_
      refine r_sld X hs hLb dL_law_1809 h (fun h => ?_)
      obtain ⟨ho128, h⟩ := cO_some h
      obtain ⟨r129, h127, h⟩ := bd_some h
      refine r_cV (Wd := 0) X (fun l D sz => w_X1_age l D sz h127) ho128.1 rfl q996 q997 q995 q104 q998 hy_X1_age rfl dL_law_1810 rfl rfl (Nat.le_of_ble_eq_true rfl) ⟨Nat.le_of_ble_eq_true rfl, Nat.le_of_ble_eq_true rfl⟩ ⟨(by show (112 + (64 - cn) * 86) + 0 ≤ 5707; omega), (by show (504441 + (64 - cn) * 40302) + 0 ≤ 3134096; omega)⟩ ?_
      refine r_aload_n X 2 dL_law_1813 rfl rfl ?_
      refine r_aload_n X 0 dL_law_1814 rfl rfl ?_
      refine r_iload X 4 dL_law_1815 rfl ?_
      refine r_iconst X dL_law_1817 ?_
      refine r_iadd X dL_law_1818 ?_
      refine r_sld X hs hLb dL_law_1819 h (fun h => ?_)
      refine r_aload_n X 0 dL_law_1820 rfl rfl ?_
      refine r_iload X 4 dL_law_1821 rfl ?_
      refine r_iconst X dL_law_1823 ?_
      refine r_iadd X dL_law_1824 ?_
      refine r_sld X hs hLb dL_law_1825 h (fun h => ?_)
      refine r_aload_n X 0 dL_law_1826 rfl rfl ?_
      refine r_iload X 4 dL_law_1827 rfl ?_
      refine r_iconst X dL_law_1829 ?_
      refine r_iadd X dL_law_1830 ?_
      refine r_sld X hs hLb dL_law_1831 h (fun h => ?_)
      refine r_aload_n X 0 dL_law_1832 rfl rfl ?_
      refine r_iload X 4 dL_law_1833 rfl ?_
      refine r_iconst X dL_law_1835 ?_
      refine r_iadd X dL_law_1836 ?_
      refine r_sld X hs hLb dL_law_1837 h (fun h => ?_)
      obtain ⟨ho131, h⟩ := cO_some h
      obtain ⟨r132, h130, h⟩ := bd_some h
      refine r_cV (Wd := 1) X (fun l D sz => w_X6_age l D sz h130) ho131.1 rfl q1811 q1812 q1810 q109 q1813 hy_X6_age rfl dL_law_1838 rfl rfl (Nat.le_of_ble_eq_true rfl) ⟨Nat.le_of_ble_eq_true rfl, Nat.le_of_ble_eq_true rfl⟩ ⟨(by show (112 + (64 - cn) * 86) + 0 ≤ 5707; omega), (by show (504441 + (64 - cn) * 40302) + 0 ≤ 3134096; omega)⟩ ?_
      refine r_icmp_eq (tgt := 2568) X dL_law_1841 (by decide) h (fun c133 h => ?_) (fun c133 h => ?_)
      · refine r_iinc X 4 dL_law_2568 rfl (hL 4 (by decide)) (lv' := [(4, iv ((v4_j1785 + 8))), (0, .ref (b)), (1, .ref (nX (σ))), (2, .ref (nX (σ4))), (3, .ref (nX (σ8)))]) rfl ?_
        refine r_goto (tgt := 23) X dL_law_2571 (by decide) ?_
        exact V.widen (by show _ ≤ _; omega) (by show _ ≤ _; omega) <| V.sub [1, 2, 3, 4, 0] rfl (ihb1 _ (Option.some.inj h).symm)
      · have h := ex_some h ihe1
        refine V.widen (k' := 5616) (n' := 3083769) (by show _ ≤ _; omega) (by show _ ≤ _; omega) ?_
        refine r_iconst X dL_law_1844 ?_
        cases h
        exact absurd hw (by decide)
    have J1724 : ∀ (v4_j1724 : Int) (σ_j1724 : St), f_L_law_j1724 (xs) (L) (b) (nX (σ)) (nX (σ4)) (nX (σ8)) v4_j1724 σ_j1724 = some z1 → V Γ σ_j1724 (112 + (64 - cn) * 86) (504441 + (64 - cn) * 40302) 1724 [(0, .ref (b)), (1, .ref (nX (σ))), (2, .ref (nX (σ4))), (3, .ref (nX (σ8))), (4, iv (v4_j1724))] [] := by
      intro v4_j1724 σ_j1724 h
      unfold f_L_law_j1724 at h
      refine r_aload_n X 1 dL_law_1724 rfl rfl ?_
      refine r_aload_n X 0 dL_law_1725 rfl rfl ?_
      refine r_iload X 4 dL_law_1726 rfl ?_
      refine r_iconst X dL_law_1728 ?_
      refine r_iadd X dL_law_1729 ?_
      refine r_sld X hs hLb dL_law_1730 h (fun h => ?_)
      refine r_aload_n X 0 dL_law_1731 rfl rfl ?_
      refine r_iload X 4 dL_law_1732 rfl ?_
      refine r_iconst X dL_law_1734 ?_
      refine r_iadd X dL_law_1735 ?_
      refine r_sld X hs hLb dL_law_1736 h (fun h => ?_)
      refine r_aload_n X 0 dL_law_1737 rfl rfl ?_
      refine r_iload X 4 dL_law_1738 rfl ?_
      refine r_iconst X dL_law_1740 ?_
      refine r_iadd X dL_law_1741 ?_
      refine r_sld X hs hLb dL_law_1742 h (fun h => ?_)
      refine r_aload_n X 0 dL_law_1743 rfl rfl ?_
      refine r_iload X 4 dL_law_1744 rfl ?_
      refine r_iconst X dL_law_1746 ?_
      refine r_iadd X dL_law_1747 ?_
      refine r_sld X hs hLb dL_law_1748 h (fun h => ?_)
      obtain ⟨ho135, h⟩ := cO_some h
      obtain ⟨r136, σ137, h134, h⟩ := bd2_some h
      refine r_cV (Wd := 0) X (fun l D sz => w_X1_born l D sz h134) ho135.1 rfl q992 q993 q991 q104 q994 hy_X1_born rfl dL_law_1749 rfl rfl (Nat.le_of_ble_eq_true rfl) ⟨Nat.le_of_ble_eq_true rfl, Nat.le_of_ble_eq_true rfl⟩ ⟨(by show (112 + (64 - cn) * 86) + 0 ≤ 5707; omega), (by show (504441 + (64 - cn) * 40302) + 0 ≤ 3134096; omega)⟩ ?_
      refine r_aload_n X 2 dL_law_1752 rfl rfl ?_
      refine r_aload_n X 0 dL_law_1753 rfl rfl ?_
      refine r_iload X 4 dL_law_1754 rfl ?_
      refine r_iconst X dL_law_1756 ?_
      refine r_iadd X dL_law_1757 ?_
      refine r_sld X hs hLb dL_law_1758 h (fun h => ?_)
      refine r_aload_n X 0 dL_law_1759 rfl rfl ?_
      refine r_iload X 4 dL_law_1760 rfl ?_
      refine r_iconst X dL_law_1762 ?_
      refine r_iadd X dL_law_1763 ?_
      refine r_sld X hs hLb dL_law_1764 h (fun h => ?_)
      refine r_aload_n X 0 dL_law_1765 rfl rfl ?_
      refine r_iload X 4 dL_law_1766 rfl ?_
      refine r_iconst X dL_law_1768 ?_
      refine r_iadd X dL_law_1769 ?_
      refine r_sld X hs hLb dL_law_1770 h (fun h => ?_)
      refine r_aload_n X 0 dL_law_1771 rfl rfl ?_
      refine r_iload X 4 dL_law_1772 rfl ?_
      refine r_iconst X dL_law_1774 ?_
      refine r_iadd X dL_law_1775 ?_
      refine r_sld X hs hLb dL_law_1776 h (fun h => ?_)
      obtain ⟨ho139, h⟩ := cO_some h
      obtain ⟨r140, σ141, h138, h⟩ := bd2_some h
      refine r_cV (Wd := 1) X (fun l D sz => w_X6_born l D sz h138) ho139.1 rfl q1807 q1808 q1806 q109 q1809 hy_X6_born rfl dL_law_1777 rfl rfl (Nat.le_of_ble_eq_true rfl) ⟨Nat.le_of_ble_eq_true rfl, Nat.le_of_ble_eq_true rfl⟩ ⟨(by show (112 + (64 - cn) * 86) + 0 ≤ 5707; omega), (by show (504441 + (64 - cn) * 40302) + 0 ≤ 3134096; omega)⟩ ?_
      refine r_icmp_eq (tgt := 2568) X dL_law_1780 (by decide) h (fun c142 h => ?_) (fun c142 h => ?_)
      · refine r_iinc X 4 dL_law_2568 rfl (hL 4 (by decide)) (lv' := [(4, iv ((v4_j1724 + 8))), (0, .ref (b)), (1, .ref (nX (σ))), (2, .ref (nX (σ4))), (3, .ref (nX (σ8)))]) rfl ?_
        refine r_goto (tgt := 23) X dL_law_2571 (by decide) ?_
        exact V.widen (by show _ ≤ _; omega) (by show _ ≤ _; omega) <| V.sub [1, 2, 3, 4, 0] rfl (ihb1 _ (Option.some.inj h).symm)
      · have h := ex_some h ihe1
        refine V.widen (k' := 5616) (n' := 3083769) (by show _ ≤ _; omega) (by show _ ≤ _; omega) ?_
        refine r_iconst X dL_law_1783 ?_
        cases h
        exact absurd hw (by decide)
    have J1675 : ∀ (v4_j1675 : Int) (σ_j1675 : St), f_L_law_j1675 (xs) (L) (b) (nX (σ)) (nX (σ4)) (nX (σ8)) v4_j1675 σ_j1675 = some z1 → V Γ σ_j1675 (112 + (64 - cn) * 86) (504441 + (64 - cn) * 40302) 1675 [(0, .ref (b)), (1, .ref (nX (σ))), (2, .ref (nX (σ4))), (3, .ref (nX (σ8))), (4, iv (v4_j1675))] [] := by
      intro v4_j1675 σ_j1675 h
      unfold f_L_law_j1675 at h
      refine r_aload_n X 1 dL_law_1675 rfl rfl ?_
      refine r_aload_n X 0 dL_law_1676 rfl rfl ?_
      refine r_iload X 4 dL_law_1677 rfl ?_
      refine r_iconst X dL_law_1679 ?_
      refine r_iadd X dL_law_1680 ?_
      refine r_sld X hs hLb dL_law_1681 h (fun h => ?_)
      refine r_aload_n X 0 dL_law_1682 rfl rfl ?_
      refine r_iload X 4 dL_law_1683 rfl ?_
      refine r_iconst X dL_law_1685 ?_
      refine r_iadd X dL_law_1686 ?_
      refine r_sld X hs hLb dL_law_1687 h (fun h => ?_)
      refine r_aload_n X 0 dL_law_1688 rfl rfl ?_
      refine r_iload X 4 dL_law_1689 rfl ?_
      refine r_iconst X dL_law_1691 ?_
      refine r_iadd X dL_law_1692 ?_
      refine r_sld X hs hLb dL_law_1693 h (fun h => ?_)
      obtain ⟨ho144, h⟩ := cO_some h
      obtain ⟨r145, h143, h⟩ := bd_some h
      refine r_cV (Wd := 0) X (fun l D sz => w_X1_mates l D sz h143) ho144.1 rfl q1108 q1109 q1107 q104 q1110 hy_X1_mates rfl dL_law_1694 rfl rfl (Nat.le_of_ble_eq_true rfl) ⟨Nat.le_of_ble_eq_true rfl, Nat.le_of_ble_eq_true rfl⟩ ⟨(by show (112 + (64 - cn) * 86) + 0 ≤ 5707; omega), (by show (504441 + (64 - cn) * 40302) + 0 ≤ 3134096; omega)⟩ ?_
      refine r_aload_n X 2 dL_law_1697 rfl rfl ?_
      refine r_aload_n X 0 dL_law_1698 rfl rfl ?_
      refine r_iload X 4 dL_law_1699 rfl ?_
      refine r_iconst X dL_law_1701 ?_
      refine r_iadd X dL_law_1702 ?_
      refine r_sld X hs hLb dL_law_1703 h (fun h => ?_)
      refine r_aload_n X 0 dL_law_1704 rfl rfl ?_
      refine r_iload X 4 dL_law_1705 rfl ?_
      refine r_iconst X dL_law_1707 ?_
      refine r_iadd X dL_law_1708 ?_
      refine r_sld X hs hLb dL_law_1709 h (fun h => ?_)
      refine r_aload_n X 0 dL_law_1710 rfl rfl ?_
      refine r_iload X 4 dL_law_1711 rfl ?_
      refine r_iconst X dL_law_1713 ?_
      refine r_iadd X dL_law_1714 ?_
      refine r_sld X hs hLb dL_law_1715 h (fun h => ?_)
      obtain ⟨ho147, h⟩ := cO_some h
      obtain ⟨r148, h146, h⟩ := bd_some h
      refine r_cV (Wd := 1) X (fun l D sz => w_X6_mates l D sz h146) ho147.1 rfl q1803 q1804 q1802 q109 q1805 hy_X6_mates rfl dL_law_1716 rfl rfl (Nat.le_of_ble_eq_true rfl) ⟨Nat.le_of_ble_eq_true rfl, Nat.le_of_ble_eq_true rfl⟩ ⟨(by show (112 + (64 - cn) * 86) + 0 ≤ 5707; omega), (by show (504441 + (64 - cn) * 40302) + 0 ≤ 3134096; omega)⟩ ?_
      refine r_icmp_eq (tgt := 2568) X dL_law_1719 (by decide) h (fun c149 h => ?_) (fun c149 h => ?_)
      · refine r_iinc X 4 dL_law_2568 rfl (hL 4 (by decide)) (lv' := [(4, iv ((v4_j1675 + 8))), (0, .ref (b)), (1, .ref (nX (σ))), (2, .ref (nX (σ4))), (3, .ref (nX (σ8)))]) rfl ?_
        refine r_goto (tgt := 23) X dL_law_2571 (by decide) ?_
        exact V.widen (by show _ ≤ _; omega) (by show _ ≤ _; omega) <| V.sub [1, 2, 3, 4, 0] rfl (ihb1 _ (Option.some.inj h).symm)
      · have h := ex_some h ihe1
        refine V.widen (k' := 5616) (n' := 3083769) (by show _ ≤ _; omega) (by show _ ≤ _; omega) ?_
        refine r_iconst X dL_law_1722 ?_
        cases h
        exact absurd hw (by decide)
    have J1614 : ∀ (v4_j1614 : Int) (σ_j1614 : St), f_L_law_j1614 (xs) (L) (b) (nX (σ)) (nX (σ4)) (nX (σ8)) v4_j1614 σ_j1614 = some z1 → V Γ σ_j1614 (112 + (64 - cn) * 86) (504441 + (64 - cn) * 40302) 1614 [(0, .ref (b)), (1, .ref (nX (σ))), (2, .ref (nX (σ4))), (3, .ref (nX (σ8))), (4, iv (v4_j1614))] [] := by
      intro v4_j1614 σ_j1614 h
      unfold f_L_law_j1614 at h
      refine r_aload_n X 1 dL_law_1614 rfl rfl ?_
      refine r_aload_n X 0 dL_law_1615 rfl rfl ?_
      refine r_iload X 4 dL_law_1616 rfl ?_
      refine r_iconst X dL_law_1618 ?_
      refine r_iadd X dL_law_1619 ?_
      refine r_sld X hs hLb dL_law_1620 h (fun h => ?_)
      refine r_aload_n X 0 dL_law_1621 rfl rfl ?_
      refine r_iload X 4 dL_law_1622 rfl ?_
      refine r_iconst X dL_law_1624 ?_
      refine r_iadd X dL_law_1625 ?_
      refine r_sld X hs hLb dL_law_1626 h (fun h => ?_)
      refine r_aload_n X 0 dL_law_1627 rfl rfl ?_
      refine r_iload X 4 dL_law_1628 rfl ?_
      refine r_iconst X dL_law_1630 ?_
      refine r_iadd X dL_law_1631 ?_
      refine r_sld X hs hLb dL_law_1632 h (fun h => ?_)
      refine r_aload_n X 0 dL_law_1633 rfl rfl ?_
      refine r_iload X 4 dL_law_1634 rfl ?_
      refine r_iconst X dL_law_1636 ?_
      refine r_iadd X dL_law_1637 ?_
      refine r_sld X hs hLb dL_law_1638 h (fun h => ?_)
      obtain ⟨ho151, h⟩ := cO_some h
      obtain ⟨r152, h150, h⟩ := bd_some h
      refine r_cV (Wd := 0) X (fun l D sz => w_X1_thirteenths l D sz h150) ho151.1 rfl q1104 q1105 q1103 q104 q1106 hy_X1_thirteenths rfl dL_law_1639 rfl rfl (Nat.le_of_ble_eq_true rfl) ⟨Nat.le_of_ble_eq_true rfl, Nat.le_of_ble_eq_true rfl⟩ ⟨(by show (112 + (64 - cn) * 86) + 0 ≤ 5707; omega), (by show (504441 + (64 - cn) * 40302) + 0 ≤ 3134096; omega)⟩ ?_
      refine r_aload_n X 2 dL_law_1642 rfl rfl ?_
      refine r_aload_n X 0 dL_law_1643 rfl rfl ?_
      refine r_iload X 4 dL_law_1644 rfl ?_
      refine r_iconst X dL_law_1646 ?_
      refine r_iadd X dL_law_1647 ?_
      refine r_sld X hs hLb dL_law_1648 h (fun h => ?_)
      refine r_aload_n X 0 dL_law_1649 rfl rfl ?_
      refine r_iload X 4 dL_law_1650 rfl ?_
      refine r_iconst X dL_law_1652 ?_
      refine r_iadd X dL_law_1653 ?_
      refine r_sld X hs hLb dL_law_1654 h (fun h => ?_)
      refine r_aload_n X 0 dL_law_1655 rfl rfl ?_
      refine r_iload X 4 dL_law_1656 rfl ?_
      refine r_iconst X dL_law_1658 ?_
      refine r_iadd X dL_law_1659 ?_
      refine r_sld X hs hLb dL_law_1660 h (fun h => ?_)
      refine r_aload_n X 0 dL_law_1661 rfl rfl ?_
      refine r_iload X 4 dL_law_1662 rfl ?_
      refine r_iconst X dL_law_1664 ?_
      refine r_iadd X dL_law_1665 ?_
      refine r_sld X hs hLb dL_law_1666 h (fun h => ?_)
      obtain ⟨ho154, h⟩ := cO_some h
      obtain ⟨r155, h153, h⟩ := bd_some h
      refine r_cV (Wd := 1) X (fun l D sz => w_X6_thirteenths l D sz h153) ho154.1 rfl q1799 q1800 q1798 q109 q1801 hy_X6_thirteenths rfl dL_law_1667 rfl rfl (Nat.le_of_ble_eq_true rfl) ⟨Nat.le_of_ble_eq_true rfl, Nat.le_of_ble_eq_true rfl⟩ ⟨(by show (112 + (64 - cn) * 86) + 0 ≤ 5707; omega), (by show (504441 + (64 - cn) * 40302) + 0 ≤ 3134096; omega)⟩ ?_
      refine r_icmp_eq (tgt := 2568) X dL_law_1670 (by decide) h (fun c156 h => ?_) (fun c156 h => ?_)
      · refine r_iinc X 4 dL_law_2568 rfl (hL 4 (by decide)) (lv' := [(4, iv ((v4_j1614 + 8))), (0, .ref (b)), (1, .ref (nX (σ))), (2, .ref (nX (σ4))), (3, .ref (nX (σ8)))]) rfl ?_
        refine r_goto (tgt := 23) X dL_law_2571 (by decide) ?_
        exact V.widen (by show _ ≤ _; omega) (by show _ ≤ _; omega) <| V.sub [1, 2, 3, 4, 0] rfl (ihb1 _ (Option.some.inj h).symm)
      · have h := ex_some h ihe1
        refine V.widen (k' := 5616) (n' := 3083769) (by show _ ≤ _; omega) (by show _ ≤ _; omega) ?_
        refine r_iconst X dL_law_1673 ?_
        cases h
        exact absurd hw (by decide)
    have J1565 : ∀ (v4_j1565 : Int) (σ_j1565 : St), f_L_law_j1565 (xs) (L) (b) (nX (σ)) (nX (σ4)) (nX (σ8)) v4_j1565 σ_j1565 = some z1 → V Γ σ_j1565 (112 + (64 - cn) * 86) (504441 + (64 - cn) * 40302) 1565 [(0, .ref (b)), (1, .ref (nX (σ))), (2, .ref (nX (σ4))), (3, .ref (nX (σ8))), (4, iv (v4_j1565))] [] := by
      intro v4_j1565 σ_j1565 h
      unfold f_L_law_j1565 at h
      refine r_aload_n X 1 dL_law_1565 rfl rfl ?_
      refine r_aload_n X 0 dL_law_1566 rfl rfl ?_
      refine r_iload X 4 dL_law_1567 rfl ?_
      refine r_iconst X dL_law_1569 ?_
      refine r_iadd X dL_law_1570 ?_
      refine r_sld X hs hLb dL_law_1571 h (fun h => ?_)
      refine r_aload_n X 0 dL_law_1572 rfl rfl ?_
      refine r_iload X 4 dL_law_1573 rfl ?_
      refine r_iconst X dL_law_1575 ?_
      refine r_iadd X dL_law_1576 ?_
      refine r_sld X hs hLb dL_law_1577 h (fun h => ?_)
      refine r_aload_n X 0 dL_law_1578 rfl rfl ?_
      refine r_iload X 4 dL_law_1579 rfl ?_
      refine r_iconst X dL_law_1581 ?_
      refine r_iadd X dL_law_1582 ?_
      refine r_sld X hs hLb dL_law_1583 h (fun h => ?_)
      obtain ⟨ho158, h⟩ := cO_some h
      obtain ⟨r159, h157, h⟩ := bd_some h
      refine r_cV (Wd := 0) X (fun l D sz => w_X1_like l D sz h157) ho158.1 rfl q1100 q1101 q1099 q104 q1102 hy_X1_like rfl dL_law_1584 rfl rfl (Nat.le_of_ble_eq_true rfl) ⟨Nat.le_of_ble_eq_true rfl, Nat.le_of_ble_eq_true rfl⟩ ⟨(by show (112 + (64 - cn) * 86) + 0 ≤ 5707; omega), (by show (504441 + (64 - cn) * 40302) + 0 ≤ 3134096; omega)⟩ ?_
      refine r_aload_n X 2 dL_law_1587 rfl rfl ?_
      refine r_aload_n X 0 dL_law_1588 rfl rfl ?_
      refine r_iload X 4 dL_law_1589 rfl ?_
      refine r_iconst X dL_law_1591 ?_
      refine r_iadd X dL_law_1592 ?_
      refine r_sld X hs hLb dL_law_1593 h (fun h => ?_)
      refine r_aload_n X 0 dL_law_1594 rfl rfl ?_
      refine r_iload X 4 dL_law_1595 rfl ?_
      refine r_iconst X dL_law_1597 ?_
      refine r_iadd X dL_law_1598 ?_
      refine r_sld X hs hLb dL_law_1599 h (fun h => ?_)
      refine r_aload_n X 0 dL_law_1600 rfl rfl ?_
      refine r_iload X 4 dL_law_1601 rfl ?_
      refine r_iconst X dL_law_1603 ?_
      refine r_iadd X dL_law_1604 ?_
      refine r_sld X hs hLb dL_law_1605 h (fun h => ?_)
      obtain ⟨ho161, h⟩ := cO_some h
      obtain ⟨r162, h160, h⟩ := bd_some h
      refine r_cV (Wd := 1) X (fun l D sz => w_X6_like l D sz h160) ho161.1 rfl q1795 q1796 q1794 q109 q1797 hy_X6_like rfl dL_law_1606 rfl rfl (Nat.le_of_ble_eq_true rfl) ⟨Nat.le_of_ble_eq_true rfl, Nat.le_of_ble_eq_true rfl⟩ ⟨(by show (112 + (64 - cn) * 86) + 0 ≤ 5707; omega), (by show (504441 + (64 - cn) * 40302) + 0 ≤ 3134096; omega)⟩ ?_
      refine r_icmp_eq (tgt := 2568) X dL_law_1609 (by decide) h (fun c163 h => ?_) (fun c163 h => ?_)
      · refine r_iinc X 4 dL_law_2568 rfl (hL 4 (by decide)) (lv' := [(4, iv ((v4_j1565 + 8))), (0, .ref (b)), (1, .ref (nX (σ))), (2, .ref (nX (σ4))), (3, .ref (nX (σ8)))]) rfl ?_
        refine r_goto (tgt := 23) X dL_law_2571 (by decide) ?_
        exact V.widen (by show _ ≤ _; omega) (by show _ ≤ _; omega) <| V.sub [1, 2, 3, 4, 0] rfl (ihb1 _ (Option.some.inj h).symm)
      · have h := ex_some h ihe1
        refine V.widen (k' := 5616) (n' := 3083769) (by show _ ≤ _; omega) (by show _ ≤ _; omega) ?_
        refine r_iconst X dL_law_1612 ?_
        cases h
        exact absurd hw (by decide)
    have J1492 : ∀ (v4_j1492 : Int) (σ_j1492 : St), f_L_law_j1492 (xs) (L) (b) (nX (σ)) (nX (σ4)) (nX (σ8)) v4_j1492 σ_j1492 = some z1 → V Γ σ_j1492 (112 + (64 - cn) * 86) (504441 + (64 - cn) * 40302) 1492 [(0, .ref (b)), (1, .ref (nX (σ))), (2, .ref (nX (σ4))), (3, .ref (nX (σ8))), (4, iv (v4_j1492))] [] := by
      intro v4_j1492 σ_j1492 h
      unfold f_L_law_j1492 at h
      refine r_aload_n X 1 dL_law_1492 rfl rfl ?_
      refine r_aload_n X 0 dL_law_1493 rfl rfl ?_
      refine r_iload X 4 dL_law_1494 rfl ?_
      refine r_iconst X dL_law_1496 ?_
      refine r_iadd X dL_law_1497 ?_
      refine r_sld X hs hLb dL_law_1498 h (fun h => ?_)
      refine r_aload_n X 0 dL_law_1499 rfl rfl ?_
      refine r_iload X 4 dL_law_1500 rfl ?_
      refine r_iconst X dL_law_1502 ?_
      refine r_iadd X dL_law_1503 ?_
      refine r_sld X hs hLb dL_law_1504 h (fun h => ?_)
      refine r_aload_n X 0 dL_law_1505 rfl rfl ?_
      refine r_iload X 4 dL_law_1506 rfl ?_
      refine r_iconst X dL_law_1508 ?_
      refine r_iadd X dL_law_1509 ?_
      refine r_sld X hs hLb dL_law_1510 h (fun h => ?_)
      refine r_aload_n X 0 dL_law_1511 rfl rfl ?_
      refine r_iload X 4 dL_law_1512 rfl ?_
      refine r_iconst X dL_law_1514 ?_
      refine r_iadd X dL_law_1515 ?_
      refine r_sld X hs hLb dL_law_1516 h (fun h => ?_)
      refine r_aload_n X 0 dL_law_1517 rfl rfl ?_
      refine r_iload X 4 dL_law_1518 rfl ?_
      refine r_iconst X dL_law_1520 ?_
      refine r_iadd X dL_law_1521 ?_
      refine r_sld X hs hLb dL_law_1522 h (fun h => ?_)
      obtain ⟨ho165, h⟩ := cO_some h
      obtain ⟨r166, σ167, h164, h⟩ := bd2_some h
      refine r_cV (Wd := 0) X (fun l D sz => w_X1_least l D sz h164) ho165.1 rfl q1069 q1070 q1068 q104 q1071 hy_X1_least rfl dL_law_1523 rfl rfl (Nat.le_of_ble_eq_true rfl) ⟨Nat.le_of_ble_eq_true rfl, Nat.le_of_ble_eq_true rfl⟩ ⟨(by show (112 + (64 - cn) * 86) + 7 ≤ 5707; omega), (by show (504441 + (64 - cn) * 40302) + 14 ≤ 3134096; omega)⟩ ?_
      refine V.widen (k' := (118 + (64 - cn) * 86)) (n' := (504453 + (64 - cn) * 40302)) (by show _ ≤ _; omega) (by show _ ≤ _; omega) ?_
      refine r_aload_n X 2 dL_law_1526 rfl rfl ?_
      refine r_aload_n X 0 dL_law_1527 rfl rfl ?_
      refine r_iload X 4 dL_law_1528 rfl ?_
      refine r_iconst X dL_law_1530 ?_
      refine r_iadd X dL_law_1531 ?_
      refine r_sld X hs hLb dL_law_1532 h (fun h => ?_)
      refine r_aload_n X 0 dL_law_1533 rfl rfl ?_
      refine r_iload X 4 dL_law_1534 rfl ?_
      refine r_iconst X dL_law_1536 ?_
      refine r_iadd X dL_law_1537 ?_
      refine r_sld X hs hLb dL_law_1538 h (fun h => ?_)
      refine r_aload_n X 0 dL_law_1539 rfl rfl ?_
      refine r_iload X 4 dL_law_1540 rfl ?_
      refine r_iconst X dL_law_1542 ?_
      refine r_iadd X dL_law_1543 ?_
      refine r_sld X hs hLb dL_law_1544 h (fun h => ?_)
      refine r_aload_n X 0 dL_law_1545 rfl rfl ?_
      refine r_iload X 4 dL_law_1546 rfl ?_
      refine r_iconst X dL_law_1548 ?_
      refine r_iadd X dL_law_1549 ?_
      refine r_sld X hs hLb dL_law_1550 h (fun h => ?_)
      refine r_aload_n X 0 dL_law_1551 rfl rfl ?_
      refine r_iload X 4 dL_law_1552 rfl ?_
      refine r_iconst X dL_law_1554 ?_
      refine r_iadd X dL_law_1555 ?_
      refine r_sld X hs hLb dL_law_1556 h (fun h => ?_)
      obtain ⟨ho169, h⟩ := cO_some h
      obtain ⟨r170, σ171, h168, h⟩ := bd2_some h
      refine r_cV (Wd := 1) X (fun l D sz => w_X6_least l D sz h168) ho169.1 rfl q1781 q1782 q1780 q109 q1783 hy_X6_least rfl dL_law_1557 rfl rfl (Nat.le_of_ble_eq_true rfl) ⟨Nat.le_of_ble_eq_true rfl, Nat.le_of_ble_eq_true rfl⟩ ⟨(by show (118 + (64 - cn) * 86) + 0 ≤ 5707; omega), (by show (504453 + (64 - cn) * 40302) + 0 ≤ 3134096; omega)⟩ ?_
      refine r_icmp_eq (tgt := 2568) X dL_law_1560 (by decide) h (fun c172 h => ?_) (fun c172 h => ?_)
      · refine r_iinc X 4 dL_law_2568 rfl (hL 4 (by decide)) (lv' := [(4, iv ((v4_j1492 + 8))), (0, .ref (b)), (1, .ref (nX (σ))), (2, .ref (nX (σ4))), (3, .ref (nX (σ8)))]) rfl ?_
        refine r_goto (tgt := 23) X dL_law_2571 (by decide) ?_
        exact V.widen (by show _ ≤ _; omega) (by show _ ≤ _; omega) <| V.sub [1, 2, 3, 4, 0] rfl (ihb1 _ (Option.some.inj h).symm)
      · have h := ex_some h ihe1
        refine V.widen (k' := 5622) (n' := 3083781) (by show _ ≤ _; omega) (by show _ ≤ _; omega) ?_
        refine r_iconst X dL_law_1563 ?_
        cases h
        exact absurd hw (by decide)
    have J1419 : ∀ (v4_j1419 : Int) (σ_j1419 : St), f_L_law_j1419 (xs) (L) (b) (nX (σ)) (nX (σ4)) (nX (σ8)) v4_j1419 σ_j1419 = some z1 → V Γ σ_j1419 (112 + (64 - cn) * 86) (504441 + (64 - cn) * 40302) 1419 [(0, .ref (b)), (1, .ref (nX (σ))), (2, .ref (nX (σ4))), (3, .ref (nX (σ8))), (4, iv (v4_j1419))] [] := by
      intro v4_j1419 σ_j1419 h
      unfold f_L_law_j1419 at h
      refine r_aload_n X 1 dL_law_1419 rfl rfl ?_
      refine r_aload_n X 0 dL_law_1420 rfl rfl ?_
      refine r_iload X 4 dL_law_1421 rfl ?_
      refine r_iconst X dL_law_1423 ?_
      refine r_iadd X dL_law_1424 ?_
      refine r_sld X hs hLb dL_law_1425 h (fun h => ?_)
      refine r_aload_n X 0 dL_law_1426 rfl rfl ?_
      refine r_iload X 4 dL_law_1427 rfl ?_
      refine r_iconst X dL_law_1429 ?_
      refine r_iadd X dL_law_1430 ?_
      refine r_sld X hs hLb dL_law_1431 h (fun h => ?_)
      refine r_aload_n X 0 dL_law_1432 rfl rfl ?_
      refine r_iload X 4 dL_law_1433 rfl ?_
      refine r_iconst X dL_law_1435 ?_
      refine r_iadd X dL_law_1436 ?_
      refine r_sld X hs hLb dL_law_1437 h (fun h => ?_)
      refine r_aload_n X 0 dL_law_1438 rfl rfl ?_
      refine r_iload X 4 dL_law_1439 rfl ?_
      refine r_iconst X dL_law_1441 ?_
      refine r_iadd X dL_law_1442 ?_
      refine r_sld X hs hLb dL_law_1443 h (fun h => ?_)
      refine r_aload_n X 0 dL_law_1444 rfl rfl ?_
      refine r_iload X 4 dL_law_1445 rfl ?_
      refine r_iconst X dL_law_1447 ?_
      refine r_iadd X dL_law_1448 ?_
      refine r_sld X hs hLb dL_law_1449 h (fun h => ?_)
      obtain ⟨ho174, h⟩ := cO_some h
      obtain ⟨r175, σ176, h173, h⟩ := bd2_some h
      refine r_cV (Wd := 0) X (fun l D sz => w_X1_part l D sz h173) ho174.1 rfl q1064 q1065 q1063 q104 q1066 hy_X1_part rfl dL_law_1450 rfl rfl (Nat.le_of_ble_eq_true rfl) ⟨Nat.le_of_ble_eq_true rfl, Nat.le_of_ble_eq_true rfl⟩ ⟨(by show (112 + (64 - cn) * 86) + 0 ≤ 5707; omega), (by show (504441 + (64 - cn) * 40302) + 0 ≤ 3134096; omega)⟩ ?_
      refine r_aload_n X 2 dL_law_1453 rfl rfl ?_
      refine r_aload_n X 0 dL_law_1454 rfl rfl ?_
      refine r_iload X 4 dL_law_1455 rfl ?_
      refine r_iconst X dL_law_1457 ?_
      refine r_iadd X dL_law_1458 ?_
      refine r_sld X hs hLb dL_law_1459 h (fun h => ?_)
      refine r_aload_n X 0 dL_law_1460 rfl rfl ?_
      refine r_iload X 4 dL_law_1461 rfl ?_
      refine r_iconst X dL_law_1463 ?_
      refine r_iadd X dL_law_1464 ?_
      refine r_sld X hs hLb dL_law_1465 h (fun h => ?_)
      refine r_aload_n X 0 dL_law_1466 rfl rfl ?_
      refine r_iload X 4 dL_law_1467 rfl ?_
      refine r_iconst X dL_law_1469 ?_
      refine r_iadd X dL_law_1470 ?_
      refine r_sld X hs hLb dL_law_1471 h (fun h => ?_)
      refine r_aload_n X 0 dL_law_1472 rfl rfl ?_
      refine r_iload X 4 dL_law_1473 rfl ?_
      refine r_iconst X dL_law_1475 ?_
      refine r_iadd X dL_law_1476 ?_
      refine r_sld X hs hLb dL_law_1477 h (fun h => ?_)
      refine r_aload_n X 0 dL_law_1478 rfl rfl ?_
      refine r_iload X 4 dL_law_1479 rfl ?_
      refine r_iconst X dL_law_1481 ?_
      refine r_iadd X dL_law_1482 ?_
      refine r_sld X hs hLb dL_law_1483 h (fun h => ?_)
      obtain ⟨ho178, h⟩ := cO_some h
      obtain ⟨r179, σ180, h177, h⟩ := bd2_some h
      refine r_cV (Wd := 1) X (fun l D sz => w_X6_part l D sz h177) ho178.1 rfl q1777 q1778 q1776 q109 q1779 hy_X6_part rfl dL_law_1484 rfl rfl (Nat.le_of_ble_eq_true rfl) ⟨Nat.le_of_ble_eq_true rfl, Nat.le_of_ble_eq_true rfl⟩ ⟨(by show (112 + (64 - cn) * 86) + 0 ≤ 5707; omega), (by show (504441 + (64 - cn) * 40302) + 0 ≤ 3134096; omega)⟩ ?_
      refine r_icmp_eq (tgt := 2568) X dL_law_1487 (by decide) h (fun c181 h => ?_) (fun c181 h => ?_)
      · refine r_iinc X 4 dL_law_2568 rfl (hL 4 (by decide)) (lv' := [(4, iv ((v4_j1419 + 8))), (0, .ref (b)), (1, .ref (nX (σ))), (2, .ref (nX (σ4))), (3, .ref (nX (σ8)))]) rfl ?_
        refine r_goto (tgt := 23) X dL_law_2571 (by decide) ?_
        exact V.widen (by show _ ≤ _; omega) (by show _ ≤ _; omega) <| V.sub [1, 2, 3, 4, 0] rfl (ihb1 _ (Option.some.inj h).symm)
      · have h := ex_some h ihe1
        refine V.widen (k' := 5616) (n' := 3083769) (by show _ ≤ _; omega) (by show _ ≤ _; omega) ?_
        refine r_iconst X dL_law_1490 ?_
        cases h
        exact absurd hw (by decide)
    have J1394 : ∀ (v4_j1394 : Int) (σ_j1394 : St), f_L_law_j1394 (xs) (L) (b) (nX (σ)) (nX (σ4)) (nX (σ8)) v4_j1394 σ_j1394 = some z1 → V Γ σ_j1394 (112 + (64 - cn) * 86) (504441 + (64 - cn) * 40302) 1394 [(0, .ref (b)), (1, .ref (nX (σ))), (2, .ref (nX (σ4))), (3, .ref (nX (σ8))), (4, iv (v4_j1394))] [] := by
      intro v4_j1394 σ_j1394 h
      unfold f_L_law_j1394 at h
      refine r_aload_n X 1 dL_law_1394 rfl rfl ?_
      refine r_aload_n X 0 dL_law_1395 rfl rfl ?_
      refine r_iload X 4 dL_law_1396 rfl ?_
      refine r_iconst X dL_law_1398 ?_
      refine r_iadd X dL_law_1399 ?_
      refine r_sld X hs hLb dL_law_1400 h (fun h => ?_)
      obtain ⟨ho183, h⟩ := cO_some h
      obtain ⟨r184, σ185, h182, h⟩ := bd2_some h
      refine r_cV (Wd := 0) X (fun l D sz => w_X1_next l D sz h182) ho183.1 rfl q1060 q1061 q1059 q104 q1062 hy_X1_next rfl dL_law_1401 rfl rfl (Nat.le_of_ble_eq_true rfl) ⟨Nat.le_of_ble_eq_true rfl, Nat.le_of_ble_eq_true rfl⟩ ⟨(by show (112 + (64 - cn) * 86) + 0 ≤ 5707; omega), (by show (504441 + (64 - cn) * 40302) + 0 ≤ 3134096; omega)⟩ ?_
      refine r_aload_n X 2 dL_law_1404 rfl rfl ?_
      refine r_aload_n X 0 dL_law_1405 rfl rfl ?_
      refine r_iload X 4 dL_law_1406 rfl ?_
      refine r_iconst X dL_law_1408 ?_
      refine r_iadd X dL_law_1409 ?_
      refine r_sld X hs hLb dL_law_1410 h (fun h => ?_)
      obtain ⟨ho187, h⟩ := cO_some h
      obtain ⟨r188, σ189, h186, h⟩ := bd2_some h
      refine r_cV (Wd := 1) X (fun l D sz => w_X6_next l D sz h186) ho187.1 rfl q1773 q1774 q1772 q109 q1775 hy_X6_next rfl dL_law_1411 rfl rfl (Nat.le_of_ble_eq_true rfl) ⟨Nat.le_of_ble_eq_true rfl, Nat.le_of_ble_eq_true rfl⟩ ⟨(by show (112 + (64 - cn) * 86) + 0 ≤ 5707; omega), (by show (504441 + (64 - cn) * 40302) + 0 ≤ 3134096; omega)⟩ ?_
      refine r_icmp_eq (tgt := 2568) X dL_law_1414 (by decide) h (fun c190 h => ?_) (fun c190 h => ?_)
      · refine r_iinc X 4 dL_law_2568 rfl (hL 4 (by decide)) (lv' := [(4, iv ((v4_j1394 + 8))), (0, .ref (b)), (1, .ref (nX (σ))), (2, .ref (nX (σ4))), (3, .ref (nX (σ8)))]) rfl ?_
        refine r_goto (tgt := 23) X dL_law_2571 (by decide) ?_
        exact V.widen (by show _ ≤ _; omega) (by show _ ≤ _; omega) <| V.sub [1, 2, 3, 4, 0] rfl (ihb1 _ (Option.some.inj h).symm)
      · have h := ex_some h ihe1
        refine V.widen (k' := 5616) (n' := 3083769) (by show _ ≤ _; omega) (by show _ ≤ _; omega) ?_
        refine r_iconst X dL_law_1417 ?_
        cases h
        exact absurd hw (by decide)
    have J1357 : ∀ (v4_j1357 : Int) (σ_j1357 : St), f_L_law_j1357 (xs) (L) (b) (nX (σ)) (nX (σ4)) (nX (σ8)) v4_j1357 σ_j1357 = some z1 → V Γ σ_j1357 (112 + (64 - cn) * 86) (504441 + (64 - cn) * 40302) 1357 [(0, .ref (b)), (1, .ref (nX (σ))), (2, .ref (nX (σ4))), (3, .ref (nX (σ8))), (4, iv (v4_j1357))] [] := by
      intro v4_j1357 σ_j1357 h
      unfold f_L_law_j1357 at h
      refine r_aload_n X 1 dL_law_1357 rfl rfl ?_
      refine r_aload_n X 0 dL_law_1358 rfl rfl ?_
      refine r_iload X 4 dL_law_1359 rfl ?_
      refine r_iconst X dL_law_1361 ?_
      refine r_iadd X dL_law_1362 ?_
      refine r_sld X hs hLb dL_law_1363 h (fun h => ?_)
      refine r_aload_n X 0 dL_law_1364 rfl rfl ?_
      refine r_iload X 4 dL_law_1365 rfl ?_
      refine r_iconst X dL_law_1367 ?_
      refine r_iadd X dL_law_1368 ?_
      refine r_sld X hs hLb dL_law_1369 h (fun h => ?_)
      obtain ⟨ho192, h⟩ := cO_some h
      obtain ⟨r193, σ194, h191, h⟩ := bd2_some h
      refine r_cV (Wd := 0) X (fun l D sz => w_X1_parted l D sz h191) ho192.1 rfl q1041 q1042 q1040 q104 q1043 hy_X1_parted rfl dL_law_1370 rfl rfl (Nat.le_of_ble_eq_true rfl) ⟨Nat.le_of_ble_eq_true rfl, Nat.le_of_ble_eq_true rfl⟩ ⟨(by show (112 + (64 - cn) * 86) + 0 ≤ 5707; omega), (by show (504441 + (64 - cn) * 40302) + 0 ≤ 3134096; omega)⟩ ?_
      refine r_aload_n X 2 dL_law_1373 rfl rfl ?_
      refine r_aload_n X 0 dL_law_1374 rfl rfl ?_
      refine r_iload X 4 dL_law_1375 rfl ?_
      refine r_iconst X dL_law_1377 ?_
      refine r_iadd X dL_law_1378 ?_
      refine r_sld X hs hLb dL_law_1379 h (fun h => ?_)
      refine r_aload_n X 0 dL_law_1380 rfl rfl ?_
      refine r_iload X 4 dL_law_1381 rfl ?_
      refine r_iconst X dL_law_1383 ?_
      refine r_iadd X dL_law_1384 ?_
      refine r_sld X hs hLb dL_law_1385 h (fun h => ?_)
      obtain ⟨ho196, h⟩ := cO_some h
      obtain ⟨r197, σ198, h195, h⟩ := bd2_some h
      refine r_cV (Wd := 1) X (fun l D sz => w_X6_parted l D sz h195) ho196.1 rfl q1757 q1758 q1756 q109 q1759 hy_X6_parted rfl dL_law_1386 rfl rfl (Nat.le_of_ble_eq_true rfl) ⟨Nat.le_of_ble_eq_true rfl, Nat.le_of_ble_eq_true rfl⟩ ⟨(by show (112 + (64 - cn) * 86) + 0 ≤ 5707; omega), (by show (504441 + (64 - cn) * 40302) + 0 ≤ 3134096; omega)⟩ ?_
      refine r_icmp_eq (tgt := 2568) X dL_law_1389 (by decide) h (fun c199 h => ?_) (fun c199 h => ?_)
      · refine r_iinc X 4 dL_law_2568 rfl (hL 4 (by decide)) (lv' := [(4, iv ((v4_j1357 + 8))), (0, .ref (b)), (1, .ref (nX (σ))), (2, .ref (nX (σ4))), (3, .ref (nX (σ8)))]) rfl ?_
        refine r_goto (tgt := 23) X dL_law_2571 (by decide) ?_
        exact V.widen (by show _ ≤ _; omega) (by show _ ≤ _; omega) <| V.sub [1, 2, 3, 4, 0] rfl (ihb1 _ (Option.some.inj h).symm)
      · have h := ex_some h ihe1
        refine V.widen (k' := 5616) (n' := 3083769) (by show _ ≤ _; omega) (by show _ ≤ _; omega) ?_
        refine r_iconst X dL_law_1392 ?_
        cases h
        exact absurd hw (by decide)
    have J1296 : ∀ (v4_j1296 : Int) (σ_j1296 : St), f_L_law_j1296 (xs) (L) (b) (nX (σ)) (nX (σ4)) (nX (σ8)) v4_j1296 σ_j1296 = some z1 → V Γ σ_j1296 (112 + (64 - cn) * 86) (504441 + (64 - cn) * 40302) 1296 [(0, .ref (b)), (1, .ref (nX (σ))), (2, .ref (nX (σ4))), (3, .ref (nX (σ8))), (4, iv (v4_j1296))] [] := by
      intro v4_j1296 σ_j1296 h
      unfold f_L_law_j1296 at h
      refine r_aload_n X 1 dL_law_1296 rfl rfl ?_
      refine r_aload_n X 0 dL_law_1297 rfl rfl ?_
      refine r_iload X 4 dL_law_1298 rfl ?_
      refine r_iconst X dL_law_1300 ?_
      refine r_iadd X dL_law_1301 ?_
      refine r_sld X hs hLb dL_law_1302 h (fun h => ?_)
      refine r_aload_n X 0 dL_law_1303 rfl rfl ?_
      refine r_iload X 4 dL_law_1304 rfl ?_
      refine r_iconst X dL_law_1306 ?_
      refine r_iadd X dL_law_1307 ?_
      refine r_sld X hs hLb dL_law_1308 h (fun h => ?_)
      refine r_aload_n X 0 dL_law_1309 rfl rfl ?_
      refine r_iload X 4 dL_law_1310 rfl ?_
      refine r_iconst X dL_law_1312 ?_
      refine r_iadd X dL_law_1313 ?_
      refine r_sld X hs hLb dL_law_1314 h (fun h => ?_)
      refine r_aload_n X 0 dL_law_1315 rfl rfl ?_
      refine r_iload X 4 dL_law_1316 rfl ?_
      refine r_iconst X dL_law_1318 ?_
      refine r_iadd X dL_law_1319 ?_
      refine r_sld X hs hLb dL_law_1320 h (fun h => ?_)
      obtain ⟨ho201, h⟩ := cO_some h
      obtain ⟨r202, σ203, h200, h⟩ := bd2_some h
      refine r_cV (Wd := 0) X (fun l D sz => w_X1_plan l D sz h200) ho201.1 rfl q1037 q1038 q1036 q104 q1039 hy_X1_plan rfl dL_law_1321 rfl rfl (Nat.le_of_ble_eq_true rfl) ⟨Nat.le_of_ble_eq_true rfl, Nat.le_of_ble_eq_true rfl⟩ ⟨(by show (112 + (64 - cn) * 86) + 0 ≤ 5707; omega), (by show (504441 + (64 - cn) * 40302) + 0 ≤ 3134096; omega)⟩ ?_
      refine r_aload_n X 2 dL_law_1324 rfl rfl ?_
      refine r_aload_n X 0 dL_law_1325 rfl rfl ?_
      refine r_iload X 4 dL_law_1326 rfl ?_
      refine r_iconst X dL_law_1328 ?_
      refine r_iadd X dL_law_1329 ?_
      refine r_sld X hs hLb dL_law_1330 h (fun h => ?_)
      refine r_aload_n X 0 dL_law_1331 rfl rfl ?_
      refine r_iload X 4 dL_law_1332 rfl ?_
      refine r_iconst X dL_law_1334 ?_
      refine r_iadd X dL_law_1335 ?_
      refine r_sld X hs hLb dL_law_1336 h (fun h => ?_)
      refine r_aload_n X 0 dL_law_1337 rfl rfl ?_
      refine r_iload X 4 dL_law_1338 rfl ?_
      refine r_iconst X dL_law_1340 ?_
      refine r_iadd X dL_law_1341 ?_
      refine r_sld X hs hLb dL_law_1342 h (fun h => ?_)
      refine r_aload_n X 0 dL_law_1343 rfl rfl ?_
      refine r_iload X 4 dL_law_1344 rfl ?_
      refine r_iconst X dL_law_1346 ?_
      refine r_iadd X dL_law_1347 ?_
      refine r_sld X hs hLb dL_law_1348 h (fun h => ?_)
      obtain ⟨ho205, h⟩ := cO_some h
      obtain ⟨r206, σ207, h204, h⟩ := bd2_some h
      refine r_cV (Wd := 1) X (fun l D sz => w_X6_plan l D sz h204) ho205.1 rfl q1753 q1754 q1752 q109 q1755 hy_X6_plan rfl dL_law_1349 rfl rfl (Nat.le_of_ble_eq_true rfl) ⟨Nat.le_of_ble_eq_true rfl, Nat.le_of_ble_eq_true rfl⟩ ⟨(by show (112 + (64 - cn) * 86) + 0 ≤ 5707; omega), (by show (504441 + (64 - cn) * 40302) + 0 ≤ 3134096; omega)⟩ ?_
      refine r_icmp_eq (tgt := 2568) X dL_law_1352 (by decide) h (fun c208 h => ?_) (fun c208 h => ?_)
      · refine r_iinc X 4 dL_law_2568 rfl (hL 4 (by decide)) (lv' := [(4, iv ((v4_j1296 + 8))), (0, .ref (b)), (1, .ref (nX (σ))), (2, .ref (nX (σ4))), (3, .ref (nX (σ8)))]) rfl ?_
        refine r_goto (tgt := 23) X dL_law_2571 (by decide) ?_
        exact V.widen (by show _ ≤ _; omega) (by show _ ≤ _; omega) <| V.sub [1, 2, 3, 4, 0] rfl (ihb1 _ (Option.some.inj h).symm)
      · have h := ex_some h ihe1
        refine V.widen (k' := 5616) (n' := 3083769) (by show _ ≤ _; omega) (by show _ ≤ _; omega) ?_
        refine r_iconst X dL_law_1355 ?_
        cases h
        exact absurd hw (by decide)
    have J1259 : ∀ (v4_j1259 : Int) (σ_j1259 : St), f_L_law_j1259 (xs) (L) (b) (nX (σ)) (nX (σ4)) (nX (σ8)) v4_j1259 σ_j1259 = some z1 → V Γ σ_j1259 (112 + (64 - cn) * 86) (504441 + (64 - cn) * 40302) 1259 [(0, .ref (b)), (1, .ref (nX (σ))), (2, .ref (nX (σ4))), (3, .ref (nX (σ8))), (4, iv (v4_j1259))] [] := by
      intro v4_j1259 σ_j1259 h
      unfold f_L_law_j1259 at h
      refine r_aload_n X 1 dL_law_1259 rfl rfl ?_
      refine r_aload_n X 0 dL_law_1260 rfl rfl ?_
      refine r_iload X 4 dL_law_1261 rfl ?_
      refine r_iconst X dL_law_1263 ?_
      refine r_iadd X dL_law_1264 ?_
      refine r_sld X hs hLb dL_law_1265 h (fun h => ?_)
      refine r_aload_n X 0 dL_law_1266 rfl rfl ?_
      refine r_iload X 4 dL_law_1267 rfl ?_
      refine r_iconst X dL_law_1269 ?_
      refine r_iadd X dL_law_1270 ?_
      refine r_sld X hs hLb dL_law_1271 h (fun h => ?_)
      obtain ⟨ho210, h⟩ := cO_some h
      obtain ⟨r211, σ212, h209, h⟩ := bd2_some h
      refine r_cV (Wd := 0) X (fun l D sz => w_X1_odds l D sz h209) ho210.1 rfl q1033 q1034 q1032 q104 q1035 hy_X1_odds rfl dL_law_1272 rfl rfl (Nat.le_of_ble_eq_true rfl) ⟨Nat.le_of_ble_eq_true rfl, Nat.le_of_ble_eq_true rfl⟩ ⟨(by show (112 + (64 - cn) * 86) + 0 ≤ 5707; omega), (by show (504441 + (64 - cn) * 40302) + 0 ≤ 3134096; omega)⟩ ?_
      refine r_aload_n X 2 dL_law_1275 rfl rfl ?_
      refine r_aload_n X 0 dL_law_1276 rfl rfl ?_
      refine r_iload X 4 dL_law_1277 rfl ?_
      refine r_iconst X dL_law_1279 ?_
      refine r_iadd X dL_law_1280 ?_
      refine r_sld X hs hLb dL_law_1281 h (fun h => ?_)
      refine r_aload_n X 0 dL_law_1282 rfl rfl ?_
      refine r_iload X 4 dL_law_1283 rfl ?_
      refine r_iconst X dL_law_1285 ?_
      refine r_iadd X dL_law_1286 ?_
      refine r_sld X hs hLb dL_law_1287 h (fun h => ?_)
      obtain ⟨ho214, h⟩ := cO_some h
      obtain ⟨r215, σ216, h213, h⟩ := bd2_some h
      refine r_cV (Wd := 1) X (fun l D sz => w_X6_odds l D sz h213) ho214.1 rfl q1749 q1750 q1748 q109 q1751 hy_X6_odds rfl dL_law_1288 rfl rfl (Nat.le_of_ble_eq_true rfl) ⟨Nat.le_of_ble_eq_true rfl, Nat.le_of_ble_eq_true rfl⟩ ⟨(by show (112 + (64 - cn) * 86) + 0 ≤ 5707; omega), (by show (504441 + (64 - cn) * 40302) + 0 ≤ 3134096; omega)⟩ ?_
      refine r_icmp_eq (tgt := 2568) X dL_law_1291 (by decide) h (fun c217 h => ?_) (fun c217 h => ?_)
      · refine r_iinc X 4 dL_law_2568 rfl (hL 4 (by decide)) (lv' := [(4, iv ((v4_j1259 + 8))), (0, .ref (b)), (1, .ref (nX (σ))), (2, .ref (nX (σ4))), (3, .ref (nX (σ8)))]) rfl ?_
        refine r_goto (tgt := 23) X dL_law_2571 (by decide) ?_
        exact V.widen (by show _ ≤ _; omega) (by show _ ≤ _; omega) <| V.sub [1, 2, 3, 4, 0] rfl (ihb1 _ (Option.some.inj h).symm)
      · have h := ex_some h ihe1
        refine V.widen (k' := 5616) (n' := 3083769) (by show _ ≤ _; omega) (by show _ ≤ _; omega) ?_
        refine r_iconst X dL_law_1294 ?_
        cases h
        exact absurd hw (by decide)
    have J1222 : ∀ (v4_j1222 : Int) (σ_j1222 : St), f_L_law_j1222 (xs) (L) (b) (nX (σ)) (nX (σ4)) (nX (σ8)) v4_j1222 σ_j1222 = some z1 → V Γ σ_j1222 (112 + (64 - cn) * 86) (504441 + (64 - cn) * 40302) 1222 [(0, .ref (b)), (1, .ref (nX (σ))), (2, .ref (nX (σ4))), (3, .ref (nX (σ8))), (4, iv (v4_j1222))] [] := by
      intro v4_j1222 σ_j1222 h
      unfold f_L_law_j1222 at h
      refine r_aload_n X 1 dL_law_1222 rfl rfl ?_
      refine r_aload_n X 0 dL_law_1223 rfl rfl ?_
      refine r_iload X 4 dL_law_1224 rfl ?_
      refine r_iconst X dL_law_1226 ?_
      refine r_iadd X dL_law_1227 ?_
      refine r_sld X hs hLb dL_law_1228 h (fun h => ?_)
      refine r_aload_n X 0 dL_law_1229 rfl rfl ?_
      refine r_iload X 4 dL_law_1230 rfl ?_
      refine r_iconst X dL_law_1232 ?_
      refine r_iadd X dL_law_1233 ?_
      refine r_sld X hs hLb dL_law_1234 h (fun h => ?_)
      obtain ⟨ho219, h⟩ := cO_some h
      obtain ⟨r220, σ221, h218, h⟩ := bd2_some h
      refine r_cV (Wd := 0) X (fun l D sz => w_X1_weigh l D sz h218) ho219.1 rfl q1028 q1029 q1027 q104 q1030 hy_X1_weigh rfl dL_law_1235 rfl rfl (Nat.le_of_ble_eq_true rfl) ⟨Nat.le_of_ble_eq_true rfl, Nat.le_of_ble_eq_true rfl⟩ ⟨(by show (112 + (64 - cn) * 86) + 0 ≤ 5707; omega), (by show (504441 + (64 - cn) * 40302) + 0 ≤ 3134096; omega)⟩ ?_
      refine r_aload_n X 2 dL_law_1238 rfl rfl ?_
      refine r_aload_n X 0 dL_law_1239 rfl rfl ?_
      refine r_iload X 4 dL_law_1240 rfl ?_
      refine r_iconst X dL_law_1242 ?_
      refine r_iadd X dL_law_1243 ?_
      refine r_sld X hs hLb dL_law_1244 h (fun h => ?_)
      refine r_aload_n X 0 dL_law_1245 rfl rfl ?_
      refine r_iload X 4 dL_law_1246 rfl ?_
      refine r_iconst X dL_law_1248 ?_
      refine r_iadd X dL_law_1249 ?_
      refine r_sld X hs hLb dL_law_1250 h (fun h => ?_)
      obtain ⟨ho223, h⟩ := cO_some h
      obtain ⟨r224, σ225, h222, h⟩ := bd2_some h
      refine r_cV (Wd := 1) X (fun l D sz => w_X6_weigh l D sz h222) ho223.1 rfl q1745 q1746 q1744 q109 q1747 hy_X6_weigh rfl dL_law_1251 rfl rfl (Nat.le_of_ble_eq_true rfl) ⟨Nat.le_of_ble_eq_true rfl, Nat.le_of_ble_eq_true rfl⟩ ⟨(by show (112 + (64 - cn) * 86) + 0 ≤ 5707; omega), (by show (504441 + (64 - cn) * 40302) + 0 ≤ 3134096; omega)⟩ ?_
      refine r_icmp_eq (tgt := 2568) X dL_law_1254 (by decide) h (fun c226 h => ?_) (fun c226 h => ?_)
      · refine r_iinc X 4 dL_law_2568 rfl (hL 4 (by decide)) (lv' := [(4, iv ((v4_j1222 + 8))), (0, .ref (b)), (1, .ref (nX (σ))), (2, .ref (nX (σ4))), (3, .ref (nX (σ8)))]) rfl ?_
        refine r_goto (tgt := 23) X dL_law_2571 (by decide) ?_
        exact V.widen (by show _ ≤ _; omega) (by show _ ≤ _; omega) <| V.sub [1, 2, 3, 4, 0] rfl (ihb1 _ (Option.some.inj h).symm)
      · have h := ex_some h ihe1
        refine V.widen (k' := 5616) (n' := 3083769) (by show _ ≤ _; omega) (by show _ ≤ _; omega) ?_
        refine r_iconst X dL_law_1257 ?_
        cases h
        exact absurd hw (by decide)
    have J1161 : ∀ (v4_j1161 : Int) (σ_j1161 : St), f_L_law_j1161 (xs) (L) (b) (nX (σ)) (nX (σ4)) (nX (σ8)) v4_j1161 σ_j1161 = some z1 → V Γ σ_j1161 (112 + (64 - cn) * 86) (504441 + (64 - cn) * 40302) 1161 [(0, .ref (b)), (1, .ref (nX (σ))), (2, .ref (nX (σ4))), (3, .ref (nX (σ8))), (4, iv (v4_j1161))] [] := by
      intro v4_j1161 σ_j1161 h
      unfold f_L_law_j1161 at h
      refine r_aload_n X 1 dL_law_1161 rfl rfl ?_
      refine r_aload_n X 0 dL_law_1162 rfl rfl ?_
      refine r_iload X 4 dL_law_1163 rfl ?_
      refine r_iconst X dL_law_1165 ?_
      refine r_iadd X dL_law_1166 ?_
      refine r_sld X hs hLb dL_law_1167 h (fun h => ?_)
      refine r_aload_n X 0 dL_law_1168 rfl rfl ?_
      refine r_iload X 4 dL_law_1169 rfl ?_
      refine r_iconst X dL_law_1171 ?_
      refine r_iadd X dL_law_1172 ?_
      refine r_sld X hs hLb dL_law_1173 h (fun h => ?_)
      refine r_aload_n X 0 dL_law_1174 rfl rfl ?_
      refine r_iload X 4 dL_law_1175 rfl ?_
      refine r_iconst X dL_law_1177 ?_
      refine r_iadd X dL_law_1178 ?_
      refine r_sld X hs hLb dL_law_1179 h (fun h => ?_)
      refine r_aload_n X 0 dL_law_1180 rfl rfl ?_
      refine r_iload X 4 dL_law_1181 rfl ?_
      refine r_iconst X dL_law_1183 ?_
      refine r_iadd X dL_law_1184 ?_
      refine r_sld X hs hLb dL_law_1185 h (fun h => ?_)
      obtain ⟨ho228, h⟩ := cO_some h
      obtain ⟨r229, σ230, h227, h⟩ := bd2_some h
      refine r_cV (Wd := 0) X (fun l D sz => w_X1_learnt l D sz h227) ho228.1 rfl q1020 q1021 q1019 q104 q1022 hy_X1_learnt rfl dL_law_1186 rfl rfl (Nat.le_of_ble_eq_true rfl) ⟨Nat.le_of_ble_eq_true rfl, Nat.le_of_ble_eq_true rfl⟩ ⟨(by show (112 + (64 - cn) * 86) + 0 ≤ 5707; omega), (by show (504441 + (64 - cn) * 40302) + 0 ≤ 3134096; omega)⟩ ?_
      refine r_aload_n X 2 dL_law_1189 rfl rfl ?_
      refine r_aload_n X 0 dL_law_1190 rfl rfl ?_
      refine r_iload X 4 dL_law_1191 rfl ?_
      refine r_iconst X dL_law_1193 ?_
      refine r_iadd X dL_law_1194 ?_
      refine r_sld X hs hLb dL_law_1195 h (fun h => ?_)
      refine r_aload_n X 0 dL_law_1196 rfl rfl ?_
      refine r_iload X 4 dL_law_1197 rfl ?_
      refine r_iconst X dL_law_1199 ?_
      refine r_iadd X dL_law_1200 ?_
      refine r_sld X hs hLb dL_law_1201 h (fun h => ?_)
      refine r_aload_n X 0 dL_law_1202 rfl rfl ?_
      refine r_iload X 4 dL_law_1203 rfl ?_
      refine r_iconst X dL_law_1205 ?_
      refine r_iadd X dL_law_1206 ?_
      refine r_sld X hs hLb dL_law_1207 h (fun h => ?_)
      refine r_aload_n X 0 dL_law_1208 rfl rfl ?_
      refine r_iload X 4 dL_law_1209 rfl ?_
      refine r_iconst X dL_law_1211 ?_
      refine r_iadd X dL_law_1212 ?_
      refine r_sld X hs hLb dL_law_1213 h (fun h => ?_)
      obtain ⟨ho232, h⟩ := cO_some h
      obtain ⟨r233, σ234, h231, h⟩ := bd2_some h
      refine r_cV (Wd := 1) X (fun l D sz => w_X6_learnt l D sz h231) ho232.1 rfl q1741 q1742 q1740 q109 q1743 hy_X6_learnt rfl dL_law_1214 rfl rfl (Nat.le_of_ble_eq_true rfl) ⟨Nat.le_of_ble_eq_true rfl, Nat.le_of_ble_eq_true rfl⟩ ⟨(by show (112 + (64 - cn) * 86) + 0 ≤ 5707; omega), (by show (504441 + (64 - cn) * 40302) + 0 ≤ 3134096; omega)⟩ ?_
      refine r_icmp_eq (tgt := 2568) X dL_law_1217 (by decide) h (fun c235 h => ?_) (fun c235 h => ?_)
      · refine r_iinc X 4 dL_law_2568 rfl (hL 4 (by decide)) (lv' := [(4, iv ((v4_j1161 + 8))), (0, .ref (b)), (1, .ref (nX (σ))), (2, .ref (nX (σ4))), (3, .ref (nX (σ8)))]) rfl ?_
        refine r_goto (tgt := 23) X dL_law_2571 (by decide) ?_
        exact V.widen (by show _ ≤ _; omega) (by show _ ≤ _; omega) <| V.sub [1, 2, 3, 4, 0] rfl (ihb1 _ (Option.some.inj h).symm)
      · have h := ex_some h ihe1
        refine V.widen (k' := 5616) (n' := 3083769) (by show _ ≤ _; omega) (by show _ ≤ _; omega) ?_
        refine r_iconst X dL_law_1220 ?_
        cases h
        exact absurd hw (by decide)
    have J1136 : ∀ (v4_j1136 : Int) (σ_j1136 : St), f_L_law_j1136 (xs) (L) (b) (nX (σ)) (nX (σ4)) (nX (σ8)) v4_j1136 σ_j1136 = some z1 → V Γ σ_j1136 (112 + (64 - cn) * 86) (504441 + (64 - cn) * 40302) 1136 [(0, .ref (b)), (1, .ref (nX (σ))), (2, .ref (nX (σ4))), (3, .ref (nX (σ8))), (4, iv (v4_j1136))] [] := by
      intro v4_j1136 σ_j1136 h
      unfold f_L_law_j1136 at h
      refine r_aload_n X 1 dL_law_1136 rfl rfl ?_
      refine r_aload_n X 0 dL_law_1137 rfl rfl ?_
      refine r_iload X 4 dL_law_1138 rfl ?_
      refine r_iconst X dL_law_1140 ?_
      refine r_iadd X dL_law_1141 ?_
      refine r_sld X hs hLb dL_law_1142 h (fun h => ?_)
      obtain ⟨ho237, h⟩ := cO_some h
      obtain ⟨r238, h236, h⟩ := bd_some h
      refine r_cV (Wd := 0) X (fun l D sz => w_X1_after l D sz h236) ho237.1 rfl q1012 q1013 q1011 q104 q1014 hy_X1_after rfl dL_law_1143 rfl rfl (Nat.le_of_ble_eq_true rfl) ⟨Nat.le_of_ble_eq_true rfl, Nat.le_of_ble_eq_true rfl⟩ ⟨(by show (112 + (64 - cn) * 86) + 0 ≤ 5707; omega), (by show (504441 + (64 - cn) * 40302) + 0 ≤ 3134096; omega)⟩ ?_
      refine r_aload_n X 2 dL_law_1146 rfl rfl ?_
      refine r_aload_n X 0 dL_law_1147 rfl rfl ?_
      refine r_iload X 4 dL_law_1148 rfl ?_
      refine r_iconst X dL_law_1150 ?_
      refine r_iadd X dL_law_1151 ?_
      refine r_sld X hs hLb dL_law_1152 h (fun h => ?_)
      obtain ⟨ho240, h⟩ := cO_some h
      obtain ⟨r241, h239, h⟩ := bd_some h
      refine r_cV (Wd := 1) X (fun l D sz => w_X6_after l D sz h239) ho240.1 rfl q1737 q1738 q1736 q109 q1739 hy_X6_after rfl dL_law_1153 rfl rfl (Nat.le_of_ble_eq_true rfl) ⟨Nat.le_of_ble_eq_true rfl, Nat.le_of_ble_eq_true rfl⟩ ⟨(by show (112 + (64 - cn) * 86) + 0 ≤ 5707; omega), (by show (504441 + (64 - cn) * 40302) + 0 ≤ 3134096; omega)⟩ ?_
      refine r_icmp_eq (tgt := 2568) X dL_law_1156 (by decide) h (fun c242 h => ?_) (fun c242 h => ?_)
      · refine r_iinc X 4 dL_law_2568 rfl (hL 4 (by decide)) (lv' := [(4, iv ((v4_j1136 + 8))), (0, .ref (b)), (1, .ref (nX (σ))), (2, .ref (nX (σ4))), (3, .ref (nX (σ8)))]) rfl ?_
        refine r_goto (tgt := 23) X dL_law_2571 (by decide) ?_
        exact V.widen (by show _ ≤ _; omega) (by show _ ≤ _; omega) <| V.sub [1, 2, 3, 4, 0] rfl (ihb1 _ (Option.some.inj h).symm)
      · have h := ex_some h ihe1
        refine V.widen (k' := 5616) (n' := 3083769) (by show _ ≤ _; omega) (by show _ ≤ _; omega) ?_
        refine r_iconst X dL_law_1159 ?_
        cases h
        exact absurd hw (by decide)
    have J1111 : ∀ (v4_j1111 : Int) (σ_j1111 : St), f_L_law_j1111 (xs) (L) (b) (nX (σ)) (nX (σ4)) (nX (σ8)) v4_j1111 σ_j1111 = some z1 → V Γ σ_j1111 (112 + (64 - cn) * 86) (504441 + (64 - cn) * 40302) 1111 [(0, .ref (b)), (1, .ref (nX (σ))), (2, .ref (nX (σ4))), (3, .ref (nX (σ8))), (4, iv (v4_j1111))] [] := by
      intro v4_j1111 σ_j1111 h
      unfold f_L_law_j1111 at h
      refine r_aload_n X 1 dL_law_1111 rfl rfl ?_
      refine r_aload_n X 0 dL_law_1112 rfl rfl ?_
      refine r_iload X 4 dL_law_1113 rfl ?_
      refine r_iconst X dL_law_1115 ?_
      refine r_iadd X dL_law_1116 ?_
      refine r_sld X hs hLb dL_law_1117 h (fun h => ?_)
      obtain ⟨ho244, h⟩ := cO_some h
      obtain ⟨r245, h243, h⟩ := bd_some h
      refine r_cV (Wd := 0) X (fun l D sz => w_X1_lived l D sz h243) ho244.1 rfl q1005 q1006 q1004 q104 q1007 hy_X1_lived rfl dL_law_1118 rfl rfl (Nat.le_of_ble_eq_true rfl) ⟨Nat.le_of_ble_eq_true rfl, Nat.le_of_ble_eq_true rfl⟩ ⟨(by show (112 + (64 - cn) * 86) + 0 ≤ 5707; omega), (by show (504441 + (64 - cn) * 40302) + 0 ≤ 3134096; omega)⟩ ?_
      refine r_aload_n X 2 dL_law_1121 rfl rfl ?_
      refine r_aload_n X 0 dL_law_1122 rfl rfl ?_
      refine r_iload X 4 dL_law_1123 rfl ?_
      refine r_iconst X dL_law_1125 ?_
      refine r_iadd X dL_law_1126 ?_
      refine r_sld X hs hLb dL_law_1127 h (fun h => ?_)
      obtain ⟨ho247, h⟩ := cO_some h
      obtain ⟨r248, h246, h⟩ := bd_some h
      refine r_cV (Wd := 1) X (fun l D sz => w_X6_lived l D sz h246) ho247.1 rfl q1730 q1731 q1729 q109 q1732 hy_X6_lived rfl dL_law_1128 rfl rfl (Nat.le_of_ble_eq_true rfl) ⟨Nat.le_of_ble_eq_true rfl, Nat.le_of_ble_eq_true rfl⟩ ⟨(by show (112 + (64 - cn) * 86) + 0 ≤ 5707; omega), (by show (504441 + (64 - cn) * 40302) + 0 ≤ 3134096; omega)⟩ ?_
      refine r_icmp_eq (tgt := 2568) X dL_law_1131 (by decide) h (fun c249 h => ?_) (fun c249 h => ?_)
      · refine r_iinc X 4 dL_law_2568 rfl (hL 4 (by decide)) (lv' := [(4, iv ((v4_j1111 + 8))), (0, .ref (b)), (1, .ref (nX (σ))), (2, .ref (nX (σ4))), (3, .ref (nX (σ8)))]) rfl ?_
        refine r_goto (tgt := 23) X dL_law_2571 (by decide) ?_
        exact V.widen (by show _ ≤ _; omega) (by show _ ≤ _; omega) <| V.sub [1, 2, 3, 4, 0] rfl (ihb1 _ (Option.some.inj h).symm)
      · have h := ex_some h ihe1
        refine V.widen (k' := 5616) (n' := 3083769) (by show _ ≤ _; omega) (by show _ ≤ _; omega) ?_
        refine r_iconst X dL_law_1134 ?_
        cases h
        exact absurd hw (by decide)
    have J1086 : ∀ (v4_j1086 : Int) (σ_j1086 : St), f_L_law_j1086 (xs) (L) (b) (nX (σ)) (nX (σ4)) (nX (σ8)) v4_j1086 σ_j1086 = some z1 → V Γ σ_j1086 (112 + (64 - cn) * 86) (504441 + (64 - cn) * 40302) 1086 [(0, .ref (b)), (1, .ref (nX (σ))), (2, .ref (nX (σ4))), (3, .ref (nX (σ8))), (4, iv (v4_j1086))] [] := by
      intro v4_j1086 σ_j1086 h
      unfold f_L_law_j1086 at h
      refine r_aload_n X 1 dL_law_1086 rfl rfl ?_
      refine r_aload_n X 0 dL_law_1087 rfl rfl ?_
      refine r_iload X 4 dL_law_1088 rfl ?_
      refine r_iconst X dL_law_1090 ?_
      refine r_iadd X dL_law_1091 ?_
      refine r_sld X hs hLb dL_law_1092 h (fun h => ?_)
      obtain ⟨ho251, h⟩ := cO_some h
      obtain ⟨r252, h250, h⟩ := bd_some h
      refine r_cV (Wd := 0) X (fun l D sz => w_X1_further l D sz h250) ho251.1 rfl q985 q986 q984 q104 q987 hy_X1_further rfl dL_law_1093 rfl rfl (Nat.le_of_ble_eq_true rfl) ⟨Nat.le_of_ble_eq_true rfl, Nat.le_of_ble_eq_true rfl⟩ ⟨(by show (112 + (64 - cn) * 86) + 0 ≤ 5707; omega), (by show (504441 + (64 - cn) * 40302) + 0 ≤ 3134096; omega)⟩ ?_
      refine r_aload_n X 2 dL_law_1096 rfl rfl ?_
      refine r_aload_n X 0 dL_law_1097 rfl rfl ?_
      refine r_iload X 4 dL_law_1098 rfl ?_
      refine r_iconst X dL_law_1100 ?_
      refine r_iadd X dL_law_1101 ?_
      refine r_sld X hs hLb dL_law_1102 h (fun h => ?_)
      obtain ⟨ho254, h⟩ := cO_some h
      obtain ⟨r255, h253, h⟩ := bd_some h
      refine r_cV (Wd := 1) X (fun l D sz => w_X6_further l D sz h253) ho254.1 rfl q1725 q1726 q1724 q109 q1727 hy_X6_further rfl dL_law_1103 rfl rfl (Nat.le_of_ble_eq_true rfl) ⟨Nat.le_of_ble_eq_true rfl, Nat.le_of_ble_eq_true rfl⟩ ⟨(by show (112 + (64 - cn) * 86) + 0 ≤ 5707; omega), (by show (504441 + (64 - cn) * 40302) + 0 ≤ 3134096; omega)⟩ ?_
      refine r_icmp_eq (tgt := 2568) X dL_law_1106 (by decide) h (fun c256 h => ?_) (fun c256 h => ?_)
      · refine r_iinc X 4 dL_law_2568 rfl (hL 4 (by decide)) (lv' := [(4, iv ((v4_j1086 + 8))), (0, .ref (b)), (1, .ref (nX (σ))), (2, .ref (nX (σ4))), (3, .ref (nX (σ8)))]) rfl ?_
        refine r_goto (tgt := 23) X dL_law_2571 (by decide) ?_
        exact V.widen (by show _ ≤ _; omega) (by show _ ≤ _; omega) <| V.sub [1, 2, 3, 4, 0] rfl (ihb1 _ (Option.some.inj h).symm)
      · have h := ex_some h ihe1
        refine V.widen (k' := 5616) (n' := 3083769) (by show _ ≤ _; omega) (by show _ ≤ _; omega) ?_
        refine r_iconst X dL_law_1109 ?_
        cases h
        exact absurd hw (by decide)
    have J1049 : ∀ (v4_j1049 : Int) (σ_j1049 : St), f_L_law_j1049 (xs) (L) (b) (nX (σ)) (nX (σ4)) (nX (σ8)) v4_j1049 σ_j1049 = some z1 → V Γ σ_j1049 (112 + (64 - cn) * 86) (504441 + (64 - cn) * 40302) 1049 [(0, .ref (b)), (1, .ref (nX (σ))), (2, .ref (nX (σ4))), (3, .ref (nX (σ8))), (4, iv (v4_j1049))] [] := by
      intro v4_j1049 σ_j1049 h
      unfold f_L_law_j1049 at h
      refine r_aload_n X 1 dL_law_1049 rfl rfl ?_
      refine r_aload_n X 0 dL_law_1050 rfl rfl ?_
      refine r_iload X 4 dL_law_1051 rfl ?_
      refine r_iconst X dL_law_1053 ?_
      refine r_iadd X dL_law_1054 ?_
      refine r_sld X hs hLb dL_law_1055 h (fun h => ?_)
      refine r_aload_n X 0 dL_law_1056 rfl rfl ?_
      refine r_iload X 4 dL_law_1057 rfl ?_
      refine r_iconst X dL_law_1059 ?_
      refine r_iadd X dL_law_1060 ?_
      refine r_sld X hs hLb dL_law_1061 h (fun h => ?_)
      obtain ⟨ho258, h⟩ := cO_some h
      obtain ⟨r259, σ260, h257, h⟩ := bd2_some h
      refine r_cV (Wd := 0) X (fun l D sz => w_X1_so l D sz h257) ho258.1 rfl q981 q982 q980 q104 q983 hy_X1_so rfl dL_law_1062 rfl rfl (Nat.le_of_ble_eq_true rfl) ⟨Nat.le_of_ble_eq_true rfl, Nat.le_of_ble_eq_true rfl⟩ ⟨(by show (112 + (64 - cn) * 86) + 0 ≤ 5707; omega), (by show (504441 + (64 - cn) * 40302) + 0 ≤ 3134096; omega)⟩ ?_
      refine r_aload_n X 2 dL_law_1065 rfl rfl ?_
      refine r_aload_n X 0 dL_law_1066 rfl rfl ?_
      refine r_iload X 4 dL_law_1067 rfl ?_
      refine r_iconst X dL_law_1069 ?_
      refine r_iadd X dL_law_1070 ?_
      refine r_sld X hs hLb dL_law_1071 h (fun h => ?_)
      refine r_aload_n X 0 dL_law_1072 rfl rfl ?_
      refine r_iload X 4 dL_law_1073 rfl ?_
      refine r_iconst X dL_law_1075 ?_
      refine r_iadd X dL_law_1076 ?_
      refine r_sld X hs hLb dL_law_1077 h (fun h => ?_)
      obtain ⟨ho262, h⟩ := cO_some h
      obtain ⟨r263, σ264, h261, h⟩ := bd2_some h
      refine r_cV (Wd := 1) X (fun l D sz => w_X6_so l D sz h261) ho262.1 rfl q1721 q1722 q1720 q109 q1723 hy_X6_so rfl dL_law_1078 rfl rfl (Nat.le_of_ble_eq_true rfl) ⟨Nat.le_of_ble_eq_true rfl, Nat.le_of_ble_eq_true rfl⟩ ⟨(by show (112 + (64 - cn) * 86) + 0 ≤ 5707; omega), (by show (504441 + (64 - cn) * 40302) + 0 ≤ 3134096; omega)⟩ ?_
      refine r_icmp_eq (tgt := 2568) X dL_law_1081 (by decide) h (fun c265 h => ?_) (fun c265 h => ?_)
      · refine r_iinc X 4 dL_law_2568 rfl (hL 4 (by decide)) (lv' := [(4, iv ((v4_j1049 + 8))), (0, .ref (b)), (1, .ref (nX (σ))), (2, .ref (nX (σ4))), (3, .ref (nX (σ8)))]) rfl ?_
        refine r_goto (tgt := 23) X dL_law_2571 (by decide) ?_
        exact V.widen (by show _ ≤ _; omega) (by show _ ≤ _; omega) <| V.sub [1, 2, 3, 4, 0] rfl (ihb1 _ (Option.some.inj h).symm)
      · have h := ex_some h ihe1
        refine V.widen (k' := 5616) (n' := 3083769) (by show _ ≤ _; omega) (by show _ ≤ _; omega) ?_
        refine r_iconst X dL_law_1084 ?_
        cases h
        exact absurd hw (by decide)
    have J1024 : ∀ (v4_j1024 : Int) (σ_j1024 : St), f_L_law_j1024 (xs) (L) (b) (nX (σ)) (nX (σ4)) (nX (σ8)) v4_j1024 σ_j1024 = some z1 → V Γ σ_j1024 (112 + (64 - cn) * 86) (504441 + (64 - cn) * 40302) 1024 [(0, .ref (b)), (1, .ref (nX (σ))), (2, .ref (nX (σ4))), (3, .ref (nX (σ8))), (4, iv (v4_j1024))] [] := by
      intro v4_j1024 σ_j1024 h
      unfold f_L_law_j1024 at h
      refine r_aload_n X 1 dL_law_1024 rfl rfl ?_
      refine r_aload_n X 0 dL_law_1025 rfl rfl ?_
      refine r_iload X 4 dL_law_1026 rfl ?_
      refine r_iconst X dL_law_1028 ?_
      refine r_iadd X dL_law_1029 ?_
      refine r_sld X hs hLb dL_law_1030 h (fun h => ?_)
      obtain ⟨ho267, h⟩ := cO_some h
      obtain ⟨r268, σ269, h266, h⟩ := bd2_some h
      refine r_cV (Wd := 0) X (fun l D sz => w_X1_fits l D sz h266) ho267.1 rfl q963 q964 q962 q104 q965 hy_X1_fits rfl dL_law_1031 rfl rfl (Nat.le_of_ble_eq_true rfl) ⟨Nat.le_of_ble_eq_true rfl, Nat.le_of_ble_eq_true rfl⟩ ⟨(by show (112 + (64 - cn) * 86) + 0 ≤ 5707; omega), (by show (504441 + (64 - cn) * 40302) + 0 ≤ 3134096; omega)⟩ ?_
      refine r_aload_n X 2 dL_law_1034 rfl rfl ?_
      refine r_aload_n X 0 dL_law_1035 rfl rfl ?_
      refine r_iload X 4 dL_law_1036 rfl ?_
      refine r_iconst X dL_law_1038 ?_
      refine r_iadd X dL_law_1039 ?_
      refine r_sld X hs hLb dL_law_1040 h (fun h => ?_)
      obtain ⟨ho271, h⟩ := cO_some h
      obtain ⟨r272, σ273, h270, h⟩ := bd2_some h
      refine r_cV (Wd := 1) X (fun l D sz => w_X6_fits l D sz h270) ho271.1 rfl q1704 q1705 q1703 q109 q1706 hy_X6_fits rfl dL_law_1041 rfl rfl (Nat.le_of_ble_eq_true rfl) ⟨Nat.le_of_ble_eq_true rfl, Nat.le_of_ble_eq_true rfl⟩ ⟨(by show (112 + (64 - cn) * 86) + 0 ≤ 5707; omega), (by show (504441 + (64 - cn) * 40302) + 0 ≤ 3134096; omega)⟩ ?_
      refine r_icmp_eq (tgt := 2568) X dL_law_1044 (by decide) h (fun c274 h => ?_) (fun c274 h => ?_)
      · refine r_iinc X 4 dL_law_2568 rfl (hL 4 (by decide)) (lv' := [(4, iv ((v4_j1024 + 8))), (0, .ref (b)), (1, .ref (nX (σ))), (2, .ref (nX (σ4))), (3, .ref (nX (σ8)))]) rfl ?_
        refine r_goto (tgt := 23) X dL_law_2571 (by decide) ?_
        exact V.widen (by show _ ≤ _; omega) (by show _ ≤ _; omega) <| V.sub [1, 2, 3, 4, 0] rfl (ihb1 _ (Option.some.inj h).symm)
      · have h := ex_some h ihe1
        refine V.widen (k' := 5616) (n' := 3083769) (by show _ ≤ _; omega) (by show _ ≤ _; omega) ?_
        refine r_iconst X dL_law_1047 ?_
        cases h
        exact absurd hw (by decide)
    have J987 : ∀ (v4_j987 : Int) (σ_j987 : St), f_L_law_j987 (xs) (L) (b) (nX (σ)) (nX (σ4)) (nX (σ8)) v4_j987 σ_j987 = some z1 → V Γ σ_j987 (112 + (64 - cn) * 86) (504441 + (64 - cn) * 40302) 987 [(0, .ref (b)), (1, .ref (nX (σ))), (2, .ref (nX (σ4))), (3, .ref (nX (σ8))), (4, iv (v4_j987))] [] := by
      intro v4_j987 σ_j987 h
      unfold f_L_law_j987 at h
      refine r_aload_n X 1 dL_law_987 rfl rfl ?_
      refine r_aload_n X 0 dL_law_988 rfl rfl ?_
      refine r_iload X 4 dL_law_989 rfl ?_
      refine r_iconst X dL_law_991 ?_
      refine r_iadd X dL_law_992 ?_
      refine r_sld X hs hLb dL_law_993 h (fun h => ?_)
      refine r_aload_n X 0 dL_law_994 rfl rfl ?_
      refine r_iload X 4 dL_law_995 rfl ?_
      refine r_iconst X dL_law_997 ?_
      refine r_iadd X dL_law_998 ?_
      refine r_sld X hs hLb dL_law_999 h (fun h => ?_)
      obtain ⟨ho276, h⟩ := cO_some h
      obtain ⟨r277, h275, h⟩ := bd_some h
      refine r_cV (Wd := 0) X (fun l D sz => w_X1_asked l D sz h275) ho276.1 rfl q958 q959 q957 q104 q960 hy_X1_asked rfl dL_law_1000 rfl rfl (Nat.le_of_ble_eq_true rfl) ⟨Nat.le_of_ble_eq_true rfl, Nat.le_of_ble_eq_true rfl⟩ ⟨(by show (112 + (64 - cn) * 86) + 0 ≤ 5707; omega), (by show (504441 + (64 - cn) * 40302) + 0 ≤ 3134096; omega)⟩ ?_
      refine r_aload_n X 2 dL_law_1003 rfl rfl ?_
      refine r_aload_n X 0 dL_law_1004 rfl rfl ?_
      refine r_iload X 4 dL_law_1005 rfl ?_
      refine r_iconst X dL_law_1007 ?_
      refine r_iadd X dL_law_1008 ?_
      refine r_sld X hs hLb dL_law_1009 h (fun h => ?_)
      refine r_aload_n X 0 dL_law_1010 rfl rfl ?_
      refine r_iload X 4 dL_law_1011 rfl ?_
      refine r_iconst X dL_law_1013 ?_
      refine r_iadd X dL_law_1014 ?_
      refine r_sld X hs hLb dL_law_1015 h (fun h => ?_)
      obtain ⟨ho279, h⟩ := cO_some h
      obtain ⟨r280, h278, h⟩ := bd_some h
      refine r_cV (Wd := 1) X (fun l D sz => w_X6_asked l D sz h278) ho279.1 rfl q1696 q1697 q1695 q109 q1698 hy_X6_asked rfl dL_law_1016 rfl rfl (Nat.le_of_ble_eq_true rfl) ⟨Nat.le_of_ble_eq_true rfl, Nat.le_of_ble_eq_true rfl⟩ ⟨(by show (112 + (64 - cn) * 86) + 0 ≤ 5707; omega), (by show (504441 + (64 - cn) * 40302) + 0 ≤ 3134096; omega)⟩ ?_
      refine r_icmp_eq (tgt := 2568) X dL_law_1019 (by decide) h (fun c281 h => ?_) (fun c281 h => ?_)
      · refine r_iinc X 4 dL_law_2568 rfl (hL 4 (by decide)) (lv' := [(4, iv ((v4_j987 + 8))), (0, .ref (b)), (1, .ref (nX (σ))), (2, .ref (nX (σ4))), (3, .ref (nX (σ8)))]) rfl ?_
        refine r_goto (tgt := 23) X dL_law_2571 (by decide) ?_
        exact V.widen (by show _ ≤ _; omega) (by show _ ≤ _; omega) <| V.sub [1, 2, 3, 4, 0] rfl (ihb1 _ (Option.some.inj h).symm)
      · have h := ex_some h ihe1
        refine V.widen (k' := 5616) (n' := 3083769) (by show _ ≤ _; omega) (by show _ ≤ _; omega) ?_
        refine r_iconst X dL_law_1022 ?_
        cases h
        exact absurd hw (by decide)
    have J886 : ∀ (v4_j886 : Int) (σ_j886 : St), f_L_law_j886 (xs) (L) (b) (nX (σ)) (nX (σ4)) (nX (σ8)) v4_j886 σ_j886 = some z1 → V Γ σ_j886 (112 + (64 - cn) * 86) (504441 + (64 - cn) * 40302) 886 [(0, .ref (b)), (1, .ref (nX (σ))), (2, .ref (nX (σ4))), (3, .ref (nX (σ8))), (4, iv (v4_j886))] [] := by
      intro v4_j886 σ_j886 h
      unfold f_L_law_j886 at h
      refine r_aload_n X 1 dL_law_886 rfl rfl ?_
      refine r_aload_n X 0 dL_law_887 rfl rfl ?_
      refine r_iload X 4 dL_law_888 rfl ?_
      refine r_iconst X dL_law_890 ?_
      refine r_iadd X dL_law_891 ?_
      refine r_sld X hs hLb dL_law_892 h (fun h => ?_)
      refine r_aload_n X 0 dL_law_893 rfl rfl ?_
      refine r_iload X 4 dL_law_894 rfl ?_
      refine r_iconst X dL_law_896 ?_
      refine r_iadd X dL_law_897 ?_
      refine r_sld X hs hLb dL_law_898 h (fun h => ?_)
      refine r_aload_n X 0 dL_law_899 rfl rfl ?_
      refine r_iload X 4 dL_law_900 rfl ?_
      refine r_iconst X dL_law_902 ?_
      refine r_iadd X dL_law_903 ?_
      refine r_sld X hs hLb dL_law_904 h (fun h => ?_)
      refine r_aload_n X 0 dL_law_905 rfl rfl ?_
      refine r_iload X 4 dL_law_906 rfl ?_
      refine r_iconst X dL_law_908 ?_
      refine r_iadd X dL_law_909 ?_
      refine r_sld X hs hLb dL_law_910 h (fun h => ?_)
      refine r_aload_n X 0 dL_law_911 rfl rfl ?_
      refine r_iload X 4 dL_law_912 rfl ?_
      refine r_iconst X dL_law_914 ?_
      refine r_iadd X dL_law_915 ?_
      refine r_sld X hs hLb dL_law_916 h (fun h => ?_)
      refine r_aload_n X 0 dL_law_917 rfl rfl ?_
      refine r_iload X 4 dL_law_918 rfl ?_
      refine r_bipush X dL_law_920 (by decide) ?_
      refine r_iadd X dL_law_922 ?_
      refine r_sld X hs hLb dL_law_923 h (fun h => ?_)
      refine r_aload_n X 0 dL_law_924 rfl rfl ?_
      refine r_iload X 4 dL_law_925 rfl ?_
      refine r_bipush X dL_law_927 (by decide) ?_
      refine r_iadd X dL_law_929 ?_
      refine r_sld X hs hLb dL_law_930 h (fun h => ?_)
      obtain ⟨ho283, h⟩ := cO_some h
      obtain ⟨r284, σ285, h282, h⟩ := bd2_some h
      refine r_cV (Wd := 0) X (fun l D sz => w_X1_ask l D sz h282) ho283.1 rfl q914 q915 q913 q104 q916 hy_X1_ask rfl dL_law_931 rfl rfl (Nat.le_of_ble_eq_true rfl) ⟨Nat.le_of_ble_eq_true rfl, Nat.le_of_ble_eq_true rfl⟩ ⟨(by show (112 + (64 - cn) * 86) + 1 ≤ 5707; omega), (by show (504441 + (64 - cn) * 40302) + 8 ≤ 3134096; omega)⟩ ?_
      refine V.widen (k' := (113 + (64 - cn) * 86)) (n' := (504449 + (64 - cn) * 40302)) (by show _ ≤ _; omega) (by show _ ≤ _; omega) ?_
      refine r_aload_n X 2 dL_law_934 rfl rfl ?_
      refine r_aload_n X 0 dL_law_935 rfl rfl ?_
      refine r_iload X 4 dL_law_936 rfl ?_
      refine r_iconst X dL_law_938 ?_
      refine r_iadd X dL_law_939 ?_
      refine r_sld X hs hLb dL_law_940 h (fun h => ?_)
      refine r_aload_n X 0 dL_law_941 rfl rfl ?_
      refine r_iload X 4 dL_law_942 rfl ?_
      refine r_iconst X dL_law_944 ?_
      refine r_iadd X dL_law_945 ?_
      refine r_sld X hs hLb dL_law_946 h (fun h => ?_)
      refine r_aload_n X 0 dL_law_947 rfl rfl ?_
      refine r_iload X 4 dL_law_948 rfl ?_
      refine r_iconst X dL_law_950 ?_
      refine r_iadd X dL_law_951 ?_
      refine r_sld X hs hLb dL_law_952 h (fun h => ?_)
      refine r_aload_n X 0 dL_law_953 rfl rfl ?_
      refine r_iload X 4 dL_law_954 rfl ?_
      refine r_iconst X dL_law_956 ?_
      refine r_iadd X dL_law_957 ?_
      refine r_sld X hs hLb dL_law_958 h (fun h => ?_)
      refine r_aload_n X 0 dL_law_959 rfl rfl ?_
      refine r_iload X 4 dL_law_960 rfl ?_
      refine r_iconst X dL_law_962 ?_
      refine r_iadd X dL_law_963 ?_
      refine r_sld X hs hLb dL_law_964 h (fun h => ?_)
      refine r_aload_n X 0 dL_law_965 rfl rfl ?_
      refine r_iload X 4 dL_law_966 rfl ?_
      refine r_bipush X dL_law_968 (by decide) ?_
      refine r_iadd X dL_law_970 ?_
      refine r_sld X hs hLb dL_law_971 h (fun h => ?_)
      refine r_aload_n X 0 dL_law_972 rfl rfl ?_
      refine r_iload X 4 dL_law_973 rfl ?_
      refine r_bipush X dL_law_975 (by decide) ?_
      refine r_iadd X dL_law_977 ?_
      refine r_sld X hs hLb dL_law_978 h (fun h => ?_)
      obtain ⟨ho287, h⟩ := cO_some h
      obtain ⟨r288, σ289, h286, h⟩ := bd2_some h
      refine r_cV (Wd := 1) X (fun l D sz => w_X6_ask l D sz h286) ho287.1 rfl q1692 q1693 q1691 q109 q1694 hy_X6_ask rfl dL_law_979 rfl rfl (Nat.le_of_ble_eq_true rfl) ⟨Nat.le_of_ble_eq_true rfl, Nat.le_of_ble_eq_true rfl⟩ ⟨(by show (113 + (64 - cn) * 86) + 0 ≤ 5707; omega), (by show (504449 + (64 - cn) * 40302) + 0 ≤ 3134096; omega)⟩ ?_
      refine r_icmp_eq (tgt := 2568) X dL_law_982 (by decide) h (fun c290 h => ?_) (fun c290 h => ?_)
      · refine r_iinc X 4 dL_law_2568 rfl (hL 4 (by decide)) (lv' := [(4, iv ((v4_j886 + 8))), (0, .ref (b)), (1, .ref (nX (σ))), (2, .ref (nX (σ4))), (3, .ref (nX (σ8)))]) rfl ?_
        refine r_goto (tgt := 23) X dL_law_2571 (by decide) ?_
        exact V.widen (by show _ ≤ _; omega) (by show _ ≤ _; omega) <| V.sub [1, 2, 3, 4, 0] rfl (ihb1 _ (Option.some.inj h).symm)
      · have h := ex_some h ihe1
        refine V.widen (k' := 5617) (n' := 3083777) (by show _ ≤ _; omega) (by show _ ≤ _; omega) ?_
        refine r_iconst X dL_law_985 ?_
        cases h
        exact absurd hw (by decide)
    have J799 : ∀ (v4_j799 : Int) (σ_j799 : St), f_L_law_j799 (xs) (L) (b) (nX (σ)) (nX (σ4)) (nX (σ8)) v4_j799 σ_j799 = some z1 → V Γ σ_j799 (112 + (64 - cn) * 86) (504441 + (64 - cn) * 40302) 799 [(0, .ref (b)), (1, .ref (nX (σ))), (2, .ref (nX (σ4))), (3, .ref (nX (σ8))), (4, iv (v4_j799))] [] := by
      intro v4_j799 σ_j799 h
      unfold f_L_law_j799 at h
      refine r_aload_n X 1 dL_law_799 rfl rfl ?_
      refine r_aload_n X 0 dL_law_800 rfl rfl ?_
      refine r_iload X 4 dL_law_801 rfl ?_
      refine r_iconst X dL_law_803 ?_
      refine r_iadd X dL_law_804 ?_
      refine r_sld X hs hLb dL_law_805 h (fun h => ?_)
      refine r_aload_n X 0 dL_law_806 rfl rfl ?_
      refine r_iload X 4 dL_law_807 rfl ?_
      refine r_iconst X dL_law_809 ?_
      refine r_iadd X dL_law_810 ?_
      refine r_sld X hs hLb dL_law_811 h (fun h => ?_)
      refine r_aload_n X 0 dL_law_812 rfl rfl ?_
      refine r_iload X 4 dL_law_813 rfl ?_
      refine r_iconst X dL_law_815 ?_
      refine r_iadd X dL_law_816 ?_
      refine r_sld X hs hLb dL_law_817 h (fun h => ?_)
      refine r_aload_n X 0 dL_law_818 rfl rfl ?_
      refine r_iload X 4 dL_law_819 rfl ?_
      refine r_iconst X dL_law_821 ?_
      refine r_iadd X dL_law_822 ?_
      refine r_sld X hs hLb dL_law_823 h (fun h => ?_)
      refine r_aload_n X 0 dL_law_824 rfl rfl ?_
      refine r_iload X 4 dL_law_825 rfl ?_
      refine r_iconst X dL_law_827 ?_
      refine r_iadd X dL_law_828 ?_
      refine r_sld X hs hLb dL_law_829 h (fun h => ?_)
      refine r_aload_n X 0 dL_law_830 rfl rfl ?_
      refine r_iload X 4 dL_law_831 rfl ?_
      refine r_bipush X dL_law_833 (by decide) ?_
      refine r_iadd X dL_law_835 ?_
      refine r_sld X hs hLb dL_law_836 h (fun h => ?_)
      obtain ⟨ho292, h⟩ := cO_some h
      obtain ⟨r293, σ294, h291, h⟩ := bd2_some h
      refine r_cV (Wd := 0) X (fun l D sz => w_X1_answers l D sz h291) ho292.1 rfl q893 q894 q892 q104 q895 hy_X1_answers rfl dL_law_837 rfl rfl (Nat.le_of_ble_eq_true rfl) ⟨Nat.le_of_ble_eq_true rfl, Nat.le_of_ble_eq_true rfl⟩ ⟨(by show (112 + (64 - cn) * 86) + 0 ≤ 5707; omega), (by show (504441 + (64 - cn) * 40302) + 0 ≤ 3134096; omega)⟩ ?_
      refine r_aload_n X 2 dL_law_840 rfl rfl ?_
      refine r_aload_n X 0 dL_law_841 rfl rfl ?_
      refine r_iload X 4 dL_law_842 rfl ?_
      refine r_iconst X dL_law_844 ?_
      refine r_iadd X dL_law_845 ?_
      refine r_sld X hs hLb dL_law_846 h (fun h => ?_)
      refine r_aload_n X 0 dL_law_847 rfl rfl ?_
      refine r_iload X 4 dL_law_848 rfl ?_
      refine r_iconst X dL_law_850 ?_
      refine r_iadd X dL_law_851 ?_
      refine r_sld X hs hLb dL_law_852 h (fun h => ?_)
      refine r_aload_n X 0 dL_law_853 rfl rfl ?_
      refine r_iload X 4 dL_law_854 rfl ?_
      refine r_iconst X dL_law_856 ?_
      refine r_iadd X dL_law_857 ?_
      refine r_sld X hs hLb dL_law_858 h (fun h => ?_)
      refine r_aload_n X 0 dL_law_859 rfl rfl ?_
      refine r_iload X 4 dL_law_860 rfl ?_
      refine r_iconst X dL_law_862 ?_
      refine r_iadd X dL_law_863 ?_
      refine r_sld X hs hLb dL_law_864 h (fun h => ?_)
      refine r_aload_n X 0 dL_law_865 rfl rfl ?_
      refine r_iload X 4 dL_law_866 rfl ?_
      refine r_iconst X dL_law_868 ?_
      refine r_iadd X dL_law_869 ?_
      refine r_sld X hs hLb dL_law_870 h (fun h => ?_)
      refine r_aload_n X 0 dL_law_871 rfl rfl ?_
      refine r_iload X 4 dL_law_872 rfl ?_
      refine r_bipush X dL_law_874 (by decide) ?_
      refine r_iadd X dL_law_876 ?_
      refine r_sld X hs hLb dL_law_877 h (fun h => ?_)
      obtain ⟨ho296, h⟩ := cO_some h
      obtain ⟨r297, σ298, h295, h⟩ := bd2_some h
      refine r_cV (Wd := 1) X (fun l D sz => w_X6_answers l D sz h295) ho296.1 rfl q1677 q1678 q1676 q109 q1679 hy_X6_answers rfl dL_law_878 rfl rfl (Nat.le_of_ble_eq_true rfl) ⟨Nat.le_of_ble_eq_true rfl, Nat.le_of_ble_eq_true rfl⟩ ⟨(by show (112 + (64 - cn) * 86) + 0 ≤ 5707; omega), (by show (504441 + (64 - cn) * 40302) + 0 ≤ 3134096; omega)⟩ ?_
      refine r_icmp_eq (tgt := 2568) X dL_law_881 (by decide) h (fun c299 h => ?_) (fun c299 h => ?_)
      · refine r_iinc X 4 dL_law_2568 rfl (hL 4 (by decide)) (lv' := [(4, iv ((v4_j799 + 8))), (0, .ref (b)), (1, .ref (nX (σ))), (2, .ref (nX (σ4))), (3, .ref (nX (σ8)))]) rfl ?_
        refine r_goto (tgt := 23) X dL_law_2571 (by decide) ?_
        exact V.widen (by show _ ≤ _; omega) (by show _ ≤ _; omega) <| V.sub [1, 2, 3, 4, 0] rfl (ihb1 _ (Option.some.inj h).symm)
      · have h := ex_some h ihe1
        refine V.widen (k' := 5616) (n' := 3083769) (by show _ ≤ _; omega) (by show _ ≤ _; omega) ?_
        refine r_iconst X dL_law_884 ?_
        cases h
        exact absurd hw (by decide)
    have J698 : ∀ (v4_j698 : Int) (σ_j698 : St), f_L_law_j698 (xs) (L) (b) (nX (σ)) (nX (σ4)) (nX (σ8)) v4_j698 σ_j698 = some z1 → V Γ σ_j698 (112 + (64 - cn) * 86) (504441 + (64 - cn) * 40302) 698 [(0, .ref (b)), (1, .ref (nX (σ))), (2, .ref (nX (σ4))), (3, .ref (nX (σ8))), (4, iv (v4_j698))] [] := by
      intro v4_j698 σ_j698 h
      unfold f_L_law_j698 at h
      refine r_aload_n X 1 dL_law_698 rfl rfl ?_
      refine r_aload_n X 0 dL_law_699 rfl rfl ?_
      refine r_iload X 4 dL_law_700 rfl ?_
      refine r_iconst X dL_law_702 ?_
      refine r_iadd X dL_law_703 ?_
      refine r_sld X hs hLb dL_law_704 h (fun h => ?_)
      refine r_aload_n X 0 dL_law_705 rfl rfl ?_
      refine r_iload X 4 dL_law_706 rfl ?_
      refine r_iconst X dL_law_708 ?_
      refine r_iadd X dL_law_709 ?_
      refine r_sld X hs hLb dL_law_710 h (fun h => ?_)
      refine r_aload_n X 0 dL_law_711 rfl rfl ?_
      refine r_iload X 4 dL_law_712 rfl ?_
      refine r_iconst X dL_law_714 ?_
      refine r_iadd X dL_law_715 ?_
      refine r_sld X hs hLb dL_law_716 h (fun h => ?_)
      refine r_aload_n X 0 dL_law_717 rfl rfl ?_
      refine r_iload X 4 dL_law_718 rfl ?_
      refine r_iconst X dL_law_720 ?_
      refine r_iadd X dL_law_721 ?_
      refine r_sld X hs hLb dL_law_722 h (fun h => ?_)
      refine r_aload_n X 0 dL_law_723 rfl rfl ?_
      refine r_iload X 4 dL_law_724 rfl ?_
      refine r_iconst X dL_law_726 ?_
      refine r_iadd X dL_law_727 ?_
      refine r_sld X hs hLb dL_law_728 h (fun h => ?_)
      refine r_aload_n X 0 dL_law_729 rfl rfl ?_
      refine r_iload X 4 dL_law_730 rfl ?_
      refine r_bipush X dL_law_732 (by decide) ?_
      refine r_iadd X dL_law_734 ?_
      refine r_sld X hs hLb dL_law_735 h (fun h => ?_)
      refine r_aload_n X 0 dL_law_736 rfl rfl ?_
      refine r_iload X 4 dL_law_737 rfl ?_
      refine r_bipush X dL_law_739 (by decide) ?_
      refine r_iadd X dL_law_741 ?_
      refine r_sld X hs hLb dL_law_742 h (fun h => ?_)
      obtain ⟨ho301, h⟩ := cO_some h
      obtain ⟨r302, σ303, h300, h⟩ := bd2_some h
      refine r_cV (Wd := 0) X (fun l D sz => w_X1_way l D sz h300) ho301.1 rfl q843 q844 q842 q104 q845 hy_X1_way rfl dL_law_743 rfl rfl (Nat.le_of_ble_eq_true rfl) ⟨Nat.le_of_ble_eq_true rfl, Nat.le_of_ble_eq_true rfl⟩ ⟨(by show (112 + (64 - cn) * 86) + 0 ≤ 5707; omega), (by show (504441 + (64 - cn) * 40302) + 0 ≤ 3134096; omega)⟩ ?_
      refine r_aload_n X 2 dL_law_746 rfl rfl ?_
      refine r_aload_n X 0 dL_law_747 rfl rfl ?_
      refine r_iload X 4 dL_law_748 rfl ?_
      refine r_iconst X dL_law_750 ?_
      refine r_iadd X dL_law_751 ?_
      refine r_sld X hs hLb dL_law_752 h (fun h => ?_)
      refine r_aload_n X 0 dL_law_753 rfl rfl ?_
      refine r_iload X 4 dL_law_754 rfl ?_
      refine r_iconst X dL_law_756 ?_
      refine r_iadd X dL_law_757 ?_
      refine r_sld X hs hLb dL_law_758 h (fun h => ?_)
      refine r_aload_n X 0 dL_law_759 rfl rfl ?_
      refine r_iload X 4 dL_law_760 rfl ?_
      refine r_iconst X dL_law_762 ?_
      refine r_iadd X dL_law_763 ?_
      refine r_sld X hs hLb dL_law_764 h (fun h => ?_)
      refine r_aload_n X 0 dL_law_765 rfl rfl ?_
      refine r_iload X 4 dL_law_766 rfl ?_
      refine r_iconst X dL_law_768 ?_
      refine r_iadd X dL_law_769 ?_
      refine r_sld X hs hLb dL_law_770 h (fun h => ?_)
      refine r_aload_n X 0 dL_law_771 rfl rfl ?_
      refine r_iload X 4 dL_law_772 rfl ?_
      refine r_iconst X dL_law_774 ?_
      refine r_iadd X dL_law_775 ?_
      refine r_sld X hs hLb dL_law_776 h (fun h => ?_)
      refine r_aload_n X 0 dL_law_777 rfl rfl ?_
      refine r_iload X 4 dL_law_778 rfl ?_
      refine r_bipush X dL_law_780 (by decide) ?_
      refine r_iadd X dL_law_782 ?_
      refine r_sld X hs hLb dL_law_783 h (fun h => ?_)
      refine r_aload_n X 0 dL_law_784 rfl rfl ?_
      refine r_iload X 4 dL_law_785 rfl ?_
      refine r_bipush X dL_law_787 (by decide) ?_
      refine r_iadd X dL_law_789 ?_
      refine r_sld X hs hLb dL_law_790 h (fun h => ?_)
      obtain ⟨ho305, h⟩ := cO_some h
      obtain ⟨r306, σ307, h304, h⟩ := bd2_some h
      refine r_cV (Wd := 1) X (fun l D sz => w_X6_way l D sz h304) ho305.1 rfl q1657 q1658 q1656 q109 q1659 hy_X6_way rfl dL_law_791 rfl rfl (Nat.le_of_ble_eq_true rfl) ⟨Nat.le_of_ble_eq_true rfl, Nat.le_of_ble_eq_true rfl⟩ ⟨(by show (112 + (64 - cn) * 86) + 0 ≤ 5707; omega), (by show (504441 + (64 - cn) * 40302) + 0 ≤ 3134096; omega)⟩ ?_
      refine r_icmp_eq (tgt := 2568) X dL_law_794 (by decide) h (fun c308 h => ?_) (fun c308 h => ?_)
      · refine r_iinc X 4 dL_law_2568 rfl (hL 4 (by decide)) (lv' := [(4, iv ((v4_j698 + 8))), (0, .ref (b)), (1, .ref (nX (σ))), (2, .ref (nX (σ4))), (3, .ref (nX (σ8)))]) rfl ?_
        refine r_goto (tgt := 23) X dL_law_2571 (by decide) ?_
        exact V.widen (by show _ ≤ _; omega) (by show _ ≤ _; omega) <| V.sub [1, 2, 3, 4, 0] rfl (ihb1 _ (Option.some.inj h).symm)
      · have h := ex_some h ihe1
        refine V.widen (k' := 5616) (n' := 3083769) (by show _ ≤ _; omega) (by show _ ≤ _; omega) ?_
        refine r_iconst X dL_law_797 ?_
        cases h
        exact absurd hw (by decide)
    have J661 : ∀ (v4_j661 : Int) (σ_j661 : St), f_L_law_j661 (xs) (L) (b) (nX (σ)) (nX (σ4)) (nX (σ8)) v4_j661 σ_j661 = some z1 → V Γ σ_j661 (112 + (64 - cn) * 86) (504441 + (64 - cn) * 40302) 661 [(0, .ref (b)), (1, .ref (nX (σ))), (2, .ref (nX (σ4))), (3, .ref (nX (σ8))), (4, iv (v4_j661))] [] := by
      intro v4_j661 σ_j661 h
      unfold f_L_law_j661 at h
      refine r_aload_n X 1 dL_law_661 rfl rfl ?_
      refine r_aload_n X 0 dL_law_662 rfl rfl ?_
      refine r_iload X 4 dL_law_663 rfl ?_
      refine r_iconst X dL_law_665 ?_
      refine r_iadd X dL_law_666 ?_
      refine r_sld X hs hLb dL_law_667 h (fun h => ?_)
      refine r_aload_n X 0 dL_law_668 rfl rfl ?_
      refine r_iload X 4 dL_law_669 rfl ?_
      refine r_iconst X dL_law_671 ?_
      refine r_iadd X dL_law_672 ?_
      refine r_sld X hs hLb dL_law_673 h (fun h => ?_)
      obtain ⟨ho310, h⟩ := cO_some h
      obtain ⟨r311, h309, h⟩ := bd_some h
      refine r_cV (Wd := 0) X (fun l D sz => w_X1_kind l D sz h309) ho310.1 rfl q830 q831 q829 q104 q832 hy_X1_kind rfl dL_law_674 rfl rfl (Nat.le_of_ble_eq_true rfl) ⟨Nat.le_of_ble_eq_true rfl, Nat.le_of_ble_eq_true rfl⟩ ⟨(by show (112 + (64 - cn) * 86) + 0 ≤ 5707; omega), (by show (504441 + (64 - cn) * 40302) + 0 ≤ 3134096; omega)⟩ ?_
      refine r_aload_n X 2 dL_law_677 rfl rfl ?_
      refine r_aload_n X 0 dL_law_678 rfl rfl ?_
      refine r_iload X 4 dL_law_679 rfl ?_
      refine r_iconst X dL_law_681 ?_
      refine r_iadd X dL_law_682 ?_
      refine r_sld X hs hLb dL_law_683 h (fun h => ?_)
      refine r_aload_n X 0 dL_law_684 rfl rfl ?_
      refine r_iload X 4 dL_law_685 rfl ?_
      refine r_iconst X dL_law_687 ?_
      refine r_iadd X dL_law_688 ?_
      refine r_sld X hs hLb dL_law_689 h (fun h => ?_)
      obtain ⟨ho313, h⟩ := cO_some h
      obtain ⟨r314, h312, h⟩ := bd_some h
      refine r_cV (Wd := 1) X (fun l D sz => w_X6_kind l D sz h312) ho313.1 rfl q1649 q1650 q1648 q109 q1651 hy_X6_kind rfl dL_law_690 rfl rfl (Nat.le_of_ble_eq_true rfl) ⟨Nat.le_of_ble_eq_true rfl, Nat.le_of_ble_eq_true rfl⟩ ⟨(by show (112 + (64 - cn) * 86) + 0 ≤ 5707; omega), (by show (504441 + (64 - cn) * 40302) + 0 ≤ 3134096; omega)⟩ ?_
      refine r_icmp_eq (tgt := 2568) X dL_law_693 (by decide) h (fun c315 h => ?_) (fun c315 h => ?_)
      · refine r_iinc X 4 dL_law_2568 rfl (hL 4 (by decide)) (lv' := [(4, iv ((v4_j661 + 8))), (0, .ref (b)), (1, .ref (nX (σ))), (2, .ref (nX (σ4))), (3, .ref (nX (σ8)))]) rfl ?_
        refine r_goto (tgt := 23) X dL_law_2571 (by decide) ?_
        exact V.widen (by show _ ≤ _; omega) (by show _ ≤ _; omega) <| V.sub [1, 2, 3, 4, 0] rfl (ihb1 _ (Option.some.inj h).symm)
      · have h := ex_some h ihe1
        refine V.widen (k' := 5616) (n' := 3083769) (by show _ ≤ _; omega) (by show _ ≤ _; omega) ?_
        refine r_iconst X dL_law_696 ?_
        cases h
        exact absurd hw (by decide)
    have J612 : ∀ (v4_j612 : Int) (σ_j612 : St), f_L_law_j612 (xs) (L) (b) (nX (σ)) (nX (σ4)) (nX (σ8)) v4_j612 σ_j612 = some z1 → V Γ σ_j612 (112 + (64 - cn) * 86) (504441 + (64 - cn) * 40302) 612 [(0, .ref (b)), (1, .ref (nX (σ))), (2, .ref (nX (σ4))), (3, .ref (nX (σ8))), (4, iv (v4_j612))] [] := by
      intro v4_j612 σ_j612 h
      unfold f_L_law_j612 at h
      refine r_aload_n X 1 dL_law_612 rfl rfl ?_
      refine r_aload_n X 0 dL_law_613 rfl rfl ?_
      refine r_iload X 4 dL_law_614 rfl ?_
      refine r_iconst X dL_law_616 ?_
      refine r_iadd X dL_law_617 ?_
      refine r_sld X hs hLb dL_law_618 h (fun h => ?_)
      refine r_aload_n X 0 dL_law_619 rfl rfl ?_
      refine r_iload X 4 dL_law_620 rfl ?_
      refine r_iconst X dL_law_622 ?_
      refine r_iadd X dL_law_623 ?_
      refine r_sld X hs hLb dL_law_624 h (fun h => ?_)
      refine r_aload_n X 0 dL_law_625 rfl rfl ?_
      refine r_iload X 4 dL_law_626 rfl ?_
      refine r_iconst X dL_law_628 ?_
      refine r_iadd X dL_law_629 ?_
      refine r_sld X hs hLb dL_law_630 h (fun h => ?_)
      obtain ⟨ho317, h⟩ := cO_some h
      obtain ⟨r318, h316, h⟩ := bd_some h
      refine r_cV (Wd := 0) X (fun l D sz => w_X1_many l D sz h316) ho317.1 rfl q816 q817 q815 q104 q818 hy_X1_many rfl dL_law_631 rfl rfl (Nat.le_of_ble_eq_true rfl) ⟨Nat.le_of_ble_eq_true rfl, Nat.le_of_ble_eq_true rfl⟩ ⟨(by show (112 + (64 - cn) * 86) + 0 ≤ 5707; omega), (by show (504441 + (64 - cn) * 40302) + 0 ≤ 3134096; omega)⟩ ?_
      refine r_aload_n X 2 dL_law_634 rfl rfl ?_
      refine r_aload_n X 0 dL_law_635 rfl rfl ?_
      refine r_iload X 4 dL_law_636 rfl ?_
      refine r_iconst X dL_law_638 ?_
      refine r_iadd X dL_law_639 ?_
      refine r_sld X hs hLb dL_law_640 h (fun h => ?_)
      refine r_aload_n X 0 dL_law_641 rfl rfl ?_
      refine r_iload X 4 dL_law_642 rfl ?_
      refine r_iconst X dL_law_644 ?_
      refine r_iadd X dL_law_645 ?_
      refine r_sld X hs hLb dL_law_646 h (fun h => ?_)
      refine r_aload_n X 0 dL_law_647 rfl rfl ?_
      refine r_iload X 4 dL_law_648 rfl ?_
      refine r_iconst X dL_law_650 ?_
      refine r_iadd X dL_law_651 ?_
      refine r_sld X hs hLb dL_law_652 h (fun h => ?_)
      obtain ⟨ho320, h⟩ := cO_some h
      obtain ⟨r321, h319, h⟩ := bd_some h
      refine r_cV (Wd := 1) X (fun l D sz => w_X6_many l D sz h319) ho320.1 rfl q1645 q1646 q1644 q109 q1647 hy_X6_many rfl dL_law_653 rfl rfl (Nat.le_of_ble_eq_true rfl) ⟨Nat.le_of_ble_eq_true rfl, Nat.le_of_ble_eq_true rfl⟩ ⟨(by show (112 + (64 - cn) * 86) + 0 ≤ 5707; omega), (by show (504441 + (64 - cn) * 40302) + 0 ≤ 3134096; omega)⟩ ?_
      refine r_icmp_eq (tgt := 2568) X dL_law_656 (by decide) h (fun c322 h => ?_) (fun c322 h => ?_)
      · refine r_iinc X 4 dL_law_2568 rfl (hL 4 (by decide)) (lv' := [(4, iv ((v4_j612 + 8))), (0, .ref (b)), (1, .ref (nX (σ))), (2, .ref (nX (σ4))), (3, .ref (nX (σ8)))]) rfl ?_
        refine r_goto (tgt := 23) X dL_law_2571 (by decide) ?_
        exact V.widen (by show _ ≤ _; omega) (by show _ ≤ _; omega) <| V.sub [1, 2, 3, 4, 0] rfl (ihb1 _ (Option.some.inj h).symm)
      · have h := ex_some h ihe1
        refine V.widen (k' := 5616) (n' := 3083769) (by show _ ≤ _; omega) (by show _ ≤ _; omega) ?_
        refine r_iconst X dL_law_659 ?_
        cases h
        exact absurd hw (by decide)
    have J525 : ∀ (v4_j525 : Int) (σ_j525 : St), f_L_law_j525 (xs) (L) (b) (nX (σ)) (nX (σ4)) (nX (σ8)) v4_j525 σ_j525 = some z1 → V Γ σ_j525 (112 + (64 - cn) * 86) (504441 + (64 - cn) * 40302) 525 [(0, .ref (b)), (1, .ref (nX (σ))), (2, .ref (nX (σ4))), (3, .ref (nX (σ8))), (4, iv (v4_j525))] [] := by
      intro v4_j525 σ_j525 h
      unfold f_L_law_j525 at h
      refine r_aload_n X 1 dL_law_525 rfl rfl ?_
      refine r_aload_n X 0 dL_law_526 rfl rfl ?_
      refine r_iload X 4 dL_law_527 rfl ?_
      refine r_iconst X dL_law_529 ?_
      refine r_iadd X dL_law_530 ?_
      refine r_sld X hs hLb dL_law_531 h (fun h => ?_)
      refine r_aload_n X 0 dL_law_532 rfl rfl ?_
      refine r_iload X 4 dL_law_533 rfl ?_
      refine r_iconst X dL_law_535 ?_
      refine r_iadd X dL_law_536 ?_
      refine r_sld X hs hLb dL_law_537 h (fun h => ?_)
      refine r_aload_n X 0 dL_law_538 rfl rfl ?_
      refine r_iload X 4 dL_law_539 rfl ?_
      refine r_iconst X dL_law_541 ?_
      refine r_iadd X dL_law_542 ?_
      refine r_sld X hs hLb dL_law_543 h (fun h => ?_)
      refine r_aload_n X 0 dL_law_544 rfl rfl ?_
      refine r_iload X 4 dL_law_545 rfl ?_
      refine r_iconst X dL_law_547 ?_
      refine r_iadd X dL_law_548 ?_
      refine r_sld X hs hLb dL_law_549 h (fun h => ?_)
      refine r_aload_n X 0 dL_law_550 rfl rfl ?_
      refine r_iload X 4 dL_law_551 rfl ?_
      refine r_iconst X dL_law_553 ?_
      refine r_iadd X dL_law_554 ?_
      refine r_sld X hs hLb dL_law_555 h (fun h => ?_)
      refine r_aload_n X 0 dL_law_556 rfl rfl ?_
      refine r_iload X 4 dL_law_557 rfl ?_
      refine r_bipush X dL_law_559 (by decide) ?_
      refine r_iadd X dL_law_561 ?_
      refine r_sld X hs hLb dL_law_562 h (fun h => ?_)
      obtain ⟨ho324, h⟩ := cO_some h
      obtain ⟨r325, h323, h⟩ := bd_some h
      refine r_cV (Wd := 0) X (fun l D sz => w_X1_turned l D sz h323) ho324.1 rfl q785 q786 q784 q104 q787 hy_X1_turned rfl dL_law_563 rfl rfl (Nat.le_of_ble_eq_true rfl) ⟨Nat.le_of_ble_eq_true rfl, Nat.le_of_ble_eq_true rfl⟩ ⟨(by show (112 + (64 - cn) * 86) + 0 ≤ 5707; omega), (by show (504441 + (64 - cn) * 40302) + 0 ≤ 3134096; omega)⟩ ?_
      refine r_aload_n X 2 dL_law_566 rfl rfl ?_
      refine r_aload_n X 0 dL_law_567 rfl rfl ?_
      refine r_iload X 4 dL_law_568 rfl ?_
      refine r_iconst X dL_law_570 ?_
      refine r_iadd X dL_law_571 ?_
      refine r_sld X hs hLb dL_law_572 h (fun h => ?_)
      refine r_aload_n X 0 dL_law_573 rfl rfl ?_
      refine r_iload X 4 dL_law_574 rfl ?_
      refine r_iconst X dL_law_576 ?_
      refine r_iadd X dL_law_577 ?_
      refine r_sld X hs hLb dL_law_578 h (fun h => ?_)
      refine r_aload_n X 0 dL_law_579 rfl rfl ?_
      refine r_iload X 4 dL_law_580 rfl ?_
      refine r_iconst X dL_law_582 ?_
      refine r_iadd X dL_law_583 ?_
      refine r_sld X hs hLb dL_law_584 h (fun h => ?_)
      refine r_aload_n X 0 dL_law_585 rfl rfl ?_
      refine r_iload X 4 dL_law_586 rfl ?_
      refine r_iconst X dL_law_588 ?_
      refine r_iadd X dL_law_589 ?_
      refine r_sld X hs hLb dL_law_590 h (fun h => ?_)
      refine r_aload_n X 0 dL_law_591 rfl rfl ?_
      refine r_iload X 4 dL_law_592 rfl ?_
      refine r_iconst X dL_law_594 ?_
      refine r_iadd X dL_law_595 ?_
      refine r_sld X hs hLb dL_law_596 h (fun h => ?_)
      refine r_aload_n X 0 dL_law_597 rfl rfl ?_
      refine r_iload X 4 dL_law_598 rfl ?_
      refine r_bipush X dL_law_600 (by decide) ?_
      refine r_iadd X dL_law_602 ?_
      refine r_sld X hs hLb dL_law_603 h (fun h => ?_)
      obtain ⟨ho327, h⟩ := cO_some h
      obtain ⟨r328, h326, h⟩ := bd_some h
      refine r_cV (Wd := 1) X (fun l D sz => w_X6_turned l D sz h326) ho327.1 rfl q1640 q1641 q1639 q109 q1642 hy_X6_turned rfl dL_law_604 rfl rfl (Nat.le_of_ble_eq_true rfl) ⟨Nat.le_of_ble_eq_true rfl, Nat.le_of_ble_eq_true rfl⟩ ⟨(by show (112 + (64 - cn) * 86) + 0 ≤ 5707; omega), (by show (504441 + (64 - cn) * 40302) + 0 ≤ 3134096; omega)⟩ ?_
      refine r_icmp_eq (tgt := 2568) X dL_law_607 (by decide) h (fun c329 h => ?_) (fun c329 h => ?_)
      · refine r_iinc X 4 dL_law_2568 rfl (hL 4 (by decide)) (lv' := [(4, iv ((v4_j525 + 8))), (0, .ref (b)), (1, .ref (nX (σ))), (2, .ref (nX (σ4))), (3, .ref (nX (σ8)))]) rfl ?_
        refine r_goto (tgt := 23) X dL_law_2571 (by decide) ?_
        exact V.widen (by show _ ≤ _; omega) (by show _ ≤ _; omega) <| V.sub [1, 2, 3, 4, 0] rfl (ihb1 _ (Option.some.inj h).symm)
      · have h := ex_some h ihe1
        refine V.widen (k' := 5616) (n' := 3083769) (by show _ ≤ _; omega) (by show _ ≤ _; omega) ?_
        refine r_iconst X dL_law_610 ?_
        cases h
        exact absurd hw (by decide)
    have J476 : ∀ (v4_j476 : Int) (σ_j476 : St), f_L_law_j476 (xs) (L) (b) (nX (σ)) (nX (σ4)) (nX (σ8)) v4_j476 σ_j476 = some z1 → V Γ σ_j476 (112 + (64 - cn) * 86) (504441 + (64 - cn) * 40302) 476 [(0, .ref (b)), (1, .ref (nX (σ))), (2, .ref (nX (σ4))), (3, .ref (nX (σ8))), (4, iv (v4_j476))] [] := by
      intro v4_j476 σ_j476 h
      unfold f_L_law_j476 at h
      refine r_aload_n X 1 dL_law_476 rfl rfl ?_
      refine r_aload_n X 0 dL_law_477 rfl rfl ?_
      refine r_iload X 4 dL_law_478 rfl ?_
      refine r_iconst X dL_law_480 ?_
      refine r_iadd X dL_law_481 ?_
      refine r_sld X hs hLb dL_law_482 h (fun h => ?_)
      refine r_aload_n X 0 dL_law_483 rfl rfl ?_
      refine r_iload X 4 dL_law_484 rfl ?_
      refine r_iconst X dL_law_486 ?_
      refine r_iadd X dL_law_487 ?_
      refine r_sld X hs hLb dL_law_488 h (fun h => ?_)
      refine r_aload_n X 0 dL_law_489 rfl rfl ?_
      refine r_iload X 4 dL_law_490 rfl ?_
      refine r_iconst X dL_law_492 ?_
      refine r_iadd X dL_law_493 ?_
      refine r_sld X hs hLb dL_law_494 h (fun h => ?_)
      obtain ⟨ho331, h⟩ := cO_some h
      obtain ⟨r332, h330, h⟩ := bd_some h
      refine r_cV (Wd := 0) X (fun l D sz => w_X1_date l D sz h330) ho331.1 rfl q746 q747 q745 q104 q748 hy_X1_date rfl dL_law_495 rfl rfl (Nat.le_of_ble_eq_true rfl) ⟨Nat.le_of_ble_eq_true rfl, Nat.le_of_ble_eq_true rfl⟩ ⟨(by show (112 + (64 - cn) * 86) + 0 ≤ 5707; omega), (by show (504441 + (64 - cn) * 40302) + 0 ≤ 3134096; omega)⟩ ?_
      refine r_aload_n X 2 dL_law_498 rfl rfl ?_
      refine r_aload_n X 0 dL_law_499 rfl rfl ?_
      refine r_iload X 4 dL_law_500 rfl ?_
      refine r_iconst X dL_law_502 ?_
      refine r_iadd X dL_law_503 ?_
      refine r_sld X hs hLb dL_law_504 h (fun h => ?_)
      refine r_aload_n X 0 dL_law_505 rfl rfl ?_
      refine r_iload X 4 dL_law_506 rfl ?_
      refine r_iconst X dL_law_508 ?_
      refine r_iadd X dL_law_509 ?_
      refine r_sld X hs hLb dL_law_510 h (fun h => ?_)
      refine r_aload_n X 0 dL_law_511 rfl rfl ?_
      refine r_iload X 4 dL_law_512 rfl ?_
      refine r_iconst X dL_law_514 ?_
      refine r_iadd X dL_law_515 ?_
      refine r_sld X hs hLb dL_law_516 h (fun h => ?_)
      obtain ⟨ho334, h⟩ := cO_some h
      obtain ⟨r335, h333, h⟩ := bd_some h
      refine r_cV (Wd := 1) X (fun l D sz => w_X6_date l D sz h333) ho334.1 rfl q1629 q1630 q1628 q109 q1631 hy_X6_date rfl dL_law_517 rfl rfl (Nat.le_of_ble_eq_true rfl) ⟨Nat.le_of_ble_eq_true rfl, Nat.le_of_ble_eq_true rfl⟩ ⟨(by show (112 + (64 - cn) * 86) + 0 ≤ 5707; omega), (by show (504441 + (64 - cn) * 40302) + 0 ≤ 3134096; omega)⟩ ?_
      refine r_icmp_eq (tgt := 2568) X dL_law_520 (by decide) h (fun c336 h => ?_) (fun c336 h => ?_)
      · refine r_iinc X 4 dL_law_2568 rfl (hL 4 (by decide)) (lv' := [(4, iv ((v4_j476 + 8))), (0, .ref (b)), (1, .ref (nX (σ))), (2, .ref (nX (σ4))), (3, .ref (nX (σ8)))]) rfl ?_
        refine r_goto (tgt := 23) X dL_law_2571 (by decide) ?_
        exact V.widen (by show _ ≤ _; omega) (by show _ ≤ _; omega) <| V.sub [1, 2, 3, 4, 0] rfl (ihb1 _ (Option.some.inj h).symm)
      · have h := ex_some h ihe1
        refine V.widen (k' := 5616) (n' := 3083769) (by show _ ≤ _; omega) (by show _ ≤ _; omega) ?_
        refine r_iconst X dL_law_523 ?_
        cases h
        exact absurd hw (by decide)
    have J384 : ∀ (v4_j384 : Int) (σ_j384 : St), f_L_law_j384 (xs) (L) (b) (nX (σ)) (nX (σ4)) (nX (σ8)) v4_j384 σ_j384 = some z1 → V Γ σ_j384 (112 + (64 - cn) * 86) (504441 + (64 - cn) * 40302) 384 [(0, .ref (b)), (1, .ref (nX (σ))), (2, .ref (nX (σ4))), (3, .ref (nX (σ8))), (4, iv (v4_j384))] [] := by
      intro v4_j384 σ_j384 h
      unfold f_L_law_j384 at h
      refine r_aload_n X 1 dL_law_384 rfl rfl ?_
      refine r_aload_n X 0 dL_law_385 rfl rfl ?_
      refine r_iload X 4 dL_law_386 rfl ?_
      refine r_iconst X dL_law_388 ?_
      refine r_iadd X dL_law_389 ?_
      refine r_sld X hs hLb dL_law_390 h (fun h => ?_)
      refine r_aload_n X 0 dL_law_391 rfl rfl ?_
      refine r_iload X 4 dL_law_392 rfl ?_
      refine r_iconst X dL_law_394 ?_
      refine r_iadd X dL_law_395 ?_
      refine r_sld X hs hLb dL_law_396 h (fun h => ?_)
      refine r_aload_n X 0 dL_law_397 rfl rfl ?_
      refine r_iload X 4 dL_law_398 rfl ?_
      refine r_iconst X dL_law_400 ?_
      refine r_iadd X dL_law_401 ?_
      refine r_sld X hs hLb dL_law_402 h (fun h => ?_)
      refine r_aload_n X 0 dL_law_403 rfl rfl ?_
      refine r_iload X 4 dL_law_404 rfl ?_
      refine r_iconst X dL_law_406 ?_
      refine r_iadd X dL_law_407 ?_
      refine r_sld X hs hLb dL_law_408 h (fun h => ?_)
      refine r_aload_n X 3 dL_law_409 rfl rfl ?_
      obtain ⟨ho338, h⟩ := ck_some h
      obtain ⟨r339, σ340, h337, h⟩ := bd2_some h
      refine r_cSWL (Wd := 0) X (fun D sz => w_X0_dayO (lOf Γ) htr D sz ho338 h337) q1205 q1204 q103 q1206 hy_X0_day rfl dL_law_410 rfl rfl (Nat.le_of_ble_eq_true rfl) ⟨Nat.le_of_ble_eq_true rfl, Nat.le_of_ble_eq_true rfl⟩ ⟨(by show (112 + (64 - cn) * 86) + 1 ≤ 5707; omega), (by show (504441 + (64 - cn) * 40302) + 6 ≤ 3134096; omega)⟩ ?_
      refine V.widen (k' := (113 + (64 - cn) * 86)) (n' := (504447 + (64 - cn) * 40302)) (by show _ ≤ _; omega) (by show _ ≤ _; omega) ?_
      refine r_istore X dL_law_413 (hL 5 (by decide)) (lv' := [(5, iv (r339)), (0, .ref (b)), (1, .ref (nX (σ))), (2, .ref (nX (σ4))), (3, .ref (nX (σ8))), (4, iv (v4_j384))]) rfl ?_
      refine r_aload_n X 3 dL_law_415 rfl rfl ?_
      refine r_aload_n X 1 dL_law_416 rfl rfl ?_
      refine r_iload X 5 dL_law_417 rfl ?_
      refine r_iconst X dL_law_419 ?_
      refine r_iadd X dL_law_420 ?_
      refine r_sld X hs hLb dL_law_421 h (fun h => ?_)
      refine r_aload_n X 1 dL_law_422 rfl rfl ?_
      refine r_iload X 5 dL_law_423 rfl ?_
      refine r_iconst X dL_law_425 ?_
      refine r_iadd X dL_law_426 ?_
      refine r_sld X hs hLb dL_law_427 h (fun h => ?_)
      refine r_aload_n X 1 dL_law_428 rfl rfl ?_
      refine r_iload X 5 dL_law_429 rfl ?_
      refine r_iconst X dL_law_431 ?_
      refine r_iadd X dL_law_432 ?_
      refine r_sld X hs hLb dL_law_433 h (fun h => ?_)
      refine r_aload_n X 1 dL_law_434 rfl rfl ?_
      refine r_iload X 5 dL_law_435 rfl ?_
      refine r_iconst X dL_law_437 ?_
      refine r_iadd X dL_law_438 ?_
      refine r_sld X hs hLb dL_law_439 h (fun h => ?_)
      obtain ⟨ho342, h⟩ := cO_some h
      obtain ⟨r343, σ344, h341, h⟩ := bd2_some h
      refine r_cV (Wd := 0) X (fun l D sz => w_X6_day l D sz h341) ho342.1 rfl q1609 q1610 q1608 q109 q1611 hy_X6_day rfl dL_law_440 rfl rfl (Nat.le_of_ble_eq_true rfl) ⟨Nat.le_of_ble_eq_true rfl, Nat.le_of_ble_eq_true rfl⟩ ⟨(by show (113 + (64 - cn) * 86) + 0 ≤ 5707; omega), (by show (504447 + (64 - cn) * 40302) + 0 ≤ 3134096; omega)⟩ ?_
      refine r_istore X dL_law_443 (hL 6 (by decide)) (lv' := [(6, iv (r343)), (5, iv (r339)), (0, .ref (b)), (1, .ref (nX (σ))), (2, .ref (nX (σ4))), (3, .ref (nX (σ8))), (4, iv (v4_j384))]) rfl ?_
      refine r_aload_n X 4 dL_law_445 rfl rfl ?_
      obtain ⟨ho346, h⟩ := cO_some h
      obtain ⟨r347, h345, h⟩ := bd_some h
      refine r_cV (Wd := 0) X (fun l D sz => w_X6_thrown l D sz h345) ho346.1 rfl q1456 q1457 q1455 q109 q1458 hy_X6_thrown rfl dL_law_446 rfl rfl (Nat.le_of_ble_eq_true rfl) ⟨Nat.le_of_ble_eq_true rfl, Nat.le_of_ble_eq_true rfl⟩ ⟨(by show (113 + (64 - cn) * 86) + 0 ≤ 5707; omega), (by show (504447 + (64 - cn) * 40302) + 0 ≤ 3134096; omega)⟩ ?_
      refine r_iload X 1 dL_law_449 rfl ?_
      refine r_icmp_eq (tgt := 456) X dL_law_451 (by decide) h (fun c348 h => ?_) (fun c348 h => ?_)
      · refine r_iload X 1 dL_law_456 rfl ?_
        refine r_if_ne (tgt := 473) X dL_law_458 (by decide) h (fun c349 h => ?_) (fun c349 h => ?_)
        · refine r_aload_n X 5 dL_law_461 rfl rfl ?_
          refine r_iconst X dL_law_462 ?_
          obtain ⟨ho350, h⟩ := ck_some h
          refine r_laldO X ho346.1 ho350 rfl rfl rfl (by decide) dL_law_463 h (fun h => ?_)
          refine r_iload X 0 dL_law_464 rfl ?_
          obtain ⟨c351, h⟩ := ck_some h
          refine r_i2l X dL_law_466 c351 ?_
          refine r_lcmp_eq (tgt := 473) X dL_law_467 dL_law_468 (by decide) h (fun c352 h => ?_) (fun c352 h => ?_)
          · refine r_goto (tgt := 2568) X dL_law_473 (by decide) ?_
            refine r_iinc X 6 dL_law_2568 rfl (hL 4 (by decide)) (lv' := [(4, iv ((v4_j384 + 8))), (6, iv (r343)), (5, iv (r339)), (0, .ref (b)), (1, .ref (nX (σ))), (2, .ref (nX (σ4))), (3, .ref (nX (σ8)))]) rfl ?_
            refine r_goto (tgt := 23) X dL_law_2571 (by decide) ?_
            exact V.widen (by show _ ≤ _; omega) (by show _ ≤ _; omega) <| V.sub [3, 4, 5, 6, 0] rfl (ihb1 _ (Option.some.inj h).symm)
          · have h := ex_some h ihe1
            refine V.widen (k' := 5617) (n' := 3083775) (by show _ ≤ _; omega) (by show _ ≤ _; omega) ?_
            refine r_iconst X dL_law_471 ?_
            cases h
            exact absurd hw (by decide)
        · refine r_goto (tgt := 2568) X dL_law_473 (by decide) ?_
          refine r_iinc X 6 dL_law_2568 rfl (hL 4 (by decide)) (lv' := [(4, iv ((v4_j384 + 8))), (6, iv (r343)), (5, iv (r339)), (0, .ref (b)), (1, .ref (nX (σ))), (2, .ref (nX (σ4))), (3, .ref (nX (σ8)))]) rfl ?_
          refine r_goto (tgt := 23) X dL_law_2571 (by decide) ?_
          exact V.widen (by show _ ≤ _; omega) (by show _ ≤ _; omega) <| V.sub [3, 4, 5, 6, 0] rfl (ihb1 _ (Option.some.inj h).symm)
      · have h := ex_some h ihe1
        refine V.widen (k' := 5617) (n' := 3083775) (by show _ ≤ _; omega) (by show _ ≤ _; omega) ?_
        refine r_iconst X dL_law_454 ?_
        cases h
        exact absurd hw (by decide)
    have J359 : ∀ (v4_j359 : Int) (σ_j359 : St), f_L_law_j359 (xs) (L) (b) (nX (σ)) (nX (σ4)) (nX (σ8)) v4_j359 σ_j359 = some z1 → V Γ σ_j359 (112 + (64 - cn) * 86) (504441 + (64 - cn) * 40302) 359 [(0, .ref (b)), (1, .ref (nX (σ))), (2, .ref (nX (σ4))), (3, .ref (nX (σ8))), (4, iv (v4_j359))] [] := by
      intro v4_j359 σ_j359 h
      unfold f_L_law_j359 at h
      refine r_aload_n X 1 dL_law_359 rfl rfl ?_
      refine r_aload_n X 0 dL_law_360 rfl rfl ?_
      refine r_iload X 4 dL_law_361 rfl ?_
      refine r_iconst X dL_law_363 ?_
      refine r_iadd X dL_law_364 ?_
      refine r_sld X hs hLb dL_law_365 h (fun h => ?_)
      obtain ⟨ho354, h⟩ := cO_some h
      obtain ⟨r355, σ356, h353, h⟩ := bd2_some h
      refine r_cV (Wd := 0) X (fun l D sz => w_X1_text l D sz h353) ho354.1 rfl q715 q716 q714 q104 q717 hy_X1_text rfl dL_law_366 rfl rfl (Nat.le_of_ble_eq_true rfl) ⟨Nat.le_of_ble_eq_true rfl, Nat.le_of_ble_eq_true rfl⟩ ⟨(by show (112 + (64 - cn) * 86) + 91 ≤ 5707; omega), (by show (504441 + (64 - cn) * 40302) + 50327 ≤ 3134096; omega)⟩ ?_
      refine V.widen (k' := (198 + (64 - cn) * 86)) (n' := (544743 + (64 - cn) * 40302)) (by show _ ≤ _; omega) (by show _ ≤ _; omega) ?_
      refine r_aload_n X 2 dL_law_369 rfl rfl ?_
      refine r_aload_n X 0 dL_law_370 rfl rfl ?_
      refine r_iload X 4 dL_law_371 rfl ?_
      refine r_iconst X dL_law_373 ?_
      refine r_iadd X dL_law_374 ?_
      refine r_sld X hs hLb dL_law_375 h (fun h => ?_)
      obtain ⟨ho358, h⟩ := cO_some h
      obtain ⟨r359, σ360, h357, h⟩ := bd2_some h
      refine r_cV (Wd := 1) X (fun l D sz => w_X6_text l D sz h357) ho358.1 rfl q1578 q1579 q1577 q109 q1580 hy_X6_text rfl dL_law_376 rfl rfl (Nat.le_of_ble_eq_true rfl) ⟨Nat.le_of_ble_eq_true rfl, Nat.le_of_ble_eq_true rfl⟩ ⟨(by show (198 + (64 - cn) * 86) + 0 ≤ 5707; omega), (by show (544743 + (64 - cn) * 40302) + 0 ≤ 3134096; omega)⟩ ?_
      refine r_icmp_eq (tgt := 2568) X dL_law_379 (by decide) h (fun c361 h => ?_) (fun c361 h => ?_)
      · refine r_iinc X 4 dL_law_2568 rfl (hL 4 (by decide)) (lv' := [(4, iv ((v4_j359 + 8))), (0, .ref (b)), (1, .ref (nX (σ))), (2, .ref (nX (σ4))), (3, .ref (nX (σ8)))]) rfl ?_
        refine r_goto (tgt := 23) X dL_law_2571 (by decide) ?_
        exact V.widen (by show _ ≤ _; omega) (by show _ ≤ _; omega) <| V.sub [1, 2, 3, 4, 0] rfl (ihb1 _ (Option.some.inj h).symm)
      · have h := ex_some h ihe1
        refine V.widen (k' := 5702) (n' := 3124071) (by show _ ≤ _; omega) (by show _ ≤ _; omega) ?_
        refine r_iconst X dL_law_382 ?_
        cases h
        exact absurd hw (by decide)
    have J334 : ∀ (v4_j334 : Int) (σ_j334 : St), f_L_law_j334 (xs) (L) (b) (nX (σ)) (nX (σ4)) (nX (σ8)) v4_j334 σ_j334 = some z1 → V Γ σ_j334 (112 + (64 - cn) * 86) (504441 + (64 - cn) * 40302) 334 [(0, .ref (b)), (1, .ref (nX (σ))), (2, .ref (nX (σ4))), (3, .ref (nX (σ8))), (4, iv (v4_j334))] [] := by
      intro v4_j334 σ_j334 h
      unfold f_L_law_j334 at h
      refine r_aload_n X 1 dL_law_334 rfl rfl ?_
      refine r_aload_n X 0 dL_law_335 rfl rfl ?_
      refine r_iload X 4 dL_law_336 rfl ?_
      refine r_iconst X dL_law_338 ?_
      refine r_iadd X dL_law_339 ?_
      refine r_sld X hs hLb dL_law_340 h (fun h => ?_)
      obtain ⟨ho363, h⟩ := cO_some h
      obtain ⟨r364, σ365, h362, h⟩ := bd2_some h
      refine r_cVW (Wd := 0) X (fun l D sz => w_X1_fault l D sz h362) ho363.1 rfl q408 q409 q407 q104 q410 hy_X1_fault rfl dL_law_341 rfl rfl (Nat.le_of_ble_eq_true rfl) ⟨Nat.le_of_ble_eq_true rfl, Nat.le_of_ble_eq_true rfl⟩ ⟨(by show (112 + (64 - cn) * 86) + 64 ≤ 5707; omega), (by show (504441 + (64 - cn) * 40302) + 196 ≤ 3134096; omega)⟩ ?_
      refine V.widen (k' := (176 + (64 - cn) * 86)) (n' := (504637 + (64 - cn) * 40302)) (by show _ ≤ _; omega) (by show _ ≤ _; omega) ?_
      refine r_aload_n X 2 dL_law_344 rfl rfl ?_
      refine r_aload_n X 0 dL_law_345 rfl rfl ?_
      refine r_iload X 4 dL_law_346 rfl ?_
      refine r_iconst X dL_law_348 ?_
      refine r_iadd X dL_law_349 ?_
      refine r_sld X hs hLb dL_law_350 h (fun h => ?_)
      obtain ⟨ho367, h⟩ := cO_some h
      obtain ⟨r368, σ369, h366, h⟩ := bd2_some h
      refine r_cV (Wd := 1) X (fun l D sz => w_X6_fault l D sz h366) ho367.1 rfl q1471 q1472 q1470 q109 q1473 hy_X6_fault rfl dL_law_351 rfl rfl (Nat.le_of_ble_eq_true rfl) ⟨Nat.le_of_ble_eq_true rfl, Nat.le_of_ble_eq_true rfl⟩ ⟨(by show (176 + (64 - cn) * 86) + 0 ≤ 5707; omega), (by show (504637 + (64 - cn) * 40302) + 0 ≤ 3134096; omega)⟩ ?_
      refine r_icmp_eq (tgt := 2568) X dL_law_354 (by decide) h (fun c370 h => ?_) (fun c370 h => ?_)
      · refine r_iinc X 4 dL_law_2568 rfl (hL 4 (by decide)) (lv' := [(4, iv ((v4_j334 + 8))), (0, .ref (b)), (1, .ref (nX (σ))), (2, .ref (nX (σ4))), (3, .ref (nX (σ8)))]) rfl ?_
        refine r_goto (tgt := 23) X dL_law_2571 (by decide) ?_
        exact V.widen (by show _ ≤ _; omega) (by show _ ≤ _; omega) <| V.sub [1, 2, 3, 4, 0] rfl (ihb1 _ (Option.some.inj h).symm)
      · have h := ex_some h ihe1
        refine V.widen (k' := 5680) (n' := 3083965) (by show _ ≤ _; omega) (by show _ ≤ _; omega) ?_
        refine r_iconst X dL_law_357 ?_
        cases h
        exact absurd hw (by decide)
    have J309 : ∀ (v4_j309 : Int) (σ_j309 : St), f_L_law_j309 (xs) (L) (b) (nX (σ)) (nX (σ4)) (nX (σ8)) v4_j309 σ_j309 = some z1 → V Γ σ_j309 (112 + (64 - cn) * 86) (504441 + (64 - cn) * 40302) 309 [(0, .ref (b)), (1, .ref (nX (σ))), (2, .ref (nX (σ4))), (3, .ref (nX (σ8))), (4, iv (v4_j309))] [] := by
      intro v4_j309 σ_j309 h
      unfold f_L_law_j309 at h
      refine r_aload_n X 1 dL_law_309 rfl rfl ?_
      refine r_aload_n X 0 dL_law_310 rfl rfl ?_
      refine r_iload X 4 dL_law_311 rfl ?_
      refine r_iconst X dL_law_313 ?_
      refine r_iadd X dL_law_314 ?_
      refine r_sld X hs hLb dL_law_315 h (fun h => ?_)
      obtain ⟨ho372, h⟩ := cO_some h
      obtain ⟨r373, σ374, h371, h⟩ := bd2_some h
      refine r_cV (Wd := 0) X (fun l D sz => w_X1_end l D sz h371) ho372.1 rfl q404 q405 q403 q104 q406 hy_X1_end rfl dL_law_316 rfl rfl (Nat.le_of_ble_eq_true rfl) ⟨Nat.le_of_ble_eq_true rfl, Nat.le_of_ble_eq_true rfl⟩ ⟨(by show (112 + (64 - cn) * 86) + 0 ≤ 5707; omega), (by show (504441 + (64 - cn) * 40302) + 0 ≤ 3134096; omega)⟩ ?_
      refine r_aload_n X 2 dL_law_319 rfl rfl ?_
      refine r_aload_n X 0 dL_law_320 rfl rfl ?_
      refine r_iload X 4 dL_law_321 rfl ?_
      refine r_iconst X dL_law_323 ?_
      refine r_iadd X dL_law_324 ?_
      refine r_sld X hs hLb dL_law_325 h (fun h => ?_)
      obtain ⟨ho376, h⟩ := cO_some h
      obtain ⟨r377, σ378, h375, h⟩ := bd2_some h
      refine r_cV (Wd := 1) X (fun l D sz => w_X6_end l D sz h375) ho376.1 rfl q1467 q1468 q1466 q109 q1469 hy_X6_end rfl dL_law_326 rfl rfl (Nat.le_of_ble_eq_true rfl) ⟨Nat.le_of_ble_eq_true rfl, Nat.le_of_ble_eq_true rfl⟩ ⟨(by show (112 + (64 - cn) * 86) + 0 ≤ 5707; omega), (by show (504441 + (64 - cn) * 40302) + 0 ≤ 3134096; omega)⟩ ?_
      refine r_icmp_eq (tgt := 2568) X dL_law_329 (by decide) h (fun c379 h => ?_) (fun c379 h => ?_)
      · refine r_iinc X 4 dL_law_2568 rfl (hL 4 (by decide)) (lv' := [(4, iv ((v4_j309 + 8))), (0, .ref (b)), (1, .ref (nX (σ))), (2, .ref (nX (σ4))), (3, .ref (nX (σ8)))]) rfl ?_
        refine r_goto (tgt := 23) X dL_law_2571 (by decide) ?_
        exact V.widen (by show _ ≤ _; omega) (by show _ ≤ _; omega) <| V.sub [1, 2, 3, 4, 0] rfl (ihb1 _ (Option.some.inj h).symm)
      · have h := ex_some h ihe1
        refine V.widen (k' := 5616) (n' := 3083769) (by show _ ≤ _; omega) (by show _ ≤ _; omega) ?_
        refine r_iconst X dL_law_332 ?_
        cases h
        exact absurd hw (by decide)
    have J236 : ∀ (v4_j236 : Int) (σ_j236 : St), f_L_law_j236 (xs) (L) (b) (nX (σ)) (nX (σ4)) (nX (σ8)) v4_j236 σ_j236 = some z1 → V Γ σ_j236 (112 + (64 - cn) * 86) (504441 + (64 - cn) * 40302) 236 [(0, .ref (b)), (1, .ref (nX (σ))), (2, .ref (nX (σ4))), (3, .ref (nX (σ8))), (4, iv (v4_j236))] [] := by
      intro v4_j236 σ_j236 h
      unfold f_L_law_j236 at h
      refine r_aload_n X 1 dL_law_236 rfl rfl ?_
      refine r_aload_n X 0 dL_law_237 rfl rfl ?_
      refine r_iload X 4 dL_law_238 rfl ?_
      refine r_iconst X dL_law_240 ?_
      refine r_iadd X dL_law_241 ?_
      refine r_sld X hs hLb dL_law_242 h (fun h => ?_)
      refine r_aload_n X 0 dL_law_243 rfl rfl ?_
      refine r_iload X 4 dL_law_244 rfl ?_
      refine r_iconst X dL_law_246 ?_
      refine r_iadd X dL_law_247 ?_
      refine r_sld X hs hLb dL_law_248 h (fun h => ?_)
      refine r_aload_n X 0 dL_law_249 rfl rfl ?_
      refine r_iload X 4 dL_law_250 rfl ?_
      refine r_iconst X dL_law_252 ?_
      refine r_iadd X dL_law_253 ?_
      refine r_sld X hs hLb dL_law_254 h (fun h => ?_)
      refine r_aload_n X 0 dL_law_255 rfl rfl ?_
      refine r_iload X 4 dL_law_256 rfl ?_
      refine r_iconst X dL_law_258 ?_
      refine r_iadd X dL_law_259 ?_
      refine r_sld X hs hLb dL_law_260 h (fun h => ?_)
      refine r_aload_n X 0 dL_law_261 rfl rfl ?_
      refine r_iload X 4 dL_law_262 rfl ?_
      refine r_iconst X dL_law_264 ?_
      refine r_iadd X dL_law_265 ?_
      refine r_sld X hs hLb dL_law_266 h (fun h => ?_)
      obtain ⟨ho381, h⟩ := cO_some h
      obtain ⟨r382, σ383, h380, h⟩ := bd2_some h
      refine r_cV (Wd := 0) X (fun l D sz => w_X1_feed l D sz h380) ho381.1 rfl q393 q394 q392 q104 q395 hy_X1_feed rfl dL_law_267 rfl rfl (Nat.le_of_ble_eq_true rfl) ⟨Nat.le_of_ble_eq_true rfl, Nat.le_of_ble_eq_true rfl⟩ ⟨(by show (112 + (64 - cn) * 86) + 0 ≤ 5707; omega), (by show (504441 + (64 - cn) * 40302) + 0 ≤ 3134096; omega)⟩ ?_
      refine r_aload_n X 2 dL_law_270 rfl rfl ?_
      refine r_aload_n X 0 dL_law_271 rfl rfl ?_
      refine r_iload X 4 dL_law_272 rfl ?_
      refine r_iconst X dL_law_274 ?_
      refine r_iadd X dL_law_275 ?_
      refine r_sld X hs hLb dL_law_276 h (fun h => ?_)
      refine r_aload_n X 0 dL_law_277 rfl rfl ?_
      refine r_iload X 4 dL_law_278 rfl ?_
      refine r_iconst X dL_law_280 ?_
      refine r_iadd X dL_law_281 ?_
      refine r_sld X hs hLb dL_law_282 h (fun h => ?_)
      refine r_aload_n X 0 dL_law_283 rfl rfl ?_
      refine r_iload X 4 dL_law_284 rfl ?_
      refine r_iconst X dL_law_286 ?_
      refine r_iadd X dL_law_287 ?_
      refine r_sld X hs hLb dL_law_288 h (fun h => ?_)
      refine r_aload_n X 0 dL_law_289 rfl rfl ?_
      refine r_iload X 4 dL_law_290 rfl ?_
      refine r_iconst X dL_law_292 ?_
      refine r_iadd X dL_law_293 ?_
      refine r_sld X hs hLb dL_law_294 h (fun h => ?_)
      refine r_aload_n X 0 dL_law_295 rfl rfl ?_
      refine r_iload X 4 dL_law_296 rfl ?_
      refine r_iconst X dL_law_298 ?_
      refine r_iadd X dL_law_299 ?_
      refine r_sld X hs hLb dL_law_300 h (fun h => ?_)
      obtain ⟨ho385, h⟩ := cO_some h
      obtain ⟨r386, σ387, h384, h⟩ := bd2_some h
      refine r_cV (Wd := 1) X (fun l D sz => w_X6_feed l D sz h384) ho385.1 rfl q1460 q1461 q1459 q109 q1462 hy_X6_feed rfl dL_law_301 rfl rfl (Nat.le_of_ble_eq_true rfl) ⟨Nat.le_of_ble_eq_true rfl, Nat.le_of_ble_eq_true rfl⟩ ⟨(by show (112 + (64 - cn) * 86) + 0 ≤ 5707; omega), (by show (504441 + (64 - cn) * 40302) + 0 ≤ 3134096; omega)⟩ ?_
      refine r_icmp_eq (tgt := 2568) X dL_law_304 (by decide) h (fun c388 h => ?_) (fun c388 h => ?_)
      · refine r_iinc X 4 dL_law_2568 rfl (hL 4 (by decide)) (lv' := [(4, iv ((v4_j236 + 8))), (0, .ref (b)), (1, .ref (nX (σ))), (2, .ref (nX (σ4))), (3, .ref (nX (σ8)))]) rfl ?_
        refine r_goto (tgt := 23) X dL_law_2571 (by decide) ?_
        exact V.widen (by show _ ≤ _; omega) (by show _ ≤ _; omega) <| V.sub [1, 2, 3, 4, 0] rfl (ihb1 _ (Option.some.inj h).symm)
      · have h := ex_some h ihe1
        refine V.widen (k' := 5616) (n' := 3083769) (by show _ ≤ _; omega) (by show _ ≤ _; omega) ?_
        refine r_iconst X dL_law_307 ?_
        cases h
        exact absurd hw (by decide)
    obtain ⟨⟨hn1, hn2⟩, h⟩ := ck_some h
    refine r_iload X 4 dL_law_23 rfl ?_
    refine r_aload_n X 0 dL_law_25 rfl rfl ?_
    refine r_slen X hs dL_law_26 ?_
    refine r_bipush X dL_law_27 (by decide) ?_
    refine r_isub X dL_law_29 ?_
    refine r_icmp_gt (tgt := 2574) X dL_law_30 (by decide) h (fun c389 h => ?_) (fun c389 h => ?_)
    · have h := ex_some h ihe1
      refine V.widen (k' := 5616) (n' := 3083769) (by show _ ≤ _; omega) (by show _ ≤ _; omega) ?_
      refine r_iconst X dL_law_2574 ?_
      cases h
      exact hend (Nat.le_of_ble_eq_true rfl) (Nat.le_of_ble_eq_true rfl) dL_law_2575
    · refine r_aload_n X 0 dL_law_33 rfl rfl ?_
      refine r_iload X 4 dL_law_34 rfl ?_
      refine r_sld X hs hLb dL_law_36 h (fun h => ?_)
      refine r_bipush X dL_law_37 (by decide) ?_
      refine r_iand X dL_law_39 ?_
      obtain ⟨hrc391, -, hA, h⟩ := cEq_some h
      by_cases c391 : ((bAnd ((xs (v4_1).toNat)) (63))) = 0
      · have h := hA c391
        refine r_tabIn (tgt := 236) X dL_law_40 hrc391 0 c391 (by decide) (by decide) rfl (by decide) ?_
        exact V.sub [0, 1, 2, 3, 4] rfl (J236 (v4_1) (σ_1) h)
      have h := h c391
      obtain ⟨hrc392, -, hA, h⟩ := cEq_some h
      by_cases c392 : ((bAnd ((xs (v4_1).toNat)) (63))) = 1
      · have h := hA c392
        refine r_tabIn (tgt := 309) X dL_law_40 hrc392 1 c392 (by decide) (by decide) rfl (by decide) ?_
        exact V.sub [0, 1, 2, 3, 4] rfl (J309 (v4_1) (σ_1) h)
      have h := h c392
      obtain ⟨hrc393, -, hA, h⟩ := cEq_some h
      by_cases c393 : ((bAnd ((xs (v4_1).toNat)) (63))) = 2
      · have h := hA c393
        refine r_tabIn (tgt := 334) X dL_law_40 hrc393 2 c393 (by decide) (by decide) rfl (by decide) ?_
        exact V.sub [0, 1, 2, 3, 4] rfl (J334 (v4_1) (σ_1) h)
      have h := h c393
      obtain ⟨hrc394, -, hA, h⟩ := cEq_some h
      by_cases c394 : ((bAnd ((xs (v4_1).toNat)) (63))) = 3
      · have h := hA c394
        refine r_tabIn (tgt := 359) X dL_law_40 hrc394 3 c394 (by decide) (by decide) rfl (by decide) ?_
        exact V.sub [0, 1, 2, 3, 4] rfl (J359 (v4_1) (σ_1) h)
      have h := h c394
      obtain ⟨hrc395, -, hA, h⟩ := cEq_some h
      by_cases c395 : ((bAnd ((xs (v4_1).toNat)) (63))) = 4
      · have h := hA c395
        refine r_tabIn (tgt := 384) X dL_law_40 hrc395 4 c395 (by decide) (by decide) rfl (by decide) ?_
        exact V.sub [0, 1, 2, 3, 4] rfl (J384 (v4_1) (σ_1) h)
      have h := h c395
      obtain ⟨hrc396, -, hA, h⟩ := cEq_some h
      by_cases c396 : ((bAnd ((xs (v4_1).toNat)) (63))) = 5
      · have h := hA c396
        refine r_tabIn (tgt := 476) X dL_law_40 hrc396 5 c396 (by decide) (by decide) rfl (by decide) ?_
        exact V.sub [0, 1, 2, 3, 4] rfl (J476 (v4_1) (σ_1) h)
      have h := h c396
      obtain ⟨hrc397, -, hA, h⟩ := cEq_some h
      by_cases c397 : ((bAnd ((xs (v4_1).toNat)) (63))) = 6
      · have h := hA c397
        refine r_tabIn (tgt := 525) X dL_law_40 hrc397 6 c397 (by decide) (by decide) rfl (by decide) ?_
        exact V.sub [0, 1, 2, 3, 4] rfl (J525 (v4_1) (σ_1) h)
      have h := h c397
      obtain ⟨hrc398, -, hA, h⟩ := cEq_some h
      by_cases c398 : ((bAnd ((xs (v4_1).toNat)) (63))) = 7
      · have h := hA c398
        refine r_tabIn (tgt := 612) X dL_law_40 hrc398 7 c398 (by decide) (by decide) rfl (by decide) ?_
        exact V.sub [0, 1, 2, 3, 4] rfl (J612 (v4_1) (σ_1) h)
      have h := h c398
      obtain ⟨hrc399, -, hA, h⟩ := cEq_some h
      by_cases c399 : ((bAnd ((xs (v4_1).toNat)) (63))) = 8
      · have h := hA c399
        refine r_tabIn (tgt := 661) X dL_law_40 hrc399 8 c399 (by decide) (by decide) rfl (by decide) ?_
        exact V.sub [0, 1, 2, 3, 4] rfl (J661 (v4_1) (σ_1) h)
      have h := h c399
      obtain ⟨hrc400, -, hA, h⟩ := cEq_some h
      by_cases c400 : ((bAnd ((xs (v4_1).toNat)) (63))) = 9
      · have h := hA c400
        refine r_tabIn (tgt := 698) X dL_law_40 hrc400 9 c400 (by decide) (by decide) rfl (by decide) ?_
        exact V.sub [0, 1, 2, 3, 4] rfl (J698 (v4_1) (σ_1) h)
      have h := h c400
      obtain ⟨hrc401, -, hA, h⟩ := cEq_some h
      by_cases c401 : ((bAnd ((xs (v4_1).toNat)) (63))) = 10
      · have h := hA c401
        refine r_tabIn (tgt := 799) X dL_law_40 hrc401 10 c401 (by decide) (by decide) rfl (by decide) ?_
        exact V.sub [0, 1, 2, 3, 4] rfl (J799 (v4_1) (σ_1) h)
      have h := h c401
      obtain ⟨hrc402, -, hA, h⟩ := cEq_some h
      by_cases c402 : ((bAnd ((xs (v4_1).toNat)) (63))) = 11
      · have h := hA c402
        refine r_tabIn (tgt := 886) X dL_law_40 hrc402 11 c402 (by decide) (by decide) rfl (by decide) ?_
        exact V.sub [0, 1, 2, 3, 4] rfl (J886 (v4_1) (σ_1) h)
      have h := h c402
      obtain ⟨hrc403, -, hA, h⟩ := cEq_some h
      by_cases c403 : ((bAnd ((xs (v4_1).toNat)) (63))) = 12
      · have h := hA c403
        refine r_tabIn (tgt := 987) X dL_law_40 hrc403 12 c403 (by decide) (by decide) rfl (by decide) ?_
        exact V.sub [0, 1, 2, 3, 4] rfl (J987 (v4_1) (σ_1) h)
      have h := h c403
      obtain ⟨hrc404, -, hA, h⟩ := cEq_some h
      by_cases c404 : ((bAnd ((xs (v4_1).toNat)) (63))) = 13
      · have h := hA c404
        refine r_tabIn (tgt := 1024) X dL_law_40 hrc404 13 c404 (by decide) (by decide) rfl (by decide) ?_
        exact V.sub [0, 1, 2, 3, 4] rfl (J1024 (v4_1) (σ_1) h)
      have h := h c404
      obtain ⟨hrc405, -, hA, h⟩ := cEq_some h
      by_cases c405 : ((bAnd ((xs (v4_1).toNat)) (63))) = 14
      · have h := hA c405
        refine r_tabIn (tgt := 1049) X dL_law_40 hrc405 14 c405 (by decide) (by decide) rfl (by decide) ?_
        exact V.sub [0, 1, 2, 3, 4] rfl (J1049 (v4_1) (σ_1) h)
      have h := h c405
      obtain ⟨hrc406, -, hA, h⟩ := cEq_some h
      by_cases c406 : ((bAnd ((xs (v4_1).toNat)) (63))) = 15
      · have h := hA c406
        refine r_tabIn (tgt := 1086) X dL_law_40 hrc406 15 c406 (by decide) (by decide) rfl (by decide) ?_
        exact V.sub [0, 1, 2, 3, 4] rfl (J1086 (v4_1) (σ_1) h)
      have h := h c406
      obtain ⟨hrc407, -, hA, h⟩ := cEq_some h
      by_cases c407 : ((bAnd ((xs (v4_1).toNat)) (63))) = 16
      · have h := hA c407
        refine r_tabIn (tgt := 1111) X dL_law_40 hrc407 16 c407 (by decide) (by decide) rfl (by decide) ?_
        exact V.sub [0, 1, 2, 3, 4] rfl (J1111 (v4_1) (σ_1) h)
      have h := h c407
      obtain ⟨hrc408, -, hA, h⟩ := cEq_some h
      by_cases c408 : ((bAnd ((xs (v4_1).toNat)) (63))) = 17
      · have h := hA c408
        refine r_tabIn (tgt := 1136) X dL_law_40 hrc408 17 c408 (by decide) (by decide) rfl (by decide) ?_
        exact V.sub [0, 1, 2, 3, 4] rfl (J1136 (v4_1) (σ_1) h)
      have h := h c408
      obtain ⟨hrc409, -, hA, h⟩ := cEq_some h
      by_cases c409 : ((bAnd ((xs (v4_1).toNat)) (63))) = 18
      · have h := hA c409
        refine r_tabIn (tgt := 1161) X dL_law_40 hrc409 18 c409 (by decide) (by decide) rfl (by decide) ?_
        exact V.sub [0, 1, 2, 3, 4] rfl (J1161 (v4_1) (σ_1) h)
      have h := h c409
      obtain ⟨hrc410, -, hA, h⟩ := cEq_some h
      by_cases c410 : ((bAnd ((xs (v4_1).toNat)) (63))) = 19
      · have h := hA c410
        refine r_tabIn (tgt := 1222) X dL_law_40 hrc410 19 c410 (by decide) (by decide) rfl (by decide) ?_
        exact V.sub [0, 1, 2, 3, 4] rfl (J1222 (v4_1) (σ_1) h)
      have h := h c410
      obtain ⟨hrc411, -, hA, h⟩ := cEq_some h
      by_cases c411 : ((bAnd ((xs (v4_1).toNat)) (63))) = 20
      · have h := hA c411
        refine r_tabIn (tgt := 1259) X dL_law_40 hrc411 20 c411 (by decide) (by decide) rfl (by decide) ?_
        exact V.sub [0, 1, 2, 3, 4] rfl (J1259 (v4_1) (σ_1) h)
      have h := h c411
      obtain ⟨hrc412, -, hA, h⟩ := cEq_some h
      by_cases c412 : ((bAnd ((xs (v4_1).toNat)) (63))) = 21
      · have h := hA c412
        refine r_tabIn (tgt := 1296) X dL_law_40 hrc412 21 c412 (by decide) (by decide) rfl (by decide) ?_
        exact V.sub [0, 1, 2, 3, 4] rfl (J1296 (v4_1) (σ_1) h)
      have h := h c412
      obtain ⟨hrc413, -, hA, h⟩ := cEq_some h
      by_cases c413 : ((bAnd ((xs (v4_1).toNat)) (63))) = 22
      · have h := hA c413
        refine r_tabIn (tgt := 1357) X dL_law_40 hrc413 22 c413 (by decide) (by decide) rfl (by decide) ?_
        exact V.sub [0, 1, 2, 3, 4] rfl (J1357 (v4_1) (σ_1) h)
      have h := h c413
      obtain ⟨hrc414, -, hA, h⟩ := cEq_some h
      by_cases c414 : ((bAnd ((xs (v4_1).toNat)) (63))) = 23
      · have h := hA c414
        refine r_tabIn (tgt := 1394) X dL_law_40 hrc414 23 c414 (by decide) (by decide) rfl (by decide) ?_
        exact V.sub [0, 1, 2, 3, 4] rfl (J1394 (v4_1) (σ_1) h)
      have h := h c414
      obtain ⟨hrc415, -, hA, h⟩ := cEq_some h
      by_cases c415 : ((bAnd ((xs (v4_1).toNat)) (63))) = 24
      · have h := hA c415
        refine r_tabIn (tgt := 1419) X dL_law_40 hrc415 24 c415 (by decide) (by decide) rfl (by decide) ?_
        exact V.sub [0, 1, 2, 3, 4] rfl (J1419 (v4_1) (σ_1) h)
      have h := h c415
      obtain ⟨hrc416, -, hA, h⟩ := cEq_some h
      by_cases c416 : ((bAnd ((xs (v4_1).toNat)) (63))) = 25
      · have h := hA c416
        refine r_tabIn (tgt := 1492) X dL_law_40 hrc416 25 c416 (by decide) (by decide) rfl (by decide) ?_
        exact V.sub [0, 1, 2, 3, 4] rfl (J1492 (v4_1) (σ_1) h)
      have h := h c416
      obtain ⟨hrc417, -, hA, h⟩ := cEq_some h
      by_cases c417 : ((bAnd ((xs (v4_1).toNat)) (63))) = 26
      · have h := hA c417
        refine r_tabIn (tgt := 1565) X dL_law_40 hrc417 26 c417 (by decide) (by decide) rfl (by decide) ?_
        exact V.sub [0, 1, 2, 3, 4] rfl (J1565 (v4_1) (σ_1) h)
      have h := h c417
      obtain ⟨hrc418, -, hA, h⟩ := cEq_some h
      by_cases c418 : ((bAnd ((xs (v4_1).toNat)) (63))) = 27
      · have h := hA c418
        refine r_tabIn (tgt := 1614) X dL_law_40 hrc418 27 c418 (by decide) (by decide) rfl (by decide) ?_
        exact V.sub [0, 1, 2, 3, 4] rfl (J1614 (v4_1) (σ_1) h)
      have h := h c418
      obtain ⟨hrc419, -, hA, h⟩ := cEq_some h
      by_cases c419 : ((bAnd ((xs (v4_1).toNat)) (63))) = 28
      · have h := hA c419
        refine r_tabIn (tgt := 1675) X dL_law_40 hrc419 28 c419 (by decide) (by decide) rfl (by decide) ?_
        exact V.sub [0, 1, 2, 3, 4] rfl (J1675 (v4_1) (σ_1) h)
      have h := h c419
      obtain ⟨hrc420, -, hA, h⟩ := cEq_some h
      by_cases c420 : ((bAnd ((xs (v4_1).toNat)) (63))) = 29
      · have h := hA c420
        refine r_tabIn (tgt := 1724) X dL_law_40 hrc420 29 c420 (by decide) (by decide) rfl (by decide) ?_
        exact V.sub [0, 1, 2, 3, 4] rfl (J1724 (v4_1) (σ_1) h)
      have h := h c420
      obtain ⟨hrc421, -, hA, h⟩ := cEq_some h
      by_cases c421 : ((bAnd ((xs (v4_1).toNat)) (63))) = 30
      · have h := hA c421
        refine r_tabIn (tgt := 1785) X dL_law_40 hrc421 30 c421 (by decide) (by decide) rfl (by decide) ?_
        exact V.sub [0, 1, 2, 3, 4] rfl (J1785 (v4_1) (σ_1) h)
      have h := h c421
      obtain ⟨hrc422, -, hA, h⟩ := cEq_some h
      by_cases c422 : ((bAnd ((xs (v4_1).toNat)) (63))) = 31
      · have h := hA c422
        refine r_tabIn (tgt := 1846) X dL_law_40 hrc422 31 c422 (by decide) (by decide) rfl (by decide) ?_
        exact V.sub [0, 1, 2, 3, 4] rfl (J1846 (v4_1) (σ_1) h)
      have h := h c422
      obtain ⟨hrc423, -, hA, h⟩ := cEq_some h
      by_cases c423 : ((bAnd ((xs (v4_1).toNat)) (63))) = 32
      · have h := hA c423
        refine r_tabIn (tgt := 1919) X dL_law_40 hrc423 32 c423 (by decide) (by decide) rfl (by decide) ?_
        exact V.sub [0, 1, 2, 3, 4] rfl (J1919 (v4_1) (σ_1) h)
      have h := h c423
      obtain ⟨hrc424, -, hA, h⟩ := cEq_some h
      by_cases c424 : ((bAnd ((xs (v4_1).toNat)) (63))) = 33
      · have h := hA c424
        refine r_tabIn (tgt := 1980) X dL_law_40 hrc424 33 c424 (by decide) (by decide) rfl (by decide) ?_
        exact V.sub [0, 1, 2, 3, 4] rfl (J1980 (v4_1) (σ_1) h)
      have h := h c424
      obtain ⟨hrc425, -, hA, h⟩ := cEq_some h
      by_cases c425 : ((bAnd ((xs (v4_1).toNat)) (63))) = 34
      · have h := hA c425
        refine r_tabIn (tgt := 2005) X dL_law_40 hrc425 34 c425 (by decide) (by decide) rfl (by decide) ?_
        exact V.sub [0, 1, 2, 3, 4] rfl (J2005 (v4_1) (σ_1) h)
      have h := h c425
      obtain ⟨hrc426, -, hA, h⟩ := cEq_some h
      by_cases c426 : ((bAnd ((xs (v4_1).toNat)) (63))) = 35
      · have h := hA c426
        refine r_tabIn (tgt := 2018) X dL_law_40 hrc426 35 c426 (by decide) (by decide) rfl (by decide) ?_
        exact V.sub [0, 1, 2, 3, 4] rfl (J2018 (v4_1) (σ_1) h)
      have h := h c426
      obtain ⟨hrc427, -, hA, h⟩ := cEq_some h
      by_cases c427 : ((bAnd ((xs (v4_1).toNat)) (63))) = 36
      · have h := hA c427
        refine r_tabIn (tgt := 2031) X dL_law_40 hrc427 36 c427 (by decide) (by decide) rfl (by decide) ?_
        exact V.sub [0, 1, 2, 3, 4] rfl (J2031 (v4_1) (σ_1) h)
      have h := h c427
      obtain ⟨hrc428, -, hA, h⟩ := cEq_some h
      by_cases c428 : ((bAnd ((xs (v4_1).toNat)) (63))) = 37
      · have h := hA c428
        refine r_tabIn (tgt := 2080) X dL_law_40 hrc428 37 c428 (by decide) (by decide) rfl (by decide) ?_
        exact V.sub [0, 1, 2, 3, 4] rfl (J2080 (v4_1) (σ_1) h)
      have h := h c428
      obtain ⟨hrc429, -, hA, h⟩ := cEq_some h
      by_cases c429 : ((bAnd ((xs (v4_1).toNat)) (63))) = 38
      · have h := hA c429
        refine r_tabIn (tgt := 2187) X dL_law_40 hrc429 38 c429 (by decide) (by decide) rfl (by decide) ?_
        exact V.sub [0, 1, 2, 3, 4] rfl (J2187 (v4_1) (σ_1) h)
      have h := h c429
      obtain ⟨hrc430, -, hA, h⟩ := cEq_some h
      by_cases c430 : ((bAnd ((xs (v4_1).toNat)) (63))) = 39
      · have h := hA c430
        refine r_tabIn (tgt := 2274) X dL_law_40 hrc430 39 c430 (by decide) (by decide) rfl (by decide) ?_
        exact V.sub [0, 1, 2, 3, 4] rfl (J2274 (v4_1) (σ_1) h)
      have h := h c430
      obtain ⟨hrc431, -, hA, h⟩ := cEq_some h
      by_cases c431 : ((bAnd ((xs (v4_1).toNat)) (63))) = 40
      · have h := hA c431
        refine r_tabIn (tgt := 2335) X dL_law_40 hrc431 40 c431 (by decide) (by decide) rfl (by decide) ?_
        exact V.sub [0, 1, 2, 3, 4] rfl (J2335 (v4_1) (σ_1) h)
      have h := h c431
      obtain ⟨hrc432, -, hA, h⟩ := cEq_some h
      by_cases c432 : ((bAnd ((xs (v4_1).toNat)) (63))) = 41
      · have h := hA c432
        refine r_tabIn (tgt := 2396) X dL_law_40 hrc432 41 c432 (by decide) (by decide) rfl (by decide) ?_
        exact V.sub [0, 1, 2, 3, 4] rfl (J2396 (v4_1) (σ_1) h)
      have h := h c432
      obtain ⟨hrc433, -, hA, h⟩ := cEq_some h
      by_cases c433 : ((bAnd ((xs (v4_1).toNat)) (63))) = 42
      · have h := hA c433
        refine r_tabIn (tgt := 2433) X dL_law_40 hrc433 42 c433 (by decide) (by decide) rfl (by decide) ?_
        exact V.sub [0, 1, 2, 3, 4] rfl (J2433 (v4_1) (σ_1) h)
      have h := h c433
      obtain ⟨hrc434, -, hA, h⟩ := cEq_some h
      by_cases c434 : ((bAnd ((xs (v4_1).toNat)) (63))) = 43
      · have h := hA c434
        refine r_tabIn (tgt := 2482) X dL_law_40 hrc434 43 c434 (by decide) (by decide) rfl (by decide) ?_
        exact V.sub [0, 1, 2, 3, 4] rfl (J2482 (v4_1) (σ_1) h)
      have h := h c434
      obtain ⟨hrc435, -, hA, h⟩ := cEq_some h
      by_cases c435 : ((bAnd ((xs (v4_1).toNat)) (63))) = 44
      · have h := hA c435
        refine r_tabIn (tgt := 2543) X dL_law_40 hrc435 44 c435 (by decide) (by decide) rfl (by decide) ?_
        exact V.sub [0, 1, 2, 3, 4] rfl (J2543 (v4_1) (σ_1) h)
      have h := h c435
      refine r_tabOut (tgt := 2568) X dL_law_40 hrc391 (by omega) (by decide) ?_
      refine r_iinc X 4 dL_law_2568 rfl (hL 4 (by decide)) (lv' := [(4, iv ((v4_1 + 8))), (0, .ref (b)), (1, .ref (nX (σ))), (2, .ref (nX (σ4))), (3, .ref (nX (σ8)))]) rfl ?_
      refine r_goto (tgt := 23) X dL_law_2571 (by decide) ?_
      exact V.widen (by show _ ≤ _; omega) (by show _ ≤ _; omega) <| V.sub [1, 2, 3, 4, 0] rfl (ihb1 _ (Option.some.inj h).symm)
  exact V.sub [4, 3, 2, 1, 0] rfl (L23 (64, 0, σ10) h)
