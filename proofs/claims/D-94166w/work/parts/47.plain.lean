/-! the queue of years that wait, and what spreads from it, in plain functions -/
set_option maxRecDepth 100000
def qOK (M : Int) (wt qu : Int → Int) (hd wg : Int) : Prop := ∃ qs : List Int, (qs.length : Int) = wg ∧ (0 ≤ hd ∧ hd < M) ∧ (∀ j : Nat, j < qs.length → qs[j]? = some (qu ((hd + j) % M))) ∧ qs.Nodup ∧ (∀ y, y ∈ qs → 1 ≤ y ∧ y ≤ 9999) ∧ ∀ y : Int, 1 ≤ y → y ≤ 9999 → (wt y = 1 ∧ y ∈ qs) ∨ (wt y = 0 ∧ ¬ y ∈ qs)
theorem q_len {qs : List Int} (hn : qs.Nodup) (hb : ∀ y, y ∈ qs → 1 ≤ y ∧ y ≤ 9999) : qs.length ≤ 9999 := by
  by_cases c : qs.length ≤ 9999
  · exact c
  · exfalso
    have := php 9999 (qs.length - 1) (fun i => ((qs[i]?.getD 0) - 1).toNat) (fun i hi => by
      have hl : i < qs.length := by omega
      have := hb qs[i] (List.getElem_mem hl)
      simp only [List.getElem?_eq_getElem hl, Option.getD_some]
      omega) (fun i j hij hj => by
      have h1 : i < qs.length := by omega
      have h2 : j < qs.length := by omega
      have b1 := hb qs[i] (List.getElem_mem h1)
      have b2 := hb qs[j] (List.getElem_mem h2)
      simp only [List.getElem?_eq_getElem h1, List.getElem?_eq_getElem h2, Option.getD_some]
      intro q
      have e : qs[i] = qs[j] := by omega
      exact List.pairwise_iff_getElem.mp hn i j h1 h2 hij e)
    omega
theorem mod_ne {M a i j : Int} (hM : 0 < M) (h1 : i < j) (h2 : j - i < M) : ¬ (a + i) % M = (a + j) % M := by
  intro h
  have e := Int.emod_emod_of_dvd
  have h3 : (a + j - (a + i)) % M = 0 := Int.emod_eq_emod_iff_emod_sub_eq_zero.mp h.symm
  rw [show a + j - (a + i) = j - i by omega, Int.emod_eq_of_lt (by omega) h2] at h3
  omega
theorem q_b {M : Int} {wt qu : Int → Int} {hd wg : Int} (h : qOK M wt qu hd wg) : (0 ≤ wg ∧ wg ≤ 9999) ∧ (0 ≤ hd ∧ hd < M) := by
  obtain ⟨qs, h1, h2, h3, h4, h5, h6⟩ := h
  have := q_len h4 h5
  omega
theorem q_wt {M : Int} {wt qu : Int → Int} {hd wg : Int} (h : qOK M wt qu hd wg) {y : Int} (y1 : 1 ≤ y) (y2 : y ≤ 9999) : wt y = 0 ∨ wt y = 1 := by
  obtain ⟨qs, h1, h2, h3, h4, h5, h6⟩ := h
  rcases h6 y y1 y2 with q | q
  · exact Or.inr q.1
  · exact Or.inl q.1
theorem q_cg {M : Int} {wt qu wt' qu' : Int → Int} {hd wg : Int} (h : qOK M wt qu hd wg) (e1 : ∀ y, 1 ≤ y → y ≤ 9999 → wt' y = wt y) (e2 : ∀ i, 0 ≤ i → i < M → qu' i = qu i) : qOK M wt' qu' hd wg := by
  obtain ⟨qs, h1, h2, h3, h4, h5, h6⟩ := h
  have hM : 0 < M := by omega
  refine ⟨qs, h1, h2, fun j hj => ?_, h4, h5, fun y y1 y2 => ?_⟩
  · rw [e2 _ (Int.emod_nonneg _ (by omega)) (Int.emod_lt_of_pos _ hM)]; exact h3 j hj
  · rw [e1 y y1 y2]; exact h6 y y1 y2
theorem q_push {M : Int} {wt qu wt' qu' : Int → Int} {hd wg v : Int} (hM : 10000 ≤ M) (h : qOK M wt qu hd wg) (v1 : 1 ≤ v) (v2 : v ≤ 9999) (hv : wt v = 0) (e1 : ∀ y, 1 ≤ y → y ≤ 9999 → wt' y = if y = v then 1 else wt y) (e2 : ∀ i, 0 ≤ i → i < M → qu' i = if i = (hd + wg) % M then v else qu i) : qOK M wt' qu' hd (wg + 1) := by
  obtain ⟨qs, h1, h2, h3, h4, h5, h6⟩ := h
  have hl := q_len h4 h5
  have nv : ¬ v ∈ qs := by
    rcases h6 v v1 v2 with q | q
    · omega
    · exact q.2
  refine ⟨qs ++ [v], by simp; omega, h2, fun j hj => ?_, ?_, fun y hy => ?_, fun y y1 y2 => ?_⟩
  · have hj : j < qs.length + 1 := by simpa using hj
    rw [e2 _ (Int.emod_nonneg _ (by omega)) (Int.emod_lt_of_pos _ (by omega))]
    by_cases c : j < qs.length
    · rw [List.getElem?_append_left c, h3 j c, if_neg (mod_ne (by omega) (by omega) (by omega))]
    · have ej : j = qs.length := by omega
      subst ej
      rw [if_pos (by rw [h1])]
      simp
  · rw [List.nodup_append]
    refine ⟨h4, by simp, fun a ha b hb => ?_⟩
    have : b = v := by simpa using hb
    intro q
    rw [q, this] at ha
    exact nv ha
  · rcases List.mem_append.mp hy with q | q
    · exact h5 y q
    · have : y = v := by simpa using q
      omega
  · rw [e1 y y1 y2]
    by_cases c : y = v
    · left; rw [if_pos c]; exact ⟨rfl, by simp [c]⟩
    · rw [if_neg c]
      rcases h6 y y1 y2 with q | q
      · left; exact ⟨q.1, by simp [q.2]⟩
      · right; exact ⟨q.1, by simp [q.2, c]⟩
theorem q_pop {M : Int} {wt qu : Int → Int} {hd wg : Int} (hM : 10000 ≤ M) (h : qOK M wt qu hd wg) (hw : 0 < wg) : (1 ≤ qu hd ∧ qu hd ≤ 9999) ∧ wt (qu hd) = 1 ∧ ∀ {wt' : Int → Int}, (∀ y, 1 ≤ y → y ≤ 9999 → wt' y = if y = qu hd then 0 else wt y) → qOK M wt' qu ((hd + 1) % M) (wg - 1) := by
  obtain ⟨qs, h1, h2, h3, h4, h5, h6⟩ := h
  cases qs with
  | nil => simp at h1; omega
  | cons z r =>
    have ez : z = qu hd := by
      have := h3 0 (by simp)
      rw [show (hd + ((0 : Nat) : Int)) % M = hd by rw [show hd + ((0 : Nat) : Int) = hd by omega]; exact Int.emod_eq_of_lt h2.1 h2.2] at this
      simpa using this
    have bz := h5 z (by simp)
    have wz : wt z = 1 := by
      rcases h6 z bz.1 bz.2 with q | q
      · exact q.1
      · exact absurd (by simp : z ∈ z :: r) q.2
    rw [← ez]
    refine ⟨bz, wz, fun {wt'} e1 => ?_⟩
    have nd := List.nodup_cons.mp h4
    refine ⟨r, by simp at h1; omega, ⟨Int.emod_nonneg _ (by omega), Int.emod_lt_of_pos _ (by omega)⟩, fun j hj => ?_, nd.2, fun y hy => h5 y (by simp [hy]), fun y y1 y2 => ?_⟩
    · have := h3 (j + 1) (by simp; omega)
      rw [List.getElem?_cons_succ] at this
      rw [this]
      congr 2
      rw [Int.emod_add_emod]
      congr 1
      omega
    · rw [e1 y y1 y2]
      by_cases c : y = z
      · rw [if_pos c]; right; exact ⟨rfl, by rw [c]; exact nd.1⟩
      · rw [if_neg c]
        rcases h6 y y1 y2 with q | q
        · left; refine ⟨q.1, ?_⟩
          rcases List.mem_cons.mp q.2 with w | w
          · exact absurd w c
          · exact w
        · right; exact ⟨q.1, fun w => q.2 (by simp [w])⟩
theorem q_nil {M : Int} {wt qu : Int → Int} {hd : Int} (h0 : 0 ≤ hd) (h1 : hd < M) (hw : ∀ y, 1 ≤ y → y ≤ 9999 → wt y = 0) : qOK M wt qu hd 0 :=
  ⟨[], rfl, ⟨h0, h1⟩, fun j hj => by simp at hj, List.nodup_nil, fun y hy => by simp at hy, fun y y1 y2 => Or.inr ⟨hw y y1 y2, by simp⟩⟩
theorem q_end {M : Int} {wt qu : Int → Int} {hd : Int} (h : qOK M wt qu hd 0) {y : Int} (y1 : 1 ≤ y) (y2 : y ≤ 9999) : wt y = 0 := by
  obtain ⟨qs, h1, h2, h3, h4, h5, h6⟩ := h
  have : qs = [] := List.length_eq_zero_iff.mp (by omega)
  rcases h6 y y1 y2 with q | q
  · rw [this] at q; simp at q
  · exact q.1
theorem sm_up (g g' : Int → Int) (lo : Int) (v : Int) (h : ∀ k, ¬ k = v → g' k = g k) : ∀ n : Nat, sm g' lo n = sm g lo n + if lo ≤ v ∧ v < lo + n then g' v - g v else 0
  | 0 => by rw [if_neg (by omega)]; rfl
  | n + 1 => by
    show sm g' lo n + g' (lo + n) = sm g lo n + g (lo + n) + _
    rw [sm_up g g' lo v h n]
    by_cases c : lo + (n : Int) = v
    · rw [if_neg (by omega), if_pos (by omega), c]; omega
    · rw [h _ c]
      by_cases c2 : lo ≤ v ∧ v < lo + n
      · rw [if_pos c2, if_pos (by omega)]; omega
      · rw [if_neg c2, if_neg (by omega)]; omega
section
variable (src : Int → Prop) (ed : Int → Int → Int → Prop) (U F M : Int)
/-- sound; what is relaxed -/
def INV (lf wt qu : Int → Int) (hd wg : Int) (Z : Int → Prop) (P : Int → Int → Int → Prop) : Prop := qOK M wt qu hd wg ∧ (∀ v, 1 ≤ v → v ≤ 9999 → snd src ed U F lf v ∧ 0 ≤ lf v ∧ lf v ≤ F) ∧ (∀ v, Z v → lf v ≤ 0) ∧ ∀ u v c, ed u v c → wt u = 1 ∨ P u v c ∨ lf v ≤ lf u + U * c + 1
def mea (lf : Int → Int) (wg : Int) : Int := 2 * sm lf 1 9999 + wg
/-- what an improvement does -/
def IMP (lf wt qu : Int → Int) (hd wg : Int) (lf' wt' qu' : Int → Int) (hd' wg' v val : Int) : Prop := hd' = hd ∧ (((∀ i, lf' i = lf i) ∧ (∀ i, wt' i = wt i) ∧ (∀ i, qu' i = qu i) ∧ wg' = wg ∧ (¬ (1 ≤ v ∧ v ≤ 9999) ∨ lf v ≤ val)) ∨ ((1 ≤ v ∧ v ≤ 9999) ∧ val < lf v ∧ (∀ i, lf' i = if i = v then val else lf i) ∧ ((¬ wt v = 0 ∧ (∀ i, wt' i = wt i) ∧ (∀ i, qu' i = qu i) ∧ wg' = wg) ∨ (wt v = 0 ∧ (∀ i, wt' i = if i = v then 1 else wt i) ∧ (∀ i, qu' i = if i = (hd + wg) % M then v else qu i) ∧ wg' = wg + 1))))
end
section
variable {src : Int → Prop} {ed : Int → Int → Int → Prop} {U F M : Int} {lf wt qu lf' wt' qu' : Int → Int} {hd wg hd' wg' v val : Int} {Z : Int → Prop} {P : Int → Int → Int → Prop}
theorem inv_imp (hM : 10000 ≤ M) (he : ∀ u v c, ed u v c → (1 ≤ u ∧ u ≤ 9999) ∧ (1 ≤ v ∧ v ≤ 9999)) (h : INV src ed U F M lf wt qu hd wg Z P) (hi : IMP M lf wt qu hd wg lf' wt' qu' hd' wg' v val) (hv0 : 0 ≤ val) (hval : (∃ S C, wk src ed S v C ∧ val = U * C + S) ∨ F ≤ val) : INV src ed U F M lf' wt' qu' hd' wg' Z P ∧ mea lf' wg' ≤ mea lf wg ∧ (∀ i, lf' i ≤ lf i) ∧ (∀ i, ¬ i = v → lf' i = lf i) ∧ ((1 ≤ v ∧ v ≤ 9999) → lf' v ≤ val) ∧ (∀ i, wt' i = 1 ∨ wt' i = wt i) := by
  obtain ⟨hq, hs, hz, hr⟩ := h
  obtain ⟨ehd, hi⟩ := hi
  subst ehd
  rcases hi with ⟨e1, e2, e3, e4, e5⟩ | ⟨hv, hlt, e1, hw⟩
  · have el : lf' = lf := funext e1
    have ew : wt' = wt := funext e2
    have eq : qu' = qu := funext e3
    subst el; subst ew; subst eq; subst e4
    refine ⟨⟨hq, hs, hz, hr⟩, Int.le_refl _, fun _ => Int.le_refl _, fun _ _ => rfl, fun q => ?_, fun _ => Or.inr rfl⟩
    rcases e5 with w | w
    · exact absurd q w
    · exact w
  · have hsv := hs v hv.1 hv.2
    have le : ∀ i, lf' i ≤ lf i := by
      intro i; rw [e1 i]; split
      · rename_i c; rw [c]; omega
      · exact Int.le_refl _
    have ne : ∀ i, ¬ i = v → lf' i = lf i := fun i hi => by rw [e1 i, if_neg hi]
    have lv : lf' v = val := by rw [e1 v, if_pos rfl]
    have sme := sm_up lf lf' 1 v ne 9999
    rw [if_pos (by omega), lv] at sme
    have hs' : ∀ w, 1 ≤ w → w ≤ 9999 → snd src ed U F lf' w ∧ 0 ≤ lf' w ∧ lf' w ≤ F := by
      intro w w1 w2
      by_cases c : w = v
      · subst c
        refine ⟨?_, by omega, by omega⟩
        rcases hval with ⟨S, C, hk, e⟩ | hF
        · exact Or.inr ⟨S, C, hk, by rw [lv]; exact e⟩
        · omega
      · have := hs w w1 w2
        unfold snd at this ⊢
        rw [ne w c]; exact this
    have hz' : ∀ w, Z w → lf' w ≤ 0 := fun w hw => by have := hz w hw; have := le w; omega
    rcases hw with ⟨w0, w1, w2, w3⟩ | ⟨w0, w1, w2, w3⟩
    · have ew : wt' = wt := funext w1
      have eq : qu' = qu := funext w2
      subst ew; subst eq; subst w3
      have wv : wt' v = 1 := by rcases q_wt hq hv.1 hv.2 with q | q; exact absurd q w0; exact q
      refine ⟨⟨hq, hs', hz', fun u x c hec => ?_⟩, by unfold mea; omega, le, ne, fun _ => by omega, fun _ => Or.inr rfl⟩
      rcases hr u x c hec with q | q | q
      · exact Or.inl q
      · exact Or.inr (Or.inl q)
      · by_cases cu : u = v
        · left; rw [cu]; exact wv
        · right; right; rw [ne u cu]; have := le x; omega
    · subst w3
      refine ⟨⟨q_push hM hq hv.1 hv.2 w0 (fun y _ _ => w1 y) (fun i _ _ => w2 i), hs', hz', fun u x c hec => ?_⟩, by unfold mea; omega, le, ne, fun _ => by omega, fun i => ?_⟩
      · rw [w1 u]
        by_cases cu : u = v
        · left; rw [if_pos cu]
        · rw [if_neg cu]
          rcases hr u x c hec with q | q | q
          · exact Or.inl q
          · exact Or.inr (Or.inl q)
          · right; right; rw [ne u cu]; have := le x; omega
      · rw [w1 i]; split
        · exact Or.inl rfl
        · exact Or.inr rfl
end
/-- steps as edges -/
def edS (n : Int) (by' co : Int → Int) (u v c : Int) : Prop := (1 ≤ u ∧ u ≤ 9999) ∧ (1 ≤ v ∧ v ≤ 9999) ∧ ∃ k, (0 ≤ k ∧ k < n) ∧ (v = u - by' k ∨ v = u + by' k) ∧ c = co k
def stOK (n : Int) (by' co : Int → Int) : Prop := (0 ≤ n ∧ n ≤ 6) ∧ ∀ k, 0 ≤ k → k < n → (1 ≤ by' k ∧ by' k ≤ 400) ∧ (0 ≤ co k ∧ co k ≤ 99)
