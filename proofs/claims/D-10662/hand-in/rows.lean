section
/-! the desk without tasks: has, remove, place, workIn, idle -/
theorem rd_z (x : Int32) : ((0 : Int32) >>> x) &&& 1 = 0 := by
  rw [Int32.zero_shiftRight, Int32.zero_and]
theorem rd_has0 {post : Int32 → Prop} {f1 : Int32} {a1 a2 a3 a4 a5 a6 : Nat → Int32} (k : Int32) (hp : post 0) : wpX_has post (0, f1, a1, a2, a3, a4, a5, a6) k :=
  br_c (fun _ => hp) (fun _ => br_c (fun _ => hp) (fun _ => br_t (rd_z _) hp))
theorem rd_in0 {post : Int32 → Prop} (k : Int32) (hp : post 0) : wpX_in post () 0 k := br_t (rd_z _) hp
theorem rd_rem0 {post : Int32 → St2 → Prop} {f1 : Int32} {a1 a2 a3 a4 a5 a6 : Nat → Int32} (k : Int32) (hp : post 0 (0, f1, a1, a2, a3, a4, a5, a6)) : wpX_remove post (0, f1, a1, a2, a3, a4, a5, a6) k := by
  unfold wpX_remove
  exact rd_has0 k (br_t rfl hp)
theorem rd_place0 {post : Int32 → St2 → Prop} {f1 : Int32} {a1 a2 a3 a4 a5 a6 : Nat → Int32} (k i : Int32) (hp : post 0 (0, f1, a1, a2, a3, a4, a5, a6)) : wpX_place post (0, f1, a1, a2, a3, a4, a5, a6) k i := by
  unfold wpX_place
  exact rd_has0 k (br_t rfl hp)
/-- the empty set has no work -/
theorem rd_work0 {post : Int32 → Prop} {f0 f1 : Int32} {a1 a2 a3 a4 a5 a6 : Nat → Int32} (t : Int32) (hp : post 0) : wpX_workIn post (f0, f1, a1, a2, a3, a4, a5, a6) 0 t := by
  unfold wpX_workIn
  exact pk_loop (σ := Unit) (fun n i _ => wX_workIn_5 post 0 t f0 f1 a1 a2 a3 a4 a5 a6 n 0 (nI i)) (fun _ _ => True) 5 0 () (by omega) trivial
    (fun n _ _ => pk_le 5 5 (fun _ => hp) (fun z => absurd z (by omega)))
    (fun n i _ hi _ hw => pk_le 5 i (fun z => absurd z (by omega)) (fun _ => rd_in0 _ (br_t rfl (nm_r (nI_1 i) (hw () trivial)))))
/-- idle over the desk without tasks: e turns, the answer e -/
theorem rd_idle {post : Int32 → Prop} {f1 : Int32} {a1 a2 a3 a4 a5 a6 : Nat → Int32} (x : Int32) (e : Nat) (he : e ≤ 60) (h1 : ∀ t, t ≤ e → 0 < t → ¬ x < nI t) (h2 : e < 60 → x < nI (e + 1)) (hp : post (nI e)) : wpX_idle post (0, f1, a1, a2, a3, a4, a5, a6) x := by
  unfold wpX_idle
  exact pk_loop (σ := Unit) (fun n i _ => wX_idle_4 post x 0 f1 a1 a2 a3 a4 a5 a6 n (nI i) (nI (i + 1))) (fun _ _ => True) e 0 () (by omega) trivial
    (fun n _ _ => br_c (fun _ => hp) (fun z => pk_lt 60 (e + 1) (fun _ => hp) (fun z' => absurd (h2 (by omega)) z)))
    (fun n i _ hi _ hw => br_f (h1 (i + 1) (by omega) (by omega)) (pk_lt 60 (i + 1) (fun z => absurd z (by omega)) (fun _ => rd_work0 _ (nm_r (Int32.sub_zero _) (pk_le (i + 1) i (fun z => absurd z (by omega)) (fun _ => nm_r (nI_1 (i + 1)) (hw () trivial)))))))
/-! one task, alone: it is in time under the empty set -/
theorem rd_m3 : ∀ i, i < 16 → ¬ nI i = -3 := by decide
theorem rd_T {Q : Int32 → Prop} {f0 f1 : Int32} {a1 a2 a3 a4 a5 a6 : Nat → Int32} {i j : Nat} (h2 : i ≤ j) (h3 : j ≤ 15) (e1 : a1 0 = nI i) (e2 : a2 0 = nI j) (hq : Q 1) : wpX_inTimeUnder Q (f0, f1, a1, a2, a3, a4, a5, a6) 0 0 := by
  unfold wpX_inTimeUnder wpX_responseUnder
  refine ⟨pk_in 0 5 (by omega), nm_r (e' := nI i) e1 ⟨1, ?_⟩⟩
  refine pk_lt 15 0 (fun z => absurd z (by omega)) (fun _ => ⟨pk_in 0 5 (by omega), rd_work0 _ (nm_r (e' := nI i) ?_ (br_t rfl (br_f (rd_m3 i (by omega)) ⟨pk_in 0 5 (by omega), br_f ?_ hq⟩)))⟩)
  · rw [Int32.add_zero, sb_cl0, e1]
  · rw [sb_cl0, e2]
    exact nI_nlt h2 (by omega)
end
section
/-! fill: the tables of the desk with no task (P = 0) or with task 0 alone (P = 1) -/
theorem rd_28 {post : St2 → Prop} {J : Int32 → (Nat → Int32) → (Nat → Int32) → (Nat → Int32) → (Nat → Int32) → (Nat → Int32) → (Nat → Int32) → Prop} {P f1 : Int32} {a1 a2 a3 a4 a5 a6 : Nat → Int32} (s k0 : Nat) (hk : k0 ≤ 5) (h : ∀ k, k0 ≤ k → k < 5 → ((P &&& (nI s ^^^ (-1))) >>> (nI k &&& 31)) &&& 1 = 0 ∨ ¬ nI s &&& (P ^^^ (-1)) = 0) (H : J (nI s + (-1)) a1 a2 a3 a4 a5 a6) : ∃ n, wX_fill_28 post J (nI s) P f1 n (nI k0) a1 a2 a3 a4 a5 a6 :=
  pk_loop (σ := Unit) (fun n i _ => wX_fill_28 post J (nI s) P f1 n (nI i) a1 a2 a3 a4 a5 a6) (fun i _ => k0 ≤ i) 5 k0 () hk (Nat.le_refl k0)
    (fun n _ _ => pk_le 5 5 (fun _ => nm_e H) (fun z => absurd z (by omega)))
    (fun n i _ hi h0 hw => pk_le 5 i (fun z => absurd z (by omega)) (fun _ => br_c (fun _ => br_t rfl (nm_r (nI_1 i) (hw () (by omega)))) (fun z => br_f (by decide) (br_f (Or.resolve_left (h i h0 hi) z) (nm_r (nI_1 i) (hw () (by omega)))))))
theorem rd_x5 : ∀ k, k < 5 → 1 ≤ k → (((1 : Int32) &&& (nI 0 ^^^ (-1))) >>> (nI k &&& 31)) &&& 1 = 0 := by decide +kernel
theorem rd_28z {post : St2 → Prop} {J : Int32 → (Nat → Int32) → (Nat → Int32) → (Nat → Int32) → (Nat → Int32) → (Nat → Int32) → (Nat → Int32) → Prop} {f1 : Int32} {a1 a2 a3 a4 a5 a6 : Nat → Int32} (hT : ∀ (Q : Int32 → Prop) (b5 b6 : Nat → Int32), Q 1 → wpX_inTimeUnder Q (1, f1, a1, a2, a3, a4, b5, b6) 0 0) (H : J (nI 0 + (-1)) a1 a2 a3 a4 (upd a5 0 (a5 0 + a5 1)) a6) : ∃ n, wX_fill_28 post J (nI 0) 1 f1 n (nI 0) a1 a2 a3 a4 a5 a6 := by
  obtain ⟨n, hn⟩ := rd_28 (post := post) (J := J) (P := 1) (f1 := f1) (a5 := upd a5 0 (a5 0 + a5 1)) 0 1 (by omega) (fun k hk hk5 => Or.inl (rd_x5 k hk5 hk)) H
  refine ⟨n + 1, pk_le 5 0 (fun z => absurd z (by omega)) (fun _ => br_f (by decide) (br_f (by decide) (br_t (by decide) (hT _ _ _ (br_f (by decide) ⟨pk_in 0 32 (by omega), pk_in 1 32 (by omega), pk_in 0 32 (by omega), nm_r (e' := upd a5 0 (a5 0 + a5 1)) ?_ (nm_r (nI_1 0) hn)⟩)))))⟩
  rfl
theorem rd_x1 : ∀ s, s < 32 → (nI s &&& (((1 : Int32) <<< (nI 0 &&& 31)) ^^^ (-1))) &&& 1 = 0 := by decide +kernel
theorem rd_x2 : ∀ s, s < 32 → 0 ≤ (nI s &&& (((1 : Int32) <<< (nI 0 &&& 31)) ^^^ (-1))).toInt ∧ (nI s &&& (((1 : Int32) <<< (nI 0 &&& 31)) ^^^ (-1))).toInt < 32 := by decide +kernel
theorem rd_x3 : ∀ s, s < 32 → ∀ k, k < 5 → ((nI s &&& 1) >>> (nI k &&& 31)) &&& 1 = 0 ∨ k = 0 := by decide +kernel
theorem rd_x4 : ∀ s, s < 32 → 0 < s → ∀ k, k < 5 → (((1 : Int32) &&& (nI s ^^^ (-1))) >>> (nI k &&& 31)) &&& 1 = 0 ∨ ¬ nI s &&& ((1 : Int32) ^^^ (-1)) = 0 := by decide +kernel
theorem rd_124 {post : St2 → Prop} {J : Int32 → (Nat → Int32) → (Nat → Int32) → (Nat → Int32) → (Nat → Int32) → (Nat → Int32) → (Nat → Int32) → Prop} {P f1 : Int32} {a1 a2 a3 a4 a5 a6 : Nat → Int32} (s : Nat) (hs : s < 32) (hP : P = 0 ∨ P = 1) (hT : P = 1 → ∀ (Q : Int32 → Prop) (b5 b6 : Nat → Int32), Q 1 → wpX_inTimeUnder Q (P, f1, a1, a2, a3, a4, b5, b6) 0 0) (H : ∀ b6, J (nI s + 1) a1 a2 a3 a4 a5 b6) : ∃ n, wX_fill_124 post J (nI s) P f1 n (nI 0) a1 a2 a3 a4 a5 a6 := by
  refine pk_loop (fun n i t => wX_fill_124 post J (nI s) P f1 n (nI i) a1 a2 a3 a4 a5 t) (fun _ _ => True) 5 0 a6 (by omega) trivial
    (fun n t _ => pk_le 5 5 (fun _ => nm_e (H t)) (fun z => absurd z (by omega))) ?_
  intro n i t hi _ hw
  refine pk_le 5 i (fun z => absurd z (by omega)) (fun _ => nm_e (br_c (fun _ => br_t rfl (nm_r (nI_1 i) (hw _ trivial))) (fun z => br_f (by decide) ?_)))
  rcases hP with e | e
  · subst e
    rw [Int32.and_zero] at z
    exact absurd (rd_z _) z
  · have e' : i = 0 := by
      subst e
      exact Or.resolve_left (rd_x3 s hs i hi) z
    subst e'
    rw [show (nI s &&& (((1 : Int32) <<< (nI 0 &&& 31)) ^^^ (-1))) &&& P = 0 from by rw [e]; exact rd_x1 s hs]
    exact hT e _ _ _ (br_f (by decide) ⟨pk_in s 32 hs, vp_in_iff.mpr (rd_x2 s hs), pk_in s 32 hs, nm_e (nm_r (nI_1 0) (hw _ trivial))⟩)
theorem rd_101 {post : St2 → Prop} {P f1 : Int32} {a1 a2 a3 a4 a5 a6 : Nat → Int32} (hP : P = 0 ∨ P = 1) (hT : P = 1 → ∀ (Q : Int32 → Prop) (b5 b6 : Nat → Int32), Q 1 → wpX_inTimeUnder Q (P, f1, a1, a2, a3, a4, b5, b6) 0 0) (H : ∀ b6, post (P, f1, a1, a2, a3, a4, a5, b6)) : ∃ n, wX_fill_101 post P f1 n 0 a1 a2 a3 a4 a5 a6 :=
  pk_loop (fun n i t => wX_fill_101 post P f1 n (nI i) a1 a2 a3 a4 a5 t) (fun _ _ => True) 32 0 a6 (by omega) trivial
    (fun n t _ => pk_le 32 32 (fun _ => H t) (fun z => absurd z (by omega)))
    (fun n i t hi _ hw => pk_le 32 i (fun z => absurd z (by omega)) (fun _ => br_c
      (fun _ => ⟨pk_in i 32 hi, nm_e (rd_124 i hi hP hT (fun b6 => by rw [nI_1]; exact hw b6 trivial))⟩)
      (fun _ => ⟨pk_in i 32 hi, nm_e (rd_124 i hi hP hT (fun b6 => by rw [nI_1]; exact hw b6 trivial))⟩)))
theorem rd_fill0 {post : St2 → Prop} {f1 : Int32} {a1 a2 a3 a4 a5 a6 : Nat → Int32} (H : ∀ b5 b6 : Nat → Int32, b5 0 = 1 → post (0, f1, a1, a2, a3, a4, b5, b6)) : wpX_fill post (0, f1, a1, a2, a3, a4, a5, a6) := by
  unfold wpX_fill
  refine ⟨33, pk_loopD (fun n i t => wX_fill_3 post 0 f1 n (nI i + (-1)) a1 a2 a3 a4 t a6) (fun i t => i ≤ 32 ∧ (i = 0 → t 0 = 1)) ?_ ?_ 32 a5 ⟨by omega, fun z => absurd z (by omega)⟩⟩
  · intro n t ht
    exact br_t (by decide) (rd_101 (Or.inl rfl) (fun z => absurd z (by decide)) (fun b6 => H t b6 (ht.2 rfl)))
  · intro n i t ht hw
    have hi : i < 32 := by omega
    show wX_fill_3 post 0 f1 (n + 1) (nI (i + 1) + (-1)) a1 a2 a3 a4 t a6
    rw [pk_m1]
    have h : ∀ k, 0 ≤ k → k < 5 → (((0 : Int32) &&& (nI i ^^^ (-1))) >>> (nI k &&& 31)) &&& 1 = 0 ∨ ¬ nI i &&& ((0 : Int32) ^^^ (-1)) = 0 := fun k _ _ => Or.inl (by rw [Int32.zero_and]; exact rd_z _)
    refine br_f (nI_pos (by omega)) (pk_eq i 0 (fun z => ⟨pk_in i 32 hi, nm_e (rd_28 i 0 (by omega) h (hw _ ⟨by omega, fun _ => ?_⟩))⟩) (fun z => ⟨pk_in i 32 hi, nm_e (rd_28 i 0 (by omega) h (hw _ ⟨by omega, fun z' => absurd z' z⟩))⟩))
    rw [nI_clamp (by omega), z, pk_us]
theorem rd_fill1 {post : St2 → Prop} {f1 : Int32} {a1 a2 a3 a4 a5 a6 : Nat → Int32} (hT : ∀ (Q : Int32 → Prop) (b5 b6 : Nat → Int32), Q 1 → wpX_inTimeUnder Q (1, f1, a1, a2, a3, a4, b5, b6) 0 0) (H : ∀ b5 b6 : Nat → Int32, b5 0 = 1 → post (1, f1, a1, a2, a3, a4, b5, b6)) : wpX_fill post (1, f1, a1, a2, a3, a4, a5, a6) := by
  unfold wpX_fill
  refine ⟨33, pk_loopD (fun n i t => wX_fill_3 post 1 f1 n (nI i + (-1)) a1 a2 a3 a4 t a6) (fun i t => i ≤ 32 ∧ (i ≤ 1 → t 1 = 1) ∧ (i = 0 → t 0 = 1)) ?_ ?_ 32 a5 ⟨by omega, fun z => absurd z (by omega), fun z => absurd z (by omega)⟩⟩
  · intro n t ht
    exact br_t (by decide) (rd_101 (Or.inr rfl) (fun _ => hT) (fun b6 => H t b6 (ht.2.2 rfl)))
  · intro n i t ht hw
    have hi : i < 32 := by omega
    show wX_fill_3 post 1 f1 (n + 1) (nI (i + 1) + (-1)) a1 a2 a3 a4 t a6
    rw [pk_m1]
    refine br_f (nI_pos (by omega)) (pk_eq i 1 (fun z => ⟨pk_in i 32 hi, nm_e ?_⟩) (fun z => ⟨pk_in i 32 hi, nm_e ?_⟩))
    · refine rd_28 i 0 (by omega) (fun k _ hk => rd_x4 i hi (by omega) k hk) (hw _ ⟨by omega, fun _ => ?_, fun z' => absurd z' (by omega)⟩)
      rw [nI_clamp (by omega), z, pk_us]
    · by_cases e : i = 0
      · subst e
        have t1 : t 1 = 1 := ht.2.1 (by omega)
        refine rd_28z hT (hw _ ⟨by omega, fun _ => ?_, fun _ => ?_⟩)
        · rw [pk_un (by omega), nI_clamp (by omega), pk_un (by omega), t1]
        · rw [pk_us, nI_clamp (by omega), pk_us, pk_un (by omega), t1]
          rfl
      · refine rd_28 i 0 (by omega) (fun k _ hk => rd_x4 i hi (by omega) k hk) (hw _ ⟨by omega, fun z' => absurd z' (by omega), fun z' => absurd z' e⟩)
theorem rd_good0 {post : Int32 → St2 → Prop} {f1 : Int32} {a1 a2 a3 a4 a5 a6 : Nat → Int32} (H : ∀ b5 b6 : Nat → Int32, post 1 (0, f1, a1, a2, a3, a4, b5, b6)) : wpX_goodOrders post (0, f1, a1, a2, a3, a4, a5, a6) := by
  unfold wpX_goodOrders
  exact rd_fill0 (fun b5 b6 e => ek_v (P := fun r => post r (0, f1, a1, a2, a3, a4, b5, b6)) e (H b5 b6))
theorem rd_good1 {post : Int32 → St2 → Prop} {f1 : Int32} {a1 a2 a3 a4 a5 a6 : Nat → Int32} (hT : ∀ (Q : Int32 → Prop) (b5 b6 : Nat → Int32), Q 1 → wpX_inTimeUnder Q (1, f1, a1, a2, a3, a4, b5, b6) 0 0) (H : ∀ b5 b6 : Nat → Int32, post 1 (1, f1, a1, a2, a3, a4, b5, b6)) : wpX_goodOrders post (1, f1, a1, a2, a3, a4, a5, a6) := by
  unfold wpX_goodOrders
  exact rd_fill1 hT (fun b5 b6 e => ek_v (P := fun r => post r (1, f1, a1, a2, a3, a4, b5, b6)) e (H b5 b6))
end
section
/-! add, remove, fits; the law -/
def rd_ok (c d p : Int32) : Prop := ¬ c < 1 ∧ ¬ d < c ∧ ¬ p < d ∧ ¬ 15 < p
theorem rd_i8 : ∀ i, i < 16 → (nI i).toInt8.toInt32 = nI i := by decide +kernel
theorem rd_nums {c d p : Int32} (h : rd_ok c d p) : ∃ i j : Nat, i ≤ j ∧ j ≤ 15 ∧ c.toInt8.toInt32 = nI i ∧ d.toInt8.toInt32 = nI j := by
  obtain ⟨h1, h2, h3, h4⟩ := h
  rw [Int32.lt_iff_toInt_lt] at h1 h2 h3 h4
  have e1 : (1 : Int32).toInt = 1 := by decide
  have e15 : (15 : Int32).toInt = 15 := by decide
  have e0 : (0 : Int32).toInt = 0 := by decide
  obtain ⟨i, hi, rfl⟩ := nI_of2 (x := c) (M := 15) (n := 15) (by decide) (by rw [Int32.lt_iff_toInt_lt]; omega) (by rw [Int32.le_iff_toInt_le]; omega)
  obtain ⟨j, hj, rfl⟩ := nI_of2 (x := d) (M := 15) (n := 15) (by decide) (by rw [Int32.lt_iff_toInt_lt]; omega) (by rw [Int32.le_iff_toInt_le]; omega)
  rw [nI_toInt (by omega), nI_toInt (by omega)] at h2
  exact ⟨i, j, by omega, hj, rd_i8 i (by omega), rd_i8 j (by omega)⟩
theorem rd_num {post : Int32 → Prop} (c d p : Int32) (h1 : rd_ok c d p → post 1) (h0 : ¬ rd_ok c d p → post 0) : wpX_numbersOk post () c d p :=
  br_c (fun z => h0 (fun t => t.1 z)) (fun z1 => br_c (fun z => h0 (fun t => t.2.1 z)) (fun z2 => br_c (fun z => h0 (fun t => t.2.2.1 z)) (fun z3 => br_c (fun z => h0 (fun t => t.2.2.2 z)) (fun z4 => h1 ⟨z1, z2, z3, z4⟩))))
theorem rd_add {post : Int32 → St2 → Prop} {a1 a2 a3 a4 a5 a6 : Nat → Int32} (c d p : Int32) (h1 : rd_ok c d p → ∀ b3 b4 : Nat → Int32, post 0 (1, 1, upd a1 0 c.toInt8.toInt32, upd a2 0 d.toInt8.toInt32, b3, b4, a5, a6)) (h0 : ¬ rd_ok c d p → post (-1) (0, 0, a1, a2, a3, a4, a5, a6)) : wpX_add post (0, 0, a1, a2, a3, a4, a5, a6) c d p := by
  unfold wpX_add
  refine rd_num c d p (fun h => br_f (by decide) ⟨1, ?_⟩) (fun h => br_t rfl (h0 h))
  exact pk_le 5 0 (fun z => absurd z (by omega)) (fun _ => rd_has0 _ (br_t rfl (nm_r (e' := 1) (by decide) ⟨pk_in 0 5 (by omega), nm_e ⟨pk_in 0 5 (by omega), nm_e ⟨pk_in 0 5 (by omega), nm_e ⟨pk_in 0 5 (by omega), nm_e (nm_r (e' := 1) (by decide) (h1 h _ _))⟩⟩⟩⟩)))
theorem rd_rem1 {post : Int32 → St2 → Prop} {a1 a2 a3 a4 a5 a6 : Nat → Int32} (hp : post 1 (0, 0, a1, a2, a3, a4, a5, a6)) : wpX_remove post (1, 1, a1, a2, a3, a4, a5, a6) 0 := by
  unfold wpX_remove
  refine br_f (by decide) (br_f (by decide) (br_f (by decide) (br_f (by decide) ?_)))
  exact ⟨1, br_t (by decide) (nm_r (e' := 0) (by decide) ⟨1, br_t (by decide) (nm_r (e' := 0) (by decide) hp)⟩)⟩
theorem rd_fits {post : Int32 → St2 → Prop} {a1 a2 a3 a4 a5 a6 : Nat → Int32} (c d p : Int32) (h1 : rd_ok c d p → ∀ b1 b2 b3 b4 b5 b6 : Nat → Int32, post 1 (0, 0, b1, b2, b3, b4, b5, b6)) (h0 : ¬ rd_ok c d p → post 0 (0, 0, a1, a2, a3, a4, a5, a6)) : wpX_fits post (0, 0, a1, a2, a3, a4, a5, a6) c d p := by
  unfold wpX_fits
  refine rd_add c d p (fun h b3 b4 => br_t (by decide) ?_) (fun h => br_f (by decide) (h0 h))
  obtain ⟨i, j, g1, g2, e1, e2⟩ := rd_nums h
  exact rd_good1 (fun Q b5 b6 hq => rd_T g1 g2 (by rw [pk_us]; exact e1) (by rw [pk_us]; exact e2) hq) (fun b5 b6 => rd_rem1 (br_f (by decide) (h1 h _ _ _ _ _ _)))
theorem rd_115 {post : Int32 → St0 → Prop} {mc ms kc ks : Nat} {x0 x1 x2 x6 z0 : Int32} {a1 a2 a3 a4 a5 a6 : Nat → Int32} (h1 : rd_ok x0 x1 x2 → x6 = 1 ∧ z0 = 0) (h0 : ¬ rd_ok x0 x1 x2 → x6 = 0 ∧ z0 = -1) (hp : post 1 ()) : wL_lawOf_115 post mc ms x0 x1 x2 x6 z0 kc ks 0 0 a1 a2 a3 a4 a5 a6 := by
  unfold wL_lawOf_115
  refine rd_fits x0 x1 x2 (fun h b1 b2 b3 b4 b5 b6 => br_t (h1 h).1.symm (rd_add x0 x1 x2 (fun _ _ _ => br_t (h1 h).2.symm hp) (fun h' => absurd h h'))) (fun h => br_t (h0 h).1.symm (rd_add x0 x1 x2 (fun h' => absurd h' h) (fun _ => br_t (h0 h).2.symm hp)))
theorem rd_60 {post : Int32 → St0 → Prop} {mc ms kc ks : Nat} {x0 x1 x2 x3 x4 x6 : Int32} {a1 a2 a3 a4 a5 a6 : Nat → Int32} (e : Nat) (he : e ≤ 60) (i1 : ∀ t, t ≤ e → 0 < t → ¬ x4 < nI t) (i2 : e < 60 → x4 < nI (e + 1)) (h1 : rd_ok x0 x1 x2 → x6 = 1) (h0 : ¬ rd_ok x0 x1 x2 → x6 = 0) (hp : post 1 ()) : wL_lawOf_60 post mc ms x0 x1 x2 x3 x4 x6 (nI e) kc ks 0 0 a1 a2 a3 a4 a5 a6 := by
  unfold wL_lawOf_60
  refine rd_rem0 x3 (br_t rfl (rd_place0 x3 x4 (br_t rfl (rd_idle x4 e he i1 i2 (br_t rfl (rd_good0 (fun b5 b6 => br_t rfl (br_c (fun z => ?_) (fun z => ?_)))))))))
  · exact rd_115 (fun h => absurd ((h1 h).symm.trans z) (by decide)) (fun h => ⟨h0 h, rfl⟩) hp
  · exact rd_115 (fun h => ⟨h1 h, rfl⟩) (fun h => absurd (h0 h) z) hp
theorem rd_35 {post : Int32 → St0 → Prop} {mc ms kc ks : Nat} {x0 x1 x2 x3 x4 x6 : Int32} {a1 a2 a3 a4 a5 a6 : Nat → Int32} (h1 : rd_ok x0 x1 x2 → x6 = 1) (h0 : ¬ rd_ok x0 x1 x2 → x6 = 0) (hp : post 1 ()) : wL_lawOf_35 post mc ms x0 x1 x2 x3 x4 x6 kc ks 0 0 a1 a2 a3 a4 a5 a6 := by
  unfold wL_lawOf_35
  have e0 : (0 : Int32).toInt = 0 := by decide
  have e60 : (60 : Int32).toInt = 60 := by decide
  refine br_c (fun z => br_c (fun w => ?_) (fun w => ?_)) (fun z => ?_)
  · obtain ⟨j, hj, rfl⟩ := nI_of2 (x := x4) (M := 60) (n := 60) (by decide) (Int32.not_lt.mpr z) w
    exact rd_60 j hj (fun t ht _ => nI_nlt ht (by omega)) (fun _ => nI_lt (by omega) (by omega)) h1 h0 hp
  · refine rd_60 60 (by omega) (fun t ht _ g => ?_) (fun g => absurd g (by omega)) h1 h0 hp
    rw [Int32.lt_iff_toInt_lt, nI_toInt (by omega)] at g
    rw [Int32.le_iff_toInt_le] at w
    omega
  · refine rd_60 0 (by omega) (fun t ht g => absurd g (by omega)) (fun _ => ?_) h1 h0 hp
    rw [Int32.le_iff_toInt_le] at z
    rw [Int32.lt_iff_toInt_lt, nI_toInt (by omega)]
    omega
theorem rd_lawOf {post : Int32 → St0 → Prop} (p0 p1 p2 p3 p4 : Int32) (hp : post 1 ()) : wpL_lawOf post 54 864 () p0 p1 p2 p3 p4 := by
  unfold wpL_lawOf
  refine ⟨by omega, by omega, 6, 84, by omega, by omega, ?_⟩
  refine ⟨by omega, by omega, by omega, by omega, by omega, by omega, by omega, by omega, by omega, by omega, by omega, by omega, ?_⟩
  refine br_c (fun z => ?_) (fun z1 => br_c (fun z => ?_) (fun z2 => br_c (fun z => ?_) (fun z3 => br_c (fun z => ?_) (fun z4 => ?_))))
  · exact rd_35 (fun t => absurd z t.1) (fun _ => rfl) hp
  · exact rd_35 (fun t => absurd z t.2.1) (fun _ => rfl) hp
  · exact rd_35 (fun t => absurd z t.2.2.1) (fun _ => rfl) hp
  · exact rd_35 (fun t => absurd z t.2.2.2) (fun _ => rfl) hp
  · exact rd_35 (fun _ => rfl) (fun t => absurd ⟨z1, z2, z3, z4⟩ t) hp
theorem rd_cell {post : Int32 → Prop} {L : Nat} (hL : L ≤ 5) (xs : Nat → Int32) (k : Nat) (hk : k < 5) (hp : ∀ r, post r) : wpL_cellAt post L xs () (nI k) :=
  pk_le L k (fun _ => hp 0) (fun z => ⟨pk_in k L z, hp _⟩)
theorem i_vc (xs : Nat → Int32) (L : Nat) (hL : L ≤ 5) : wpL_law (fun r => r = 1) L xs := by
  unfold wpL_law
  exact rd_cell hL xs 0 (by omega) (fun r1 => rd_cell hL xs 1 (by omega) (fun r2 => rd_cell hL xs 2 (by omega) (fun r3 => rd_cell hL xs 3 (by omega) (fun r4 => rd_cell hL xs 4 (by omega) (fun r5 => ⟨54, 864, by omega, by omega, rd_lawOf r1 r2 r3 r4 r5 rfl⟩)))))
end
