section
/-! ===== pure tables: bits of a set of seven, ways to take a set away ===== -/
def qd_pop (k : Nat) : Nat := k % 2 + k / 2 % 2 + k / 4 % 2 + k / 8 % 2 + k / 16 % 2 + k / 32 % 2 + k / 64 % 2
def qd_fac : Nat → Nat
  | 0 => 1
  | n + 1 => (n + 1) * qd_fac n
/-- ways to take the set k away when no two vertices are joined -/
def qd_W (k : Nat) : Int32 := nI (qd_fac (qd_pop k))
/-- what the inner loop has summed up before vertex v -/
def qd_P (k : Nat) : Nat → Int32
  | 0 => 0
  | v + 1 => if ((nI k >>> (nI v &&& 31)) &&& 1) = 0 then qd_P k v else qd_P k v + qd_W (nI k &&& (((1 : Int32) <<< (nI v &&& 31)) ^^^ (-1))).toNatClampNeg
/-- the bits of x below v, counted -/
def qd_o (x : Int32) : Nat → Int32
  | 0 => 0
  | v + 1 => qd_o x v + ((x >>> (nI v &&& 31)) &&& 1)
def qd_s (a : Nat → Int32) : Nat → Int32
  | 0 => 0
  | v + 1 => qd_s a v + qd_o (a v) 7
/-- the graph with the one join i, j -/
def qd_A (i j : Nat) : Nat → Int32 := upd (upd (fun _ => 0) i ((1 : Int32) <<< (nI j &&& 31))) j ((1 : Int32) <<< (nI i &&& 31))
theorem qd_t1 : ∀ s, s < 128 → (∀ v, v < 7 → ((nI s >>> (nI v &&& 31)) &&& 1) = 0 ∨ ((nI s &&& ((0 : Int32) ^^^ (-1))) &&& (((1 : Int32) <<< (nI v &&& 31)) ^^^ (-1))) = 0) → (nI s &&& (nI s - 1)) = 0 := by decide +kernel
theorem qd_t2 : ∀ s, s < 128 → ∀ v, v < 7 → ¬ ((nI s >>> (nI v &&& 31)) &&& 1) = 0 → ¬ ((nI s &&& ((0 : Int32) ^^^ (-1))) &&& (((1 : Int32) <<< (nI v &&& 31)) ^^^ (-1))) = 0 → ¬ (nI s &&& (nI s - 1)) = 0 := by decide +kernel
theorem qd_t3 : ∀ k, k < 128 → 0 < k → qd_P k 7 = qd_W k := by decide +kernel
theorem qd_t4 : ∀ k, k < 128 → ∀ v, v < 7 → ¬ ((nI k >>> (nI v &&& 31)) &&& 1) = 0 → ¬ (nI k &&& (((1 : Int32) <<< (nI v &&& 31)) ^^^ (-1))) < 0 ∧ (nI k &&& (((1 : Int32) <<< (nI v &&& 31)) ^^^ (-1))).toNatClampNeg < k := by decide +kernel
theorem qd_t5 : qd_W 127 = 5040 := by decide +kernel
theorem qd_t6 : ∀ j, j < 7 → ((0 : Int32) ^^^ ((1 : Int32) <<< (nI j &&& 31))).toInt8.toInt32 = (1 : Int32) <<< (nI j &&& 31) := by decide +kernel
theorem qd_t7 : qd_s (fun _ => 0) 7 / 2 = 0 := by decide +kernel
theorem qd_t8 : ∀ i, i < 7 → ∀ j, j < 7 → i ≠ j → qd_s (qd_A i j) 7 / 2 = 1 := by decide +kernel
theorem qd_t9 : ∀ j, j < 7 → (((0 : Int32) >>> (nI j &&& 31)) &&& 1) = 0 := by decide +kernel
theorem qd_67 {x : Int32} (h : 6 < x) : 7 ≤ x := by
  rw [Int32.lt_iff_toInt_lt] at h
  rw [Int32.le_iff_toInt_le]
  have h6 : (6 : Int32).toInt = 6 := rfl
  have h7 : (7 : Int32).toInt = 7 := rfl
  omega
end
section
/-! ===== a lemma a method ===== -/
section
variable {f0 f1 f2 : Int32} {a1 a2 a3 a4 a5 a6 a7 : Nat → Int32}
theorem qd_isC {post : Int32 → Prop} {s : Nat} (hs : s < 128) (H1 : (nI s &&& (nI s - 1)) = 0 → post 1) (H0 : ¬ (nI s &&& (nI s - 1)) = 0 → post 0) : wpX_isClique post (f0, f1, f2, (fun _ => 0), a2, a3, a4, a5, a6, a7) (nI s) :=
  pk_loop (σ := Unit) (fun n i _ => wX_isClique_2 post (nI s) f0 f1 f2 (fun _ => 0) a2 a3 a4 a5 a6 a7 n (nI i)) (fun i _ => ∀ v, v < i → ((nI s >>> (nI v &&& 31)) &&& 1) = 0 ∨ ((nI s &&& ((0 : Int32) ^^^ (-1))) &&& (((1 : Int32) <<< (nI v &&& 31)) ^^^ (-1))) = 0) 7 0 () (by omega) (fun v hv => absurd hv (by omega))
    (fun n _ h => pk_le 7 7 (fun _ => H1 (qd_t1 s hs h)) (fun z => absurd z (by omega)))
    (fun n i _ hi h hw => pk_le 7 i (fun z => absurd z (by omega)) (fun _ => br_c (fun g => br_t rfl (nm_r (nI_1 i) (hw () (lt_s h (Or.inl g))))) (fun g => br_f (by decide) ⟨pk_in i 7 hi, br_c (fun g2 => nm_r (nI_1 i) (hw () (lt_s h (Or.inr g2)))) (fun g2 => H0 (qd_t2 s hs i hi g g2))⟩)))
theorem qd_easy {post : Int32 → Prop} {v k : Nat} (hv : v < 7) (H : post 1) : wpX_isEasy post (f0, f1, f2, (fun _ => 0), a2, a3, a4, a5, a6, a7) (nI v) (nI k) := by
  unfold wpX_isEasy
  refine ⟨pk_in v 7 hv, ?_⟩
  rw [show (0 : Int32) &&& nI k = nI 0 from Int32.zero_and]
  exact qd_isC (by decide) (fun _ => ⟨rfl, H⟩) (fun h => absurd (by decide) h)
theorem qd_24 {post : Int32 → St2 → Prop} {J : Int32 → (Nat → Int32) → (Nat → Int32) → (Nat → Int32) → (Nat → Int32) → (Nat → Int32) → (Nat → Int32) → (Nat → Int32) → Prop} {k : Nat} (hk : k < 128) (hk0 : 0 < k) (h0 : ∀ j, j < k → a7 j = qd_W j) (hz : a7 k = 0) (H : ∀ a, (∀ j, j < k + 1 → a j = qd_W j) → J (nI (k + 1)) (fun _ => 0) a2 a3 a4 a5 a6 a) : ∃ fu, wX_orders_24 post J (nI k) f0 f1 f2 fu 0 (fun _ => 0) a2 a3 a4 a5 a6 a7 := by
  refine pk_loop (fun n i s => wX_orders_24 post J (nI k) f0 f1 f2 n (nI i) (fun _ => 0) a2 a3 a4 a5 a6 s) (fun i s => (∀ j, j < k → s j = qd_W j) ∧ s k = qd_P k i) 7 0 a7 (by omega) ⟨h0, hz⟩
    (fun n s h => pk_le 7 7 (fun _ => nm_r (nI_1 k) (H s (lt_s h.1 (h.2.trans (qd_t3 k hk hk0))))) (fun z => absurd z (by omega))) ?_
  intro n i s hi h hw
  refine pk_le 7 i (fun z => absurd z (by omega)) (fun _ => br_c (fun g => br_t rfl (nm_r (nI_1 i) (hw s ⟨h.1, ?_⟩))) (fun g => br_f (by decide) (qd_easy hi (br_f (by decide) ⟨pk_in k 128 hk, ?_, pk_in k 128 hk, nm_r (e' := upd s k (qd_P k (i + 1))) ?_ (nm_r (nI_1 i) (hw _ ⟨?_, pk_us⟩))⟩))))
  · rw [h.2]
    exact (if_pos g).symm
  · intro z
    have t := qd_t4 k hk i hi g
    rcases z with z | z
    · exact t.1 z
    · omega
  · rw [nI_clamp (by omega), h.2, h.1 _ (qd_t4 k hk i hi g).2]
    exact congrArg (upd s k) (if_neg g).symm
  · intro j hj
    rw [pk_un (by omega)]
    exact h.1 j hj
theorem qd_ord {post : Int32 → St2 → Prop} (H : ∀ a, post 5040 (f0, f1, f2, (fun _ => 0), a2, a3, a4, a5, a6, a)) : wpX_orders post (f0, f1, f2, (fun _ => 0), a2, a3, a4, a5, a6, a7) := by
  intro b eb
  refine pk_loop (fun n i s => wX_orders_9 post f0 f1 f2 n (nI i) (fun _ => 0) a2 a3 a4 a5 a6 s) (fun i s => 0 < i ∧ ∀ j, j < i → s j = qd_W j) 128 1 b (by omega) ⟨by omega, ?_⟩ ?_ ?_
  · intro j hj
    have e : j = 0 := by omega
    rw [e, eb, pk_us]
    decide
  · intro n s h
    refine pk_lt 127 128 (fun _ => ?_) (fun z => absurd z (by omega))
    rw [h.2 127 (by omega), qd_t5]
    exact H s
  · intro n i s hi h hw
    exact pk_lt 127 i (fun z => absurd z (by omega)) (fun _ => ⟨pk_in i 128 hi, nm_r (e' := upd s i 0) (by rw [nI_clamp (by omega)]) (qd_24 hi h.1 (fun j hj => by rw [pk_un (by omega)]; exact h.2 j hj) pk_us (fun a ha => hw a ⟨by omega, ha⟩))⟩)
theorem qd_vy {post : Int32 → Prop} {i : Nat} (hi : i < 7) (H : post 1) : wpX_isVertex post () (nI i) := br_f (nI_pos (by omega)) (br_f (nI_ge (b := 7) hi (by decide)) H)
theorem qd_vn {post : Int32 → Prop} {x : Int32} (h : x < 0 ∨ 7 ≤ x) (H : post 0) : wpX_isVertex post () x := br_c (fun _ => H) (fun g => br_t (h.resolve_left g) H)
theorem qd_v7 (x : Int32) : (x < 0 ∨ 7 ≤ x) ∨ ∃ j : Nat, j < 7 ∧ x = nI j := by
  rcases pk_ix x (n := 7) (by decide) with h | h | h
  · exact Or.inl (Or.inl h)
  · exact Or.inl (Or.inr h)
  · exact Or.inr h
theorem qd_vb {i : Nat} (hi : i < 7) : ¬ (nI i < 0 ∨ 7 ≤ nI i) := fun z => z.elim (nI_pos (by omega)) (nI_ge (b := 7) hi (by decide))
/-- the pair can't be joined -/
def qd_no (x y : Int32) : Prop := (x < 0 ∨ 7 ≤ x) ∨ (y < 0 ∨ 7 ≤ y) ∨ x = y
theorem qd_jn {post : Int32 → St2 → Prop} {x y p : Int32} (h : qd_no x y) (H : post 0 (f0, f1, f2, a1, a2, a3, a4, a5, a6, a7)) : wpX_join post (f0, f1, f2, a1, a2, a3, a4, a5, a6, a7) x y p := by
  unfold wpX_join
  rcases qd_v7 x with hx | ⟨i, hi, ex⟩
  · exact qd_vn hx (br_t rfl H)
  · rcases qd_v7 y with hy | ⟨j, hj, ey⟩
    · rw [ex]
      exact qd_vy hi (br_f (by decide) (qd_vn hy (br_t rfl H)))
    · subst ex
      subst ey
      have e : nI i = nI j := by
        rcases h with h | h | h
        · exact absurd h (qd_vb hi)
        · exact absurd h (qd_vb hj)
        · exact h
      exact qd_vy hi (br_f (by decide) (qd_vy hj (br_f (by decide) (br_t e H))))
theorem qd_ne {i j : Nat} (hi : i < 7) (hj : j < 7) (hn : i ≠ j) : ¬ nI i = nI j := fun e => hn ((nI_eq (by omega) (by omega)).mp e)
theorem qd_j0 {post : Int32 → St2 → Prop} {i j : Nat} (hi : i < 7) (hj : j < 7) (hn : i ≠ j) (H : post 1 (f0, f1, f2, (fun _ => 0), a2, a3, a4, a5, a6, a7)) : wpX_join post (f0, f1, f2, (fun _ => 0), a2, a3, a4, a5, a6, a7) (nI i) (nI j) 0 := by
  unfold wpX_join
  exact qd_vy hi (br_f (by decide) (qd_vy hj (br_f (by decide) (br_f (qd_ne hi hj hn) ⟨pk_in i 7 hi, br_t (qd_t9 j hj) (br_t rfl H)⟩))))
theorem qd_turn {post : St2 → Prop} {i j : Nat} (hi : i < 7) (hj : j < 7) (hn : i ≠ j) (H : post (f0, f1, f2, qd_A i j, a2, a3, a4, a5, a6, a7)) : wpX_turn post (f0, f1, f2, (fun _ => 0), a2, a3, a4, a5, a6, a7) (nI i) (nI j) := by
  unfold wpX_turn
  refine ⟨pk_in i 7 hi, pk_in i 7 hi, nm_r (e' := upd (fun _ => 0) i ((1 : Int32) <<< (nI j &&& 31))) ?_ ⟨pk_in j 7 hj, pk_in j 7 hj, nm_r (e' := qd_A i j) ?_ H⟩⟩
  · rw [nI_clamp (by omega)]
    exact congrArg (upd (fun _ => 0) i) (qd_t6 j hj)
  · rw [nI_clamp (by omega), pk_un (fun e => hn e.symm)]
    exact congrArg (upd (upd (fun _ => 0) i ((1 : Int32) <<< (nI j &&& 31))) j) (qd_t6 i hi)
theorem qd_j1 {post : Int32 → St2 → Prop} {i j : Nat} (hi : i < 7) (hj : j < 7) (hn : i ≠ j) (H : post 1 (f0, f1, f2, qd_A i j, a2, a3, a4, a5, a6, a7)) : wpX_join post (f0, f1, f2, (fun _ => 0), a2, a3, a4, a5, a6, a7) (nI i) (nI j) 1 := by
  unfold wpX_join
  exact qd_vy hi (br_f (by decide) (qd_vy hj (br_f (by decide) (br_f (qd_ne hi hj hn) ⟨pk_in i 7 hi, br_t (qd_t9 j hj) (br_f (by decide) (qd_turn hi hj hn H))⟩))))
theorem qd_nn {post : Int32 → Prop} {x : Int32} (H : post 0) : wpX_neighbours post (f0, f1, f2, (fun _ => 0), a2, a3, a4, a5, a6, a7) x := by
  unfold wpX_neighbours
  rcases qd_v7 x with hx | ⟨i, hi, ex⟩
  · exact qd_vn hx (br_t rfl H)
  · rw [ex]
    exact qd_vy hi (br_f (by decide) ⟨pk_in i 7 hi, H⟩)
theorem qd_ny {post : Int32 → Prop} {i j : Nat} (hi : i < 7) (hn : i ≠ j) (H : post ((1 : Int32) <<< (nI j &&& 31))) : wpX_neighbours post (f0, f1, f2, qd_A i j, a2, a3, a4, a5, a6, a7) (nI i) := by
  unfold wpX_neighbours
  refine qd_vy hi (br_f (by decide) ⟨pk_in i 7 hi, ?_⟩)
  rw [nI_clamp (by omega)]
  unfold qd_A
  rw [pk_un hn, pk_us]
  exact H
theorem qd_ones {post : Int32 → Prop} {x : Int32} (H : post (qd_o x 7)) : wpX_ones post () x :=
  pk_loop (fun n i s => wX_ones_4 post x n s (nI i)) (fun i s => s = qd_o x i) 7 0 0 (by omega) rfl
    (fun n s h => pk_le 7 7 (fun _ => by rw [h]; exact H) (fun z => absurd z (by omega)))
    (fun n i s hi h hw => pk_le 7 i (fun z => absurd z (by omega)) (fun _ => nm_e (nm_r (nI_1 i) (hw _ (by rw [h]; rfl)))))
theorem qd_joins {post : Int32 → Prop} (H : post (qd_s a1 7 / 2)) : wpX_joins post (f0, f1, f2, a1, a2, a3, a4, a5, a6, a7) :=
  pk_loop (fun n i s => wX_joins_4 post f0 f1 f2 a1 a2 a3 a4 a5 a6 a7 n s (nI i)) (fun i s => s = qd_s a1 i) 7 0 0 (by omega) rfl
    (fun n s h => pk_le 7 7 (fun _ => ⟨by decide, by rw [h]; exact H⟩) (fun z => absurd z (by omega)))
    (fun n i s hi h hw => pk_le 7 i (fun z => absurd z (by omega)) (fun _ => ⟨pk_in i 7 hi, qd_ones (nm_e (nm_r (nI_1 i) (hw _ (by rw [nI_clamp (by omega), h]; rfl))))⟩))
end
end
section
/-! ===== the law ===== -/
section
variable {mc ms kc ks : Nat} {f0 f1 f2 : Int32} {a2 a3 a4 a5 a6 a7 : Nat → Int32}
theorem qd_63n {x0 x1 x2 x4 : Int32} (h : qd_no x0 x1) (hc : ∀ post : Int32 → Prop, post x4 → wpX_clique post (f0, f1, f2, (fun _ => 0), a2, a3, a4, a5, a6, a7) x2) : wL_lawOf_63 (fun r _ => r = 1) mc ms x0 x1 x2 x4 0 kc ks f0 f1 f2 (fun _ => 0) a2 a3 a4 a5 a6 a7 := by
  unfold wL_lawOf_63
  refine hc _ (br_t rfl (qd_ord (fun a => br_t rfl (qd_jn h (br_t rfl (qd_jn h (br_t rfl (br_t rfl ?_))))))))
  unfold wL_lawOf_123
  exact qd_nn (br_t rfl (qd_joins (br_t rfl (br_t qd_t7 rfl))))
theorem qd_63y {x2 x4 : Int32} {i j : Nat} (hi : i < 7) (hj : j < 7) (hn : i ≠ j) (hc : ∀ post : Int32 → Prop, post x4 → wpX_clique post (f0, f1, f2, (fun _ => 0), a2, a3, a4, a5, a6, a7) x2) : wL_lawOf_63 (fun r _ => r = 1) mc ms (nI i) (nI j) x2 x4 1 kc ks f0 f1 f2 (fun _ => 0) a2 a3 a4 a5 a6 a7 := by
  unfold wL_lawOf_63
  refine hc _ (br_t rfl (qd_ord (fun a => br_t rfl (qd_j0 hi hj hn (br_t rfl (qd_j1 hi hj hn (br_t rfl (br_f (by decide) ?_))))))))
  unfold wL_lawOf_123
  exact qd_ny hi hn (br_t rfl (qd_joins (br_f (by decide) (br_t (qd_t8 i hi j hj hn) rfl))))
theorem qd_31 {x0 x1 x2 x4 : Int32} (hc : ∀ post : Int32 → Prop, post x4 → wpX_clique post (f0, f1, f2, (fun _ => 0), a2, a3, a4, a5, a6, a7) x2) : wL_lawOf_31 (fun r _ => r = 1) mc ms x0 x1 x2 x4 kc ks f0 f1 f2 (fun _ => 0) a2 a3 a4 a5 a6 a7 := by
  have N : qd_no x0 x1 → wL_lawOf_62 (fun r _ => r = 1) mc ms x0 x1 x2 x4 kc ks f0 f1 f2 (fun _ => 0) a2 a3 a4 a5 a6 a7 := fun h => by
    unfold wL_lawOf_62
    exact qd_63n h hc
  unfold wL_lawOf_31
  refine br_c (fun g => N (Or.inl (Or.inl g))) (fun g0 => br_c (fun g => N (Or.inl (Or.inr (qd_67 g)))) (fun g1 => br_c (fun g => N (Or.inr (Or.inl (Or.inl g)))) (fun g2 => br_c (fun g => N (Or.inr (Or.inl (Or.inr (qd_67 g))))) (fun g3 => br_c (fun g => N (Or.inr (Or.inr g))) (fun g4 => ?_)))))
  obtain ⟨i, hi, ei⟩ := nI_of2 (M := 6) (n := 6) rfl g0 (Int32.not_lt.mp g1)
  obtain ⟨j, hj, ej⟩ := nI_of2 (M := 6) (n := 6) rfl g2 (Int32.not_lt.mp g3)
  subst ei
  subst ej
  exact qd_63y (by omega) (by omega) (fun e => g4 (by rw [e])) hc
end
theorem qd_lawOf (x y z : Int32) : wpL_lawOf (fun r _ => r = 1) 8 352 () x y z := by
  refine ⟨by decide, by decide, 7, 342, by decide, by decide, by decide, by decide, by decide, by decide, by decide, by decide, by decide, by decide, by decide, by decide, by decide, by decide, by decide, by decide, ?_⟩
  refine br_c (fun g => ?_) (fun g0 => br_c (fun g => ?_) (fun g1 => ?_))
  · unfold wL_lawOf_30
    exact qd_31 (fun post h => br_t g h)
  · unfold wL_lawOf_30
    exact qd_31 (fun post h => br_f g0 (br_t g h))
  · obtain ⟨s, hs, es⟩ := nI_of2 (M := 127) (n := 127) rfl g0 (Int32.not_lt.mp g1)
    subst es
    refine br_c (fun g => ?_) (fun g => ?_)
    · exact qd_31 (fun post h => br_f g0 (br_f g1 (qd_isC (by omega) (fun _ => br_f (by decide) h) (fun t => absurd g t))))
    · unfold wL_lawOf_30
      exact qd_31 (fun post h => br_f g0 (br_f g1 (qd_isC (by omega) (fun t => absurd t g) (fun _ => br_t rfl h))))
theorem qd_cell {post : Int32 → Prop} {L k : Nat} {xs : Nat → Int32} {p : Int32} (hp : p = nI k) (hL : L ≤ 3) (hk : k ≤ 3) (H : ∀ r, post r) : wpL_cellAt post L xs () p := by
  subst hp
  refine br_c (fun _ => H 0) (fun g => ⟨vp_in_nI ?_ (by omega), H _⟩)
  rcases Nat.lt_or_ge k L with z | z
  · exact z
  · exact absurd (nI_le z (by omega)) g
theorem i_vc (xs : Nat → Int32) (L : Nat) (hL : L ≤ 3) : wpL_law (fun r => r = 1) L xs := by
  unfold wpL_law
  exact qd_cell (k := 0) rfl hL (by omega) (fun x => qd_cell (k := 1) rfl hL (by omega) (fun y => qd_cell (k := 2) rfl hL (by omega) (fun z => ⟨8, 352, by decide, by decide, qd_lawOf x y z⟩)))
end
