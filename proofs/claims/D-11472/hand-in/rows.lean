section
section
variable {s0 s1 s2 s3 : Int32} {a1 a2 a3 a4 a5 a6 a7 a8 a9 a10 a11 a12 a13 a14 a15 a16 a17 a18 : Nat → Int32}
/-- a point on the grid -/
def dm_ok (x y : Int32) : Prop := ¬ x < 0 ∧ ¬ 127 < x ∧ ¬ y < 0 ∧ ¬ 127 < y
theorem dm_in {post : Int32 → Prop} {x y : Int32} (h1 : dm_ok x y → post 1) (h0 : ¬ dm_ok x y → post 0) : wpL_in post () x y :=
  br_c (fun z => h0 (fun t => t.1 z)) (fun z1 => br_c (fun z => h0 (fun t => t.2.1 z)) (fun z2 => br_c (fun z => h0 (fun t => t.2.2.1 z)) (fun z3 => br_c (fun z => h0 (fun t => t.2.2.2 z)) (fun z4 => h1 ⟨z1, z2, z3, z4⟩))))
theorem dm_off {post : Int32 → Prop} {x : Int32} (h1 : (x < 0 ∨ 127 < x) → post 1) (h0 : ¬ x < 0 → ¬ 127 < x → post 0) : wpX_offGrid post () x :=
  br_c (fun z => h1 (Or.inl z)) (fun z1 => br_c (fun z => h0 z1 (Int32.not_lt.mpr z)) (fun z => h1 (Or.inr (Int32.not_le.mp z))))
theorem dm_fill {f s : Nat → Int32} {i k : Nat} {x : Int32} (hk : k = i) (h : ∀ j, j < i → s j = f j) (hx : x = f i) : ∀ j, j < i + 1 → upd s k x j = f j := by
  intro j hj
  rw [hk]
  by_cases e : j = i
  · rw [e, pk_us, hx]
  · rw [pk_un e]
    exact h j (by omega)
/-- noPoint -/
theorem dm_np {post : Int32 → Prop} (k : Nat) (hk : k < 24) (h1 : a1 k = 0 → post 1) (h0 : ¬ a1 k = 0 → post 0) : wpX_noPoint post (s0, s1, s2, s3, a1, a2, a3, a4, a5, a6, a7, a8, a9, a10, a11, a12, a13, a14, a15, a16, a17, a18) (nI k) := by
  unfold wpX_noPoint
  refine br_f (nI_pos (by omega)) (pk_lt 23 k (fun z => absurd z (by omega)) (fun _ => ⟨pk_in k 24 hk, ?_⟩))
  rw [nI_clamp (show k < 2 ^ 31 by omega)]
  exact br_c h1 h0
/-- firstFrom -/
theorem dm_ff_hit {post : Int32 → Prop} (i k : Nat) (hik : i ≤ k) (hk : k < 24) (hz : ∀ j, i ≤ j → j < k → a1 j = 0) (h1 : ¬ a1 k = 0) (hp : post (nI k)) : wpX_firstFrom post (s0, s1, s2, s3, a1, a2, a3, a4, a5, a6, a7, a8, a9, a10, a11, a12, a13, a14, a15, a16, a17, a18) (nI i) :=
  pk_loop (σ := Unit) (fun n j _ => wX_firstFrom_2 post s0 s1 s2 s3 a1 a2 a3 a4 a5 a6 a7 a8 a9 a10 a11 a12 a13 a14 a15 a16 a17 a18 n (nI j)) (fun j _ => i ≤ j) k i () hik (Nat.le_refl _)
    (fun n _ _ => pk_le 24 k (fun z => absurd z (by omega)) (fun _ => ⟨pk_in k 24 hk, br_f (by rw [nI_clamp (show k < 2 ^ 31 by omega)]; exact h1) hp⟩))
    (fun n j _ hj hI hw => pk_le 24 j (fun z => absurd z (by omega)) (fun _ => ⟨pk_in j 24 (by omega), br_t (by rw [nI_clamp (show j < 2 ^ 31 by omega)]; exact hz j hI hj) (nm_r (nI_1 j) (hw () (show i ≤ j + 1 by omega)))⟩))
theorem dm_ff_miss {post : Int32 → Prop} (i : Nat) (hi : i ≤ 24) (hz : ∀ j, i ≤ j → j < 24 → a1 j = 0) (hp : post (-1)) : wpX_firstFrom post (s0, s1, s2, s3, a1, a2, a3, a4, a5, a6, a7, a8, a9, a10, a11, a12, a13, a14, a15, a16, a17, a18) (nI i) :=
  pk_loop (σ := Unit) (fun n j _ => wX_firstFrom_2 post s0 s1 s2 s3 a1 a2 a3 a4 a5 a6 a7 a8 a9 a10 a11 a12 a13 a14 a15 a16 a17 a18 n (nI j)) (fun j _ => i ≤ j) 24 i () hi (Nat.le_refl _)
    (fun n _ _ => pk_le 24 24 (fun _ => hp) (fun z => absurd z (by omega)))
    (fun n j _ hj hI hw => pk_le 24 j (fun z => absurd z (by omega)) (fun _ => ⟨pk_in j 24 (by omega), br_t (by rw [nI_clamp (show j < 2 ^ 31 by omega)]; exact hz j hI hj) (nm_r (nI_1 j) (hw () (show i ≤ j + 1 by omega)))⟩))
/-- build over at most the points 0 and 1: no triangle -/
theorem dm_build {post : St2 → Prop} (hz : ∀ j, 2 ≤ j → j < 24 → a1 j = 0) (hp : ∀ b4, post (s0, 0, s2, s3, a1, a2, a3, b4, a5, a6, a7, a8, a9, a10, a11, a12, a13, a14, a15, a16, a17, a18)) : wpX_build post (s0, s1, s2, s3, a1, a2, a3, a4, a5, a6, a7, a8, a9, a10, a11, a12, a13, a14, a15, a16, a17, a18) := by
  refine pk_loop (fun n i b4 => wX_build_7 post s0 0 s2 s3 n (nI i) a1 a2 a3 b4 a5 a6 a7 a8 a9 a10 a11 a12 a13 a14 a15 a16 a17 a18) (fun _ _ => True) 72 0 a4 (by omega) trivial (fun n b4 _ => ?_)
    (fun n i b4 hi _ hw => pk_le 72 i (fun z => absurd z (by omega)) (fun _ => ⟨pk_in i 72 hi, nm_e (nm_r (nI_1 i) (hw _ trivial))⟩))
  refine pk_le 72 72 (fun _ => ?_) (fun z => absurd z (by omega))
  by_cases h0 : a1 0 = 0
  · by_cases h1 : a1 1 = 0
    · refine dm_ff_miss 0 (by omega) (fun j _ hj => ?_) (br_f (by decide) (hp b4))
      by_cases e0 : j = 0
      · rw [e0]; exact h0
      · by_cases e1 : j = 1
        · rw [e1]; exact h1
        · exact hz j (by omega) hj
    · refine dm_ff_hit 0 1 (by omega) (by omega) (fun j _ hj => ?_) h1 (br_t (by decide) (dm_ff_miss 2 (by omega) hz (br_f (by decide) (hp b4))))
      rw [show j = 0 by omega]; exact h0
  · refine dm_ff_hit 0 0 (by omega) (by omega) (fun j _ hj => absurd hj (by omega)) h0 (br_t (by decide) ?_)
    by_cases h1 : a1 1 = 0
    · refine dm_ff_miss 1 (by omega) (fun j _ hj => ?_) (br_f (by decide) (hp b4))
      by_cases e1 : j = 1
      · rw [e1]; exact h1
      · exact hz j (by omega) hj
    · refine dm_ff_hit 1 1 (by omega) (by omega) (fun j _ hj => absurd hj (by omega)) h1 (br_t (by decide) ?_)
      refine dm_ff_miss 2 (by omega) hz ⟨1, ?_⟩
      exact br_f (by decide) (br_t (by decide) (br_f (by decide) (hp b4)))
end
end
section
section
variable {s0 s1 s2 s3 : Int32} {a1 a2 a3 a4 a5 a6 a7 a8 a9 a10 a11 a12 a13 a14 a15 a16 a17 a18 : Nat → Int32}
/-- the two ends of the only edge, in one order or the other -/
def dm_pq (p q : Nat) : Prop := (p = 0 ∧ q = 1) ∨ (p = 1 ∧ q = 0)
theorem dm_pq24 {p q : Nat} (h : dm_pq p q) : p < 24 ∧ q < 24 := by
  rcases h with ⟨rfl, rfl⟩ | ⟨rfl, rfl⟩ <;> omega
/-- the squared distance of the points p and q -/
def dm_D (a2 a3 : Nat → Int32) (p q : Nat) : Int32 := (a2 p - a2 q) * (a2 p - a2 q) + (a3 p - a3 q) * (a3 p - a3 q)
theorem dm_Dsym (a2 a3 : Nat → Int32) {p q : Nat} (h : dm_pq p q) : dm_D a2 a3 p q = dm_D a2 a3 0 1 := by
  rcases h with ⟨rfl, rfl⟩ | ⟨rfl, rfl⟩
  · rfl
  · unfold dm_D
    grind
/-- addEdge to the empty list -/
theorem dm_addEdge {post : St2 → Prop} (p q : Nat) (h1 : p < 24) (h2 : q < 24) {x y : Int32} (hx : x = nI p) (hy : y = nI q)
    (hp : post (s0, s1, 1, s3, a1, a2, a3, a4, a5, a6, a7, a8, a9, upd a10 0 (nI p), upd a11 0 (nI q), upd a12 0 (dm_D a2 a3 p q), a13, a14, a15, a16, a17, a18)) : wpX_addEdge post (s0, s1, 0, s3, a1, a2, a3, a4, a5, a6, a7, a8, a9, a10, a11, a12, a13, a14, a15, a16, a17, a18) x y := by
  subst hx hy
  unfold wpX_addEdge
  refine br_t (by decide) ?_
  unfold wpX_dist
  rw [nI_clamp (show p < 2 ^ 31 by omega), nI_clamp (show q < 2 ^ 31 by omega)]
  refine ⟨pk_in p 24 h1, pk_in q 24 h2, nm_e ⟨pk_in p 24 h1, pk_in q 24 h2, nm_e ⟨1, br_t (by decide) ?_⟩⟩⟩
  exact ⟨pk_in 0 80 (by omega), nm_e ⟨pk_in 0 80 (by omega), nm_e ⟨pk_in 0 80 (by omega), nm_e (nm_e hp)⟩⟩⟩
/-- lineBefore answers 0 or 1 -/
theorem dm_lb (p q : Nat) (h1 : p < 24) (h2 : q < 24) {y : Int32} (hy : y = nI q) : (∀ post : Int32 → Prop, post 0 → wpX_lineBefore post (s0, s1, s2, s3, a1, a2, a3, a4, a5, a6, a7, a8, a9, a10, a11, a12, a13, a14, a15, a16, a17, a18) (nI p) y) ∨ (∀ post : Int32 → Prop, post 1 → wpX_lineBefore post (s0, s1, s2, s3, a1, a2, a3, a4, a5, a6, a7, a8, a9, a10, a11, a12, a13, a14, a15, a16, a17, a18) (nI p) y) := by
  subst hy
  have ip := pk_in p 24 h1 (x := nI p)
  have iq := pk_in q 24 h2 (x := nI q)
  by_cases e : a2 (nI p).toNatClampNeg = a2 (nI q).toNatClampNeg
  · by_cases g : a3 (nI q).toNatClampNeg ≤ a3 (nI p).toNatClampNeg
    · exact Or.inl (fun post hp => ⟨ip, iq, br_t e ⟨ip, iq, br_t g hp⟩⟩)
    · exact Or.inr (fun post hp => ⟨ip, iq, br_t e ⟨ip, iq, br_f g hp⟩⟩)
  · by_cases g : a2 (nI q).toNatClampNeg ≤ a2 (nI p).toNatClampNeg
    · exact Or.inl (fun post hp => ⟨ip, iq, br_f e ⟨ip, iq, br_t g hp⟩⟩)
    · exact Or.inr (fun post hp => ⟨ip, iq, br_f e ⟨ip, iq, br_f g hp⟩⟩)
/-- lineEdges: the loop behind the last point -/
theorem dm_line_tail {post : St2 → Prop} {x : Int32} (i : Nat) (hi : i ≤ 24) (hz : ∀ j, i ≤ j → j < 24 → a1 j = 0) (h : ∃ n, wX_lineEdges_82 post x n 0 s0 s1 s2 s3 a1 a2 a3 a4 a5 a6 a7 a8 a9 a10 a11 a12 a13 a14 a15 a16 a17 a18) : ∃ n, wX_lineEdges_4 post s0 s1 s2 s3 n x (nI i) a1 a2 a3 a4 a5 a6 a7 a8 a9 a10 a11 a12 a13 a14 a15 a16 a17 a18 :=
  pk_loop (σ := Unit) (fun n j _ => wX_lineEdges_4 post s0 s1 s2 s3 n x (nI j) a1 a2 a3 a4 a5 a6 a7 a8 a9 a10 a11 a12 a13 a14 a15 a16 a17 a18) (fun j _ => i ≤ j) 24 i () hi (Nat.le_refl _)
    (fun n _ _ => pk_le 24 24 (fun _ => h) (fun z => absurd z (by omega)))
    (fun n j _ hj hI hw => pk_le 24 j (fun z => absurd z (by omega)) (fun _ => ⟨pk_in j 24 (by omega), br_t (by rw [nI_clamp (show j < 2 ^ 31 by omega)]; exact hz j hI hj) (nm_r (nI_1 j) (hw () (show i ≤ j + 1 by omega)))⟩))
theorem dm_line_skip {post : St2 → Prop} {x : Int32} (i : Nat) (hi : i < 24) (h0 : a1 i = 0) (h : ∃ n, wX_lineEdges_4 post s0 s1 s2 s3 n x (nI (i + 1)) a1 a2 a3 a4 a5 a6 a7 a8 a9 a10 a11 a12 a13 a14 a15 a16 a17 a18) : ∃ n, wX_lineEdges_4 post s0 s1 s2 s3 n x (nI i) a1 a2 a3 a4 a5 a6 a7 a8 a9 a10 a11 a12 a13 a14 a15 a16 a17 a18 := by
  obtain ⟨n, hn⟩ := h
  exact ⟨n + 1, pk_le 24 i (fun z => absurd z (by omega)) (fun _ => ⟨pk_in i 24 hi, br_t (by rw [nI_clamp (show i < 2 ^ 31 by omega)]; exact h0) (nm_r (nI_1 i) hn)⟩)⟩
/-- the first point into the order -/
theorem dm_line_put0 {post : St2 → Prop} (i : Nat) (hi : i < 24) (h0 : ¬ a1 i = 0) (h : ∃ n, wX_lineEdges_4 post s0 s1 s2 s3 n (nI 1) (nI (i + 1)) a1 a2 a3 a4 a5 a6 a7 a8 a9 a10 a11 a12 a13 a14 a15 a16 (upd a17 0 (nI i)) a18) : ∃ n, wX_lineEdges_4 post s0 s1 s2 s3 n (nI 0) (nI i) a1 a2 a3 a4 a5 a6 a7 a8 a9 a10 a11 a12 a13 a14 a15 a16 a17 a18 := by
  obtain ⟨n, hn⟩ := h
  exact ⟨n + 1, pk_le 24 i (fun z => absurd z (by omega)) (fun _ => ⟨pk_in i 24 hi, br_f (by rw [nI_clamp (show i < 2 ^ 31 by omega)]; exact h0) ⟨1, br_t (by decide) ⟨pk_in 0 24 (by omega), nm_e (nm_r (nI_1 0) (nm_r (nI_1 i) hn))⟩⟩⟩)⟩
/-- the second point, 1, into the order, where 0 stands -/
theorem dm_line_put1 {post : St2 → Prop} (h0 : ¬ a1 1 = 0) (h17 : a17 0 = nI 0) (h : ∀ b17 p q, dm_pq p q → b17 0 = nI p → b17 1 = nI q → ∃ n, wX_lineEdges_4 post s0 s1 s2 s3 n (nI 2) (nI 2) a1 a2 a3 a4 a5 a6 a7 a8 a9 a10 a11 a12 a13 a14 a15 a16 b17 a18) : ∃ n, wX_lineEdges_4 post s0 s1 s2 s3 n (nI 1) (nI 1) a1 a2 a3 a4 a5 a6 a7 a8 a9 a10 a11 a12 a13 a14 a15 a16 a17 a18 := by
  have c0 : (nI 1 - 1).toNatClampNeg = 0 := by decide
  have c1 : (nI 1).toNatClampNeg = 1 := by decide
  have c2 : (nI 1 + (-1)).toNatClampNeg = 0 := by decide
  have e17 : a17 (nI 1 - 1).toNatClampNeg = nI 0 := by rw [c0]; exact h17
  have g : (∀ ps : Int32 → Prop, ps 0 → wpX_lineBefore ps (s0, s1, s2, s3, a1, a2, a3, a4, a5, a6, a7, a8, a9, a10, a11, a12, a13, a14, a15, a16, a17, a18) (nI 1) (a17 (nI 1 - 1).toNatClampNeg)) ∨ (∀ ps : Int32 → Prop, ps 1 → wpX_lineBefore ps (s0, s1, s2, s3, a1, a2, a3, a4, a5, a6, a7, a8, a9, a10, a11, a12, a13, a14, a15, a16, a17, a18) (nI 1) (a17 (nI 1 - 1).toNatClampNeg)) := dm_lb 1 0 (by omega) (by omega) e17
  have h0' : ¬ a1 (nI 1).toNatClampNeg = 0 := by rw [c1]; exact h0
  rcases g with g | g
  · obtain ⟨n, hn⟩ := h (upd a17 1 (nI 1)) 0 1 (Or.inl ⟨rfl, rfl⟩) (by rw [pk_un (by omega)]; exact h17) (by rw [pk_us])
    refine ⟨n + 1, pk_le 24 1 (fun z => absurd z (by omega)) (fun _ => ⟨pk_in 1 24 (by omega), br_f h0' ⟨1, br_f (by decide) ⟨pk_in 0 24 (by omega) (by decide), ?_⟩⟩⟩)⟩
    exact g _ (br_t rfl ⟨pk_in 1 24 (by omega), nm_r (by rw [c1]) (nm_r (nI_1 1) (nm_r (nI_1 1) hn))⟩)
  · obtain ⟨n, hn⟩ := h (upd (upd a17 1 (nI 0)) 0 (nI 1)) 1 0 (Or.inr ⟨rfl, rfl⟩) (by rw [pk_us]) (by rw [pk_un (by omega), pk_us])
    refine ⟨n + 1, pk_le 24 1 (fun z => absurd z (by omega)) (fun _ => ⟨pk_in 1 24 (by omega), br_f h0' ⟨2, br_f (by decide) ⟨pk_in 0 24 (by omega) (by decide), ?_⟩⟩⟩)⟩
    refine g _ (br_f (by decide) ⟨pk_in 0 24 (by omega) (by decide), pk_in 1 24 (by omega), nm_r (e' := upd a17 1 (nI 0)) (by rw [c1, e17]) (nm_e ?_)⟩)
    exact br_t (by decide) ⟨pk_in 0 24 (by omega) (by decide), nm_r (by rw [c2]) (nm_r (nI_1 1) (nm_r (nI_1 1) hn))⟩
/-- lineEdges: what follows the order -/
theorem dm_line_end0 {post : St2 → Prop} {x : Int32} (hx : x ≤ 0 + 1) (hp : post (s0, s1, s2, s3, a1, a2, a3, a4, a5, a6, a7, a8, a9, a10, a11, a12, a13, a14, a15, a16, a17, a18)) : ∃ n, wX_lineEdges_82 post x n 0 s0 s1 s2 s3 a1 a2 a3 a4 a5 a6 a7 a8 a9 a10 a11 a12 a13 a14 a15 a16 a17 a18 := ⟨1, br_t hx hp⟩
theorem dm_line_end2 {post : St2 → Prop} (p q : Nat) (h1 : p < 24) (h2 : q < 24) (e0 : a17 0 = nI p) (e1 : a17 1 = nI q)
    (hp : post (s0, s1, 1, s3, a1, a2, a3, a4, a5, a6, a7, a8, a9, upd a10 0 (nI p), upd a11 0 (nI q), upd a12 0 (dm_D a2 a3 p q), a13, a14, a15, a16, a17, a18)) : ∃ n, wX_lineEdges_82 post (nI 2) n 0 s0 s1 0 s3 a1 a2 a3 a4 a5 a6 a7 a8 a9 a10 a11 a12 a13 a14 a15 a16 a17 a18 := by
  refine ⟨2, br_f (by decide) ⟨pk_in 0 24 (by omega), pk_in 1 24 (by omega), ?_⟩⟩
  exact dm_addEdge p q h1 h2 e0 e1 (nm_e (br_t (by decide) hp))
/-- lineEdges, at most one point -/
theorem dm_line_few {post : St2 → Prop} (h : a1 0 = 0 ∨ a1 1 = 0) (hz : ∀ j, 2 ≤ j → j < 24 → a1 j = 0) (hp : ∀ b17, post (s0, s1, s2, s3, a1, a2, a3, a4, a5, a6, a7, a8, a9, a10, a11, a12, a13, a14, a15, a16, b17, a18)) : wpX_lineEdges post (s0, s1, s2, s3, a1, a2, a3, a4, a5, a6, a7, a8, a9, a10, a11, a12, a13, a14, a15, a16, a17, a18) := by
  have T : ∀ b17 x, x ≤ 0 + 1 → ∃ n, wX_lineEdges_4 post s0 s1 s2 s3 n x (nI 2) a1 a2 a3 a4 a5 a6 a7 a8 a9 a10 a11 a12 a13 a14 a15 a16 b17 a18 := fun b17 x hx => dm_line_tail 2 (by omega) hz (dm_line_end0 hx (hp b17))
  show ∃ n, wX_lineEdges_4 post s0 s1 s2 s3 n (nI 0) (nI 0) a1 a2 a3 a4 a5 a6 a7 a8 a9 a10 a11 a12 a13 a14 a15 a16 a17 a18
  by_cases h0 : a1 0 = 0
  · refine dm_line_skip 0 (by omega) h0 ?_
    by_cases h1 : a1 1 = 0
    · exact dm_line_skip 1 (by omega) h1 (T _ _ (by decide))
    · exact dm_line_put0 1 (by omega) h1 (T _ _ (by decide))
  · refine dm_line_put0 0 (by omega) h0 ?_
    rcases h with h | h
    · exact absurd h h0
    · exact dm_line_skip 1 (by omega) h (T _ _ (by decide))
/-- lineEdges, two points -/
theorem dm_line_two {post : St2 → Prop} (h0 : ¬ a1 0 = 0) (h1 : ¬ a1 1 = 0) (hz : ∀ j, 2 ≤ j → j < 24 → a1 j = 0)
    (hp : ∀ p q b10 b11 b12 b17, dm_pq p q → b10 0 = nI p → b11 0 = nI q → b12 0 = dm_D a2 a3 0 1 → post (s0, s1, 1, s3, a1, a2, a3, a4, a5, a6, a7, a8, a9, b10, b11, b12, a13, a14, a15, a16, b17, a18)) : wpX_lineEdges post (s0, s1, 0, s3, a1, a2, a3, a4, a5, a6, a7, a8, a9, a10, a11, a12, a13, a14, a15, a16, a17, a18) := by
  show ∃ n, wX_lineEdges_4 post s0 s1 0 s3 n (nI 0) (nI 0) a1 a2 a3 a4 a5 a6 a7 a8 a9 a10 a11 a12 a13 a14 a15 a16 a17 a18
  refine dm_line_put0 0 (by omega) h0 (dm_line_put1 h1 (by rw [pk_us]) (fun b17 p q hpq e0 e1 => dm_line_tail 2 (by omega) hz ?_))
  refine dm_line_end2 p q (dm_pq24 hpq).1 (dm_pq24 hpq).2 e0 e1 ?_
  exact hp p q _ _ _ b17 hpq (by rw [pk_us]) (by rw [pk_us]) (by rw [pk_us]; exact dm_Dsym a2 a3 hpq)
/-- alone -/
theorem dm_alone {post : St2 → Prop} (hp : ∀ b16, (∀ j, j < 24 → b16 j = nI j) → post (s0, s1, s2, s3, a1, a2, a3, a4, a5, a6, a7, a8, a9, a10, a11, a12, a13, a14, a15, b16, a17, a18)) : wpX_alone post (s0, s1, s2, s3, a1, a2, a3, a4, a5, a6, a7, a8, a9, a10, a11, a12, a13, a14, a15, a16, a17, a18) :=
  pk_loop (fun n i b16 => wX_alone_2 post s0 s1 s2 s3 n (nI i) a1 a2 a3 a4 a5 a6 a7 a8 a9 a10 a11 a12 a13 a14 a15 b16 a17 a18) (fun i b16 => ∀ j, j < i → b16 j = nI j) 24 0 a16 (by omega) (fun j hj => absurd hj (by omega))
    (fun n b16 hb => pk_le 24 24 (fun _ => hp b16 hb) (fun z => absurd z (by omega)))
    (fun n i b16 hi hb hw => pk_le 24 i (fun z => absurd z (by omega)) (fun _ => ⟨pk_in i 24 hi, nm_e (nm_r (nI_1 i) (hw _ (dm_fill (nI_clamp (by omega)) hb rfl)))⟩))
/-- find at a leader; find one step below it -/
theorem dm_find_root {post : Int32 → St2 → Prop} (k : Nat) (hk : k < 24) {x : Int32} (hx : x = nI k) (h : a16 k = nI k) (hp : post (nI k) (s0, s1, s2, s3, a1, a2, a3, a4, a5, a6, a7, a8, a9, a10, a11, a12, a13, a14, a15, a16, a17, a18)) : wpX_find post (s0, s1, s2, s3, a1, a2, a3, a4, a5, a6, a7, a8, a9, a10, a11, a12, a13, a14, a15, a16, a17, a18) x := by
  subst hx
  exact ⟨1, pk_le 24 0 (fun z => absurd z (by omega)) (fun _ => ⟨pk_in k 24 hk, br_t (by rw [nI_clamp (show k < 2 ^ 31 by omega)]; exact h) hp⟩)⟩
theorem dm_find_step {post : Int32 → St2 → Prop} (k m : Nat) (hk : k < 24) (hm : m < 24) (hne : m ≠ k) {x : Int32} (hx : x = nI k) (h : a16 k = nI m) (h2 : a16 m = nI m) (hp : post (nI m) (s0, s1, s2, s3, a1, a2, a3, a4, a5, a6, a7, a8, a9, a10, a11, a12, a13, a14, a15, upd a16 k (nI m), a17, a18)) : wpX_find post (s0, s1, s2, s3, a1, a2, a3, a4, a5, a6, a7, a8, a9, a10, a11, a12, a13, a14, a15, a16, a17, a18) x := by
  subst hx
  have ck := nI_clamp (show k < 2 ^ 31 by omega)
  have cm := nI_clamp (show m < 2 ^ 31 by omega)
  have e1 : a16 (nI k).toNatClampNeg = nI m := by rw [ck]; exact h
  have e2 : a16 (a16 (nI k).toNatClampNeg).toNatClampNeg = nI m := by rw [e1, cm]; exact h2
  have ne : ¬ nI m = nI k := fun z => hne ((nI_eq (by omega) (by omega)).mp z)
  refine ⟨2, pk_le 24 0 (fun z => absurd z (by omega)) (fun _ => ⟨pk_in k 24 hk, br_f (by rw [e1]; exact ne) ⟨pk_in k 24 hk, pk_in m 24 hm e1, pk_in k 24 hk, nm_r (e' := upd a16 k (nI m)) (by rw [e2, ck]) ⟨pk_in k 24 hk, nm_r (e' := nI m) (by rw [ck, pk_us]) (nm_e ?_)⟩⟩⟩)⟩
  exact br_f (by decide) ⟨pk_in m 24 hm, br_t (by rw [cm, pk_un hne]; exact h2) hp⟩
/-- join of 0 and 1 where every point leads itself -/
theorem dm_join {post : Int32 → St2 → Prop} (p q : Nat) (hpq : dm_pq p q) {x y : Int32} (hx : x = nI p) (hy : y = nI q) (h : ∀ j, j < 24 → a16 j = nI j) (hp : post 1 (s0, s1, s2, s3, a1, a2, a3, a4, a5, a6, a7, a8, a9, a10, a11, a12, a13, a14, a15, upd a16 1 (nI 0), a17, a18)) : wpX_join post (s0, s1, s2, s3, a1, a2, a3, a4, a5, a6, a7, a8, a9, a10, a11, a12, a13, a14, a15, a16, a17, a18) x y := by
  have b := dm_pq24 hpq
  unfold wpX_join
  refine dm_find_root p b.1 hx (h p b.1) ?_
  refine dm_find_root q b.2 hy (h q b.2) ?_
  rcases hpq with ⟨rfl, rfl⟩ | ⟨rfl, rfl⟩
  · exact br_f (by decide) (br_f (by decide) ⟨pk_in 1 24 (by omega), nm_e hp⟩)
  · exact br_f (by decide) (br_t (by decide) ⟨pk_in 1 24 (by omega), nm_e hp⟩)
/-- pickTree: no edge; one edge -/
theorem dm_pick0 {post : St2 → Prop} (hp : ∀ b16, post (s0, s1, 0, 0, a1, a2, a3, a4, a5, a6, a7, a8, a9, a10, a11, a12, a13, a14, a15, b16, a17, a18)) : wpX_pickTree post (s0, s1, 0, s3, a1, a2, a3, a4, a5, a6, a7, a8, a9, a10, a11, a12, a13, a14, a15, a16, a17, a18) := by
  unfold wpX_pickTree
  exact dm_alone (fun b16 _ => ⟨1, br_t (by decide) (hp b16)⟩)
theorem dm_pick1 {post : St2 → Prop} (p q : Nat) (hpq : dm_pq p q) (e0 : a10 0 = nI p) (e1 : a11 0 = nI q)
    (hp : ∀ b13 b14 b15 b16, b13 0 = nI p → b14 0 = nI q → b15 0 = a12 0 → post (s0, s1, 1, 1, a1, a2, a3, a4, a5, a6, a7, a8, a9, a10, a11, a12, b13, b14, b15, b16, a17, a18)) : wpX_pickTree post (s0, s1, 1, s3, a1, a2, a3, a4, a5, a6, a7, a8, a9, a10, a11, a12, a13, a14, a15, a16, a17, a18) := by
  unfold wpX_pickTree
  refine dm_alone (fun b16 hb => ⟨2, br_f (by decide) ⟨pk_in 0 80 (by omega), pk_in 0 80 (by omega), ?_⟩⟩)
  refine dm_join p q hpq e0 e1 hb ?_
  refine br_f (by decide) (br_f (by decide) ⟨pk_in 0 80 (by omega), pk_in 0 24 (by omega), nm_e ⟨pk_in 0 80 (by omega), pk_in 0 24 (by omega), nm_e ⟨pk_in 0 80 (by omega), pk_in 0 24 (by omega), nm_e (nm_e (nm_e ?_))⟩⟩⟩)
  refine br_t (by decide) (hp _ _ _ _ ?_ ?_ ?_)
  · exact pk_us.trans e0
  · exact pk_us.trans e1
  · exact pk_us
/-- collectEdges: at most one point; two points -/
theorem dm_coll0 {post : St2 → Prop} (h : a1 0 = 0 ∨ a1 1 = 0) (hz : ∀ j, 2 ≤ j → j < 24 → a1 j = 0) (hp : ∀ b16 b17, post (s0, 0, 0, 0, a1, a2, a3, a4, a5, a6, a7, a8, a9, a10, a11, a12, a13, a14, a15, b16, b17, a18)) : wpX_collectEdges post (s0, 0, s2, s3, a1, a2, a3, a4, a5, a6, a7, a8, a9, a10, a11, a12, a13, a14, a15, a16, a17, a18) := by
  unfold wpX_collectEdges
  refine br_t rfl (dm_line_few h hz (fun b17 => ?_))
  exact dm_pick0 (fun b16 => hp b16 b17)
theorem dm_coll2 {post : St2 → Prop} (h0 : ¬ a1 0 = 0) (h1 : ¬ a1 1 = 0) (hz : ∀ j, 2 ≤ j → j < 24 → a1 j = 0)
    (hp : ∀ p q b10 b11 b12 b13 b14 b15 b16 b17, dm_pq p q → b10 0 = nI p → b11 0 = nI q → b13 0 = nI p → b14 0 = nI q → b15 0 = dm_D a2 a3 0 1 → post (s0, 0, 1, 1, a1, a2, a3, a4, a5, a6, a7, a8, a9, b10, b11, b12, b13, b14, b15, b16, b17, a18)) : wpX_collectEdges post (s0, 0, s2, s3, a1, a2, a3, a4, a5, a6, a7, a8, a9, a10, a11, a12, a13, a14, a15, a16, a17, a18) := by
  unfold wpX_collectEdges
  refine br_t rfl (dm_line_two h0 h1 hz (fun p q b10 b11 b12 b17 hpq e0 e1 e2 => ?_))
  exact dm_pick1 p q hpq e0 e1 (fun b13 b14 b15 b16 f0 f1 f2 => hp p q b10 b11 b12 b13 b14 b15 b16 b17 hpq e0 e1 f0 f1 (f2.trans e2))
end
end
section
section
variable {s0 s1 s2 s3 : Int32} {a1 a2 a3 a4 a5 a6 a7 a8 a9 a10 a11 a12 a13 a14 a15 a16 a17 a18 : Nat → Int32}
/-- add: a point off the grid -/
theorem dm_add_bad {post : Int32 → St2 → Prop} {x y : Int32} (h : ¬ dm_ok x y) (hp : post (-1) (s0, s1, s2, s3, a1, a2, a3, a4, a5, a6, a7, a8, a9, a10, a11, a12, a13, a14, a15, a16, a17, a18)) : wpX_add post (s0, s1, s2, s3, a1, a2, a3, a4, a5, a6, a7, a8, a9, a10, a11, a12, a13, a14, a15, a16, a17, a18) x y := by
  unfold wpX_add
  refine dm_off (fun _ => br_f (by decide) hp) (fun z1 z2 => br_t rfl ?_)
  exact dm_off (fun _ => br_f (by decide) hp) (fun z3 z4 => absurd (show dm_ok x y from ⟨z1, z2, z3, z4⟩) h)
theorem dm_add_on {post : Int32 → St2 → Prop} {x y : Int32} (h : dm_ok x y) (hw : ∃ n, wX_add_22 post x y s0 s1 s2 s3 a1 a2 a3 a4 a5 a6 a7 a8 a9 a10 a11 a12 a13 a14 a15 a16 a17 a18 n (-1) (nI 23)) : wpX_add post (s0, s1, s2, s3, a1, a2, a3, a4, a5, a6, a7, a8, a9, a10, a11, a12, a13, a14, a15, a16, a17, a18) x y := by
  unfold wpX_add
  refine dm_off (fun z => z.elim (fun z => absurd z h.1) (fun z => absurd z h.2.1)) (fun _ _ => br_t rfl ?_)
  exact dm_off (fun z => z.elim (fun z => absurd z h.2.2.1) (fun z => absurd z h.2.2.2)) (fun _ _ => br_t rfl hw)
/-- add's loop over free places -/
theorem dm_add_step {post : Int32 → St2 → Prop} {x y x3 : Int32} (i : Nat) (hi : i < 24) (h : a1 i = 0) (hw : ∃ n, wX_add_22 post x y s0 s1 s2 s3 a1 a2 a3 a4 a5 a6 a7 a8 a9 a10 a11 a12 a13 a14 a15 a16 a17 a18 n (nI i) (nI i + (-1))) : ∃ n, wX_add_22 post x y s0 s1 s2 s3 a1 a2 a3 a4 a5 a6 a7 a8 a9 a10 a11 a12 a13 a14 a15 a16 a17 a18 n x3 (nI i) := by
  obtain ⟨n, hn⟩ := hw
  have e : a1 (nI i).toNatClampNeg = 0 := by rw [nI_clamp (show i < 2 ^ 31 by omega)]; exact h
  exact ⟨n + 1, br_f (nI_pos (by omega)) ⟨pk_in i 24 hi, br_t e ⟨pk_in i 24 hi, br_t e (nm_e hn)⟩⟩⟩
theorem dm_add_down {post : Int32 → St2 → Prop} {x y : Int32} (k : Nat) (hw : ∃ n, wX_add_22 post x y s0 s1 s2 s3 a1 a2 a3 a4 a5 a6 a7 a8 a9 a10 a11 a12 a13 a14 a15 a16 a17 a18 n (nI k) (nI k + (-1))) : ∀ d x3, k + d < 24 → (∀ j, k ≤ j → j ≤ k + d → a1 j = 0) → ∃ n, wX_add_22 post x y s0 s1 s2 s3 a1 a2 a3 a4 a5 a6 a7 a8 a9 a10 a11 a12 a13 a14 a15 a16 a17 a18 n x3 (nI (k + d)) := by
  intro d
  induction d with
  | zero => intro x3 hd hz; exact dm_add_step k hd (hz k (by omega) (by omega)) hw
  | succ d ih =>
    intro x3 hd hz
    refine dm_add_step (k + (d + 1)) hd (hz _ (by omega) (by omega)) ?_
    have e : nI (k + (d + 1)) + (-1) = nI (k + d) := pk_m1 (k + d)
    rw [e]
    exact ih _ (by omega) (fun j h1 h2 => hz j h1 (by omega))
/-- add: the first point -/
theorem dm_add_1st {post : Int32 → St2 → Prop} {x y : Int32} (h : dm_ok x y) (hz : ∀ j, j < 24 → a1 j = 0)
    (hp : ∀ b4 b16 b17, post (nI 0) (s0 + 1, 0, 0, 0, upd a1 0 1, upd a2 0 x, upd a3 0 y, b4, a5, a6, a7, a8, a9, a10, a11, a12, a13, a14, a15, b16, b17, a18)) : wpX_add post (s0, 0, s2, s3, a1, a2, a3, a4, a5, a6, a7, a8, a9, a10, a11, a12, a13, a14, a15, a16, a17, a18) x y := by
  refine dm_add_on h (dm_add_down 0 ⟨1, ?_⟩ 23 (-1) (by omega) (fun j _ hj => hz j (by omega)))
  have hz' : ∀ j, 2 ≤ j → j < 24 → upd a1 0 1 j = 0 := fun j h2 h3 => by rw [pk_un (by omega)]; exact hz j h3
  refine br_t (by decide) (br_t (by decide) ⟨pk_in 0 24 (by omega), nm_e ⟨pk_in 0 24 (by omega), nm_e ⟨pk_in 0 24 (by omega), nm_e (nm_e (br_t rfl ?_))⟩⟩⟩)
  refine dm_build hz' (fun b4 => ?_)
  exact dm_coll0 (Or.inr (show upd a1 0 1 1 = 0 by rw [pk_un (by omega)]; exact hz 1 (by omega))) hz' (fun b16 b17 => hp b4 b16 b17)
/-- add with the point 0 there: the same again; a second one -/
theorem dm_add_dup {post : Int32 → St2 → Prop} {x y : Int32} (h : dm_ok x y) (h0 : ¬ a1 0 = 0) (hz : ∀ j, 1 ≤ j → j < 24 → a1 j = 0) (e2 : a2 0 = x) (e3 : a3 0 = y) (hp : post (-2) (s0, s1, s2, s3, a1, a2, a3, a4, a5, a6, a7, a8, a9, a10, a11, a12, a13, a14, a15, a16, a17, a18)) : wpX_add post (s0, s1, s2, s3, a1, a2, a3, a4, a5, a6, a7, a8, a9, a10, a11, a12, a13, a14, a15, a16, a17, a18) x y := by
  refine dm_add_on h (dm_add_down 1 ⟨1, ?_⟩ 22 (-1) (by omega) (fun j h1 hj => hz j h1 (by omega)))
  rw [pk_m1 0]
  exact br_f (by decide) ⟨pk_in 0 24 (by omega), br_f h0 ⟨pk_in 0 24 (by omega), br_t e2 ⟨pk_in 0 24 (by omega), br_t e3 hp⟩⟩⟩
theorem dm_add_2nd {post : Int32 → St2 → Prop} {x y : Int32} (h : dm_ok x y) (h0 : ¬ a1 0 = 0) (hz : ∀ j, 1 ≤ j → j < 24 → a1 j = 0) (hne : ¬ (a2 0 = x ∧ a3 0 = y))
    (hp : ∀ p q b4 b10 b11 b12 b13 b14 b15 b16 b17, dm_pq p q → b10 0 = nI p → b11 0 = nI q → b13 0 = nI p → b14 0 = nI q → b15 0 = (a2 0 - x) * (a2 0 - x) + (a3 0 - y) * (a3 0 - y) →
      post (nI 1) (s0 + 1, 0, 1, 1, upd a1 1 1, upd a2 1 x, upd a3 1 y, b4, a5, a6, a7, a8, a9, b10, b11, b12, b13, b14, b15, b16, b17, a18)) : wpX_add post (s0, 0, s2, s3, a1, a2, a3, a4, a5, a6, a7, a8, a9, a10, a11, a12, a13, a14, a15, a16, a17, a18) x y := by
  have hz' : ∀ j, 2 ≤ j → j < 24 → upd a1 1 1 j = 0 := fun j h2 h3 => by rw [pk_un (by omega)]; exact hz j (by omega) h3
  have E : wX_add_22 post x y s0 0 s2 s3 a1 a2 a3 a4 a5 a6 a7 a8 a9 a10 a11 a12 a13 a14 a15 a16 a17 a18 1 (nI 1) (nI 0 + (-1)) := by
    refine br_t (by decide) (br_t (by decide) ⟨pk_in 1 24 (by omega), nm_e ⟨pk_in 1 24 (by omega), nm_e ⟨pk_in 1 24 (by omega), nm_e (nm_e (br_t rfl ?_))⟩⟩⟩)
    refine dm_build hz' (fun b4 => ?_)
    refine dm_coll2 (by rw [show (nI 1).toNatClampNeg = 1 from rfl, pk_un (by omega)]; exact h0) (by rw [show (nI 1).toNatClampNeg = 1 from rfl, pk_us]; decide) hz' (fun p q b10 b11 b12 b13 b14 b15 b16 b17 hpq f0 f1 f3 f4 f5 => ?_)
    exact hp p q b4 b10 b11 b12 b13 b14 b15 b16 b17 hpq f0 f1 f3 f4 f5
  have K : wX_add_62 post (wX_add_22 post x y s0 0 s2 s3 a1 a2 a3 a4 a5 a6 a7 a8 a9 a10 a11 a12 a13 a14 a15 a16 a17 a18 1) x y (nI 1) (nI 0) s0 0 s2 s3 a1 a2 a3 a4 a5 a6 a7 a8 a9 a10 a11 a12 a13 a14 a15 a16 a17 a18 := ⟨pk_in 0 24 (by omega), br_f h0 (nm_e E)⟩
  refine dm_add_on h (dm_add_down 1 ⟨2, ?_⟩ 22 (-1) (by omega) (fun j h1 hj => hz j h1 (by omega)))
  rw [pk_m1 0]
  refine br_f (by decide) ⟨pk_in 0 24 (by omega), br_f h0 ⟨pk_in 0 24 (by omega), br_c (fun g2 => ⟨pk_in 0 24 (by omega), br_f (fun g3 => hne ⟨g2, g3⟩) K⟩) (fun _ => K)⟩⟩
/-- hop -/
theorem dm_hop_none {post : Int32 → St2 → Prop} (h1 : a1 1 = 0) (hp : post (-4) (s0, s1, s2, s3, a1, a2, a3, a4, a5, a6, a7, a8, a9, a10, a11, a12, a13, a14, a15, a16, a17, a18)) : wpX_hop post (s0, s1, s2, s3, a1, a2, a3, a4, a5, a6, a7, a8, a9, a10, a11, a12, a13, a14, a15, a16, a17, a18) 0 1 := by
  unfold wpX_hop
  refine dm_np 0 (by omega) (fun _ => br_f (by decide) hp) (fun _ => br_t rfl ?_)
  exact dm_np 1 (by omega) (fun _ => br_f (by decide) hp) (fun z => absurd h1 z)
theorem dm_hop_two {post : Int32 → St2 → Prop} (h0 : ¬ a1 0 = 0) (h1 : ¬ a1 1 = 0) (p q : Nat) (hpq : dm_pq p q) (e13 : a13 0 = nI p) (e14 : a14 0 = nI q) (hp : ∀ b16, post (a15 0) (s0, s1, s2, 1, a1, a2, a3, a4, a5, a6, a7, a8, a9, a10, a11, a12, a13, a14, a15, b16, a17, a18)) : wpX_hop post (s0, s1, s2, 1, a1, a2, a3, a4, a5, a6, a7, a8, a9, a10, a11, a12, a13, a14, a15, a16, a17, a18) 0 1 := by
  unfold wpX_hop
  refine dm_np 0 (by omega) (fun z => absurd z h0) (fun _ => br_t rfl ?_)
  refine dm_np 1 (by omega) (fun z => absurd z h1) (fun _ => br_t rfl (br_f (by decide) ?_))
  refine dm_alone (fun b16 hb => ⟨1, br_f (by decide) ⟨pk_in 0 24 (by omega), pk_in 0 24 (by omega), ?_⟩⟩)
  refine dm_join p q hpq e13 e14 hb ?_
  have u0 : upd b16 1 (nI 0) 0 = nI 0 := by rw [pk_un (by omega)]; exact hb 0 (by omega)
  refine dm_find_root 0 (by omega) rfl u0 ?_
  refine dm_find_step 1 0 (by omega) (by omega) (by omega) rfl pk_us u0 ?_
  exact br_t rfl ⟨pk_in 0 24 (by omega), hp _⟩
/-- treeTotal -/
theorem dm_tot0 {post : Int32 → Prop} (hp : post 0) : wpX_treeTotal post (s0, s1, s2, 0, a1, a2, a3, a4, a5, a6, a7, a8, a9, a10, a11, a12, a13, a14, a15, a16, a17, a18) := ⟨1, br_t (by decide) hp⟩
theorem dm_tot1 {post : Int32 → Prop} (hp : post (a15 0)) : wpX_treeTotal post (s0, s1, s2, 1, a1, a2, a3, a4, a5, a6, a7, a8, a9, a10, a11, a12, a13, a14, a15, a16, a17, a18) :=
  ⟨2, br_f (by decide) ⟨pk_in 0 24 (by omega), nm_r (Int32.zero_add _) (nm_e (br_t (by decide) hp))⟩⟩
/-- linked -/
theorem dm_link0 {post : Int32 → Prop} (h1 : a1 1 = 0) (hp : post 0) : wpX_linked post (s0, s1, s2, s3, a1, a2, a3, a4, a5, a6, a7, a8, a9, a10, a11, a12, a13, a14, a15, a16, a17, a18) 0 1 := by
  unfold wpX_linked
  refine br_f (by decide) (dm_np 0 (by omega) (fun _ => br_f (by decide) hp) (fun _ => br_t rfl ?_))
  exact dm_np 1 (by omega) (fun _ => br_f (by decide) hp) (fun z => absurd h1 z)
theorem dm_link2 {post : Int32 → Prop} (h0 : ¬ a1 0 = 0) (h1 : ¬ a1 1 = 0) (p q : Nat) (hpq : dm_pq p q) (e10 : a10 0 = nI p) (e11 : a11 0 = nI q) (hp : post 1) : wpX_linked post (s0, 0, 1, s3, a1, a2, a3, a4, a5, a6, a7, a8, a9, a10, a11, a12, a13, a14, a15, a16, a17, a18) 0 1 := by
  unfold wpX_linked
  refine br_f (by decide) (dm_np 0 (by omega) (fun z => absurd z h0) (fun _ => br_t rfl ?_))
  refine dm_np 1 (by omega) (fun z => absurd z h1) (fun _ => br_t rfl (br_t rfl ?_))
  refine ⟨1, br_f (by decide) ?_⟩
  have i0 : vp_in (0 : Int32) 80 := pk_in 0 80 (by omega)
  rcases hpq with ⟨rfl, rfl⟩ | ⟨rfl, rfl⟩
  · exact ⟨i0, br_t e10 ⟨i0, br_t e11 ⟨rfl, hp⟩⟩⟩
  · exact ⟨i0, br_f (fun z => absurd (e10.symm.trans z) (by decide)) ⟨i0, br_t e11 ⟨i0, br_t e10 ⟨rfl, hp⟩⟩⟩⟩
/-- groups -/
theorem dm_grp0 {post : Int32 → St2 → Prop} {x : Int32} (hp : ∀ b16, post (s0 - 0) (s0, s1, s2, 0, a1, a2, a3, a4, a5, a6, a7, a8, a9, a10, a11, a12, a13, a14, a15, b16, a17, a18)) : wpX_groups post (s0, s1, s2, 0, a1, a2, a3, a4, a5, a6, a7, a8, a9, a10, a11, a12, a13, a14, a15, a16, a17, a18) x := by
  unfold wpX_groups
  unfold wpX_joinUpTo
  exact dm_alone (fun b16 _ => ⟨1, br_t (by decide) (hp b16)⟩)
theorem dm_grp2 {post : Int32 → St2 → Prop} {x : Int32} (p q : Nat) (hpq : dm_pq p q) (e13 : a13 0 = nI p) (e14 : a14 0 = nI q)
    (h0 : x < a15 0 → ∀ b16, post (s0 - 0) (s0, s1, s2, 1, a1, a2, a3, a4, a5, a6, a7, a8, a9, a10, a11, a12, a13, a14, a15, b16, a17, a18)) (h1 : ¬ x < a15 0 → ∀ b16, post (s0 - 1) (s0, s1, s2, 1, a1, a2, a3, a4, a5, a6, a7, a8, a9, a10, a11, a12, a13, a14, a15, b16, a17, a18)) : wpX_groups post (s0, s1, s2, 1, a1, a2, a3, a4, a5, a6, a7, a8, a9, a10, a11, a12, a13, a14, a15, a16, a17, a18) x := by
  unfold wpX_groups
  unfold wpX_joinUpTo
  refine dm_alone (fun b16 hb => ⟨2, br_f (by decide) ⟨pk_in 0 24 (by omega), br_c (fun z => h0 z b16) (fun z => ⟨pk_in 0 24 (by omega), pk_in 0 24 (by omega), ?_⟩)⟩⟩)
  refine dm_join p q hpq e13 e14 hb ?_
  exact nm_e (nm_e (br_t (by decide) (h1 z _)))
/-- remove(0) -/
theorem dm_rem_none {post : Int32 → St2 → Prop} (h0 : a1 0 = 0) (hp : post (-4) (s0, s1, s2, s3, a1, a2, a3, a4, a5, a6, a7, a8, a9, a10, a11, a12, a13, a14, a15, a16, a17, a18)) : wpX_remove post (s0, s1, s2, s3, a1, a2, a3, a4, a5, a6, a7, a8, a9, a10, a11, a12, a13, a14, a15, a16, a17, a18) 0 := by
  unfold wpX_remove
  exact dm_np 0 (by omega) (fun _ => br_f (by decide) hp) (fun z => absurd h0 z)
theorem dm_rem {post : Int32 → St2 → Prop} (h0 : ¬ a1 0 = 0) (hz : ∀ j, 2 ≤ j → j < 24 → a1 j = 0)
    (hp : ∀ b4 b16 b17, post (s0 - 1) (s0 - 1, 0, 0, 0, upd a1 0 0, a2, a3, b4, a5, a6, a7, a8, a9, a10, a11, a12, a13, a14, a15, b16, b17, a18)) : wpX_remove post (s0, s1, s2, s3, a1, a2, a3, a4, a5, a6, a7, a8, a9, a10, a11, a12, a13, a14, a15, a16, a17, a18) 0 := by
  have hz' : ∀ j, 2 ≤ j → j < 24 → upd a1 0 0 j = 0 := fun j h2 h3 => by rw [pk_un (by omega)]; exact hz j h2 h3
  unfold wpX_remove
  refine dm_np 0 (by omega) (fun z => absurd z h0) (fun _ => br_t rfl ⟨pk_in 0 24 (by omega), nm_e (nm_e ?_)⟩)
  refine dm_build hz' (fun b4 => ?_)
  exact dm_coll0 (Or.inl pk_us) hz' (fun b16 b17 => hp b4 b16 b17)
/-- xOf(1) -/
theorem dm_xOf {post : Int32 → Prop} (h0 : a1 1 = 0 → post (-4)) (h1 : ¬ a1 1 = 0 → post (a2 1)) : wpX_xOf post (s0, s1, s2, s3, a1, a2, a3, a4, a5, a6, a7, a8, a9, a10, a11, a12, a13, a14, a15, a16, a17, a18) 1 := by
  unfold wpX_xOf
  exact dm_np 1 (by omega) (fun z => br_f (by decide) (h0 z)) (fun z => br_t rfl ⟨pk_in 1 24 (by omega), h1 z⟩)
end
end
section
section
variable {s0 s1 s2 s3 : Int32} {a1 a2 a3 a4 a5 a6 a7 a8 a9 a10 a11 a12 a13 a14 a15 a16 a17 a18 : Nat → Int32}
theorem dm_init {post : St2 → Prop} (hp : post (0, s1, s2, s3, (fun _ => 0), (fun _ => 0), (fun _ => 0), (fun _ => 0), (fun _ => 0), (fun _ => 0), (fun _ => 0), (fun _ => 0), (fun _ => 0), (fun _ => 0), (fun _ => 0), (fun _ => 0), (fun _ => 0), (fun _ => 0), (fun _ => 0), (fun _ => 0), (fun _ => 0), (fun _ => 0))) : wpX_init post 18 1082 (s0, s1, s2, s3) := by
  unfold wpX_init
  exact ⟨by decide, by decide, by decide, by decide, by decide, by decide, by decide, by decide, by decide, by decide, by decide, by decide, by decide, by decide, by decide, by decide, by decide, by decide, by decide, by decide, by decide, by decide, by decide, by decide, by decide, by decide, by decide, by decide, by decide, by decide, by decide, by decide, by decide, by decide, by decide, by decide, hp⟩
/-- behind both adds: no point; one; two -/
theorem dm_end0 {post : Int32 → St0 → Prop} {mc ms kc ks : Nat} {x2 x4 : Int32} (hz : ∀ j, j < 24 → a1 j = 0) (hp : post 1 ()) : wL_lawOf_179 post mc ms x2 x4 0 0 0 kc ks 0 0 0 0 a1 a2 a3 a4 a5 a6 a7 a8 a9 a10 a11 a12 a13 a14 a15 a16 a17 a18 := by
  unfold wL_lawOf_179
  refine dm_hop_none (hz 1 (by omega)) (br_t rfl ?_)
  refine br_t rfl (dm_tot0 (br_t rfl (dm_link0 (hz 1 (by omega)) (br_t rfl (dm_grp0 (fun b16 => br_t rfl ?_))))))
  refine br_t (by decide) (dm_rem_none (hz 0 (by omega)) (br_t rfl (br_t rfl (br_t rfl (br_t rfl ?_)))))
  exact dm_xOf (fun _ => br_t rfl (br_t rfl hp)) (fun z => absurd (hz 1 (by omega)) z)
theorem dm_end1 {post : Int32 → St0 → Prop} {mc ms kc ks : Nat} {x2 x4 : Int32} (hs : s0 = 1) (h0 : ¬ a1 0 = 0) (hz : ∀ j, 1 ≤ j → j < 24 → a1 j = 0) (hp : post 1 ()) : wL_lawOf_179 post mc ms x2 x4 0 0 1 kc ks s0 0 0 0 a1 a2 a3 a4 a5 a6 a7 a8 a9 a10 a11 a12 a13 a14 a15 a16 a17 a18 := by
  subst hs
  have h1 : a1 1 = 0 := hz 1 (by omega) (by omega)
  unfold wL_lawOf_179
  refine dm_hop_none h1 (br_t rfl ?_)
  refine br_t rfl (dm_tot0 (br_t rfl (dm_link0 h1 (br_t rfl (dm_grp0 (fun b16 => br_t rfl ?_))))))
  refine br_t (by decide) (dm_rem h0 (fun j h2 h3 => hz j (by omega) h3) (fun b4 b16 b17 => br_f (by decide) (br_t rfl (br_f (by decide) (br_t rfl ?_)))))
  exact dm_xOf (fun _ => br_t rfl (br_t rfl hp)) (fun z => absurd (show upd a1 0 0 1 = 0 by rw [pk_un (by omega)]; exact h1) z)
theorem dm_end2 {post : Int32 → St0 → Prop} {mc ms kc ks : Nat} {x2 x4 d : Int32} (hs : s0 = 2) (h0 : ¬ a1 0 = 0) (h1 : ¬ a1 1 = 0) (hz : ∀ j, 2 ≤ j → j < 24 → a1 j = 0) (p q : Nat) (hpq : dm_pq p q) (e10 : a10 0 = nI p) (e11 : a11 0 = nI q) (e13 : a13 0 = nI p) (e14 : a14 0 = nI q) (e15 : a15 0 = d) (e2 : a2 1 = x2) (hp : post 1 ()) : wL_lawOf_179 post mc ms x2 x4 1 d 2 kc ks s0 0 1 1 a1 a2 a3 a4 a5 a6 a7 a8 a9 a10 a11 a12 a13 a14 a15 a16 a17 a18 := by
  subst hs
  have K : ∀ (b16 : Nat → Int32) (z0 z1 : Int32), z1 = z0 → wL_lawOf_252 post mc ms x2 1 2 z0 z1 kc ks 2 0 1 1 a1 a2 a3 a4 a5 a6 a7 a8 a9 a10 a11 a12 a13 a14 a15 b16 a17 a18 := by
    intro b16 z0 z1 hzz
    refine br_t hzz (dm_rem h0 hz (fun b4 b16 b17 => br_f (by decide) (br_t rfl (br_f (by decide) (br_t rfl ?_)))))
    have u1 : upd a1 0 0 1 = a1 1 := pk_un (by omega)
    exact dm_xOf (fun z => absurd (u1.symm.trans z) h1) (fun _ => br_f (by decide) (br_t e2 hp))
  unfold wL_lawOf_179
  refine dm_hop_two h0 h1 p q hpq e13 e14 (fun b16 => br_f (by decide) ?_)
  refine br_t e15 (dm_tot1 (br_t e15 (dm_link2 h0 h1 p q hpq e10 e11 (br_t rfl ?_))))
  refine dm_grp2 p q hpq e13 e14 (fun z b => br_f (by decide) (br_t (by rw [← e15]; exact z) ?_)) (fun z b => br_f (by decide) (br_f (by rw [← e15]; exact z) ?_))
  · exact K b 2 (2 - 0) (by decide)
  · exact K b 1 (2 - 1) (by decide)
end
end
section
/-- the law behind the constructor: the roads of the two points -/
theorem dm_60 {post : Int32 → St0 → Prop} {mc ms kc ks : Nat} {x0 x1 x2 x3 x4 x6 x7 x8 x9 : Int32} (h6 : (dm_ok x0 x1 ∧ x6 = 1) ∨ (¬ dm_ok x0 x1 ∧ x6 = 0)) (h7 : (dm_ok x2 x3 ∧ x7 = 1) ∨ (¬ dm_ok x2 x3 ∧ x7 = 0)) (h8 : ((x0 = x2 ∧ x1 = x3) ∧ x8 = 1) ∨ (¬ (x0 = x2 ∧ x1 = x3) ∧ x8 = 0)) (h9 : x9 = if x6 = 1 ∧ x7 = 1 ∧ x8 = 0 then 1 else 0) (hp : post 1 ()) :
    wL_lawOf_60 post mc ms x0 x1 x2 x3 x4 x6 x7 x8 x9 kc ks 0 0 0 0 (fun _ => 0) (fun _ => 0) (fun _ => 0) (fun _ => 0) (fun _ => 0) (fun _ => 0) (fun _ => 0) (fun _ => 0) (fun _ => 0) (fun _ => 0) (fun _ => 0) (fun _ => 0) (fun _ => 0) (fun _ => 0) (fun _ => 0) (fun _ => 0) (fun _ => 0) (fun _ => 0) := by
  unfold wL_lawOf_60
  have u0 : ∀ f : Nat → Int32, ¬ upd f 0 1 0 = 0 := fun f => by rw [pk_us]; decide
  have uz : ∀ j, 1 ≤ j → j < 24 → upd (fun _ => 0) 0 1 j = 0 := fun j h1 _ => by rw [pk_un (by omega)]
  rcases h6 with ⟨k6, rfl⟩ | ⟨k6, rfl⟩
  · refine dm_add_1st k6 (fun _ _ => rfl) (fun b4 b16 b17 => br_f (by decide) (br_t rfl ?_))
    rcases h7 with ⟨k7, rfl⟩ | ⟨k7, rfl⟩
    · refine br_f (by decide) (br_f (by decide) ?_)
      rcases h8 with ⟨k8, rfl⟩ | ⟨k8, rfl⟩
      · have e9 : x9 = 0 := h9.trans (by decide)
        subst e9
        refine br_f (by decide) ?_
        refine dm_add_dup k7 (u0 _) uz (pk_us.trans k8.1) (pk_us.trans k8.2) (br_t rfl (br_t rfl ?_))
        exact br_t rfl (br_f (by decide) (dm_end1 (by decide) (u0 _) uz hp))
      · have e9 : x9 = 1 := h9.trans (by decide)
        subst e9
        refine br_t rfl ?_
        refine dm_add_2nd k7 (u0 _) uz (fun t => k8 ⟨pk_us.symm.trans t.1, pk_us.symm.trans t.2⟩) (fun p q c4 c10 c11 c12 c13 c14 c15 c16 c17 hpq f0 f1 f3 f4 f5 => br_t rfl (br_f (by decide) (br_f (by decide) ?_)))
        have f5' : c15 0 = (x0 - x2) * (x0 - x2) + (x1 - x3) * (x1 - x3) := f5.trans (by rw [pk_us, pk_us])
        refine dm_end2 (by decide) (by rw [pk_un (by omega)]; exact u0 _) (by rw [pk_us]; decide) (fun j h2 h3 => by rw [pk_un (by omega)]; exact uz j (by omega) h3) p q hpq f0 f1 f3 f4 f5' pk_us hp
    · have e9 : x9 = 0 := h9.trans (by rw [if_neg]; exact fun t => absurd t.2.1 (by decide))
      subst e9
      refine br_t rfl ?_
      refine dm_add_bad k7 (br_t rfl (br_t rfl ?_))
      exact br_t rfl (br_f (by decide) (dm_end1 (by decide) (u0 _) uz hp))
  · have e9 : x9 = 0 := h9.trans (by rw [if_neg]; exact fun t => absurd t.1 (by decide))
    subst e9
    refine dm_add_bad k6 (br_t rfl (br_t rfl ?_))
    rcases h7 with ⟨k7, rfl⟩ | ⟨k7, rfl⟩
    · refine br_f (by decide) (br_t rfl ?_)
      refine dm_add_1st k7 (fun _ _ => rfl) (fun b4 b16 b17 => br_t rfl (br_t rfl ?_))
      exact br_t rfl (br_t rfl (br_f (by decide) (dm_end1 (by decide) (u0 _) uz hp)))
    · refine br_t rfl ?_
      refine dm_add_bad k7 (br_t rfl (br_t rfl ?_))
      exact br_t rfl (br_t rfl (br_t rfl (dm_end0 (fun _ _ => rfl) hp)))
theorem dm_38 {post : Int32 → St0 → Prop} {mc ms kc ks : Nat} {x0 x1 x2 x3 x4 x6 x7 x8 : Int32} (h6 : (dm_ok x0 x1 ∧ x6 = 1) ∨ (¬ dm_ok x0 x1 ∧ x6 = 0)) (h7 : (dm_ok x2 x3 ∧ x7 = 1) ∨ (¬ dm_ok x2 x3 ∧ x7 = 0)) (h8 : ((x0 = x2 ∧ x1 = x3) ∧ x8 = 1) ∨ (¬ (x0 = x2 ∧ x1 = x3) ∧ x8 = 0)) (hp : post 1 ()) :
    wL_lawOf_38 post mc ms x0 x1 x2 x3 x4 x6 x7 x8 kc ks 0 0 0 0 (fun _ => 0) (fun _ => 0) (fun _ => 0) (fun _ => 0) (fun _ => 0) (fun _ => 0) (fun _ => 0) (fun _ => 0) (fun _ => 0) (fun _ => 0) (fun _ => 0) (fun _ => 0) (fun _ => 0) (fun _ => 0) (fun _ => 0) (fun _ => 0) (fun _ => 0) (fun _ => 0) := by
  refine br_c (fun z6 => ?_) (fun z6 => br_c (fun z7 => ?_) (fun z7 => br_c (fun z8 => ?_) (fun z8 => ?_)))
  · exact dm_60 h6 h7 h8 (by rw [if_neg]; rw [z6]; exact fun t => absurd t.1 (by decide)) hp
  · exact dm_60 h6 h7 h8 (by rw [if_neg]; rw [z7]; exact fun t => absurd t.2.1 (by decide)) hp
  · refine dm_60 h6 h7 h8 ?_ hp
    rw [if_pos]
    exact ⟨h6.elim (fun t => t.2) (fun t => absurd t.2 z6), h7.elim (fun t => t.2) (fun t => absurd t.2 z7), z8⟩
  · exact dm_60 h6 h7 h8 (by rw [if_neg]; exact fun t => z8 t.2.2) hp
theorem dm_lawOf {post : Int32 → St0 → Prop} {x0 x1 x2 x3 x4 : Int32} (hp : post 1 ()) : wpL_lawOf post 19 1104 () x0 x1 x2 x3 x4 := by
  refine ⟨by decide, by decide, 18, 1082, by decide, by decide, ?_⟩
  refine dm_init ?_
  have main : ∀ x6 x7 : Int32, ((dm_ok x0 x1 ∧ x6 = 1) ∨ (¬ dm_ok x0 x1 ∧ x6 = 0)) → ((dm_ok x2 x3 ∧ x7 = 1) ∨ (¬ dm_ok x2 x3 ∧ x7 = 0)) →
      ((x0 = x2 → ((x1 = x3 → wL_lawOf_38 post 19 1104 x0 x1 x2 x3 x4 x6 x7 1 (1 + 18) (22 + 1082) 0 0 0 0 (fun _ => 0) (fun _ => 0) (fun _ => 0) (fun _ => 0) (fun _ => 0) (fun _ => 0) (fun _ => 0) (fun _ => 0) (fun _ => 0) (fun _ => 0) (fun _ => 0) (fun _ => 0) (fun _ => 0) (fun _ => 0) (fun _ => 0) (fun _ => 0) (fun _ => 0) (fun _ => 0)) ∧ (¬ x1 = x3 → wL_lawOf_37 post 19 1104 x0 x1 x2 x3 x4 x6 x7 (1 + 18) (22 + 1082) 0 0 0 0 (fun _ => 0) (fun _ => 0) (fun _ => 0) (fun _ => 0) (fun _ => 0) (fun _ => 0) (fun _ => 0) (fun _ => 0) (fun _ => 0) (fun _ => 0) (fun _ => 0) (fun _ => 0) (fun _ => 0) (fun _ => 0) (fun _ => 0) (fun _ => 0) (fun _ => 0) (fun _ => 0)))) ∧ (¬ x0 = x2 → wL_lawOf_37 post 19 1104 x0 x1 x2 x3 x4 x6 x7 (1 + 18) (22 + 1082) 0 0 0 0 (fun _ => 0) (fun _ => 0) (fun _ => 0) (fun _ => 0) (fun _ => 0) (fun _ => 0) (fun _ => 0) (fun _ => 0) (fun _ => 0) (fun _ => 0) (fun _ => 0) (fun _ => 0) (fun _ => 0) (fun _ => 0) (fun _ => 0) (fun _ => 0) (fun _ => 0) (fun _ => 0))) := by
    intro x6 x7 h6 h7
    refine br_c (fun g => br_c (fun g2 => ?_) (fun g2 => ?_)) (fun g => ?_)
    · exact dm_38 h6 h7 (Or.inl ⟨⟨g, g2⟩, rfl⟩) hp
    · exact dm_38 h6 h7 (Or.inr ⟨fun t => g2 t.2, rfl⟩) hp
    · exact dm_38 h6 h7 (Or.inr ⟨fun t => g t.1, rfl⟩) hp
  refine dm_in (fun k6 => dm_in (fun k7 => ?_) (fun k7 => ?_)) (fun k6 => dm_in (fun k7 => ?_) (fun k7 => ?_))
  · exact main 1 1 (Or.inl ⟨k6, rfl⟩) (Or.inl ⟨k7, rfl⟩)
  · exact main 1 0 (Or.inl ⟨k6, rfl⟩) (Or.inr ⟨k7, rfl⟩)
  · exact main 0 1 (Or.inr ⟨k6, rfl⟩) (Or.inl ⟨k7, rfl⟩)
  · exact main 0 0 (Or.inr ⟨k6, rfl⟩) (Or.inr ⟨k7, rfl⟩)
theorem dm_cell {post : Int32 → Prop} {L : Nat} {xs : Nat → Int32} (hL : L ≤ 5) (i : Nat) (hi : i < 5) (h : ∀ r, post r) : wpL_cellAt post L xs () (nI i) :=
  pk_le L i (fun _ => h _) (fun z => ⟨pk_in i L z, h _⟩)
theorem i_vc (xs : Nat → Int32) (L : Nat) (hL : L ≤ 5) : wpL_law (fun r => r = 1) L xs := by
  unfold wpL_law
  refine dm_cell hL 0 (by omega) (fun r1 => ?_)
  refine dm_cell hL 1 (by omega) (fun r2 => ?_)
  refine dm_cell hL 2 (by omega) (fun r3 => ?_)
  refine dm_cell hL 3 (by omega) (fun r4 => ?_)
  refine dm_cell hL 4 (by omega) (fun r5 => ?_)
  exact ⟨19, 1104, by decide, by decide, dm_lawOf rfl⟩
end
