section
section
variable {fr ff fw fs : Int32} {a1 a2 a3 a4 a5 a6 a7 a8 a9 a10 a11 : Nat → Int32}
/-- no copy but u is near, and u is done: nearest answers -1 -/
theorem cb_near {post : Int32 → Prop} {fc : Int32} {u : Nat} (h8 : ∀ j, j < 14 → j ≠ u → a8 j = 1000000) (h10 : ∀ j, j < 14 → j ≠ u → a10 j = 0) (h1 : a10 u = 1) (H : post (-1)) :
    wpX_nearest post (fc, fr, ff, fw, fs, a1, a2, a3, a4, a5, a6, a7, a8, a9, a10, a11) := by
  refine pk_loop (σ := Unit) (fun n i _ => wX_nearest_4 post fc fr ff fw fs a1 a2 a3 a4 a5 a6 a7 a8 a9 a10 a11 n (-1) (nI i)) (fun _ _ => True) 14 0 () (by omega) trivial ?_ ?_
  · intro n _ _
    show wX_nearest_4 post fc fr ff fw fs a1 a2 a3 a4 a5 a6 a7 a8 a9 a10 a11 (n + 1) (-1) (nI 14)
    exact pk_le 14 14 (fun _ => H) (fun z => absurd z (by omega))
  · intro n i _ hi _ hw
    have t : wX_nearest_4 post fc fr ff fw fs a1 a2 a3 a4 a5 a6 a7 a8 a9 a10 a11 n (-1) (nI (i + 1)) := hw () trivial
    show wX_nearest_4 post fc fr ff fw fs a1 a2 a3 a4 a5 a6 a7 a8 a9 a10 a11 (n + 1) (-1) (nI i)
    refine pk_le 14 i (fun z => absurd z (by omega)) (fun _ => ⟨pk_in i 14 hi, ?_⟩)
    rw [nI_clamp (show i < 2 ^ 31 by omega)]
    by_cases e : i = u
    · exact br_f (by rw [e, h1]; decide) (nm_r (nI_1 i) t)
    · exact br_t (h10 i hi e) ⟨pk_in i 14 hi, br_t (by rw [h8 i hi e] <;> decide) (nm_r (nI_1 i) t)⟩
/-- one edge, the one to leave out: the search's outer loop ends behind its first turn -/
theorem cb_turn {post : St2 → Prop} {u : Nat} {x2 : Int32} (hu : u < 14) (h : ∀ j, j < 14 → a8 j = 1000000 ∧ a10 j = 0)
    (H : ∀ b8 b9 b10 : Nat → Int32, (∀ j, j < 14 → j ≠ u → b8 j = 1000000) → post (1, fr, ff, fw, fs, a1, a2, a3, a4, a5, a6, a7, b8, b9, b10, a11)) :
    ∃ n, wX_searchFrom_54 post x2 0 n (nI u) 0 1 fr ff fw fs a1 a2 a3 a4 a5 a6 a7 (upd a8 u 0) a9 a10 a11 := by
  have h8 : ∀ j, j < 14 → j ≠ u → upd a8 u 0 j = 1000000 := fun j hj e => by
    rw [pk_un e]
    exact (h j hj).1
  have h10 : ∀ j, j < 14 → j ≠ u → upd a10 u 1 j = 0 := fun j hj e => by
    rw [pk_un e]
    exact (h j hj).2
  refine ⟨2, pk_le 14 0 (fun z => absurd z (by omega)) (fun _ => br_f (nI_pos (by omega)) ⟨pk_in u 14 hu, nm_r (e' := upd a10 u 1) (by rw [nI_clamp (show u < 2 ^ 31 by omega)]) ⟨2, ?_⟩⟩)⟩
  refine pk_le 1 0 (fun z => absurd z (by omega)) (fun _ => br_t rfl (nm_r (e' := nI 1) (by rfl) ?_))
  refine pk_le 1 1 (fun _ => cb_near (u := u) h8 h10 pk_us (nm_r (e' := nI 1) (by rfl) ?_)) (fun z => absurd z (by omega))
  exact pk_le 14 1 (fun z => absurd z (by omega)) (fun _ => br_t (by decide) (H _ _ _ h8))
/-- one edge, the one to leave out: every copy but the start stays far -/
theorem cb_search {post : St2 → Prop} {u : Nat} {x2 : Int32} (hu : u < 14)
    (H : ∀ b8 b9 b10 : Nat → Int32, (∀ j, j < 14 → j ≠ u → b8 j = 1000000) → post (1, fr, ff, fw, fs, a1, a2, a3, a4, a5, a6, a7, b8, b9, b10, a11)) :
    wpX_searchFrom post (1, fr, ff, fw, fs, a1, a2, a3, a4, a5, a6, a7, a8, a9, a10, a11) (nI u) x2 0 := by
  refine pk_loop (fun n i (s : (Nat → Int32) × (Nat → Int32) × (Nat → Int32)) => wX_searchFrom_3 post (nI u) x2 0 1 fr ff fw fs n (nI i) a1 a2 a3 a4 a5 a6 a7 s.1 s.2.1 s.2.2 a11) (fun i s => ∀ j, j < i → s.1 j = 1000000 ∧ s.2.2 j = 0) 14 0 (a8, a9, a10) (by omega) (fun j hj => absurd hj (by omega)) ?_ ?_
  · rintro n ⟨b8, b9, b10⟩ h
    show wX_searchFrom_3 post (nI u) x2 0 1 fr ff fw fs (n + 1) (nI 14) a1 a2 a3 a4 a5 a6 a7 b8 b9 b10 a11
    exact pk_le 14 14 (fun _ => ⟨pk_in u 14 hu, nm_r (e' := upd b8 u 0) (by rw [nI_clamp (show u < 2 ^ 31 by omega)]) (cb_turn hu h H)⟩) (fun z => absurd z (by omega))
  · rintro n i ⟨b8, b9, b10⟩ hi h hw
    have t : wX_searchFrom_3 post (nI u) x2 0 1 fr ff fw fs n (nI (i + 1)) a1 a2 a3 a4 a5 a6 a7 (upd b8 i 1000000) (upd b9 i 0) (upd b10 i 0) a11 := by
      refine hw (upd b8 i 1000000, upd b9 i 0, upd b10 i 0) (fun j hj => ?_)
      show upd b8 i 1000000 j = 1000000 ∧ upd b10 i 0 j = 0
      by_cases e : j = i
      · rw [e]
        exact ⟨pk_us, pk_us⟩
      · rw [pk_un e, pk_un e]
        exact h j (by omega)
    show wX_searchFrom_3 post (nI u) x2 0 1 fr ff fw fs (n + 1) (nI i) a1 a2 a3 a4 a5 a6 a7 b8 b9 b10 a11
    have hc : (nI i).toNatClampNeg = i := nI_clamp (by omega)
    exact pk_le 14 i (fun z => absurd z (by omega)) (fun _ => ⟨pk_in i 14 hi, nm_r (e' := upd b8 i 1000000) (by rw [hc]) ⟨pk_in i 14 hi, nm_r (e' := upd b9 i 0) (by rw [hc]) ⟨pk_in i 14 hi, nm_r (e' := upd b10 i 0) (by rw [hc]) (nm_r (nI_1 i) t)⟩⟩⟩)
end
end
section
/-- a vertex: 0 .. 6 -/
def cb_V (p : Int32) : Prop := ∃ u : Nat, u < 7 ∧ p = nI u
theorem cb_Vlo {p : Int32} (h : p < 0) : ¬ cb_V p := by
  rintro ⟨u, hu, rfl⟩
  exact nI_pos (by omega) h
theorem cb_Vhi {p : Int32} (h : ¬ p < 7) : ¬ cb_V p := by
  rintro ⟨u, hu, rfl⟩
  exact h (nI_lt (b := 7) hu (by omega))
theorem cb_Vin {p : Int32} (h : ¬ p < 0) (h' : p < 7) : cb_V p := by
  obtain ⟨j, hj, rfl⟩ := nI_of h
  exact ⟨j, (nI_ltI (b := 7) hj (by omega)).mp h', rfl⟩
theorem cb_Vhi6 {p : Int32} (h : 6 < p) : ¬ cb_V p := by
  rintro ⟨u, hu, rfl⟩
  exact nI_nlt (a := 6) (b := u) (by omega) (by omega) h
theorem cb_Vin6 {p : Int32} (h : ¬ p < 0) (h' : ¬ 6 < p) : cb_V p := by
  obtain ⟨j, hj, rfl⟩ := nI_of h
  refine ⟨j, ?_, rfl⟩
  rcases Nat.lt_or_ge j 7 with z | z
  · exact z
  · exact absurd (nI_lt (a := 6) (b := j) (by omega) hj) h'
theorem cb_bv {post : Int32 → Prop} {p : Int32} (H0 : cb_V p → post 0) (H1 : ¬ cb_V p → post 1) : wpX_badVertex post () p :=
  br_c (fun h => H1 (cb_Vlo h)) (fun h => br_c (fun h' => H0 (cb_Vin h h')) (fun h' => H1 (cb_Vhi h')))
theorem cb_ve {post : Int32 → Prop} {p : Int32} (H1 : cb_V p → post 1) (H0 : ¬ cb_V p → post 0) : wpL_vertex post () p :=
  br_c (fun h => H0 (cb_Vlo h)) (fun h => br_c (fun h' => H0 (cb_Vhi6 h')) (fun h' => H1 (cb_Vin6 h h')))
theorem cb_z {p : Int32} (h : ¬ p < 0) (h' : p < 1) : p = 0 := by
  obtain ⟨j, hj, rfl⟩ := nI_of h
  have : j < 1 := (nI_ltI (b := 1) hj (by omega)).mp h'
  have : j = 0 := by omega
  subst this
  rfl
theorem cb_bits : ∀ u, u < 7 → ∀ v, v < 7 → u ≠ v → ¬ ((0 : Int32) ^^^ (((1 : Int32) <<< (nI u &&& 31)) ^^^ ((1 : Int32) <<< (nI v &&& 31)))) = 0 := by decide +kernel
/-- the picture: no edge, or one edge between two vertices -/
def cb_K (c : Int32) (a1 a2 : Nat → Int32) : Prop := c = 0 ∨ (c = 1 ∧ ∃ u v : Nat, u < 7 ∧ v < 7 ∧ u ≠ v ∧ a1 0 = nI u ∧ a2 0 = nI v)
section
variable {fr ff fw fs : Int32} {a1 a2 a3 a4 a5 a6 a7 a8 a9 a10 a11 : Nat → Int32}
theorem cb_no0 {post : Int32 → Prop} {p : Int32} (H : post 1) : wpX_noEdge post (0, fr, ff, fw, fs, a1, a2, a3, a4, a5, a6, a7, a8, a9, a10, a11) p :=
  br_c (fun _ => H) (fun h => br_f h H)
theorem cb_no1 {post : Int32 → Prop} {p : Int32} (H0 : p = 0 → post 0) (H1 : ¬ p = 0 → post 1) : wpX_noEdge post (1, fr, ff, fw, fs, a1, a2, a3, a4, a5, a6, a7, a8, a9, a10, a11) p :=
  br_c (fun h => H1 (fun e => absurd h (by rw [e]; decide))) (fun h => br_c (fun h' => H0 (cb_z h h')) (fun h' => H1 (fun e => h' (by rw [e]; decide))))
theorem cb_edge {post : Int32 → St2 → Prop} {p0 p1 p2 : Int32}
    (H1 : ¬ (cb_V p0 ∧ cb_V p1 ∧ ¬ p0 = p1) → post (-1) (0, fr, ff, fw, fs, a1, a2, a3, a4, a5, a6, a7, a8, a9, a10, a11))
    (H2 : cb_V p0 → cb_V p1 → ¬ p0 = p1 → (p2 < 1 ∨ ¬ p2 ≤ 100) → post (-2) (0, fr, ff, fw, fs, a1, a2, a3, a4, a5, a6, a7, a8, a9, a10, a11))
    (H3 : cb_V p0 → cb_V p1 → ¬ p0 = p1 → ¬ p2 < 1 → p2 ≤ 100 → post 0 (1, fr, ff, fw, fs, upd a1 0 p0, upd a2 0 p1, upd a3 0 p2, a4, a5, a6, a7, a8, a9, a10, a11)) :
    wpX_edge post (0, fr, ff, fw, fs, a1, a2, a3, a4, a5, a6, a7, a8, a9, a10, a11) p0 p1 p2 := by
  unfold wpX_edge
  refine cb_bv (fun v0 => br_t rfl ?_) (fun v0 => br_f (by decide) (H1 (fun t => v0 t.1)))
  refine cb_bv (fun v1 => br_t rfl ?_) (fun v1 => br_f (by decide) (H1 (fun t => v1 t.2.1)))
  refine br_c (fun e => H1 (fun t => t.2.2 e)) (fun e => ?_)
  refine br_c (fun h => H2 v0 v1 e (Or.inl h)) (fun h => ?_)
  refine br_c (fun h' => ?_) (fun h' => H2 v0 v1 e (Or.inr h'))
  exact br_t (by decide) ⟨pk_in 0 12 (by omega), nm_r (e' := upd a1 0 p0) (by rfl) ⟨pk_in 0 12 (by omega), nm_r (e' := upd a2 0 p1) (by rfl) ⟨pk_in 0 12 (by omega), nm_r (e' := upd a3 0 p2) (by rfl) (nm_r (e' := 1) (by rfl) (H3 v0 v1 e h h'))⟩⟩⟩
theorem cb_rew0 {post : Int32 → St2 → Prop} {p0 p1 : Int32} (H : post (-4) (0, fr, ff, fw, fs, a1, a2, a3, a4, a5, a6, a7, a8, a9, a10, a11)) : wpX_reweigh post (0, fr, ff, fw, fs, a1, a2, a3, a4, a5, a6, a7, a8, a9, a10, a11) p0 p1 := by
  unfold wpX_reweigh
  exact cb_no0 (br_f (by decide) H)
theorem cb_rew1 {post : Int32 → St2 → Prop} {p0 p1 : Int32} (H1 : ¬ p0 = 0 → post (-4) (1, fr, ff, fw, fs, a1, a2, a3, a4, a5, a6, a7, a8, a9, a10, a11))
    (H2 : p0 = 0 → (p1 < 1 ∨ ¬ p1 ≤ 100) → post (-2) (1, fr, ff, fw, fs, a1, a2, a3, a4, a5, a6, a7, a8, a9, a10, a11))
    (H3 : p0 = 0 → ¬ p1 < 1 → p1 ≤ 100 → post (a3 0) (1, fr, ff, fw, fs, a1, a2, upd a3 0 p1, a4, a5, a6, a7, a8, a9, a10, a11)) : wpX_reweigh post (1, fr, ff, fw, fs, a1, a2, a3, a4, a5, a6, a7, a8, a9, a10, a11) p0 p1 := by
  unfold wpX_reweigh
  refine cb_no1 (fun e => br_t rfl ?_) (fun e => br_f (by decide) (H1 e))
  subst e
  refine br_c (fun h => H2 rfl (Or.inl h)) (fun h => br_c (fun h' => ?_) (fun h' => H2 rfl (Or.inr h')))
  exact ⟨pk_in 0 12 (by omega), nm_r (e' := a3 0) (by rfl) ⟨pk_in 0 12 (by omega), nm_r (e' := upd a3 0 p1) (by rfl) (H3 rfl h h')⟩⟩
theorem cb_thr0 {post : Int32 → St2 → Prop} {p0 : Int32} (H : post (-4) (0, fr, ff, fw, fs, a1, a2, a3, a4, a5, a6, a7, a8, a9, a10, a11)) : wpX_through post (0, fr, ff, fw, fs, a1, a2, a3, a4, a5, a6, a7, a8, a9, a10, a11) p0 := by
  unfold wpX_through
  exact cb_no0 (br_f (by decide) H)
theorem cb_thr1 {post : Int32 → St2 → Prop} {p0 : Int32} {u v : Nat} (hu : u < 7) (hv : v < 7) (ne : u ≠ v) (e1 : a1 0 = nI u) (e2 : a2 0 = nI v)
    (H1 : ¬ p0 = 0 → post (-4) (1, fr, ff, fw, fs, a1, a2, a3, a4, a5, a6, a7, a8, a9, a10, a11))
    (H2 : p0 = 0 → ∀ b8 b9 b10 : Nat → Int32, post (-5) (1, fr, ff, fw, fs, a1, a2, a3, a4, a5, a6, a7, b8, b9, b10, a11)) : wpX_through post (1, fr, ff, fw, fs, a1, a2, a3, a4, a5, a6, a7, a8, a9, a10, a11) p0 := by
  unfold wpX_through
  refine cb_no1 (fun e => br_t rfl ?_) (fun e => br_f (by decide) (H1 e))
  subst e
  refine ⟨pk_in 0 12 (by omega), ?_⟩
  rw [sb_cl0, e1]
  refine cb_search (by omega) (fun b8 b9 b10 hb => ?_)
  show _ ∧ _
  refine ⟨pk_in 0 12 (by omega), ?_⟩
  rw [e2, nI_clamp (show v < 2 ^ 31 by omega), hb v (by omega) (Ne.symm ne)]
  exact ⟨pk_in v 14 (by omega), br_f (by decide) (H2 rfl b8 b9 b10)⟩
theorem cb_closed {post : Int32 → Prop} {c p0 : Int32} (K : cb_K c a1 a2) (H1 : p0 = 0 → post 1) (H0 : ¬ p0 = 0 → post 0) : wpX_closed post (c, fr, ff, fw, fs, a1, a2, a3, a4, a5, a6, a7, a8, a9, a10, a11) p0 := by
  unfold wpX_closed
  refine br_c (fun h => H0 (fun e => absurd h (by rw [e]; decide))) (fun h => ?_)
  rcases K with rfl | ⟨rfl, u, v, hu, hv, ne, e1, e2⟩
  · rw [sb_shr0]
    refine br_c (fun e => ⟨1, br_t (by decide) (br_t rfl (H1 e))⟩) (fun e => H0 e)
  · obtain ⟨j, hj, rfl⟩ := nI_of h
    rw [pk_shrN hj ((1 : Int32) &&& 31) 1 (by decide)]
    refine pk_eq (j / 2 ^ 1) 0 (fun z => ⟨2, ?_⟩) (fun z => H0 (fun e => ?_))
    · have hj2 : j < 2 := by omega
      refine br_f (by decide) ?_
      rcases (show j = 0 ∨ j = 1 by omega) with rfl | rfl
      · refine br_f (by decide) (nm_r (e' := 1) (by rfl) ?_)
        exact br_t (by decide) (br_t rfl (H1 rfl))
      · refine br_t (by decide) ⟨pk_in 0 12 (by omega), pk_in 0 12 (by omega), ?_⟩
        rw [sb_cl0, e1, e2]
        refine nm_e (nm_r (e' := 1) (by rfl) ?_)
        exact br_t (by decide) (br_f (cb_bits u hu v hv ne) (H0 (by decide)))
    · have := (nI_eq (b := 0) hj (by omega)).mp e
      omega
theorem cb_level {post : Int32 → St2 → Prop} {c p0 : Int32} (K : cb_K c a1 a2) (H1 : p0 = 0 → post 0 (c, fr, ff, fw, fs, a1, a2, a3, a4, a5, a6, a7, a8, a9, a10, a11)) (H0 : ¬ p0 = 0 → post (-5) (c, fr, ff, fw, fs, a1, a2, a3, a4, a5, a6, a7, a8, a9, a10, a11)) : wpX_level post (c, fr, ff, fw, fs, a1, a2, a3, a4, a5, a6, a7, a8, a9, a10, a11) p0 := by
  unfold wpX_level
  exact cb_closed K (fun e => br_f (by decide) (br_t e (H1 e))) (fun e => br_t rfl (H0 e))
theorem cb_bri0 {post : Int32 → St2 → Prop} (H : post 0 (0, fr, ff, fw, fs, a1, a2, a3, a4, a5, a6, a7, a8, a9, a10, a11)) : wpX_bridges post (0, fr, ff, fw, fs, a1, a2, a3, a4, a5, a6, a7, a8, a9, a10, a11) :=
  ⟨1, br_t (by decide) H⟩
theorem cb_bri1 {post : Int32 → St2 → Prop} {u v : Nat} (hu : u < 7) (hv : v < 7) (ne : u ≠ v) (e1 : a1 0 = nI u) (e2 : a2 0 = nI v)
    (H : ∀ b8 b9 b10 : Nat → Int32, post 1 (1, fr, ff, fw, fs, a1, a2, a3, a4, a5, a6, a7, b8, b9, b10, a11)) : wpX_bridges post (1, fr, ff, fw, fs, a1, a2, a3, a4, a5, a6, a7, a8, a9, a10, a11) := by
  refine ⟨2, br_f (by decide) ⟨pk_in 0 12 (by omega), ?_⟩⟩
  rw [sb_cl0, e1]
  refine cb_search (by omega) (fun b8 b9 b10 hb => ?_)
  show _ ∧ _
  refine ⟨pk_in 0 12 (by omega), ?_⟩
  rw [e2, nI_clamp (show v < 2 ^ 31 by omega), hb v (by omega) (Ne.symm ne)]
  exact ⟨pk_in v 14 (by omega), br_f (by decide) (nm_r (e' := 1) (by rfl) (nm_r (e' := 1) (by rfl) (br_t (by decide) (H b8 b9 b10))))⟩
end
end
section
section
variable {post : Int32 → St0 → Prop} {mc ms kc ks : Nat} {x0 x1 x2 x3 x4 x5 x8 x9 z0 z1 : Int32} {fr ff fw fs : Int32} {a1 a2 a3 a4 a5 a6 a7 a8 a9 a10 a11 : Nat → Int32}
/-! no edge -/
theorem cb_199_0 (h8 : ¬ x8 = 0) (hz : z1 = z0) (H : post 1 ()) : wL_lawOf_199 post mc ms x8 z0 z1 kc ks 0 fr ff fw fs a1 a2 a3 a4 a5 a6 a7 a8 a9 a10 a11 := by
  unfold wL_lawOf_199
  exact br_t hz (cb_bri0 (br_f h8 (br_t rfl H)))
theorem cb_154_0 (h8 : ¬ x8 = 0) (hz : z1 = z0) (H : post 1 ()) : wL_lawOf_154 post mc ms x5 x8 z0 z1 kc ks 0 fr ff fw fs a1 a2 a3 a4 a5 a6 a7 a8 a9 a10 a11 := by
  unfold wL_lawOf_154
  refine br_t hz (cb_closed (Or.inl rfl) (fun e => br_t e ?_) (fun e => br_f e ?_))
  · unfold wL_lawOf_176
    exact br_t rfl (cb_level (Or.inl rfl) (fun _ => br_t e (cb_199_0 h8 rfl H)) (fun n => absurd e n))
  · unfold wL_lawOf_176
    exact br_t rfl (cb_level (Or.inl rfl) (fun n => absurd n e) (fun _ => br_f e (cb_199_0 h8 rfl H)))
theorem cb_91_0 (h8 : ¬ x8 = 0) (H : post 1 ()) : wL_lawOf_91 post mc ms x2 x3 x4 x5 x8 kc ks 0 fr ff fw fs a1 a2 a3 a4 a5 a6 a7 a8 a9 a10 a11 := by
  unfold wL_lawOf_91
  unfold wL_lawOf_92
  refine cb_rew0 (br_t rfl ?_)
  unfold wL_lawOf_131
  exact br_t rfl (cb_thr0 (br_t rfl (cb_154_0 h8 rfl H)))
/-! one edge -/
theorem cb_199_1 {u v : Nat} (hu : u < 7) (hv : v < 7) (ne : u ≠ v) (e1 : a1 0 = nI u) (e2 : a2 0 = nI v) (hz : z1 = z0) (H : post 1 ()) : wL_lawOf_199 post mc ms 0 z0 z1 kc ks 1 fr ff fw fs a1 a2 a3 a4 a5 a6 a7 a8 a9 a10 a11 := by
  unfold wL_lawOf_199
  exact br_t hz (cb_bri1 hu hv ne e1 e2 (fun _ _ _ => br_t rfl (br_t rfl H)))
theorem cb_154_1 {u v : Nat} (hu : u < 7) (hv : v < 7) (ne : u ≠ v) (e1 : a1 0 = nI u) (e2 : a2 0 = nI v) (hz : z1 = z0) (H : post 1 ()) : wL_lawOf_154 post mc ms x5 0 z0 z1 kc ks 1 fr ff fw fs a1 a2 a3 a4 a5 a6 a7 a8 a9 a10 a11 := by
  have K : cb_K 1 a1 a2 := Or.inr ⟨rfl, u, v, hu, hv, ne, e1, e2⟩
  unfold wL_lawOf_154
  refine br_t hz (cb_closed K (fun e => br_t e ?_) (fun e => br_f e ?_))
  · unfold wL_lawOf_176
    exact br_t rfl (cb_level K (fun _ => br_t e (cb_199_1 hu hv ne e1 e2 rfl H)) (fun n => absurd e n))
  · unfold wL_lawOf_176
    exact br_t rfl (cb_level K (fun n => absurd n e) (fun _ => br_f e (cb_199_1 hu hv ne e1 e2 rfl H)))
theorem cb_131_1 {u v : Nat} (hu : u < 7) (hv : v < 7) (ne : u ≠ v) (e1 : a1 0 = nI u) (e2 : a2 0 = nI v) (hx : x9 = 0 ↔ ¬ x3 = 0) (hz : z1 = z0) (H : post 1 ()) : wL_lawOf_131 post mc ms x3 x5 0 x9 z0 z1 kc ks 1 fr ff fw fs a1 a2 a3 a4 a5 a6 a7 a8 a9 a10 a11 := by
  unfold wL_lawOf_131
  refine br_t hz (cb_thr1 hu hv ne e1 e2 (fun e => br_t (hx.mpr e) (cb_154_1 hu hv ne e1 e2 rfl H)) (fun e b8 b9 b10 => br_f (fun n => hx.mp n e) (cb_154_1 hu hv ne e1 e2 rfl H)))
theorem cb_92_1 {u v : Nat} (hu : u < 7) (hv : v < 7) (ne : u ≠ v) (e1 : a1 0 = nI u) (e2 : a2 0 = nI v) (e3 : a3 0 = x2) (hx : x9 = 0 ↔ ¬ x3 = 0) (H : post 1 ()) : wL_lawOf_92 post mc ms x2 x3 x4 x5 0 x9 kc ks 1 fr ff fw fs a1 a2 a3 a4 a5 a6 a7 a8 a9 a10 a11 := by
  unfold wL_lawOf_92
  refine cb_rew1 (fun e => br_t (hx.mpr e) (cb_131_1 hu hv ne e1 e2 hx rfl H)) (fun e h => br_f (fun n => hx.mp n e) ?_) (fun e h h' => br_f (fun n => hx.mp n e) (br_f h (br_t h' (cb_131_1 hu hv ne e1 e2 hx e3 H))))
  have t : wL_lawOf_125 post mc ms x3 x5 0 x9 (-2) kc ks 1 fr ff fw fs a1 a2 a3 a4 a5 a6 a7 a8 a9 a10 a11 := cb_131_1 hu hv ne e1 e2 hx rfl H
  exact br_c (fun _ => t) (fun g => br_f (h.resolve_left g) t)
/-! the law -/
theorem cb_33_0 (hV : ¬ (cb_V x0 ∧ cb_V x1 ∧ ¬ x0 = x1)) (H : post 1 ()) : wL_lawOf_32 post mc ms x0 x1 x2 x3 x4 x5 kc ks 0 fr ff fw fs a1 a2 a3 a4 a5 a6 a7 a8 a9 a10 a11 := by
  unfold wL_lawOf_32
  unfold wL_lawOf_33
  refine br_t rfl ?_
  unfold wL_lawOf_61
  refine cb_edge (fun _ => br_t rfl (br_f (by decide) (cb_91_0 (by decide) H))) (fun v0 v1 e _ => absurd ⟨v0, v1, e⟩ hV) (fun v0 v1 e _ _ => absurd ⟨v0, v1, e⟩ hV)
theorem cb_55 (v0 : cb_V x0) (v1 : cb_V x1) (e : ¬ x0 = x1) (h : x2 < 1 ∨ ¬ x2 ≤ 100) (H : post 1 ()) : wL_lawOf_55 post mc ms x0 x1 x2 x3 x4 x5 kc ks 0 fr ff fw fs a1 a2 a3 a4 a5 a6 a7 a8 a9 a10 a11 := by
  unfold wL_lawOf_55
  unfold wL_lawOf_61
  refine cb_edge (fun n => absurd ⟨v0, v1, e⟩ n) (fun _ _ _ _ => br_t rfl (br_f (by decide) (cb_91_0 (by decide) H))) (fun _ _ _ g g' => ?_)
  rcases h with h | h
  · exact absurd h g
  · exact absurd g' h
theorem cb_33_1 (v0 : cb_V x0) (v1 : cb_V x1) (e : ¬ x0 = x1) (H : post 1 ()) : wL_lawOf_33 post mc ms x0 x1 x2 x3 x4 x5 1 kc ks 0 fr ff fw fs a1 a2 a3 a4 a5 a6 a7 a8 a9 a10 a11 := by
  unfold wL_lawOf_33
  refine br_f (by decide) (br_c (fun h => cb_55 v0 v1 e (Or.inl h) H) (fun h => br_c (fun h' => ?_) (fun h' => cb_55 v0 v1 e (Or.inr h') H)))
  unfold wL_lawOf_61
  refine cb_edge (fun n => absurd ⟨v0, v1, e⟩ n) (fun _ _ _ g => ?_) (fun _ _ _ _ _ => br_t rfl (br_t rfl ?_))
  · rcases g with g | g
    · exact absurd g h
    · exact absurd h' g
  · obtain ⟨u, hu, rfl⟩ := v0
    obtain ⟨v, hv, rfl⟩ := v1
    have ne : u ≠ v := fun z => e (by rw [z])
    refine br_c (fun z => ?_) (fun z => ?_)
    · exact cb_92_1 hu hv ne pk_us pk_us pk_us ⟨fun n => absurd n (by decide), fun n => absurd z n⟩ H
    · unfold wL_lawOf_91
      exact cb_92_1 hu hv ne pk_us pk_us pk_us ⟨fun _ => z, fun _ => rfl⟩ H
theorem cb_law {p0 p1 p2 p3 p4 p5 : Int32} (H : post 1 ()) : wpL_lawOf post 12 149 () p0 p1 p2 p3 p4 p5 := by
  unfold wpL_lawOf
  refine ⟨by omega, by omega, 11, 133, by omega, by omega, ?_⟩
  unfold wpX_init
  refine ⟨by omega, by omega, by omega, by omega, by omega, by omega, by omega, by omega, by omega, by omega, by omega, by omega, by omega, by omega, by omega, by omega, by omega, by omega, by omega, by omega, by omega, by omega, ?_⟩
  refine cb_ve (fun v0 => br_f (by decide) ?_) (fun v0 => br_t rfl (cb_33_0 (fun t => v0 t.1) H))
  refine cb_ve (fun v1 => br_f (by decide) ?_) (fun v1 => br_t rfl (cb_33_0 (fun t => v1 t.2.1) H))
  exact br_c (fun e => cb_33_0 (fun t => t.2.2 e) H) (fun e => cb_33_1 v0 v1 e H)
end
theorem cb_cell {post : Int32 → Prop} {L : Nat} {xs : Nat → Int32} (hL : L ≤ 6) (k : Nat) (hk : k < 6) {p : Int32} (hp : p = nI k) (H : ∀ x, post x) : wpL_cellAt post L xs () p :=
  pk_le L k (fun _ => H _) (fun h => ⟨pk_in k L h hp (by omega), H _⟩) rfl hp (by omega) (by omega)
theorem i_vc (xs : Nat → Int32) (L : Nat) (hL : L ≤ 6) : wpL_law (fun r => r = 1) L xs := by
  unfold wpL_law
  refine cb_cell hL 0 (by omega) rfl (fun _ => ?_)
  refine cb_cell hL 1 (by omega) rfl (fun _ => ?_)
  refine cb_cell hL 2 (by omega) rfl (fun _ => ?_)
  refine cb_cell hL 3 (by omega) rfl (fun _ => ?_)
  refine cb_cell hL 4 (by omega) rfl (fun _ => ?_)
  refine cb_cell hL 5 (by omega) rfl (fun _ => ?_)
  exact ⟨12, 149, by omega, by omega, cb_law rfl⟩
end
