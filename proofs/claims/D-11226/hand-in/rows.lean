section
section
variable {a1 a2 a3 a4 a5 a6 a7 a8 a9 a10 a11 a12 a13 : Nat → Int32}
variable {f c r : Int32}
theorem lw_bit0 : ∀ i, i < 3 → ¬ ((0 : Int32) >>> (nI i &&& 31)) &&& 1 = 1 := by decide +kernel
/-- a place of a condition: a variable or a fixed node -/
def lw_pl (x : Int32) : Prop := (∃ k : Nat, k < 3 ∧ x = nI k) ∨ ¬ x < 8
/-- the fact fits the condition -/
def lw_F (l w x y a b : Int32) : Prop := l = w ∧ (x < 8 ∨ x - 8 = a) ∧ (y < 8 ∨ y - 8 = b) ∧ (¬ x = y ∨ a = b)
theorem lw_rel {post : St2 → Prop} (H : ∀ b10 : Nat → Int32, (a9 0 = 0 → b10 = a10) → post (f, c, r, a1, a2, a3, a4, a5, a6, a7, a8, upd a9 0 0, b10, a11, a12, a13)) : wpX_release post (f, c, r, a1, a2, a3, a4, a5, a6, a7, a8, a9, a10, a11, a12, a13) 0 :=
  pk_loop (fun n i s => wX_release_2 post 0 f c r n (nI i) a1 a2 a3 a4 a5 a6 a7 a8 a9 s a11 a12 a13) (fun _ s => a9 0 = 0 → s = a10) 3 0 a10 (by omega) (fun _ => rfl)
    (fun n s h => pk_le 3 3 (fun _ => ⟨pk_in 0 5 (by omega), nm_e (H s h)⟩) (fun z => absurd z (by omega)))
    (fun n i s hi h hw => pk_le 3 i (fun z => absurd z (by omega)) (fun _ => ⟨pk_in 0 5 (by omega), br_c (fun g => ⟨pk_in i 3 hi, nm_e (nm_r (nI_1 i) (hw _ (fun z => by
        have g' : ((a9 0) >>> (nI i &&& 31)) &&& 1 = 1 := g
        rw [z] at g'
        exact absurd g' (lw_bit0 i hi))))⟩) (fun _ => nm_r (nI_1 i) (hw _ h))⟩))
theorem lw_fit1 {post : Int32 → St2 → Prop} {x y : Int32} (h10 : ∀ k, k < 3 → a10 k = -1) (hx : lw_pl x)
    (H1 : (x < 8 ∨ x - 8 = y) → ∀ b9 b10 : Nat → Int32, (∀ z, lw_pl z → z < 8 → (z = x → b10 z.toNatClampNeg = y) ∧ (¬ z = x → b10 z.toNatClampNeg = -1)) → post 1 (f, c, r, a1, a2, a3, a4, a5, a6, a7, a8, b9, b10, a11, a12, a13))
    (H0 : ¬ (x < 8 ∨ x - 8 = y) → post 0 (f, c, r, a1, a2, a3, a4, a5, a6, a7, a8, a9, a10, a11, a12, a13)) : wpX_fits post (f, c, r, a1, a2, a3, a4, a5, a6, a7, a8, a9, a10, a11, a12, a13) 0 x y := by
  have h10' : ∀ z, lw_pl z → z < 8 → a10 z.toNatClampNeg = -1 := by
    intro z hz h8
    rcases hz with ⟨k, hk, rfl⟩ | h
    · rw [nI_clamp (by omega)]
      exact h10 k hk
    · exact absurd h8 h
  by_cases h8 : x < 8
  · have hx2 := hx
    rcases hx2 with ⟨k, hk, e⟩ | h
    · refine br_t h8 ⟨pk_in k 3 hk e, br_t (h10' x hx h8) ⟨pk_in k 3 hk e, nm_e ⟨pk_in 0 5 (by omega), pk_in 0 5 (by omega), nm_e (H1 (Or.inl h8) _ _ ?_)⟩⟩⟩
      intro z hz z8
      refine ⟨fun ez => ?_, fun nz => ?_⟩
      · rw [ez, pk_us]
      · rw [pk_un ?_]
        · exact h10' z hz z8
        · intro ee
          rcases hz with ⟨j, hj, e2⟩ | h2
          · apply nz
            rw [e2, e, nI_clamp (by omega), nI_clamp (by omega)] at ee
            rw [e2, e, ee]
          · exact h2 z8
    · exact absurd h8 h
  · refine br_f h8 (br_c (fun e => H1 (Or.inr e) a9 a10 (fun z hz z8 => ⟨fun ez => ?_, fun _ => h10' z hz z8⟩)) (fun e => H0 (fun t => t.elim h8 e)))
    exact absurd (ez ▸ z8 : x < 8) h8
theorem lw_fit2 {post : Int32 → St2 → Prop} {x y : Int32} (hx : lw_pl x)
    (H1 : (x < 8 → a10 x.toNatClampNeg = -1 ∨ a10 x.toNatClampNeg = y) → (x < 8 ∨ x - 8 = y) → ∀ b9 b10 : Nat → Int32, post 1 (f, c, r, a1, a2, a3, a4, a5, a6, a7, a8, b9, b10, a11, a12, a13))
    (H0 : ¬ ((x < 8 → a10 x.toNatClampNeg = -1 ∨ a10 x.toNatClampNeg = y) ∧ (x < 8 ∨ x - 8 = y)) → post 0 (f, c, r, a1, a2, a3, a4, a5, a6, a7, a8, a9, a10, a11, a12, a13)) : wpX_fits post (f, c, r, a1, a2, a3, a4, a5, a6, a7, a8, a9, a10, a11, a12, a13) 0 x y := by
  by_cases h8 : x < 8
  · have hx2 := hx
    rcases hx2 with ⟨k, hk, e⟩ | h
    · exact br_t h8 ⟨pk_in k 3 hk e, br_c (fun g => ⟨pk_in k 3 hk e, nm_e ⟨pk_in 0 5 (by omega), pk_in 0 5 (by omega), nm_e (H1 (fun _ => Or.inl g) (Or.inl h8) _ _)⟩⟩)
        (fun g => ⟨pk_in k 3 hk e, br_c (fun g2 => H1 (fun _ => Or.inr g2) (Or.inl h8) a9 a10) (fun g2 => H0 (fun t => (t.1 h8).elim g g2))⟩)⟩
    · exact absurd h8 h
  · exact br_f h8 (br_c (fun e => H1 (fun z => absurd z h8) (Or.inr e) a9 a10) (fun e => H0 (fun t => t.2.elim h8 e)))
theorem lw_84f {post : Int32 → St2 → Prop} {n : Nat} (H : ∀ b9 b10 : Nat → Int32, post 0 (1, c, r, a1, a2, a3, a4, a5, a6, a7, a8, b9, b10, a11, a12, a13)) : wX_advance_84 post (wX_advance_14 post 0 (n + 1)) 0 0 0 1 c r a1 a2 a3 a4 a5 a6 a7 a8 a9 a10 a11 a12 a13 :=
  br_t rfl (lw_rel (fun b10 _ => nm_r (e' := 1) rfl (br_t (by decide) (H _ _))))
theorem lw_84t {post : Int32 → St2 → Prop} {J : Int32 → Int32 → Int32 → Int32 → (Nat → Int32) → (Nat → Int32) → (Nat → Int32) → (Nat → Int32) → (Nat → Int32) → (Nat → Int32) → (Nat → Int32) → (Nat → Int32) → (Nat → Int32) → (Nat → Int32) → (Nat → Int32) → (Nat → Int32) → (Nat → Int32) → Prop} (H : post 1 (1, c, r, a1, a2, a3, a4, a5, a6, a7, a8, a9, a10, a11, a12, a13)) : wX_advance_84 post J 0 0 1 1 c r a1 a2 a3 a4 a5 a6 a7 a8 a9 a10 a11 a12 a13 :=
  br_f (by decide) H
/-- the first advance: the one fact is tried -/
theorem lw_adv1 {post : Int32 → St2 → Prop} (h8 : a8 0 = -1) (h9 : a9 0 = 0) (h10 : ∀ k, k < 3 → a10 k = -1) (ha : ¬ a1 0 = -1) (hx : lw_pl (a6 0)) (hy : lw_pl (a7 0))
    (H1 : lw_F (a3 0) (a5 0) (a6 0) (a7 0) (a1 0) (a2 0) → ∀ b9 b10 : Nat → Int32, post 1 (1, c, r, a1, a2, a3, a4, a5, a6, a7, upd a8 0 0, b9, b10, a11, a12, a13))
    (H0 : ¬ lw_F (a3 0) (a5 0) (a6 0) (a7 0) (a1 0) (a2 0) → ∀ b9 b10 : Nat → Int32, post 0 (1, c, r, a1, a2, a3, a4, a5, a6, a7, upd a8 0 0, b9, b10, a11, a12, a13)) : wpX_advance post (1, c, r, a1, a2, a3, a4, a5, a6, a7, a8, a9, a10, a11, a12, a13) 0 := by
  unfold wpX_advance
  refine lw_rel (fun b10 hb => ?_)
  have e10 := hb h9
  subst e10
  refine ⟨pk_in 0 5 (by omega), nm_r (e' := 0) (by show a8 0 + 1 = 0; rw [h8]; rfl) ⟨1 + 1, ?_⟩⟩
  refine br_f (by decide) ⟨pk_in 0 5 (by omega), nm_e ⟨pk_in 0 9 (by omega), pk_in 0 4 (by omega), br_c (fun hl => ⟨pk_in 0 4 (by omega), pk_in 0 9 (by omega), ?_⟩) (fun hl => nm_r (e' := 1) rfl (br_t (by decide) (H0 (fun F => hl F.1) _ _)))⟩⟩
  refine lw_fit1 h10 hx (fun g b9 b10 hb10 => ?_) (fun g => ?_)
  · refine br_f (by decide) ⟨pk_in 0 4 (by omega), pk_in 0 9 (by omega), lw_fit2 hy (fun g1 g2 c9 c10 => lw_84t (H1 ⟨hl, g, g2, ?_⟩ c9 c10)) (fun g1 => lw_84f (H0 ?_))⟩
    · by_cases e : a6 0 = a7 0
      · refine Or.inr ?_
        by_cases y8 : a7 0 < 8
        · have v := (hb10 (a7 0) hy y8).1 e.symm
          rcases g1 y8 with w | w
          · exact absurd (v.symm.trans w) ha
          · exact v.symm.trans w
        · have x8 : ¬ a6 0 < 8 := by rw [e]; exact y8
          have gx : a6 0 - 8 = a1 0 := g.resolve_left x8
          have gy : a7 0 - 8 = a2 0 := g2.resolve_left y8
          rw [← gx, ← gy, e]
      · exact Or.inl e
    · intro F
      apply g1
      refine ⟨fun y8 => ?_, F.2.2.1⟩
      by_cases e : a6 0 = a7 0
      · refine Or.inr ?_
        have v := (hb10 (a7 0) hy y8).1 e.symm
        have ab := F.2.2.2.resolve_left (fun t => t e)
        exact v.trans ab
      · exact Or.inl ((hb10 (a7 0) hy y8).2 (fun t => e t.symm))
  · exact br_t rfl (lw_84f (H0 (fun F => g F.2.1)))
/-- the advance behind a match: no fact is left -/
theorem lw_adv2 {post : Int32 → St2 → Prop} (h8 : a8 0 = 0) (H : ∀ b9 b10 : Nat → Int32, post 0 (1, c, r, a1, a2, a3, a4, a5, a6, a7, a8, b9, b10, a11, a12, a13)) : wpX_advance post (1, c, r, a1, a2, a3, a4, a5, a6, a7, a8, a9, a10, a11, a12, a13) 0 := by
  unfold wpX_advance
  exact lw_rel (fun b10 _ => ⟨pk_in 0 5 (by omega), nm_r (e' := 1) (by show a8 0 + 1 = 1; rw [h8]; rfl) ⟨1, br_t (by decide) (H _ _)⟩⟩)
theorem lw_fom {post : Int32 → Prop} (h8 : a8 0 = 0) (H : post 1) : wpX_factsOfMatch post (f, 1, r, a1, a2, a3, a4, a5, a6, a7, a8, a9, a10, a11, a12, a13) :=
  ⟨2, br_f (by decide) ⟨pk_in 0 5 (by omega), nm_r (e' := 1) (by show (0 : Int32) ||| ((1 : Int32) <<< (a8 0 &&& 31)) = 1; rw [h8]; rfl) (nm_r (e' := 1) rfl (br_t (by decide) H))⟩⟩
end
end
section
section
variable {a1 a2 a3 a4 a5 a6 a7 a8 a9 a10 a11 a12 a13 : Nat → Int32}
variable {f c r : Int32}
theorem lw_fill {f s : Nat → Int32} {i k : Nat} {x : Int32} (hk : k = i) (h : ∀ j, j < i → s j = f j) (hx : x = f i) : ∀ j, j < i + 1 → upd s k x j = f j := by
  intro j hj
  rw [hk]
  by_cases e : j = i
  · rw [e, pk_us, hx]
  · rw [pk_un e]
    exact h j (by omega)
/-- the search with one condition and one fact -/
theorem lw_75 {post : St2 → Prop} (h8 : a8 0 = -1) (h9 : a9 0 = 0) (h10 : ∀ k, k < 3 → a10 k = -1) (ha : ¬ a1 0 = -1) (hx : lw_pl (a6 0)) (hy : lw_pl (a7 0))
    (H1 : lw_F (a3 0) (a5 0) (a6 0) (a7 0) (a1 0) (a2 0) → ∀ b8 b9 b10 : Nat → Int32, post (1, 1, r, a1, a2, a3, a4, a5, a6, a7, b8, b9, b10, upd a11 1 1, a12, a13))
    (H0 : ¬ lw_F (a3 0) (a5 0) (a6 0) (a7 0) (a1 0) (a2 0) → ∀ b8 b9 b10 : Nat → Int32, post (1, 1, r, a1, a2, a3, a4, a5, a6, a7, b8, b9, b10, a11, a12, a13)) :
    ∃ fu : Nat, wX_findMatches_75 post fu 0 0 1 1 r a1 a2 a3 a4 a5 a6 a7 a8 a9 a10 a11 a12 a13 := by
  refine ⟨2 + 1, br_f (by decide) (br_f (by decide) (lw_adv1 h8 h9 h10 ha hx hy (fun F b9 b10 => ?_) (fun F b9 b10 => ?_)))⟩
  · refine br_f (by decide) (br_t rfl (lw_fom (by rw [pk_us]) ⟨pk_in 1 512 (by omega), nm_e (nm_r (e' := 1) rfl ?_)⟩))
    refine br_f (by decide) (br_f (by decide) (lw_adv2 (by rw [pk_us]) (fun c9 c10 => ?_)))
    exact br_t rfl (nm_r (e' := -1) rfl (nm_r (e' := 2) rfl (br_f (by decide) (br_t (by decide) (H1 F _ _ _)))))
  · exact br_t rfl (nm_r (e' := -1) rfl (nm_r (e' := 1) rfl (br_f (by decide) (br_t (by decide) (H0 F _ _ _)))))
theorem lw_fm1 {post : St2 → Prop} (ha : ¬ a1 0 = -1) (hx : lw_pl (a6 0)) (hy : lw_pl (a7 0))
    (H : ∀ b8 b9 b10 b11 : Nat → Int32, b11 0 = 0 → ((lw_F (a3 0) (a5 0) (a6 0) (a7 0) (a1 0) (a2 0) ∧ b11 1 = 1) ∨ (¬ lw_F (a3 0) (a5 0) (a6 0) (a7 0) (a1 0) (a2 0) ∧ b11 1 = 0)) → post (1, 1, r, a1, a2, a3, a4, a5, a6, a7, b8, b9, b10, b11, a12, a13)) :
    wpX_findMatches post (1, 1, r, a1, a2, a3, a4, a5, a6, a7, a8, a9, a10, a11, a12, a13) := by
  refine pk_loop (fun n i s => wX_findMatches_2 post 1 1 r n (nI i) a1 a2 a3 a4 a5 a6 a7 a8 a9 a10 s a12 a13) (fun i s => ∀ j, j < i → s j = (fun _ => (0 : Int32)) j) 512 0 a11 (by omega) (fun j hj => absurd hj (by omega)) ?_ ?_
  · intro n s h
    refine pk_le 512 512 (fun _ => ?_) (fun z => absurd z (by omega))
    refine pk_loop (fun n i t => wX_findMatches_24 post 1 1 r n (nI i) a1 a2 a3 a4 a5 a6 a7 a8 a9 t s a12 a13) (fun i t => ∀ j, j < i → t j = (fun _ => (-1 : Int32)) j) 3 0 a10 (by omega) (fun j hj => absurd hj (by omega)) ?_ ?_
    · intro n t ht
      refine pk_le 3 3 (fun _ => br_f (by decide) (nm_e (nm_e ?_))) (fun z => absurd z (by omega))
      refine lw_75 pk_us pk_us ht ha hx hy (fun F b8 b9 b10 => H _ _ _ _ ?_ (Or.inl ⟨F, pk_us⟩)) (fun F b8 b9 b10 => H _ _ _ _ (h 0 (by omega)) (Or.inr ⟨F, h 1 (by omega)⟩))
      rw [pk_un (by omega)]
      exact h 0 (by omega)
    · intro n i t hi ht hw
      exact pk_le 3 i (fun z => absurd z (by omega)) (fun _ => ⟨pk_in i 3 hi, nm_e (nm_r (nI_1 i) (hw _ (lw_fill (nI_clamp (by omega)) ht rfl)))⟩)
  · intro n i s hi h hw
    exact pk_le 512 i (fun z => absurd z (by omega)) (fun _ => ⟨pk_in i 512 hi, nm_e (nm_r (nI_1 i) (hw _ (lw_fill (nI_clamp (by omega)) h rfl)))⟩)
theorem lw_fm0 {post : St2 → Prop} (H : ∀ b10 b11 : Nat → Int32, b11 0 = 1 → b11 1 = 0 → post (1, 0, r, a1, a2, a3, a4, a5, a6, a7, a8, a9, b10, b11, a12, a13)) : wpX_findMatches post (1, 0, r, a1, a2, a3, a4, a5, a6, a7, a8, a9, a10, a11, a12, a13) := by
  refine pk_loop (fun n i s => wX_findMatches_2 post 1 0 r n (nI i) a1 a2 a3 a4 a5 a6 a7 a8 a9 a10 s a12 a13) (fun i s => ∀ j, j < i → s j = (fun _ => (0 : Int32)) j) 512 0 a11 (by omega) (fun j hj => absurd hj (by omega)) ?_ ?_
  · intro n s h
    refine pk_le 512 512 (fun _ => ?_) (fun z => absurd z (by omega))
    refine pk_loop (fun n i t => wX_findMatches_24 post 1 0 r n (nI i) a1 a2 a3 a4 a5 a6 a7 a8 a9 t s a12 a13) (fun _ _ => True) 3 0 a10 (by omega) trivial ?_ ?_
    · intro n t _
      refine pk_le 3 3 (fun _ => br_t rfl (nm_e (H _ _ pk_us ?_))) (fun z => absurd z (by omega))
      rw [pk_un (by omega)]
      exact h 1 (by omega)
    · intro n i t hi _ hw
      exact pk_le 3 i (fun z => absurd z (by omega)) (fun _ => ⟨pk_in i 3 hi, nm_e (nm_r (nI_1 i) (hw _ trivial))⟩)
  · intro n i s hi h hw
    exact pk_le 512 i (fun z => absurd z (by omega)) (fun _ => ⟨pk_in i 512 hi, nm_e (nm_r (nI_1 i) (hw _ (lw_fill (nI_clamp (by omega)) h rfl)))⟩)
theorem lw_yb0 {post : Int32 → Prop} (H : post 0) : wpX_yesBelow post (1, c, r, a1, a2, a3, a4, a5, a6, a7, a8, a9, a10, a11, a12, a13) 0 :=
  ⟨2, br_f (by decide) (br_f (by decide) (nm_r (e' := 1) rfl (br_t (by decide) H)))⟩
theorem lw_ix : ((1 : Int32) &&& (((1 : Int32) <<< ((0 : Int32) &&& 31)) ^^^ (-1))) = 0 := by decide
theorem lw_yb1 {post : Int32 → Prop} (H0 : a12 0 = 0 → post 0) (H1 : ¬ a12 0 = 0 → post 1) : wpX_yesBelow post (1, c, r, a1, a2, a3, a4, a5, a6, a7, a8, a9, a10, a11, a12, a13) 1 := by
  refine ⟨2, br_f (by decide) (br_t (by decide) ?_)⟩
  rw [lw_ix]
  exact ⟨pk_in 0 512 (by omega), br_c (fun g => nm_r (e' := 1) rfl (br_t (by decide) (H0 g))) (fun g => H1 g)⟩
/-- the worlds of one fact, out of the matches: the empty set is no match -/
theorem lw_19a {post : St2 → Prop} {v : Int32} (hv : v = 0 ∨ v = 1) (h0 : a11 0 = 0) (h1 : a11 1 = v) (H : ∀ b12 : Nat → Int32, b12 0 = 0 → b12 1 = v → post (1, c, r, a1, a2, a3, a4, a5, a6, a7, a8, a9, a10, a11, b12, a13)) :
    ∃ fu : Nat, wX_prepare_19 post 1 c r fu 0 a1 a2 a3 a4 a5 a6 a7 a8 a9 a10 a11 a12 a13 := by
  refine ⟨3, br_f (by decide) (lw_yb0 ⟨pk_in 0 512 (by omega), br_t h0 (br_t rfl ⟨pk_in 0 512 (by omega), nm_e (nm_r (e' := 1) rfl ?_)⟩)⟩)⟩
  refine br_f (by decide) (lw_yb1 (fun _ => ⟨pk_in 1 512 (by omega), ?_⟩) (fun g => absurd pk_us g))
  rcases hv with e | e
  · refine br_t (h1.trans e) (br_t rfl ⟨pk_in 1 512 (by omega), nm_e (nm_r (e' := 2) rfl (br_t (by decide) (H _ ?_ ?_)))⟩)
    · show upd (upd a12 0 0) 1 0 0 = 0
      rw [pk_un (by omega), pk_us]
    · rw [e]
      exact pk_us
  · refine br_f (by show ¬ a11 1 = 0; rw [h1, e]; decide) ⟨pk_in 1 512 (by omega), nm_e (nm_r (e' := 2) rfl (br_t (by decide) (H _ ?_ ?_)))⟩
    · show upd (upd a12 0 0) 1 1 0 = 0
      rw [pk_un (by omega), pk_us]
    · rw [e]
      exact pk_us
/-- the same where the empty set is the match -/
theorem lw_19b {post : St2 → Prop} (h0 : a11 0 = 1) (h1 : a11 1 = 0) (H : ∀ b12 : Nat → Int32, b12 0 = 1 → b12 1 = 1 → post (1, c, r, a1, a2, a3, a4, a5, a6, a7, a8, a9, a10, a11, b12, a13)) :
    ∃ fu : Nat, wX_prepare_19 post 1 c r fu 0 a1 a2 a3 a4 a5 a6 a7 a8 a9 a10 a11 a12 a13 := by
  refine ⟨3, br_f (by decide) (lw_yb0 ⟨pk_in 0 512 (by omega), br_f (by show ¬ a11 0 = 0; rw [h0]; decide) ⟨pk_in 0 512 (by omega), nm_e (nm_r (e' := 1) rfl ?_)⟩⟩)⟩
  refine br_f (by decide) (lw_yb1 (fun g => ?_) (fun g => ⟨pk_in 1 512 (by omega), br_t h1 (br_f (by decide) ⟨pk_in 1 512 (by omega), nm_e (nm_r (e' := 2) rfl (br_t (by decide) (H _ ?_ pk_us)))⟩)⟩))
  · have g' : upd a12 0 1 0 = 0 := g
    rw [pk_us] at g'
    exact absurd g' (by decide)
  · show upd (upd a12 0 1) 1 1 0 = 1
    rw [pk_un (by omega), pk_us]
/-- matches and worlds stand: the one fact alone answers v -/
def lw_ok (v : Int32) (a11 a12 : Nat → Int32) : Prop := (v = 0 ∨ v = 1) ∧ a11 0 = 0 ∧ a11 1 = v ∧ a12 0 = 0 ∧ a12 1 = v
theorem lw_prep1 {post : St2 → Prop} {v : Int32} (ha : ¬ a1 0 = -1) (hx : lw_pl (a6 0)) (hy : lw_pl (a7 0))
    (hv : (lw_F (a3 0) (a5 0) (a6 0) (a7 0) (a1 0) (a2 0) ∧ v = 1) ∨ (¬ lw_F (a3 0) (a5 0) (a6 0) (a7 0) (a1 0) (a2 0) ∧ v = 0))
    (H : ∀ b8 b9 b10 b11 b12 : Nat → Int32, lw_ok v b11 b12 → post (1, 1, 1, a1, a2, a3, a4, a5, a6, a7, b8, b9, b10, b11, b12, a13)) : wpX_prepare post (1, 1, 0, a1, a2, a3, a4, a5, a6, a7, a8, a9, a10, a11, a12, a13) := by
  refine br_t rfl (lw_fm1 ha hx hy (fun b8 b9 b10 b11 h0 h1 => ?_))
  have e : b11 1 = v := by
    rcases hv with ⟨p, q⟩ | ⟨p, q⟩
    · rcases h1 with ⟨p1, q1⟩ | ⟨p1, q1⟩
      · rw [q, q1]
      · exact absurd p p1
    · rcases h1 with ⟨p1, q1⟩ | ⟨p1, q1⟩
      · exact absurd p1 p
      · rw [q, q1]
  have v2 : v = 0 ∨ v = 1 := hv.elim (fun t => Or.inr t.2) (fun t => Or.inl t.2)
  exact lw_19a v2 h0 e (fun b12 g0 g1 => H _ _ _ _ _ ⟨v2, h0, e, g0, g1⟩)
theorem lw_prep0 {post : St2 → Prop} (H : ∀ b10 b11 b12 : Nat → Int32, b12 0 = 1 → b12 1 = 1 → post (1, 0, 1, a1, a2, a3, a4, a5, a6, a7, a8, a9, b10, b11, b12, a13)) : wpX_prepare post (1, 0, 0, a1, a2, a3, a4, a5, a6, a7, a8, a9, a10, a11, a12, a13) :=
  br_t rfl (lw_fm0 (fun b10 b11 h0 h1 => lw_19b h0 h1 (fun b12 g0 g1 => H _ _ _ g0 g1)))
theorem lw_prepR {post : St2 → Prop} (H : post (f, c, 1, a1, a2, a3, a4, a5, a6, a7, a8, a9, a10, a11, a12, a13)) : wpX_prepare post (f, c, 1, a1, a2, a3, a4, a5, a6, a7, a8, a9, a10, a11, a12, a13) := br_f (by decide) H
end
end
section
section
variable {a1 a2 a3 a4 a5 a6 a7 a8 a9 a10 a11 a12 a13 : Nat → Int32}
variable {f c r : Int32}
/-- what the fold starts from at a world -/
def lw_e (v s must : Int32) : Int32 := if v = 0 then 0 else if s &&& must = must then 1 else 0
theorem lw_fst {post : Int32 → St2 → Prop} {n : Nat} {must : Int32} (k : Nat) (hk : k < 2)
    (H : wX_fold_2 post must 1 c r n (nI (k + 1)) a1 a2 a3 a4 a5 a6 a7 a8 a9 a10 a11 a12 (upd a13 k (lw_e (a12 k) (nI k) must))) : wX_fold_2 post must 1 c r (n + 1) (nI k) a1 a2 a3 a4 a5 a6 a7 a8 a9 a10 a11 a12 a13 := by
  have e : (nI k).toNatClampNeg = k := nI_clamp (by omega)
  have H' : ∀ x, x = lw_e (a12 k) (nI k) must → wX_fold_2 post must 1 c r n (nI (k + 1)) a1 a2 a3 a4 a5 a6 a7 a8 a9 a10 a11 a12 (upd a13 (nI k).toNatClampNeg x) := by
    intro x hx
    rw [hx, e]
    exact H
  refine pk_le 2 k (fun z => absurd z (by omega)) (fun _ => ⟨pk_in k 512 (by omega), br_c (fun g => ⟨pk_in k 512 (by omega), nm_e (nm_r (nI_1 k) (H' _ ?_))⟩) (fun g => br_c (fun g2 => ⟨pk_in k 512 (by omega), nm_e (nm_r (nI_1 k) (H' _ ?_))⟩) (fun g2 => ⟨pk_in k 512 (by omega), nm_e (nm_r (nI_1 k) (H' _ ?_))⟩))⟩)
  · rw [e] at g
    unfold lw_e
    rw [if_pos g]
  · rw [e] at g
    unfold lw_e
    rw [if_neg g, if_pos g2]
  · rw [e] at g
    unfold lw_e
    rw [if_neg g, if_neg g2]
theorem lw_fold {post : Int32 → St2 → Prop} {must z : Int32} (hz : lw_e (a12 0) 0 must * (4 - a4 0) + lw_e (a12 1) 1 must * a4 0 = z)
    (H : ∀ b13 : Nat → Int32, post z (1, c, r, a1, a2, a3, a4, a5, a6, a7, a8, a9, a10, a11, a12, b13)) : wpX_fold post (1, c, r, a1, a2, a3, a4, a5, a6, a7, a8, a9, a10, a11, a12, a13) must := by
  refine ⟨2 + 1, lw_fst 0 (by omega) (lw_fst 1 (by omega) (br_t (by decide) (nm_r (e' := 0) rfl ⟨1 + 1, br_f (by decide) (nm_r (e' := 1) rfl ⟨2, ?_⟩)⟩)))⟩
  refine br_f (by decide) ⟨pk_in 0 512 (by omega), pk_in 0 9 (by omega), pk_in 1 512 (by omega), pk_in 0 9 (by omega), pk_in 0 512 (by omega), nm_e (nm_r (e' := 1) rfl (br_t (by decide) (nm_r (e' := -1) rfl (br_t (by decide) ?_))))⟩
  rw [show ∀ (g : Nat → Int32) (k : Int32) (w : Int32), k = 0 → upd g k.toNatClampNeg w 0 = w from fun g k w hk => by rw [hk]; exact pk_us]
  · have q : upd (upd a13 0 (lw_e (a12 0) (nI 0) must)) 1 (lw_e (a12 1) (nI 1) must) 0 = lw_e (a12 0) 0 must := by
      rw [pk_un (by omega), pk_us]
      rfl
    have q1 : upd (upd a13 0 (lw_e (a12 0) (nI 0) must)) 1 (lw_e (a12 1) (nI 1) must) 1 = lw_e (a12 1) 1 must := by
      rw [pk_us]
      rfl
    have H2 : ∀ w b13, w = z → post w (1, c, r, a1, a2, a3, a4, a5, a6, a7, a8, a9, a10, a11, a12, b13) := fun w b13 hw => by
      rw [hw]
      exact H b13
    refine H2 _ _ ?_
    show upd (upd a13 0 (lw_e (a12 0) (nI 0) must)) 1 (lw_e (a12 1) (nI 1) must) 0 * (4 - a4 0) + upd (upd a13 0 (lw_e (a12 0) (nI 0) must)) 1 (lw_e (a12 1) (nI 1) must) 1 * a4 0 = z
    rw [q, q1]
    exact hz
  · rfl
theorem lw_m0 (m : Int32) : (0 : Int32) * (4 - m) + 0 * m = 0 := by grind
theorem lw_m1 (m : Int32) : (0 : Int32) * (4 - m) + 1 * m = m := by grind
theorem lw_m2 (m : Int32) : (1 : Int32) * (4 - m) + 1 * m = 4 := by grind
/-- the answer of share and shareWith: m where the fact fits, else 0 -/
def lw_sh (v m : Int32) : Int32 := if v = 0 then 0 else m
theorem lw_val {v m must : Int32} {a12 : Nat → Int32} (hm : must = 0 ∨ must = 1) (hv : v = 0 ∨ v = 1) (h0 : a12 0 = 0) (h1 : a12 1 = v) : lw_e (a12 0) 0 must * (4 - m) + lw_e (a12 1) 1 must * m = lw_sh v m := by
  rw [h0, h1]
  have e0 : lw_e 0 0 must = 0 := if_pos rfl
  rcases hv with e | e
  · have e1 : lw_e v 1 must = 0 := if_pos e
    rw [e0, e1, lw_m0]
    exact (if_pos e).symm
  · have e1 : lw_e v 1 must = 1 := by
      rw [e]
      rcases hm with q | q
      · rw [q]; decide
      · rw [q]; decide
    rw [e0, e1, lw_m1]
    exact (if_neg (by rw [e]; decide)).symm
theorem lw_share1 {post : Int32 → St2 → Prop} {v m : Int32} (ha : ¬ a1 0 = -1) (hx : lw_pl (a6 0)) (hy : lw_pl (a7 0)) (hm : a4 0 = m)
    (hv : (lw_F (a3 0) (a5 0) (a6 0) (a7 0) (a1 0) (a2 0) ∧ v = 1) ∨ (¬ lw_F (a3 0) (a5 0) (a6 0) (a7 0) (a1 0) (a2 0) ∧ v = 0))
    (H : ∀ b8 b9 b10 b11 b12 b13 : Nat → Int32, lw_ok v b11 b12 → post (lw_sh v m) (1, 1, 1, a1, a2, a3, a4, a5, a6, a7, b8, b9, b10, b11, b12, b13)) : wpX_share post (1, 1, 0, a1, a2, a3, a4, a5, a6, a7, a8, a9, a10, a11, a12, a13) := by
  unfold wpX_share
  exact lw_prep1 ha hx hy hv (fun b8 b9 b10 b11 b12 ok => lw_fold (by rw [hm]; exact lw_val (Or.inl rfl) ok.1 ok.2.2.2.1 ok.2.2.2.2) (fun b13 => H _ _ _ _ _ _ ok))
theorem lw_share0 {post : Int32 → St2 → Prop} (H : ∀ b10 b11 b12 b13 : Nat → Int32, post 4 (1, 0, 1, a1, a2, a3, a4, a5, a6, a7, a8, a9, b10, b11, b12, b13)) : wpX_share post (1, 0, 0, a1, a2, a3, a4, a5, a6, a7, a8, a9, a10, a11, a12, a13) := by
  unfold wpX_share
  refine lw_prep0 (fun b10 b11 b12 h0 h1 => lw_fold ?_ (fun b13 => H _ _ _ _))
  rw [h0, h1]
  exact lw_m2 _
theorem lw_all {post : Int32 → Prop} (H : post 4) : wpX_all post (1, c, r, a1, a2, a3, a4, a5, a6, a7, a8, a9, a10, a11, a12, a13) := H
theorem lw_with {post : Int32 → St2 → Prop} {v m : Int32} (ok : lw_ok v a11 a12) (hm : a4 0 = m) (H : ∀ b13 : Nat → Int32, post (lw_sh v m) (1, c, 1, a1, a2, a3, a4, a5, a6, a7, a8, a9, a10, a11, a12, b13)) : wpX_shareWith post (1, c, 1, a1, a2, a3, a4, a5, a6, a7, a8, a9, a10, a11, a12, a13) 0 := by
  unfold wpX_shareWith
  refine br_f (by decide) (br_t (by decide) (br_t rfl (lw_prepR (lw_fold ?_ H))))
  rw [hm]
  exact lw_val (Or.inr (by decide)) ok.1 ok.2.2.2.1 ok.2.2.2.2
theorem lw_matters {post : Int32 → St2 → Prop} {v : Int32} (ok : lw_ok v a11 a12) (H : post v (1, c, 1, a1, a2, a3, a4, a5, a6, a7, a8, a9, a10, a11, a12, a13)) : wpX_matters post (1, c, 1, a1, a2, a3, a4, a5, a6, a7, a8, a9, a10, a11, a12, a13) 0 := by
  unfold wpX_matters
  refine br_f (by decide) (br_t (by decide) (br_t rfl (lw_prepR ⟨3, br_f (by decide) ⟨pk_in 0 512 (by omega), pk_in 1 512 (by omega), ?_⟩⟩)))
  obtain ⟨hv, _, _, h0, h1⟩ := ok
  rcases hv with e | e
  · refine br_t (by show a12 0 = a12 1; rw [h0, h1, e]) (nm_r (e' := 1) rfl (br_f (by decide) ⟨pk_in 1 512 (by omega), pk_in 1 512 (by omega), br_t rfl (nm_r (e' := 2) rfl (br_t (by decide) ?_))⟩))
    rw [e] at H
    exact H
  · refine br_f (by show ¬ a12 0 = a12 1; rw [h0, h1, e]; decide) ?_
    rw [e] at H
    exact H
theorem lw_ones {post : Int32 → Prop} (H : post 1) : wpX_ones post () 1 := by
  refine ⟨10, ?_⟩
  refine br_f (by decide) (nm_r (e' := 1) (by decide) (nm_r (e' := 1) rfl ?_))
  refine br_f (by decide) (nm_r (e' := 1) (by decide) (nm_r (e' := 2) rfl ?_))
  refine br_f (by decide) (nm_r (e' := 1) (by decide) (nm_r (e' := 3) rfl ?_))
  refine br_f (by decide) (nm_r (e' := 1) (by decide) (nm_r (e' := 4) rfl ?_))
  refine br_f (by decide) (nm_r (e' := 1) (by decide) (nm_r (e' := 5) rfl ?_))
  refine br_f (by decide) (nm_r (e' := 1) (by decide) (nm_r (e' := 6) rfl ?_))
  refine br_f (by decide) (nm_r (e' := 1) (by decide) (nm_r (e' := 7) rfl ?_))
  refine br_f (by decide) (nm_r (e' := 1) (by decide) (nm_r (e' := 8) rfl ?_))
  refine br_f (by decide) (nm_r (e' := 1) (by decide) (nm_r (e' := 9) rfl ?_))
  exact br_t (by decide) H
/-- the answer of fewest -/
def lw_fw (v : Int32) : Int32 := if v = 0 then -4 else 1
theorem lw_fewest {post : Int32 → St2 → Prop} {v : Int32} (ok : lw_ok v a11 a12) (H : post (lw_fw v) (1, c, 1, a1, a2, a3, a4, a5, a6, a7, a8, a9, a10, a11, a12, a13)) : wpX_fewest post (1, c, 1, a1, a2, a3, a4, a5, a6, a7, a8, a9, a10, a11, a12, a13) := by
  unfold wpX_fewest
  obtain ⟨hv, h0, h1, _, _⟩ := ok
  refine lw_prepR ⟨3, br_f (by decide) ⟨pk_in 0 512 (by omega), br_t h0 (nm_r (e' := 1) rfl (br_f (by decide) ⟨pk_in 1 512 (by omega), ?_⟩))⟩⟩
  rcases hv with e | e
  · rw [e] at H
    exact br_t (h1.trans e) (nm_r (e' := 2) rfl (br_t (by decide) H))
  · rw [e] at H
    exact br_f (by show ¬ a11 1 = 0; rw [h1, e]; decide) (lw_ones (br_t (by decide) (nm_r (e' := 2) rfl (br_t (by decide) H))))
theorem lw_reasons {post : Int32 → St2 → Prop} {v : Int32} (ok : lw_ok v a11 a12) (H : post v (1, c, 1, a1, a2, a3, a4, a5, a6, a7, a8, a9, a10, a11, a12, a13)) : wpX_reasons post (1, c, 1, a1, a2, a3, a4, a5, a6, a7, a8, a9, a10, a11, a12, a13) := by
  unfold wpX_reasons
  obtain ⟨hv, _, _, h0, h1⟩ := ok
  refine lw_prepR ⟨3, br_f (by decide) ⟨pk_in 0 512 (by omega), br_t h0 (nm_r (e' := 1) rfl (br_f (by decide) ⟨pk_in 1 512 (by omega), ?_⟩))⟩⟩
  rcases hv with e | e
  · rw [e] at H
    exact br_t (h1.trans e) (nm_r (e' := 2) rfl (br_t (by decide) H))
  · rw [e] at H
    exact br_f (by show ¬ a12 1 = 0; rw [h1, e]; decide) (lw_yb1 (fun _ => br_t rfl (nm_r (e' := 1) rfl (nm_r (e' := 2) rfl (br_t (by decide) H)))) (fun g => absurd h0 g))
end
end
section
section
variable {a1 a2 a3 a4 a5 a6 a7 a8 a9 a10 a11 a12 a13 : Nat → Int32}
variable {f c r : Int32} {post : Int32 → St0 → Prop} {mc ms kc ks : Nat} {x2 A B C x y m v z0 z1 : Int32}
theorem lw_ask {post : St2 → Prop} (H : post (f, 0, 0, a1, a2, a3, a4, a5, a6, a7, a8, a9, a10, a11, a12, a13)) : wpX_ask post (f, c, r, a1, a2, a3, a4, a5, a6, a7, a8, a9, a10, a11, a12, a13) := H
theorem lw_307 (hp : post 1 ()) (hz : z1 = z0) : wL_lawOf_307 post mc ms z0 z1 kc ks 1 c r a1 a2 a3 a4 a5 a6 a7 a8 a9 a10 a11 a12 a13 := by
  unfold wL_lawOf_307
  exact br_t hz (lw_ask (lw_share0 (fun b10 b11 b12 b13 => br_t rfl hp)))
theorem lw_289 (hp : post 1 ()) (ok : lw_ok v a11 a12) (hz : z1 = z0) : wL_lawOf_289 post mc ms v z0 z1 kc ks 1 c 1 a1 a2 a3 a4 a5 a6 a7 a8 a9 a10 a11 a12 a13 := by
  unfold wL_lawOf_289
  refine br_t hz (lw_reasons ok ?_)
  rcases ok.1 with e | e
  · exact br_t e (lw_307 hp e)
  · exact br_f (by rw [e]; decide) (lw_307 hp e)
theorem lw_257 (hp : post 1 ()) (ok : lw_ok v a11 a12) (hz : z1 = z0) : wL_lawOf_257 post mc ms v z0 z1 kc ks 1 c 1 a1 a2 a3 a4 a5 a6 a7 a8 a9 a10 a11 a12 a13 := by
  unfold wL_lawOf_257
  refine br_t hz (lw_matters ok (br_t rfl (lw_fewest ok ?_)))
  rcases ok.1 with e | e
  · exact br_t e (lw_289 hp ok (if_pos e))
  · have n : ¬ v = 0 := by rw [e]; decide
    exact br_f n (lw_289 hp ok (if_neg n))
theorem lw_226 (hp : post 1 ()) (ok : lw_ok v a11 a12) (hm : a4 0 = m) (hz : z1 = z0) : wL_lawOf_226 post mc ms m v z0 z1 kc ks 1 c 1 a1 a2 a3 a4 a5 a6 a7 a8 a9 a10 a11 a12 a13 := by
  unfold wL_lawOf_226
  refine br_t hz (lw_all (br_t rfl (lw_with ok hm (fun b13 => ?_))))
  rcases ok.1 with e | e
  · exact br_t e (lw_257 hp ok (if_pos e))
  · have n : ¬ v = 0 := by rw [e]; decide
    exact br_f n (lw_257 hp ok (if_neg n))
/-- the object behind fact and condition -/
def lw_st (x2 A B C x y m : Int32) (a1 a2 a3 a4 a5 a6 a7 : Nat → Int32) : Prop := a1 0 = A ∧ a2 0 = B ∧ a3 0 = C ∧ a4 0 = m ∧ a5 0 = x2 &&& 1 ∧ a6 0 = x ∧ a7 0 = y ∧ ¬ A = -1 ∧ lw_pl x ∧ lw_pl y
theorem lw_208 (hp : post 1 ()) (st : lw_st x2 A B C x y m a1 a2 a3 a4 a5 a6 a7) (hv : (lw_F C (x2 &&& 1) x y A B ∧ v = 1) ∨ (¬ lw_F C (x2 &&& 1) x y A B ∧ v = 0)) :
    wL_lawOf_208 post mc ms m v kc ks 1 1 0 a1 a2 a3 a4 a5 a6 a7 a8 a9 a10 a11 a12 a13 := by
  obtain ⟨h1, h2, h3, h4, h5, h6, h7, ha, hx, hy⟩ := st
  unfold wL_lawOf_208
  rw [← h1, ← h2, ← h3, ← h5, ← h6, ← h7] at hv
  rw [← h1] at ha
  rw [← h6] at hx
  rw [← h7] at hy
  refine lw_share1 ha hx hy h4 hv (fun b8 b9 b10 b11 b12 b13 ok => ?_)
  rcases ok.1 with e | e
  · exact br_t e (lw_226 hp ok h4 (if_pos e))
  · have n : ¬ v = 0 := by rw [e]; decide
    exact br_f n (lw_226 hp ok h4 (if_neg n))
theorem lw_207 (hp : post 1 ()) (st : lw_st x2 A B C x y m a1 a2 a3 a4 a5 a6 a7) (hv : ¬ lw_F C (x2 &&& 1) x y A B) : wL_lawOf_207 post mc ms m kc ks 1 1 0 a1 a2 a3 a4 a5 a6 a7 a8 a9 a10 a11 a12 a13 := by
  unfold wL_lawOf_207
  exact lw_208 hp st (Or.inr ⟨hv, rfl⟩)
theorem lw_203 (hp : post 1 ()) (st : lw_st x2 A B C x y m a1 a2 a3 a4 a5 a6 a7) (hv : lw_F C (x2 &&& 1) x y A B) : wL_lawOf_203 post mc ms m kc ks 1 1 0 a1 a2 a3 a4 a5 a6 a7 a8 a9 a10 a11 a12 a13 := by
  unfold wL_lawOf_203
  exact lw_208 hp st (Or.inl ⟨hv, rfl⟩)
theorem lw_169 (hp : post 1 ()) (st : lw_st x2 A B C x y m a1 a2 a3 a4 a5 a6 a7)
    (hz0 : ((x < 8 ∨ x - 8 = A) ∧ z0 = 1) ∨ (¬ (x < 8 ∨ x - 8 = A) ∧ z0 = 0)) (hz1 : ((y < 8 ∨ y - 8 = B) ∧ z1 = 1) ∨ (¬ (y < 8 ∨ y - 8 = B) ∧ z1 = 0)) :
    wL_lawOf_169 post mc ms x2 A B C x y m z0 z1 kc ks 1 1 0 a1 a2 a3 a4 a5 a6 a7 a8 a9 a10 a11 a12 a13 := by
  unfold wL_lawOf_169
  refine br_c (fun hl => ?_) (fun hl => lw_207 hp st (fun F => hl F.1.symm))
  rcases hz0 with ⟨p, q⟩ | ⟨p, q⟩
  · refine br_f (by rw [q]; decide) ?_
    rcases hz1 with ⟨p1, q1⟩ | ⟨p1, q1⟩
    · refine br_f (by rw [q1]; decide) (br_c (fun e => br_c (fun e2 => lw_203 hp st ⟨hl.symm, p, p1, Or.inr e2⟩) (fun e2 => lw_207 hp st (fun F => F.2.2.2.elim (fun t => t e) e2))) (fun e => lw_203 hp st ⟨hl.symm, p, p1, Or.inl e⟩))
    · exact br_t q1 (lw_207 hp st (fun F => p1 F.2.2.1))
  · exact br_t q (lw_207 hp st (fun F => p F.2.1))
/-- a place as the law makes it -/
def lw_gp (x : Int32) : Prop := ∃ j : Nat, (j < 3 ∨ (8 ≤ j ∧ j < 14)) ∧ x = nI j
theorem lw_gp_pl (h : lw_gp x) : lw_pl x := by
  obtain ⟨j, hj, rfl⟩ := h
  rcases hj with h | h
  · exact Or.inl ⟨j, h, rfl⟩
  · exact Or.inr (nI_nlt (b := 8) h.1 (by omega))
theorem lw_48 (h : lw_gp x) : x < 4 ↔ x < 8 := by
  obtain ⟨j, hj, rfl⟩ := h
  show nI j < nI 4 ↔ nI j < nI 8
  rw [nI_ltI (by omega) (by omega), nI_ltI (by omega) (by omega)]
  omega
theorem lw_146 (hp : post 1 ()) (st : lw_st x2 A B C x y m a1 a2 a3 a4 a5 a6 a7) (hy : lw_gp y)
    (hz0 : ((x < 8 ∨ x - 8 = A) ∧ z0 = 1) ∨ (¬ (x < 8 ∨ x - 8 = A) ∧ z0 = 0)) : wL_lawOf_146 post mc ms x2 A B C x y m z0 kc ks 1 1 0 a1 a2 a3 a4 a5 a6 a7 a8 a9 a10 a11 a12 a13 := by
  unfold wL_lawOf_146
  refine br_c (fun h => ?_) (fun h => br_c (fun h2 => ?_) (fun h2 => ?_))
  · unfold wL_lawOf_164
    exact lw_169 hp st hz0 (Or.inl ⟨Or.inl ((lw_48 hy).mp h), rfl⟩)
  · unfold wL_lawOf_164
    exact lw_169 hp st hz0 (Or.inl ⟨Or.inr h2, rfl⟩)
  · exact lw_169 hp st hz0 (Or.inr ⟨fun t => t.elim (fun t => h ((lw_48 hy).mpr t)) h2, rfl⟩)
theorem lw_bad {post : Int32 → Prop} (hx : lw_gp x) (H : post 0) : wpX_badPlace post () x := by
  obtain ⟨j, hj, rfl⟩ := hx
  exact pk_lt j 0 (fun z => absurd z (by omega)) (fun _ => pk_le j 2 (fun _ => pk_lt j 14 (fun _ => H) (fun z => absurd z (by omega))) (fun _ => pk_lt j 8 (fun z => absurd z (by omega)) (fun _ => pk_lt j 14 (fun _ => H) (fun z => absurd z (by omega)))))
theorem lw_cond {post : Int32 → St2 → Prop} (hx : lw_gp x) (hy : lw_gp y) (H : post 1 (f, 1, 0, a1, a2, a3, a4, upd a5 0 (x2 &&& 1), upd a6 0 x, upd a7 0 y, a8, a9, a10, a11, a12, a13)) : wpX_condition post (f, 0, r, a1, a2, a3, a4, a5, a6, a7, a8, a9, a10, a11, a12, a13) x2 x y := by
  unfold wpX_condition
  exact lw_bad hx (br_t rfl (lw_bad hy (br_t rfl (br_t (by decide) ⟨pk_in 0 4 (by omega), nm_e ⟨pk_in 0 4 (by omega), nm_e ⟨pk_in 0 4 (by omega), nm_e (nm_r (e' := 1) rfl H)⟩⟩⟩))))
theorem lw_fact {post : Int32 → St2 → Prop} {p0 : Int32} {a b k : Nat} (ha : a < 6) (hb : b < 6) (hk : 1 ≤ k ∧ k ≤ 4) (h1 : p0 &&& 7 = nI a) (h2 : (p0 >>> ((3 : Int32) &&& 31)) &&& 7 = nI b) (h3 : (p0 >>> ((6 : Int32) &&& 31)) &&& 1 = C)
    (H : post 0 (1, c, 0, upd a1 0 (nI a), upd a2 0 (nI b), upd a3 0 C, upd a4 0 (nI k), a5, a6, a7, a8, a9, a10, a11, a12, a13)) : wpX_fact post (0, c, r, a1, a2, a3, a4, a5, a6, a7, a8, a9, a10, a11, a12, a13) p0 (nI k) := by
  unfold wpX_fact
  refine nm_r h1 (nm_r h2 (pk_le 6 a (fun z => absurd z (by omega)) (fun _ => pk_lt b 6 (fun _ => pk_lt k 1 (fun z => absurd z (by omega)) (fun _ => pk_le k 4 (fun _ => br_t (by decide) ?_) (fun z => absurd z (by omega)))) (fun z => absurd z (by omega)))))
  exact ⟨pk_in 0 9 (by omega), nm_e ⟨pk_in 0 9 (by omega), nm_e ⟨pk_in 0 9 (by omega), nm_r (by rw [h3]; rfl) ⟨pk_in 0 9 (by omega), nm_e (nm_r (e' := 1) rfl H)⟩⟩⟩⟩
theorem lw_edge : ∀ a, a < 6 → ∀ b, b < 6 → ∀ d, d < 2 → (((nI a ||| (nI b <<< ((3 : Int32) &&& 31))) ||| (nI d <<< ((6 : Int32) &&& 31))) &&& 7 = nI a ∧ (((nI a ||| (nI b <<< ((3 : Int32) &&& 31))) ||| (nI d <<< ((6 : Int32) &&& 31))) >>> ((3 : Int32) &&& 31)) &&& 7 = nI b ∧ (((nI a ||| (nI b <<< ((3 : Int32) &&& 31))) ||| (nI d <<< ((6 : Int32) &&& 31))) >>> ((6 : Int32) &&& 31)) &&& 1 = nI d ∧ ¬ nI a = -1) := by decide +kernel
theorem lw_79 {x1 : Int32} {a b d : Nat} (hp : post 1 ()) (ha : a < 6) (hb : b < 6) (hd : d < 2) (hx : lw_gp x) (hy : lw_gp y) : wL_lawOf_79 post mc ms x1 x2 (nI a) (nI b) (nI d) x y kc ks 0 0 0 a1 a2 a3 a4 a5 a6 a7 a8 a9 a10 a11 a12 a13 := by
  unfold wL_lawOf_79
  obtain ⟨j, hj, e⟩ := pk_andE x1 (m := 3) 2 (by decide)
  obtain ⟨e1, e2, e3, e4⟩ := lw_edge a ha b hb d hd
  have em : 1 + (x1 &&& 3) = nI (1 + j) := by
    rw [e]
    exact nI_add 1 j
  refine nm_r em (lw_fact ha hb ⟨by omega, by omega⟩ e1 e2 e3 (br_t rfl (lw_cond hx hy (br_t rfl ?_))))
  have st : lw_st x2 (nI a) (nI b) (nI d) x y (nI (1 + j)) (upd a1 0 (nI a)) (upd a2 0 (nI b)) (upd a3 0 (nI d)) (upd a4 0 (nI (1 + j))) (upd a5 0 (x2 &&& 1)) (upd a6 0 x) (upd a7 0 y) :=
    ⟨pk_us, pk_us, pk_us, pk_us, pk_us, pk_us, pk_us, e4, lw_gp_pl hx, lw_gp_pl hy⟩
  refine br_c (fun h => ?_) (fun h => br_c (fun h2 => ?_) (fun h2 => ?_))
  · unfold wL_lawOf_141
    exact lw_146 hp st hy (Or.inl ⟨Or.inl ((lw_48 hx).mp h), rfl⟩)
  · unfold wL_lawOf_141
    exact lw_146 hp st hy (Or.inl ⟨Or.inr h2, rfl⟩)
  · exact lw_146 hp st hy (Or.inr ⟨fun t => t.elim (fun t => h ((lw_48 hx).mpr t)) h2, rfl⟩)
theorem lw_70 {x1 : Int32} {a b d q : Nat} (hp : post 1 ()) (ha : a < 6) (hb : b < 6) (hd : d < 2) (hx : lw_gp x) (hq : q < 9) : wL_lawOf_70 post mc ms x1 x2 (nI a) (nI b) (nI d) x (nI q) kc ks 0 0 0 a1 a2 a3 a4 a5 a6 a7 a8 a9 a10 a11 a12 a13 := by
  unfold wL_lawOf_70
  exact pk_le q 2 (fun h => lw_79 hp ha hb hd hx ⟨q, Or.inl (by omega), rfl⟩) (fun h => nm_r (nI_add q 5) (lw_79 hp ha hb hd hx ⟨q + 5, Or.inr ⟨by omega, by omega⟩, rfl⟩))
end
theorem lw_rem (x : Int32) {w : Int32} {d : Nat} (hw : w = nI d) (h0 : 0 < d) (hd : d < 2 ^ 31) : ∃ j : Nat, j < d ∧ (x &&& 255) - (x &&& 255) / w * w = nI j := by
  obtain ⟨j, hj, e⟩ := pk_andE x (m := 255) 8 (by decide)
  rw [e, hw]
  exact ⟨j % d, Nat.mod_lt j h0, pk_rem (by omega) h0 hd⟩
theorem lw_lawOf {post : Int32 → St0 → Prop} (hp : post 1 ()) (p0 p1 p2 p3 p4 : Int32) : wpL_lawOf post 14 1613 () p0 p1 p2 p3 p4 := by
  unfold wpL_lawOf
  refine ⟨by omega, by omega, 13, 1597, by omega, by omega, ?_⟩
  obtain ⟨a, ha, ea⟩ := lw_rem p0 (w := 6) (d := 6) rfl (by omega) (by omega)
  obtain ⟨b, hb, eb⟩ := lw_rem (p0 >>> ((8 : Int32) &&& 31)) (w := 6) (d := 6) rfl (by omega) (by omega)
  obtain ⟨d, hd, ed⟩ := pk_andE (p0 >>> ((16 : Int32) &&& 31)) (m := 1) 1 (by decide)
  obtain ⟨q, hq, eq⟩ := lw_rem p3 (w := 9) (d := 9) rfl (by omega) (by omega)
  obtain ⟨s, hs, es⟩ := lw_rem p4 (w := 9) (d := 9) rfl (by omega) (by omega)
  refine ⟨by omega, by omega, by omega, by omega, by omega, by omega, by omega, by omega, by omega, by omega, by omega, by omega, by omega, by omega, by omega, by omega, by omega, by omega, by omega, by omega, by omega, by omega, by omega, by omega, by omega, by omega, ?_⟩
  refine ⟨by decide, nm_r ea ⟨by decide, nm_r eb (nm_r ed ⟨by decide, nm_r eq ⟨by decide, nm_r es ?_⟩⟩)⟩⟩
  exact pk_le q 2 (fun h => lw_70 hp ha hb hd ⟨q, Or.inl (by omega), rfl⟩ hs) (fun h => nm_r (nI_add q 5) (lw_70 hp ha hb hd ⟨q + 5, Or.inr ⟨by omega, by omega⟩, rfl⟩ hs))
theorem lw_cell {post : Int32 → Prop} {L : Nat} {xs : Nat → Int32} (k : Nat) (hk : k < 5) (hL : L ≤ 5) {w : Int32} (hw : w = nI k) (H : ∀ v, post v) : wpL_cellAt post L xs () w :=
  pk_le L k (fun _ => H _) (fun z => ⟨pk_in k L z hw, H _⟩) rfl hw
theorem i_vc (xs : Nat → Int32) (L : Nat) (hL : L ≤ 5) : wpL_law (fun r => r = 1) L xs := by
  unfold wpL_law
  exact lw_cell 0 (by omega) hL rfl (fun r1 => lw_cell 1 (by omega) hL rfl (fun r2 => lw_cell 2 (by omega) hL rfl (fun r3 => lw_cell 3 (by omega) hL rfl (fun r4 => lw_cell 4 (by omega) hL rfl (fun r5 => ⟨14, 1613, by omega, by omega, lw_lawOf rfl r1 r2 r3 r4 r5⟩)))))
end
