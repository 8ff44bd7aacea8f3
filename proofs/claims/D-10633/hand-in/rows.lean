section
/-- filling an array place by place -/
theorem ib_fill {f s : Nat → Int32} {i k : Nat} {x : Int32} (hk : k = i) (h : ∀ j, j < i → s j = f j) (hx : x = f i) : ∀ j, j < i + 1 → upd s k x j = f j := by
  intro j hj
  rw [hk]
  by_cases e : j = i
  · rw [e, pk_us, hx]
  · rw [pk_un e]
    exact h j (by omega)
theorem ib_f0 {f s : Nat → Int32} : ∀ j, j < 0 → s j = f j := fun j hj => absurd hj (by omega)
theorem ib_v3 {x : Int32} (h : ¬ x < 0) (h3 : x < 3) : ∃ j : Nat, j < 3 ∧ x = nI j := by
  obtain ⟨j, hj, rfl⟩ := nI_of h
  have h3' : nI j < nI 3 := h3
  exact ⟨j, (nI_ltI hj (by decide)).mp h3', rfl⟩
theorem ib_in3 {x : Int32} (h : ¬ x < 0) (h3 : x < 3) : vp_in x 3 := by
  obtain ⟨j, hj, rfl⟩ := ib_v3 h h3
  exact vp_in_nI hj (by omega)
theorem ib_z3 (i : Nat) : (0 : Int32) * 3 + nI i = nI i := by
  rw [show (0 : Int32) * 3 = 0 by decide, Int32.zero_add]
/-- the factors' test, as the law and as the class asks it -/
theorem ib_g16 : ∀ j, j < 16 → ((nI j - 5 ≤ 5) ↔ ¬ 10 < nI j) := by decide +kernel
theorem ib_gg (y : Int32) : ((y &&& 15) - 5 ≤ 5) ↔ ¬ 10 < (y &&& 15) := by
  obtain ⟨j, hj, e⟩ := pk_andE y (m := 15) 4 (by decide)
  rw [e]
  exact ib_g16 j hj
def ib_good (f : Int32) : Prop := ¬ 10 < (f &&& 15) ∧ ¬ 10 < ((f >>> ((4 : Int32) &&& 31)) &&& 15) ∧ ¬ 10 < ((f >>> ((8 : Int32) &&& 31)) &&& 15)
theorem ib_init {post : St2 → Prop} {mc ms : Nat} (h1 : 11 ≤ mc) (h2 : 248 ≤ ms) (H : ∀ A B a3 a4 a5 a6 a7 a8 a9 a10 a11 : Nat → Int32, (∀ j, j < 3 → A j = -8) → (∀ j, j < 3 → B j = 8) → post (0, 0, 0, A, B, a3, a4, a5, a6, a7, a8, a9, a10, a11)) : wpX_init post mc ms (0, 0, 0) := by
  unfold wpX_init
  dsimp only
  refine ⟨by omega, by omega, by omega, by omega, by omega, by omega, by omega, by omega, by omega, by omega, by omega, by omega, by omega, by omega, by omega, by omega, by omega, by omega, by omega, by omega, by omega, by omega, ?_⟩
  exact pk_loop (fun n i (s : (Nat → Int32) × (Nat → Int32)) => wX_init_88 post mc ms 11 248 0 0 0 n (nI i) s.1 s.2 (fun _ => 0) (fun _ => 0) (fun _ => 0) (fun _ => 0) (fun _ => 0) (fun _ => 0) (fun _ => 0) (fun _ => 0) (fun _ => 0)) (fun i s => (∀ j, j < i → s.1 j = (fun _ => -8) j) ∧ (∀ j, j < i → s.2 j = (fun _ => 8) j)) 3 0 (fun _ => 0, fun _ => 0) (by omega) ⟨ib_f0, ib_f0⟩
    (fun n s h => pk_le 3 3 (fun _ => H s.1 s.2 _ _ _ _ _ _ _ _ _ h.1 h.2) (fun z => absurd z (by omega)))
    (fun n i s hi h hw => pk_le 3 i (fun z => absurd z (by omega)) (fun _ => ⟨pk_in i 3 hi, nm_e ⟨pk_in i 3 hi, nm_e (nm_r (nI_1 i) (hw (_, _) ⟨ib_fill (f := fun _ => -8) (nI_clamp (by omega)) h.1 rfl, ib_fill (f := fun _ => 8) (nI_clamp (by omega)) h.2 rfl⟩))⟩⟩))
theorem ib_range {post : Int32 → St2 → Prop} {l ac dp : Int32} {a1 a2 a3 a4 a5 a6 a7 a8 a9 a10 a11 : Nat → Int32} {v lo hi : Int32}
    (h1 : (v < 0 ∨ ¬ v < 3) → post (-1) (l, ac, dp, a1, a2, a3, a4, a5, a6, a7, a8, a9, a10, a11))
    (h2 : ¬ v < 0 → v < 3 → (lo < (-8) ∨ hi < lo ∨ ¬ hi ≤ 8) → post (-3) (l, ac, dp, a1, a2, a3, a4, a5, a6, a7, a8, a9, a10, a11))
    (h3 : ¬ v < 0 → v < 3 → ¬ lo < (-8) → ¬ hi < lo → hi ≤ 8 → post ((hi - lo) + 1) (l, ac, dp, upd a1 v.toNatClampNeg lo, upd a2 v.toNatClampNeg hi, a3, a4, a5, a6, a7, a8, a9, a10, a11)) :
    wpX_range post (l, ac, dp, a1, a2, a3, a4, a5, a6, a7, a8, a9, a10, a11) v lo hi := by
  unfold wpX_range
  dsimp only
  exact br_c (fun g => br_f (by decide) (h1 (.inl g)))
    (fun g => br_c (fun g' => br_t rfl (br_c (fun k => h2 g g' (.inl k)) (fun k => br_c (fun k' => h2 g g' (.inr (.inl k'))) (fun k' => br_c (fun k'' => ⟨ib_in3 g g', nm_e ⟨ib_in3 g g', nm_e (h3 g g' k k' k'')⟩⟩) (fun k'' => h2 g g' (.inr (.inr k'')))))))
      (fun g' => br_f (by decide) (h1 (.inr g'))))
theorem ib_bad {post : Int32 → Prop} {f : Int32} (h1 : ib_good f → post 0) (h2 : ¬ ib_good f → post 1) : wpX_badFactors post () f := by
  have E0 : ((f >>> (((4 : Int32) * 0) &&& 31)) &&& 15) - 5 ≤ 5 ↔ ¬ 10 < (f &&& 15) := by
    rw [show (4 : Int32) * 0 = 0 by decide, sb_shr0]
    exact ib_gg f
  have E1 : ((f >>> (((4 : Int32) * 1) &&& 31)) &&& 15) - 5 ≤ 5 ↔ ¬ 10 < ((f >>> ((4 : Int32) &&& 31)) &&& 15) := by
    rw [show (4 : Int32) * 1 = 4 by decide]
    exact ib_gg _
  have E2 : ((f >>> (((4 : Int32) * 2) &&& 31)) &&& 15) - 5 ≤ 5 ↔ ¬ 10 < ((f >>> ((8 : Int32) &&& 31)) &&& 15) := by
    rw [show (4 : Int32) * 2 = 8 by decide]
    exact ib_gg _
  have N0 : ¬ ((f >>> (((4 : Int32) * 0) &&& 31)) &&& 15) - 5 ≤ 5 → ¬ ib_good f := fun z g => z (E0.mpr g.1)
  have N1 : ¬ ((f >>> (((4 : Int32) * 1) &&& 31)) &&& 15) - 5 ≤ 5 → ¬ ib_good f := fun z g => z (E1.mpr g.2.1)
  have N2 : ¬ ((f >>> (((4 : Int32) * 2) &&& 31)) &&& 15) - 5 ≤ 5 → ¬ ib_good f := fun z g => z (E2.mpr g.2.2)
  refine ⟨4, ?_⟩
  refine br_f (by decide) (br_c (fun g0 => nm_r (e' := (1 : Int32)) (by decide) ?_) (fun g0 => h2 (N0 g0)))
  refine br_f (by decide) (br_c (fun g1 => nm_r (e' := (2 : Int32)) (by decide) ?_) (fun g1 => h2 (N1 g1)))
  refine br_f (by decide) (br_c (fun g2 => nm_r (e' := (3 : Int32)) (by decide) ?_) (fun g2 => h2 (N2 g2)))
  exact br_t (by decide) (h1 ⟨E0.mp g0, E1.mp g1, E2.mp g2⟩)
theorem ib_setLimit {post : St2 → Prop} {l ac dp : Int32} {a1 a2 a3 a4 a5 a6 a7 a8 a9 a10 a11 : Nat → Int32} {f d : Int32} (H : ∀ b3 b4 : Nat → Int32, post (l, ac, dp, a1, a2, b3, b4, a5, a6, a7, a8, a9, a10, a11)) : wpX_setLimit post (l, ac, dp, a1, a2, a3, a4, a5, a6, a7, a8, a9, a10, a11) 0 f d :=
  pk_loop (fun n i (s : Nat → Int32) => wX_setLimit_3 post 0 f d l ac dp n (nI i) a1 a2 s a4 a5 a6 a7 a8 a9 a10 a11) (fun _ _ => True) 3 0 a3 (by omega) trivial
    (fun n s _ => pk_le 3 3 (fun _ => ⟨pk_in 0 8 (by omega), nm_e (H _ _)⟩) (fun z => absurd z (by omega)))
    (fun n i s hi _ hw => pk_le 3 i (fun z => absurd z (by omega)) (fun _ => And.intro (pk_in i 24 (by omega) (ib_z3 i)) (nm_e (nm_r (nI_1 i) (hw _ trivial)))))
theorem ib_limit {post : Int32 → St2 → Prop} {ac dp : Int32} {a1 a2 a3 a4 a5 a6 a7 a8 a9 a10 a11 : Nat → Int32} {f d : Int32}
    (h1 : ¬ ib_good f → post (-2) (0, ac, dp, a1, a2, a3, a4, a5, a6, a7, a8, a9, a10, a11))
    (h2 : ib_good f → (d < (-100) ∨ ¬ d ≤ 100) → post (-3) (0, ac, dp, a1, a2, a3, a4, a5, a6, a7, a8, a9, a10, a11))
    (h3 : ib_good f → ¬ d < (-100) → d ≤ 100 → ∀ b3 b4 : Nat → Int32, post 0 (1, ac, dp, a1, a2, b3, b4, upd a5 0 1, a6, a7, a8, a9, a10, a11)) :
    wpX_limit post (0, ac, dp, a1, a2, a3, a4, a5, a6, a7, a8, a9, a10, a11) f d := by
  unfold wpX_limit
  dsimp only
  refine ib_bad (fun hg => br_t rfl (br_c (fun k => h2 hg (.inl k)) (fun k => br_c (fun k' => br_t (by decide) (ib_setLimit (fun b3 b4 => ?_))) (fun k' => h2 hg (.inr k'))))) (fun hg => br_f (by decide) (h1 hg))
  refine And.intro (pk_in 0 6 (by omega)) (nm_r (e' := upd a5 0 1) (by rw [show (0 : Int32).toNatClampNeg = 0 by decide]) (nm_r (e' := (1 : Int32)) (show (0 : Int32) + 1 = 1 by decide) ?_))
  rw [show (1 : Int32) - 1 = 0 by decide]
  exact h3 hg k k' b3 b4
theorem ib_noL {post : Int32 → Prop} {l ac dp : Int32} {a1 a2 a3 a4 a5 a6 a7 a8 a9 a10 a11 : Nat → Int32} {i : Int32} (h : i < 0 ∨ ¬ i < l) (hp : post 1) : wpX_noLimit post (l, ac, dp, a1, a2, a3, a4, a5, a6, a7, a8, a9, a10, a11) i := by
  rcases h with h | h
  · exact br_t h hp
  · exact br_c (fun _ => hp) (fun _ => br_f h hp)
theorem ib_hasL {post : Int32 → Prop} {l ac dp : Int32} {a1 a2 a3 a4 a5 a6 a7 a8 a9 a10 a11 : Nat → Int32} {i : Int32} (h : ¬ i < 0) (h' : i < l) (hp : post 0) : wpX_noLimit post (l, ac, dp, a1, a2, a3, a4, a5, a6, a7, a8, a9, a10, a11) i :=
  br_f h (br_t h' hp)
theorem ib_turn1 {post : Int32 → St2 → Prop} {ac dp : Int32} {a1 a2 a3 a4 a5 a6 a7 a8 a9 a10 a11 : Nat → Int32} (h5 : a5 0 = 1) (H : post 1 (1, ac, dp, a1, a2, a3, a4, upd a5 0 0, a6, a7, a8, a9, a10, a11)) : wpX_turn post (1, ac, dp, a1, a2, a3, a4, a5, a6, a7, a8, a9, a10, a11) 0 0 := by
  have c0 : (0 : Int32).toNatClampNeg = 0 := by decide
  have n0 : vp_nar .boolean 0 = 0 := by decide
  unfold wpX_turn
  dsimp only
  refine ib_hasL (by decide) (by decide) (br_t rfl ⟨pk_in 0 6 (by omega), br_f (by rw [c0, h5]; decide) ?_⟩)
  unfold wX_turn_25
  exact ⟨pk_in 0 6 (by omega), nm_r (e' := upd a5 0 0) (by rw [c0, n0]) H⟩
theorem ib_turn0 {post : Int32 → St2 → Prop} {l ac dp : Int32} {a1 a2 a3 a4 a5 a6 a7 a8 a9 a10 a11 : Nat → Int32} {i b : Int32} (h : i < 0 ∨ ¬ i < l) (H : post (-5) (l, ac, dp, a1, a2, a3, a4, a5, a6, a7, a8, a9, a10, a11)) : wpX_turn post (l, ac, dp, a1, a2, a3, a4, a5, a6, a7, a8, a9, a10, a11) i b := by
  unfold wpX_turn
  dsimp only
  exact ib_noL h (br_f (by decide) H)
theorem ib_idle {post : Int32 → St2 → Prop} {l ac dp : Int32} {a1 a2 a3 a4 a5 a6 a7 a8 a9 a10 a11 : Nat → Int32} {i : Int32} (h : i < 0 ∨ ¬ i < l) (H : post 0 (l, ac, dp, a1, a2, a3, a4, a5, a6, a7, a8, a9, a10, a11)) : wpX_idle post (l, ac, dp, a1, a2, a3, a4, a5, a6, a7, a8, a9, a10, a11) i := by
  unfold wpX_idle
  dsimp only
  exact ib_noL h (br_f (by decide) H)
theorem ib_relax {post : Int32 → St2 → Prop} {l ac dp : Int32} {a1 a2 a3 a4 a5 a6 a7 a8 a9 a10 a11 : Nat → Int32} {i d : Int32} (h : i < 0 ∨ ¬ i < l) (H : post (-5) (l, ac, dp, a1, a2, a3, a4, a5, a6, a7, a8, a9, a10, a11)) : wpX_relax post (l, ac, dp, a1, a2, a3, a4, a5, a6, a7, a8, a9, a10, a11) i d := by
  unfold wpX_relax
  dsimp only
  exact ib_noL h (br_f (by decide) H)
end
section
theorem ib_limitsOn {post : Int32 → Prop} {ac dp : Int32} {a1 a2 a3 a4 a5 a6 a7 a8 a9 a10 a11 : Nat → Int32} (h5 : a5 0 = 0) (H : post 0) : wpX_limitsOn post (1, ac, dp, a1, a2, a3, a4, a5, a6, a7, a8, a9, a10, a11) := by
  have c0 : (0 : Int32).toNatClampNeg = 0 := by decide
  unfold wpX_limitsOn
  dsimp only
  refine ⟨2, ?_⟩
  refine br_f (by decide) ⟨pk_in 0 6 (by omega), br_t (by rw [c0]; exact h5) (nm_r (e' := (1 : Int32)) (by decide) ?_)⟩
  exact br_t (by decide) H
theorem ib_push39 {post : St2 → Prop} {J : Int32 → (Nat → Int32) → (Nat → Int32) → (Nat → Int32) → (Nat → Int32) → (Nat → Int32) → (Nat → Int32) → (Nat → Int32) → (Nat → Int32) → (Nat → Int32) → (Nat → Int32) → (Nat → Int32) → Prop} {l ac : Int32} {a1 a2 a3 a4 a5 a6 a7 a8 a9 a10 a11 : Nat → Int32} {p q z0 z1 : Int32} {i : Nat} (hi : i < 3) (hq : q = a10 0) (e1 : z1 = nI i)
    (H : J (nI (i + 1)) a1 a2 a3 a4 a5 a6 (upd a7 i z0) (upd a8 i (a10 i)) a9 a10 a11) :
    wX_push_39 post J 0 p q (nI i) z0 z1 l ac 0 a1 a2 a3 a4 a5 a6 a7 a8 a9 a10 a11 := by
  have ci : (nI i).toNatClampNeg = i := nI_clamp (by omega)
  unfold wX_push_39
  rw [e1, ib_z3, ci]
  refine ⟨pk_in i 96 (by omega), nm_e (pk_eq i 0 (fun e => ⟨pk_in i 96 (by omega), nm_e (nm_r (nI_1 i) ?_)⟩) (fun e => ⟨pk_in i 3 hi, pk_in i 96 (by omega), nm_e (nm_r (nI_1 i) H)⟩))⟩
  rw [hq]
  subst e
  exact H
theorem ib_push {post : St2 → Prop} {l ac : Int32} {a1 a2 a3 a4 a5 a6 a7 a8 a9 a10 a11 : Nat → Int32} {p q : Int32} (hp : p = a9 0) (hq : q = a10 0)
    (H : ∀ b7 b8 : Nat → Int32, (∀ j, j < 3 → b7 j = a9 j) → (∀ j, j < 3 → b8 j = a10 j) → post (l, ac, 1, a1, a2, a3, a4, a5, a6, b7, b8, a9, a10, a11)) :
    wpX_push post (l, ac, 0, a1, a2, a3, a4, a5, a6, a7, a8, a9, a10, a11) 0 p q :=
  pk_loop (fun n i (s : (Nat → Int32) × (Nat → Int32)) => wX_push_3 post 0 p q l ac 0 n (nI i) a1 a2 a3 a4 a5 a6 s.1 s.2 a9 a10 a11) (fun i s => (∀ j, j < i → s.1 j = a9 j) ∧ (∀ j, j < i → s.2 j = a10 j)) 3 0 (a7, a8) (by omega) ⟨ib_f0, ib_f0⟩
    (fun n s h => pk_le 3 3 (fun _ => nm_r (e' := (1 : Int32)) (by decide) (H s.1 s.2 h.1 h.2)) (fun z => absurd z (by omega)))
    (fun n i s hi h hw => pk_le 3 i (fun z => absurd z (by omega)) (fun _ =>
      pk_eq i 0 (fun e => ib_push39 hi hq (ib_z3 i) (hw (_, _) ⟨ib_fill rfl h.1 (by rw [hp, e]), ib_fill rfl h.2 rfl⟩))
        (fun e => ⟨pk_in i 3 hi, ib_push39 hi hq (ib_z3 i) (hw (_, _) ⟨ib_fill rfl h.1 (by rw [nI_clamp (by omega)]), ib_fill rfl h.2 rfl⟩)⟩)))
theorem ib_begin {post : St2 → Prop} {l ac dp : Int32} {a1 a2 a3 a4 a5 a6 a7 a8 a9 a10 a11 : Nat → Int32} {t : Int32}
    (H : ∀ b7 b8 b9 b10 : Nat → Int32, (∀ j, j < 3 → b7 j = a1 j) → (∀ j, j < 3 → b8 j = a2 j) → post (l, t, 1, a1, a2, a3, a4, a5, a6, b7, b8, b9, b10, a11)) :
    wpX_begin post (l, ac, dp, a1, a2, a3, a4, a5, a6, a7, a8, a9, a10, a11) t :=
  pk_loop (fun n i (s : (Nat → Int32) × (Nat → Int32)) => wX_begin_12 post l t 0 n (nI i) a1 a2 a3 a4 a5 a6 a7 a8 s.1 s.2 a11) (fun i s => (∀ j, j < i → s.1 j = a1 j) ∧ (∀ j, j < i → s.2 j = a2 j)) 3 0 (a9, a10) (by omega) ⟨ib_f0, ib_f0⟩
    (fun n s h => pk_le 3 3 (fun _ => ib_push (h.1 0 (by omega)).symm (h.2 0 (by omega)).symm (fun b7 b8 h7 h8 => H b7 b8 s.1 s.2 (fun j hj => (h7 j hj).trans (h.1 j hj)) (fun j hj => (h8 j hj).trans (h.2 j hj)))) (fun z => absurd z (by omega)))
    (fun n i s hi h hw => pk_le 3 i (fun z => absurd z (by omega)) (fun _ =>
      ⟨pk_in i 3 hi, pk_in i 3 hi, nm_e ⟨pk_in i 3 hi, pk_in i 3 hi, nm_e (nm_r (nI_1 i) (hw (_, _) ⟨ib_fill (nI_clamp (by omega)) h.1 (by rw [nI_clamp (by omega)]), ib_fill (nI_clamp (by omega)) h.2 (by rw [nI_clamp (by omega)])⟩))⟩⟩))
theorem ib_pop {post : St2 → Prop} {l ac : Int32} {a1 a2 a3 a4 a5 a6 a7 a8 a9 a10 a11 : Nat → Int32}
    (H : ∀ b9 b10 : Nat → Int32, (∀ j, j < 3 → b9 j = a7 j) → (∀ j, j < 3 → b10 j = a8 j) → post (l, ac, 0, a1, a2, a3, a4, a5, a6, a7, a8, b9, b10, a11)) :
    wpX_pop post (l, ac, 1, a1, a2, a3, a4, a5, a6, a7, a8, a9, a10, a11) := by
  unfold wpX_pop
  dsimp only
  refine nm_r (e' := (0 : Int32)) (by decide) ?_
  exact pk_loop (fun n i (s : (Nat → Int32) × (Nat → Int32)) => wX_pop_12 post l ac 0 n (nI i) a1 a2 a3 a4 a5 a6 a7 a8 s.1 s.2 a11) (fun i s => (∀ j, j < i → s.1 j = a7 j) ∧ (∀ j, j < i → s.2 j = a8 j)) 3 0 (a9, a10) (by omega) ⟨ib_f0, ib_f0⟩
    (fun n s h => pk_le 3 3 (fun _ => H s.1 s.2 h.1 h.2) (fun z => absurd z (by omega)))
    (fun n i s hi h hw => pk_le 3 i (fun z => absurd z (by omega)) (fun _ =>
      ⟨pk_in i 96 (by omega) (ib_z3 i), pk_in i 3 hi, nm_e ⟨pk_in i 96 (by omega) (ib_z3 i), pk_in i 3 hi, nm_e (nm_r (nI_1 i) (hw (_, _) ⟨ib_fill (nI_clamp (by omega)) h.1 (by rw [ib_z3, nI_clamp (by omega)]), ib_fill (nI_clamp (by omega)) h.2 (by rw [ib_z3, nI_clamp (by omega)])⟩))⟩⟩))
/-- a box that holds a point -/
def ib_box (A B : Nat → Int32) : Prop := ¬ B 0 < A 0 ∧ ¬ B 1 < A 1 ∧ A 2 ≤ B 2
def ib_vol (A B : Nat → Int32) : Int32 := (((B 0 - A 0) + 1) * ((B 1 - A 1) + 1)) * ((B 2 - A 2) + 1)
theorem ib_box_eq {A B C D : Nat → Int32} (h : ib_box A B) (h1 : ∀ j, j < 3 → C j = A j) (h2 : ∀ j, j < 3 → D j = B j) : ib_box C D := by
  unfold ib_box
  rw [h1 0 (by omega), h1 1 (by omega), h1 2 (by omega), h2 0 (by omega), h2 1 (by omega), h2 2 (by omega)]
  exact h
theorem ib_vol_eq {A B C D : Nat → Int32} (h1 : ∀ j, j < 3 → C j = A j) (h2 : ∀ j, j < 3 → D j = B j) : ib_vol C D = ib_vol A B := by
  unfold ib_vol
  rw [h1 0 (by omega), h1 1 (by omega), h1 2 (by omega), h2 0 (by omega), h2 1 (by omega), h2 2 (by omega)]
theorem ib_empty {post : Int32 → Prop} {l ac dp : Int32} {a1 a2 a3 a4 a5 a6 a7 a8 a9 a10 a11 : Nat → Int32} (h : ib_box a9 a10) (H : post 0) : wpX_empty post (l, ac, dp, a1, a2, a3, a4, a5, a6, a7, a8, a9, a10, a11) :=
  br_f h.1 (br_f h.2.1 (br_t h.2.2 H))
theorem ib_c8 : ∀ i, i < 8 → ¬ ((0 : Int32) >>> (nI i &&& 31)) &&& 1 = 1 := by decide +kernel
theorem ib_counts {post : Int32 → Prop} {l dp : Int32} {a1 a2 a3 a4 a5 a6 a7 a8 a9 a10 a11 : Nat → Int32} {i : Nat} (hi : i < 8) (H : post 0) : wpX_counts post (l, 0, dp, a1, a2, a3, a4, a5, a6, a7, a8, a9, a10, a11) (nI i) :=
  br_f (ib_c8 i hi) H
theorem ib_narrowAll {post : St2 → Prop} {l dp : Int32} {a1 a2 a3 a4 a5 a6 a7 a8 a9 a10 a11 : Nat → Int32} (h : ib_box a9 a10) (H : post (l, 0, dp, a1, a2, a3, a4, a5, a6, a7, a8, a9, a10, a11)) : wpX_narrowAll post (l, 0, dp, a1, a2, a3, a4, a5, a6, a7, a8, a9, a10, a11) := by
  unfold wpX_narrowAll
  dsimp only
  refine ⟨2, ?_⟩
  refine br_f (by decide) (br_f (by decide) (ib_empty h (br_t rfl ?_)))
  exact pk_loop (σ := Unit) (fun n i _ => wX_narrowAll_25 post (wX_narrowAll_4 post 1) 0 n 0 (nI i) l 0 dp a1 a2 a3 a4 a5 a6 a7 a8 a9 a10 a11) (fun _ _ => True) 8 0 () (by omega) trivial
    (fun n _ _ => pk_le 8 8 (fun _ => nm_r (e' := (1 : Int32)) (by decide) (br_f (by decide) (br_t rfl H))) (fun z => absurd z (by omega)))
    (fun n i _ hi _ hw => pk_le 8 i (fun z => absurd z (by omega)) (fun _ => ib_counts hi (br_t rfl (nm_r (nI_1 i) (hw () trivial)))))
theorem ib_free {post : Int32 → Prop} {l dp : Int32} {a1 a2 a3 a4 a5 a6 a7 a8 a9 a10 a11 : Nat → Int32} (H : post 1) : wpX_free post (l, 0, dp, a1, a2, a3, a4, a5, a6, a7, a8, a9, a10, a11) :=
  pk_loop (σ := Unit) (fun n i _ => wX_free_2 post l 0 dp a1 a2 a3 a4 a5 a6 a7 a8 a9 a10 a11 n (nI i)) (fun _ _ => True) 8 0 () (by omega) trivial
    (fun n _ _ => pk_le 8 8 (fun _ => H) (fun z => absurd z (by omega)))
    (fun n i _ hi _ hw => pk_le 8 i (fun z => absurd z (by omega)) (fun _ => ib_counts hi (br_t rfl (nm_r (nI_1 i) (hw () trivial)))))
theorem ib_countPoints {post : Int32 → St2 → Prop} {l ac dp : Int32} {a1 a2 a3 a4 a5 a6 a7 a8 a9 a10 a11 : Nat → Int32} (h : ib_box a1 a2)
    (H : ∀ b7 b8 b9 b10 : Nat → Int32, post (ib_vol a1 a2) (l, 0, 0, a1, a2, a3, a4, a5, a6, b7, b8, b9, b10, a11)) :
    wpX_countPoints post (l, ac, dp, a1, a2, a3, a4, a5, a6, a7, a8, a9, a10, a11) 0 := by
  unfold wpX_countPoints
  dsimp only
  refine ib_begin (fun b7 b8 b9 b10 h7 h8 => ?_)
  refine ⟨2, ?_⟩
  refine br_f (by decide) (br_f (show ¬ (1 : Int32) ≤ 0 by decide) (ib_pop (fun c9 c10 h9 h10 => ?_)))
  have e9 : ∀ j, j < 3 → c9 j = a1 j := fun j hj => (h9 j hj).trans (h7 j hj)
  have e10 : ∀ j, j < 3 → c10 j = a2 j := fun j hj => (h10 j hj).trans (h8 j hj)
  have hb : ib_box c9 c10 := ib_box_eq h e9 e10
  refine ib_narrowAll hb (ib_empty hb (br_t rfl (ib_free (br_f (by decide) ?_))))
  refine nm_r (e' := ib_vol a1 a2) ?_ (nm_r (e' := (1 : Int32)) (by decide) ?_)
  · rw [Int32.zero_add]
    exact ib_vol_eq e9 e10
  · exact br_f (by decide) (br_t (by decide) (H _ _ _ _))
theorem ib_findFirst {post : Int32 → St2 → Prop} {l ac dp : Int32} {a1 a2 a3 a4 a5 a6 a7 a8 a9 a10 a11 : Nat → Int32} (h : ib_box a1 a2)
    (H : ∀ b7 b8 b9 b10 b11 : Nat → Int32, (∀ j, j < 3 → b11 j = a1 j) → post 1 (l, 0, 0, a1, a2, a3, a4, a5, a6, b7, b8, b9, b10, b11)) :
    wpX_findFirst post (l, ac, dp, a1, a2, a3, a4, a5, a6, a7, a8, a9, a10, a11) 0 := by
  unfold wpX_findFirst
  dsimp only
  refine ib_begin (fun b7 b8 b9 b10 h7 h8 => ?_)
  refine ⟨1, ?_⟩
  refine br_f (by decide) (br_f (show ¬ (1 : Int32) ≤ 0 by decide) (ib_pop (fun c9 c10 h9 h10 => ?_)))
  have e9 : ∀ j, j < 3 → c9 j = a1 j := fun j hj => (h9 j hj).trans (h7 j hj)
  have e10 : ∀ j, j < 3 → c10 j = a2 j := fun j hj => (h10 j hj).trans (h8 j hj)
  have hb : ib_box c9 c10 := ib_box_eq h e9 e10
  refine ib_narrowAll hb (ib_empty hb (br_t rfl (ib_free (br_f (by decide) ?_))))
  exact pk_loop (fun n i (s : Nat → Int32) => wX_findFirst_48 post l 0 0 n (nI i) a1 a2 a3 a4 a5 a6 b7 b8 c9 c10 s) (fun i s => ∀ j, j < i → s j = c9 j) 3 0 a11 (by omega) ib_f0
    (fun n s h => pk_le 3 3 (fun _ => H _ _ _ _ s (fun j hj => (h j hj).trans (e9 j hj))) (fun z => absurd z (by omega)))
    (fun n i s hi h hw => pk_le 3 i (fun z => absurd z (by omega)) (fun _ => ⟨pk_in i 3 hi, pk_in i 3 hi, nm_e (nm_r (nI_1 i) (hw _ (ib_fill (nI_clamp (by omega)) h (by rw [nI_clamp (by omega)]))))⟩))
theorem ib_points {post : Int32 → St2 → Prop} {ac dp : Int32} {a1 a2 a3 a4 a5 a6 a7 a8 a9 a10 a11 : Nat → Int32} (h5 : a5 0 = 0) (h : ib_box a1 a2)
    (H : ∀ b7 b8 b9 b10 : Nat → Int32, post (ib_vol a1 a2) (1, 0, 0, a1, a2, a3, a4, a5, a6, b7, b8, b9, b10, a11)) :
    wpX_points post (1, ac, dp, a1, a2, a3, a4, a5, a6, a7, a8, a9, a10, a11) := by
  unfold wpX_points
  dsimp only
  exact ib_limitsOn h5 (ib_countPoints h H)
theorem ib_first0 {post : Int32 → St2 → Prop} {l ac dp : Int32} {a1 a2 a3 a4 a5 a6 a7 a8 a9 a10 a11 : Nat → Int32} {v : Int32} (hv : v < 0 ∨ ¬ v < 3) (H : post (-1) (l, ac, dp, a1, a2, a3, a4, a5, a6, a7, a8, a9, a10, a11)) : wpX_first post (l, ac, dp, a1, a2, a3, a4, a5, a6, a7, a8, a9, a10, a11) v := by
  unfold wpX_first
  dsimp only
  rcases hv with hv | hv
  · exact br_t hv (br_f (by decide) H)
  · exact br_c (fun _ => br_f (by decide) H) (fun _ => br_f hv (br_f (by decide) H))
theorem ib_first1 {post : Int32 → St2 → Prop} {ac dp : Int32} {a1 a2 a3 a4 a5 a6 a7 a8 a9 a10 a11 : Nat → Int32} {k : Nat} (hk : k < 3) (h5 : a5 0 = 0) (h : ib_box a1 a2)
    (H : ∀ b7 b8 b9 b10 b11 : Nat → Int32, post (a1 k) (1, 0, 0, a1, a2, a3, a4, a5, a6, b7, b8, b9, b10, b11)) :
    wpX_first post (1, ac, dp, a1, a2, a3, a4, a5, a6, a7, a8, a9, a10, a11) (nI k) := by
  have ck : (nI k).toNatClampNeg = k := nI_clamp (by omega)
  unfold wpX_first
  dsimp only
  refine br_f (nI_pos (by omega)) (br_t (nI_lt (b := 3) hk (by decide)) (br_t rfl (ib_limitsOn h5 (ib_findFirst h (fun b7 b8 b9 b10 b11 h11 => ?_)))))
  refine br_f (by decide) ⟨pk_in k 3 hk, ?_⟩
  dsimp only
  rw [ck, h11 k hk]
  exact H _ _ _ _ _
end
section
/-- what the law's later checks need of the two arrays of ends -/
def ib_P (x0 x1 x2 x7 x8 : Int32) (A B : Nat → Int32) : Prop :=
  ib_box A B ∧ (x8 = 0 → ib_vol A B = 4913 ∧ (x0 < 0 ∨ ¬ x0 < 3)) ∧ (¬ x8 = 0 → ∃ k : Nat, k < 3 ∧ x0 = nI k ∧ (x7 = 0 → ib_vol A B = 4913 ∧ A k = -8) ∧ (¬ x7 = 0 → ib_vol A B = 289 * ((x2 - x1) + 1) ∧ A k = x1))
theorem ib_start {A B : Nat → Int32} (hA : ∀ j, j < 3 → A j = -8) (hB : ∀ j, j < 3 → B j = 8) : ib_box A B ∧ ib_vol A B = 4913 := by
  unfold ib_box ib_vol
  rw [hA 0 (by omega), hA 1 (by omega), hA 2 (by omega), hB 0 (by omega), hB 1 (by omega), hB 2 (by omega)]
  exact ⟨⟨by decide, by decide, by decide⟩, by decide⟩
theorem ib_17 : (8 : Int32) - -8 + 1 = 17 := by decide
theorem ib_289 : (17 : Int32) * 17 = 289 := by decide
theorem ib_set0 {C D : Nat → Int32} {lo hi : Int32} (h : ¬ hi < lo) (c0 : C 0 = lo) (c1 : C 1 = -8) (c2 : C 2 = -8) (d0 : D 0 = hi) (d1 : D 1 = 8) (d2 : D 2 = 8) : ib_box C D ∧ ib_vol C D = 289 * ((hi - lo) + 1) := by
  unfold ib_box ib_vol
  rw [c0, c1, c2, d0, d1, d2, ib_17, Int32.mul_assoc, ib_289, Int32.mul_comm]
  exact ⟨⟨h, by decide, by decide⟩, rfl⟩
theorem ib_set1 {C D : Nat → Int32} {lo hi : Int32} (h : ¬ hi < lo) (c0 : C 0 = -8) (c1 : C 1 = lo) (c2 : C 2 = -8) (d0 : D 0 = 8) (d1 : D 1 = hi) (d2 : D 2 = 8) : ib_box C D ∧ ib_vol C D = 289 * ((hi - lo) + 1) := by
  unfold ib_box ib_vol
  rw [c0, c1, c2, d0, d1, d2, ib_17, Int32.mul_comm 17 _, Int32.mul_assoc, ib_289, Int32.mul_comm]
  exact ⟨⟨by decide, h, by decide⟩, rfl⟩
theorem ib_set2 {C D : Nat → Int32} {lo hi : Int32} (h : ¬ hi < lo) (c0 : C 0 = -8) (c1 : C 1 = -8) (c2 : C 2 = lo) (d0 : D 0 = 8) (d1 : D 1 = 8) (d2 : D 2 = hi) : ib_box C D ∧ ib_vol C D = 289 * ((hi - lo) + 1) := by
  unfold ib_box ib_vol
  rw [c0, c1, c2, d0, d1, d2, ib_17, ib_289]
  exact ⟨⟨by decide, by decide, Int32.not_lt.mp h⟩, rfl⟩
theorem ib_set {A B : Nat → Int32} (hA : ∀ j, j < 3 → A j = -8) (hB : ∀ j, j < 3 → B j = 8) {k : Nat} (hk : k < 3) {lo hi : Int32} (h : ¬ hi < lo) : ib_box (upd A k lo) (upd B k hi) ∧ ib_vol (upd A k lo) (upd B k hi) = 289 * ((hi - lo) + 1) := by
  have un : ∀ {f : Nat → Int32} {c x : Int32} {j : Nat}, (∀ j, j < 3 → f j = c) → j < 3 → j ≠ k → upd f k x j = c := fun hf hj hn => (pk_un hn).trans (hf _ hj)
  rcases (show k = 0 ∨ k = 1 ∨ k = 2 by omega) with rfl | rfl | rfl
  · exact ib_set0 h pk_us (un hA (by omega) (by omega)) (un hA (by omega) (by omega)) pk_us (un hB (by omega) (by omega)) (un hB (by omega) (by omega))
  · exact ib_set1 h (un hA (by omega) (by omega)) pk_us (un hA (by omega) (by omega)) (un hB (by omega) (by omega)) pk_us (un hB (by omega) (by omega))
  · exact ib_set2 h (un hA (by omega) (by omega)) (un hA (by omega) (by omega)) pk_us (un hB (by omega) (by omega)) (un hB (by omega) (by omega)) pk_us
theorem ib_n1 {x : Int32} (h : ¬ x = 0) : x < 0 ∨ ¬ x < 1 := by
  by_cases g : x < 0
  · exact .inl g
  · refine .inr (fun g' => h ?_)
    obtain ⟨j, hj, rfl⟩ := nI_of g
    have g'' : nI j < nI 1 := g'
    have := (nI_ltI hj (by decide)).mp g''
    rw [show j = 0 by omega]
    rfl
theorem ib_23 {x : Int32} : 2 < x ↔ ¬ x < 3 := by
  rw [Int32.lt_iff_toInt_lt, Int32.lt_iff_toInt_lt, show (2 : Int32).toInt = 2 by decide, show (3 : Int32).toInt = 3 by decide]
  omega
theorem ib_284 {mc ms kc ks : Nat} {x0 x1 x2 x7 x8 z0 : Int32} {ac dp : Int32} {a1 a2 a3 a4 a5 a6 a7 a8 a9 a10 a11 : Nat → Int32} (h5 : a5 0 = 0) (hP : ib_P x0 x1 x2 x7 x8 a1 a2) (hz : ib_vol a1 a2 = z0) : wL_lawOf_284 (fun r _ => r = 1) mc ms x0 x1 x7 x8 z0 kc ks 1 ac dp a1 a2 a3 a4 a5 a6 a7 a8 a9 a10 a11 := by
  unfold wL_lawOf_284
  refine ib_points h5 hP.1 (fun b7 b8 b9 b10 => ?_)
  refine br_t hz ?_
  by_cases e8 : x8 = 0
  · exact ib_first0 (hP.2.1 e8).2 (br_t e8 (br_t rfl rfl))
  · obtain ⟨k, hk, e0, hs0, hs1⟩ := hP.2.2 e8
    rw [e0]
    exact ib_first1 hk h5 hP.1 (fun _ _ _ _ _ => br_f e8 (br_c (fun e7 => br_t (hs0 e7).2 rfl) (fun e7 => br_t (hs1 e7).2 rfl)))
theorem ib_229 {mc ms kc ks : Nat} {x4 x5 : Int32} {l ac dp : Int32} {a1 a2 a3 a4 a5 a6 a7 a8 a9 a10 a11 : Nat → Int32} (h : x5 < 0 ∨ ¬ x5 < l) : wL_lawOf_229 (fun r _ => r = 1) mc ms x4 x5 kc ks l ac dp a1 a2 a3 a4 a5 a6 a7 a8 a9 a10 a11 := by
  unfold wL_lawOf_229
  exact ib_idle h (br_t rfl (ib_relax h (br_t rfl rfl)))
theorem ib_224 {mc ms kc ks : Nat} {x0 x1 x2 x4 x5 x7 x8 x10 : Int32} {ac dp : Int32} {a1 a2 a3 a4 a5 a6 a7 a8 a9 a10 a11 : Nat → Int32} (h5 : a5 0 = 0) (hP : ib_P x0 x1 x2 x7 x8 a1 a2) (h10 : ¬ x10 = 0) : wL_lawOf_224 (fun r _ => r = 1) mc ms x0 x1 x2 x4 x5 x7 x8 x10 kc ks 1 ac dp a1 a2 a3 a4 a5 a6 a7 a8 a9 a10 a11 := by
  unfold wL_lawOf_224
  refine br_f h10 (br_c (fun e8 => ?_) (fun e8 => br_c (fun e7 => ?_) (fun e7 => ?_)))
  · exact ib_284 h5 hP (hP.2.1 e8).1
  · obtain ⟨k, hk, e0, hs0, hs1⟩ := hP.2.2 e8
    exact ib_284 h5 hP (hs0 e7).1
  · obtain ⟨k, hk, e0, hs0, hs1⟩ := hP.2.2 e8
    exact ib_284 h5 hP (hs1 e7).1
theorem ib_180 {mc ms kc ks : Nat} {x0 x1 x2 x4 x5 x7 x8 x10 z0 z1 : Int32} {l ac dp : Int32} {a1 a2 a3 a4 a5 a6 a7 a8 a9 a10 a11 : Nat → Int32} (hP : ib_P x0 x1 x2 x7 x8 a1 a2) (hz : z1 = z0) (hm : (x10 = 1 ∧ l = 1 ∧ a5 0 = 1) ∨ (x10 = 0 ∧ l = 0)) : wL_lawOf_180 (fun r _ => r = 1) mc ms x0 x1 x2 x4 x5 x7 x8 x10 z0 z1 kc ks l ac dp a1 a2 a3 a4 a5 a6 a7 a8 a9 a10 a11 := by
  unfold wL_lawOf_180
  refine br_t hz ?_
  rcases hm with ⟨rfl, rfl, h5⟩ | ⟨rfl, rfl⟩
  · by_cases e5 : x5 = 0
    · subst e5
      exact ib_turn1 h5 (br_f (by decide) (br_t rfl (br_t rfl (br_f (by decide) (br_t rfl (ib_224 pk_us hP (by decide)))))))
    · exact ib_turn0 (ib_n1 e5) (br_f (by decide) (br_f e5 (br_t rfl (br_f (by decide) (br_f e5 (ib_229 (ib_n1 e5)))))))
  · exact ib_turn0 (Classical.em _) (br_t rfl (br_t rfl (br_t rfl (br_t rfl (ib_229 (Classical.em _))))))
theorem ib_149a {mc ms kc ks : Nat} {x0 x1 x2 x3 x4 x5 x7 x8 : Int32} {ac dp : Int32} {a1 a2 a3 a4 a5 a6 a7 a8 a9 a10 a11 : Nat → Int32} (hP : ib_P x0 x1 x2 x7 x8 a1 a2) (hg : ¬ ib_good x3) : wL_lawOf_149 (fun r _ => r = 1) mc ms x0 x1 x2 x3 x4 x5 x7 x8 0 0 kc ks 0 ac dp a1 a2 a3 a4 a5 a6 a7 a8 a9 a10 a11 := by
  unfold wL_lawOf_149
  exact ib_limit (fun _ => br_t rfl (ib_180 hP rfl (.inr ⟨rfl, rfl⟩))) (fun g => absurd g hg) (fun g => absurd g hg)
theorem ib_149b {mc ms kc ks : Nat} {x0 x1 x2 x3 x4 x5 x7 x8 : Int32} {ac dp : Int32} {a1 a2 a3 a4 a5 a6 a7 a8 a9 a10 a11 : Nat → Int32} (hP : ib_P x0 x1 x2 x7 x8 a1 a2) (hg : ib_good x3) (hd : x4 < (-100) ∨ 100 < x4) : wL_lawOf_149 (fun r _ => r = 1) mc ms x0 x1 x2 x3 x4 x5 x7 x8 1 0 kc ks 0 ac dp a1 a2 a3 a4 a5 a6 a7 a8 a9 a10 a11 := by
  unfold wL_lawOf_149
  exact ib_limit (fun ng => absurd hg ng) (fun _ _ => br_f (by decide) (br_t rfl (ib_180 hP rfl (.inr ⟨rfl, rfl⟩)))) (fun _ k k' => absurd hd (fun z => z.elim k (fun q => Int32.not_lt.mpr k' q)))
theorem ib_149c {mc ms kc ks : Nat} {x0 x1 x2 x3 x4 x5 x7 x8 : Int32} {ac dp : Int32} {a1 a2 a3 a4 a5 a6 a7 a8 a9 a10 a11 : Nat → Int32} (hP : ib_P x0 x1 x2 x7 x8 a1 a2) (hg : ib_good x3) (h1 : ¬ x4 < (-100)) (h2 : ¬ 100 < x4) : wL_lawOf_149 (fun r _ => r = 1) mc ms x0 x1 x2 x3 x4 x5 x7 x8 1 1 kc ks 0 ac dp a1 a2 a3 a4 a5 a6 a7 a8 a9 a10 a11 := by
  unfold wL_lawOf_149
  exact ib_limit (fun ng => absurd hg ng) (fun _ k => absurd k (fun z => z.elim h1 (fun q => q (Int32.not_lt.mp h2)))) (fun _ _ _ b3 b4 => br_f (by decide) (br_f (by decide) (ib_180 hP rfl (.inl ⟨rfl, rfl, pk_us⟩))))
theorem ib_123a {mc ms kc ks : Nat} {x0 x1 x2 x3 x4 x5 x7 x8 : Int32} {ac dp : Int32} {a1 a2 a3 a4 a5 a6 a7 a8 a9 a10 a11 : Nat → Int32} (hP : ib_P x0 x1 x2 x7 x8 a1 a2) (hg : ¬ ib_good x3) : wL_lawOf_123 (fun r _ => r = 1) mc ms x0 x1 x2 x3 x4 x5 x7 x8 0 kc ks 0 ac dp a1 a2 a3 a4 a5 a6 a7 a8 a9 a10 a11 :=
  br_t rfl (ib_149a hP hg)
theorem ib_123b {mc ms kc ks : Nat} {x0 x1 x2 x3 x4 x5 x7 x8 : Int32} {ac dp : Int32} {a1 a2 a3 a4 a5 a6 a7 a8 a9 a10 a11 : Nat → Int32} (hP : ib_P x0 x1 x2 x7 x8 a1 a2) (hg : ib_good x3) : wL_lawOf_123 (fun r _ => r = 1) mc ms x0 x1 x2 x3 x4 x5 x7 x8 1 kc ks 0 ac dp a1 a2 a3 a4 a5 a6 a7 a8 a9 a10 a11 :=
  br_f (by decide) (br_c (fun k => ib_149b hP hg (.inl k)) (fun k => br_c (fun k' => ib_149b hP hg (.inr k')) (fun k' => ib_149c hP hg k k')))
theorem ib_81 {mc ms kc ks : Nat} {x0 x1 x2 x3 x4 x5 x7 x8 z0 z1 : Int32} {ac dp : Int32} {a1 a2 a3 a4 a5 a6 a7 a8 a9 a10 a11 : Nat → Int32} (hP : ib_P x0 x1 x2 x7 x8 a1 a2) (hz : z1 = z0) : wL_lawOf_81 (fun r _ => r = 1) mc ms x0 x1 x2 x3 x4 x5 x7 x8 z0 z1 kc ks 0 ac dp a1 a2 a3 a4 a5 a6 a7 a8 a9 a10 a11 :=
  br_t hz (br_c (fun k => ib_123a hP (fun g => g.1 k)) (fun k => br_c (fun k' => ib_123a hP (fun g => g.2.1 k')) (fun k' => br_c (fun k'' => ib_123a hP (fun g => g.2.2 k'')) (fun k'' => ib_123b hP ⟨k, k', k''⟩))))
/-- the law's word for 'the range may be set' -/
def ib_flag (x1 x2 x7 : Int32) : Prop := (x7 = 1 ∧ ¬ x1 < (-8) ∧ ¬ x2 < x1 ∧ x2 ≤ 8) ∨ (x7 = 0 ∧ (x1 < (-8) ∨ x2 < x1 ∨ ¬ x2 ≤ 8))
theorem ib_47a {mc ms kc ks : Nat} {x0 x1 x2 x3 x4 x5 x7 : Int32} {ac dp : Int32} {a1 a2 a3 a4 a5 a6 a7 a8 a9 a10 a11 : Nat → Int32} (hA : ∀ j, j < 3 → a1 j = -8) (hB : ∀ j, j < 3 → a2 j = 8) (hv : x0 < 0 ∨ ¬ x0 < 3) : wL_lawOf_47 (fun r _ => r = 1) mc ms x0 x1 x2 x3 x4 x5 x7 0 kc ks 0 ac dp a1 a2 a3 a4 a5 a6 a7 a8 a9 a10 a11 := by
  have hP : ib_P x0 x1 x2 x7 0 a1 a2 := ⟨(ib_start hA hB).1, fun _ => ⟨(ib_start hA hB).2, hv⟩, fun z => absurd rfl z⟩
  unfold wL_lawOf_47
  exact ib_range (fun _ => br_t rfl (ib_81 hP rfl)) (fun g g' => absurd hv (fun z => z.elim g (fun q => q g'))) (fun g g' => absurd hv (fun z => z.elim g (fun q => q g')))
theorem ib_47b {mc ms kc ks : Nat} {x0 x1 x2 x3 x4 x5 x7 : Int32} {ac dp : Int32} {a1 a2 a3 a4 a5 a6 a7 a8 a9 a10 a11 : Nat → Int32} (hA : ∀ j, j < 3 → a1 j = -8) (hB : ∀ j, j < 3 → a2 j = 8) (hv : ¬ x0 < 0) (hv' : x0 < 3) (hs : ib_flag x1 x2 x7) : wL_lawOf_47 (fun r _ => r = 1) mc ms x0 x1 x2 x3 x4 x5 x7 1 kc ks 0 ac dp a1 a2 a3 a4 a5 a6 a7 a8 a9 a10 a11 := by
  obtain ⟨k, hk, rfl⟩ := ib_v3 hv hv'
  have ck : (nI k).toNatClampNeg = k := nI_clamp (by omega)
  have n1 : ¬ (1 : Int32) = 0 := by decide
  have nv : ¬ (nI k < 0 ∨ ¬ nI k < 3) := fun z => z.elim hv (fun q => q hv')
  unfold wL_lawOf_47
  rcases hs with ⟨rfl, s1, s2, s3⟩ | ⟨rfl, s⟩
  · have hU := ib_set hA hB hk s2
    have hP : ib_P (nI k) x1 x2 1 1 (upd a1 (nI k).toNatClampNeg x1) (upd a2 (nI k).toNatClampNeg x2) := by
      rw [ck]
      exact ⟨hU.1, fun z => absurd z n1, fun _ => ⟨k, hk, rfl, fun z => absurd z n1, fun _ => ⟨hU.2, pk_us⟩⟩⟩
    exact ib_range (fun g => absurd g nv) (fun _ _ g => absurd g (fun z => z.elim s1 (fun q => q.elim s2 (fun w => w s3)))) (fun _ _ _ _ _ => br_f n1 (br_f n1 (ib_81 hP rfl)))
  · have hP : ib_P (nI k) x1 x2 0 1 a1 a2 := ⟨(ib_start hA hB).1, fun z => absurd z n1, fun _ => ⟨k, hk, rfl, fun _ => ⟨(ib_start hA hB).2, hA k hk⟩, fun z => absurd rfl z⟩⟩
    exact ib_range (fun g => absurd g nv) (fun _ _ _ => br_f n1 (br_t rfl (ib_81 hP rfl))) (fun _ _ g1 g2 g3 => absurd s (fun z => z.elim g1 (fun q => q.elim g2 (fun w => w g3))))
theorem ib_31 {mc ms kc ks : Nat} {x0 x1 x2 x3 x4 x5 x7 : Int32} {ac dp : Int32} {a1 a2 a3 a4 a5 a6 a7 a8 a9 a10 a11 : Nat → Int32} (hA : ∀ j, j < 3 → a1 j = -8) (hB : ∀ j, j < 3 → a2 j = 8) (hs : ib_flag x1 x2 x7) : wL_lawOf_31 (fun r _ => r = 1) mc ms x0 x1 x2 x3 x4 x5 x7 kc ks 0 ac dp a1 a2 a3 a4 a5 a6 a7 a8 a9 a10 a11 :=
  br_c (fun k => ib_47a hA hB (.inl k)) (fun k => br_c (fun k' => ib_47a hA hB (.inr (ib_23.mp k'))) (fun k' => ib_47b hA hB k (Classical.byContradiction (fun q => k' (ib_23.mpr q))) hs))
theorem ib_lawOf {x0 x1 x2 x3 x4 x5 : Int32} : wpL_lawOf (fun r _ => r = 1) 12 262 () x0 x1 x2 x3 x4 x5 := by
  unfold wpL_lawOf
  refine ⟨by omega, by omega, 11, 248, by omega, by omega, ib_init (by omega) (by omega) (fun A B a3 a4 a5 a6 a7 a8 a9 a10 a11 hA hB => ?_)⟩
  exact br_c (fun k => ib_31 hA hB (.inr ⟨rfl, .inl k⟩)) (fun k => br_c (fun k' => ib_31 hA hB (.inr ⟨rfl, .inr (.inl k')⟩)) (fun k' => br_c (fun k'' => ib_31 hA hB (.inr ⟨rfl, .inr (.inr (Int32.not_le.mpr k''))⟩)) (fun k'' => ib_31 hA hB (.inl ⟨rfl, k, k', Int32.not_lt.mp k''⟩))))
theorem ib_cell {post : Int32 → Prop} {L : Nat} {xs : Nat → Int32} {x : Int32} (k : Nat) (hx : x = nI k) (hk : k < 2 ^ 31) (hL : L ≤ 6) (H : ∀ r, post r) : wpL_cellAt post L xs () x := by
  subst hx
  exact pk_le L k (fun _ => H _) (fun z => ⟨pk_in k L z, H _⟩)
theorem i_vc (xs : Nat → Int32) (L : Nat) (hL : L ≤ 6) : wpL_law (fun r => r = 1) L xs := by
  unfold wpL_law
  exact ib_cell 0 rfl (by decide) hL (fun r1 => ib_cell 1 rfl (by decide) hL (fun r2 => ib_cell 2 rfl (by decide) hL (fun r3 => ib_cell 3 rfl (by decide) hL (fun r4 => ib_cell 4 rfl (by decide) hL (fun r5 => ib_cell 5 rfl (by decide) hL (fun r6 => ⟨12, 262, by omega, by omega, ib_lawOf⟩))))))
end
