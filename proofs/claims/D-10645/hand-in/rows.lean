section
section
variable {pp nn : Int32} {a1 a2 a3 a4 a5 a6 : Nat → Int32} {a7 : Nat → Int64} {a8 : Nat → Int32} {a9 : Nat → Int64} {a10 a11 a12 : Nat → Int32}
theorem cs_b0 : ∀ i, i < 8 → ¬ (((0 : Int32) >>> (nI i &&& 31)) &&& 1) = 1 := by decide +kernel
theorem cs_sh : ∀ a, a < 3 → ((7 : Int32) >>> (nI a &&& 31)) &&& 1 = 1 := by decide +kernel
theorem cs_ix (p a : Nat) : nI p * 3 + nI a = nI (p * 3 + a) := by
  show nI p * nI 3 + nI a = _
  rw [pk_mul, nI_add]
theorem cs_ix8 (p a : Nat) : nI p * 8 + nI a = nI (p * 8 + a) := by
  show nI p * nI 8 + nI a = _
  rw [pk_mul, nI_add]
theorem cs_nx {p a : Nat} (hp : p < 8) (ha : a < 3) (h4 : ∀ j, j < 24 → a4 j = 0) : a4 (nI p * 3 + nI a).toNatClampNeg = 0 := by
  rw [cs_ix, nI_clamp (by omega)]
  exact h4 _ (by omega)
/-- no pair out of the empty set of names -/
theorem cs_grid {post : Int64 → Prop} {x : Int32} (h : post 0) : wpX_grid post (0, 0, 0, 7, pp, 0, nn, a1, a2, a3, a4, a5, a6, a7, a8, a9, a10, a11, a12) 0 x := by
  unfold wpX_grid
  exact pk_loop (σ := Unit) (fun n i _ => wX_grid_5 post 0 x 0 0 0 7 pp 0 nn a1 a2 a3 a4 a5 a6 a7 a8 a9 a10 a11 a12 n 0 (nI i)) (fun _ _ => True) 8 0 () (by omega) trivial
    (fun n _ _ => pk_le 8 8 (fun _ => h) (fun z => absurd z (by omega)))
    (fun n i _ hi _ hw => pk_le 8 i (fun z => absurd z (by omega)) (fun _ => br_f (cs_b0 i hi) (nm_r (nI_1 i) (hw () trivial))))
/-- no name goes anywhere: no row does -/
theorem cs_row {post : Int64 → Prop} {p a : Nat} {row : Int32} (hp : p < 8) (ha : a < 3) (h4 : ∀ j, j < 24 → a4 j = 0) (h : post 0) : wpX_stepRow post (0, 0, 0, 7, pp, 0, nn, a1, a2, a3, a4, a5, a6, a7, a8, a9, a10, a11, a12) (nI p) row (nI a) := by
  unfold wpX_stepRow
  refine ⟨pk_in (p * 3 + a) 24 (by omega) (cs_ix p a), nm_r (cs_nx hp ha h4) ?_⟩
  exact pk_loop (σ := Unit) (fun n i _ => wX_stepRow_18 post (nI p) row (nI a) 0 0 0 0 7 pp 0 nn a1 a2 a3 a4 a5 a6 a7 a8 a9 a10 a11 a12 n 0 (nI i)) (fun _ _ => True) 8 0 () (by omega) trivial
    (fun n _ _ => pk_le 8 8 (fun _ => br_t (cs_sh a ha) (cs_grid h)) (fun z => absurd z (by omega)))
    (fun n i _ hi _ hw => pk_le 8 i (fun z => absurd z (by omega)) (fun _ => br_c
      (fun _ => ⟨pk_in (i * 3 + a) 24 (by omega) (cs_ix i a), nm_r (e' := 0) (by rw [cs_nx hi ha h4]; rfl) (nm_r (nI_1 i) (hw () trivial))⟩)
      (fun _ => nm_r (nI_1 i) (hw () trivial))))
theorem cs_step {post : Int64 → Prop} {a : Nat} {set : Int64} (ha : a < 3) (h4 : ∀ j, j < 24 → a4 j = 0) (h : post 0) : wpX_step post (0, 0, 0, 7, pp, 0, nn, a1, a2, a3, a4, a5, a6, a7, a8, a9, a10, a11, a12) set (nI a) := by
  unfold wpX_step
  exact pk_loop (σ := Unit) (fun n i _ => wX_step_6 post set (nI a) 0 0 0 7 pp 0 nn a1 a2 a3 a4 a5 a6 a7 a8 a9 a10 a11 a12 n 0 (nI i)) (fun _ _ => True) 8 0 () (by omega) trivial
    (fun n _ _ => pk_le 8 8 (fun _ => h) (fun z => absurd z (by omega)))
    (fun n i _ hi _ hw => pk_le 8 i (fun z => absurd z (by omega)) (fun _ => nm_e (br_c
      (fun _ => nm_r (nI_1 i) (hw () trivial))
      (fun _ => cs_row hi ha h4 (nm_r (e' := 0) (by rfl) (nm_r (nI_1 i) (hw () trivial)))))))
theorem cs_feed {post : Int32 → St2 → Prop} {a : Int32} (h4 : ∀ j, j < 24 → a4 j = 0)
    (H : ∀ r : Int32, (a < 0 → r = -1) → (¬ a < 0 → a ≤ 2 → r = -4) → (¬ a < 0 → ¬ a ≤ 2 → r = -1) → post r (0, 0, 0, 7, pp, 0, nn, a1, a2, a3, a4, a5, a6, a7, a8, a9, a10, a11, a12)) : wpX_feed post (0, 0, 0, 7, pp, 0, nn, a1, a2, a3, a4, a5, a6, a7, a8, a9, a10, a11, a12) a := by
  unfold wpX_feed
  refine br_c (fun z => H _ (fun _ => rfl) (fun c => absurd z c) (fun c => absurd z c)) (fun z => br_c (fun z2 => ?_) (fun z2 => H _ (fun c => absurd c z) (fun _ c => absurd c z2) (fun _ _ => rfl)))
  obtain ⟨j, hj, rfl⟩ := nI_of2 (M := 2) (n := 2) (by decide) z z2
  exact br_f (by decide) ⟨pk_in 0 5 (by omega), cs_step (by omega) h4 (br_t rfl (H _ (fun c => absurd c z) (fun _ _ => rfl) (fun _ c => absurd z2 c)))⟩
theorem cs_expand {post : St2 → Prop} {x fr : Int32} (hx : vp_in x 128) (h4 : ∀ j, j < 24 → a4 j = 0) (h : post (0, 0, 0, 7, pp, 0, nn, a1, a2, a3, a4, a5, a6, a7, a8, a9, a10, a11, a12)) : wpX_expand post (0, 0, 0, 7, pp, 0, nn, a1, a2, a3, a4, a5, a6, a7, a8, a9, a10, a11, a12) x fr := by
  unfold wpX_expand
  exact pk_loop (σ := Unit) (fun n i _ => wX_expand_2 post x fr n (nI i) 0 0 0 7 pp 0 nn a1 a2 a3 a4 a5 a6 a7 a8 a9 a10 a11 a12) (fun _ _ => True) 3 0 () (by omega) trivial
    (fun n _ _ => pk_le 3 3 (fun _ => h) (fun z => absurd z (by omega)))
    (fun n i _ hi _ hw => pk_le 3 i (fun z => absurd z (by omega)) (fun _ => ⟨hx, cs_step hi h4 (br_t rfl (nm_r (nI_1 i) (hw () trivial)))⟩))
/-- one layer of the walk, from node t (0 or 1) up to the first one that isn't there -/
theorem cs_layer {post : St2 → Prop} {J : Int32 → Int32 → Int32 → Int32 → Int32 → Int32 → Int32 → Int32 → (Nat → Int32) → (Nat → Int32) → (Nat → Int32) → (Nat → Int32) → (Nat → Int32) → (Nat → Int32) → (Nat → Int64) → (Nat → Int32) → (Nat → Int64) → (Nat → Int32) → (Nat → Int32) → (Nat → Int32) → Prop} {fl : Int32} {i t : Nat} (ht : t ≤ 1) (h4 : ∀ j, j < 24 → a4 j = 0)
    (hJ : J (nI (i + 1)) 0 0 0 7 pp 0 1 a1 a2 a3 a4 a5 a6 a7 a8 a9 a10 a11 a12) : ∃ m, wX_walk_84 post J fl (nI i) 1 m (nI t) 0 0 0 7 pp 0 1 a1 a2 a3 a4 a5 a6 a7 a8 a9 a10 a11 a12 :=
  pk_loop (σ := Unit) (fun m t _ => wX_walk_84 post J fl (nI i) 1 m (nI t) 0 0 0 7 pp 0 1 a1 a2 a3 a4 a5 a6 a7 a8 a9 a10 a11 a12) (fun _ _ => True) 1 t () ht trivial
    (fun n _ _ => pk_le 1 1 (fun _ => nm_r (nI_1 i) hJ) (fun z => absurd z (by omega)))
    (fun n t _ hi _ hw => pk_le 1 t (fun z => absurd z (by omega)) (fun _ => br_c
      (fun _ => by unfold wX_walk_104; exact cs_expand (pk_in t 128 (by omega)) h4 (nm_r (nI_1 t) (hw () trivial)))
      (fun _ => by unfold wX_walk_104; exact cs_expand (pk_in t 128 (by omega)) h4 (nm_r (nI_1 t) (hw () trivial)))))
/-- the walk's layers: the first node alone, the others empty -/
theorem cs_layers {post : St2 → Prop} {fl : Int32} (h4 : ∀ j, j < 24 → a4 j = 0) (h0 : a8 0 = 0)
    (H : ∀ b8 : Nat → Int32, b8 0 = 0 → (∀ j, 1 ≤ j → j ≤ 5 → b8 j = 1) → post (0, 0, 0, 7, pp, 0, 1, a1, a2, a3, a4, a5, a6, a7, b8, a9, a10, a11, a12)) : ∃ n, wX_walk_55 post fl n 0 0 0 0 7 pp 0 1 a1 a2 a3 a4 a5 a6 a7 a8 a9 a10 a11 a12 := by
  refine pk_loop (fun n i s => wX_walk_55 post fl n (nI i) 0 0 0 7 pp 0 1 a1 a2 a3 a4 a5 a6 a7 s a9 a10 a11 a12) (fun i s => s 0 = 0 ∧ ∀ j, 1 ≤ j → j ≤ i → s j = 1) 4 0 a8 (by omega) ⟨h0, fun j h1 h2 => absurd h1 (by omega)⟩ (fun n s h => ?_) (fun n i s hi h hw => ?_)
  · refine pk_le 4 4 (fun _ => nm_e (H _ ?_ ?_)) (fun z => absurd z (by omega))
    · rw [pk_un (by omega)]
      exact h.1
    · intro j h1 h2
      by_cases e : j = 5
      · rw [e, pk_us]
      · rw [pk_un e]
        exact h.2 j h1 (by omega)
  · have hs : upd s (i + 1) 1 0 = 0 ∧ ∀ j, 1 ≤ j → j ≤ i + 1 → upd s (i + 1) 1 j = 1 := by
      refine ⟨by rw [pk_un (by omega)]; exact h.1, fun j h1 h2 => ?_⟩
      by_cases e : j = i + 1
      · rw [e, pk_us]
      · rw [pk_un e]
        exact h.2 j h1 (by omega)
    refine pk_le 4 i (fun z => absurd z (by omega)) (fun _ => ⟨pk_in (i + 1) 7 (by omega) (nI_1 i), nm_r (e' := upd s (i + 1) 1) (by rw [nI_1, nI_clamp (by omega)]) ⟨pk_in i 7 (by omega), ?_⟩⟩)
    by_cases e : i = 0
    · exact nm_r (e' := nI 0) (by rw [nI_clamp (by omega)]; subst e; exact hs.1) (cs_layer (by omega) h4 (hw _ hs))
    · exact nm_r (e' := nI 1) (by rw [nI_clamp (by omega)]; exact hs.2 i (by omega) (by omega)) (cs_layer (by omega) h4 (hw _ hs))
/-- the walk finds the start alone -/
theorem cs_walk {post : St2 → Prop} {names fl : Int32} (h4 : ∀ j, j < 24 → a4 j = 0)
    (H : ∀ (b8 : Nat → Int32) (b9 : Nat → Int64) (b10 b11 b12 : Nat → Int32), b8 0 = 0 → (∀ j, 1 ≤ j → j ≤ 5 → b8 j = 1) → b9 0 = 1 → b10 0 = names → b11 0 = 0 → b12 0 = 1 → post (0, 0, 0, 7, pp, 0, 1, a1, a2, a3, a4, a5, a6, a7, b8, b9, b10, b11, b12)) :
    wpX_walk post (0, 0, 0, 7, pp, 0, nn, a1, a2, a3, a4, a5, a6, a7, a8, a9, a10, a11, a12) names fl := by
  unfold wpX_walk
  exact nm_e (nm_e (nm_e (nm_e (nm_e (cs_layers h4 pk_us (fun b8 h0 h1 => H b8 _ _ _ _ h0 h1 (by rw [pk_uLs]; decide) pk_us pk_us pk_us))))))
end
end
section
section
variable {pp nn : Int32} {a1 a2 a3 a4 a5 a6 : Nat → Int32} {a7 : Nat → Int64} {a8 : Nat → Int32} {a9 : Nat → Int64} {a10 a11 a12 : Nat → Int32}
/-- the family of the joint refusals after n of the 64 pairs of sets -/
def cs_fam : Nat → Int32
  | 0 => 0
  | n + 1 => cs_fam n ||| ((1 : Int32) <<< ((nI (n / 8) ||| nI (n % 8)) &&& 31))
theorem cs_fam64 : cs_fam (8 * 8) = 255 := by decide +kernel
theorem cs_255 : ∀ i, i < 8 → ((255 : Int32) >>> (nI i &&& 31)) &&& 1 = 1 := by decide +kernel
theorem cs_fams {i k : Nat} (hk : k < 8) : cs_fam (i * 8 + k) ||| ((1 : Int32) <<< ((nI i ||| nI k) &&& 31)) = cs_fam (i * 8 + k + 1) := by
  show _ = cs_fam (i * 8 + k) ||| ((1 : Int32) <<< ((nI ((i * 8 + k) / 8) ||| nI ((i * 8 + k) % 8)) &&& 31))
  rw [show (i * 8 + k) / 8 = i by omega, show (i * 8 + k) % 8 = k by omega]
theorem cs_and0 (x y : Int32) : x &&& 0 = y &&& 0 := by rw [Int32.and_zero, Int32.and_zero]
theorem cs_joint {post : Int32 → Prop} {x y : Int32} (hx : x = 255) (hy : y = 255) (h : post 255) : wpX_joint post (0, 0, 0, 7, pp, 0, nn, a1, a2, a3, a4, a5, a6, a7, a8, a9, a10, a11, a12) x y := by
  subst hx hy
  unfold wpX_joint
  refine nm_r (e' := 0) (by decide) ?_
  refine pk_loop (σ := Unit) (fun n i _ => wX_joint_16 post 255 255 0 0 0 0 7 pp 0 nn a1 a2 a3 a4 a5 a6 a7 a8 a9 a10 a11 a12 n (cs_fam (i * 8)) (nI i)) (fun _ _ => True) 8 0 () (by omega) trivial (fun n _ _ => ?_) (fun n i _ hi _ hw => ?_)
  · refine pk_le 8 8 (fun _ => ?_) (fun z => absurd z (by omega))
    rw [cs_fam64]
    exact h
  · refine pk_le 8 i (fun z => absurd z (by omega)) (fun _ => ?_)
    have hw' := hw () trivial
    rw [show (i + 1) * 8 = i * 8 + 8 by omega] at hw'
    exact pk_loop (σ := Unit) (fun m k _ => wX_joint_26 post (wX_joint_16 post 255 255 0 0 0 0 7 pp 0 nn a1 a2 a3 a4 a5 a6 a7 a8 a9 a10 a11 a12 n) 255 255 0 (nI i) 0 0 0 7 pp 0 nn a1 a2 a3 a4 a5 a6 a7 a8 a9 a10 a11 a12 m (cs_fam (i * 8 + k)) (nI k)) (fun _ _ => True) 8 0 () (by omega) trivial
      (fun m _ _ => pk_le 8 8 (fun _ => nm_r (nI_1 i) hw') (fun z => absurd z (by omega)))
      (fun m k _ hk _ hv => pk_le 8 k (fun z => absurd z (by omega)) (fun _ => br_t (cs_255 i hi) (br_t (cs_255 k hk) (by
        unfold wX_joint_58
        exact br_f (by decide) (br_t (cs_and0 _ _) (nm_r (cs_fams hk) (nm_r (nI_1 k) (hv () trivial))))))))
theorem cs_put {s : Nat → Int32} {n : Nat} {x : Int32} (h : ∀ j, j < n → s j = 255) (hx : x = 255) : ∀ j, j < n + 1 → upd s n x j = 255 := by
  intro j hj
  by_cases e : j = n
  · rw [e, pk_us, hx]
  · rw [pk_un e]
    exact h j (by omega)
theorem cs_pair {post : St2 → Prop} (h3 : ∀ j, j < 8 → a3 j = 255) (hk : ¬ pp = 0 → ∀ j, j < 64 → a5 j = 255)
    (H : ∀ (p : Int32) (b5 : Nat → Int32), ¬ p = 0 → (∀ j, j < 64 → b5 j = 255) → post (0, 0, 0, 7, p, 0, nn, a1, a2, a3, a4, b5, a6, a7, a8, a9, a10, a11, a12)) : wpX_pairUp post (0, 0, 0, 7, pp, 0, nn, a1, a2, a3, a4, a5, a6, a7, a8, a9, a10, a11, a12) := by
  unfold wpX_pairUp
  refine br_c (fun z => ?_) (fun z => H pp a5 z (hk z))
  refine pk_loop (fun n i s => wX_pairUp_10 post 0 0 0 7 pp 0 nn n (nI i) a1 a2 a3 a4 s a6 a7 a8 a9 a10 a11 a12) (fun i s => ∀ j, j < i * 8 → s j = 255) 8 0 a5 (by omega) (fun j hj => absurd hj (by omega)) (fun n s h => ?_) (fun n i s hi h hw => ?_)
  · exact pk_le 8 8 (fun _ => H 1 s (by decide) (fun j hj => h j (by omega))) (fun z => absurd z (by omega))
  · refine pk_le 8 i (fun z => absurd z (by omega)) (fun _ => ?_)
    refine pk_loop (fun m k s => wX_pairUp_18 post (wX_pairUp_10 post 0 0 0 7 pp 0 nn n) (nI i) 0 0 0 7 pp 0 nn m (nI k) a1 a2 a3 a4 s a6 a7 a8 a9 a10 a11 a12) (fun k s => ∀ j, j < i * 8 + k → s j = 255) 8 0 s (by omega) (fun j hj => h j (by omega)) (fun m s h => ?_) (fun m k s hk h hv => ?_)
    · exact pk_le 8 8 (fun _ => nm_r (nI_1 i) (hw s (fun j hj => h j (by omega)))) (fun z => absurd z (by omega))
    · exact pk_le 8 k (fun z => absurd z (by omega)) (fun _ => ⟨pk_in i 8 hi, pk_in k 8 hk, cs_joint (by rw [nI_clamp (by omega)]; exact h3 i hi) (by rw [nI_clamp (by omega)]; exact h3 k hk)
        ⟨pk_in (i * 8 + k) 64 (by omega) (cs_ix8 i k), nm_r (e' := upd s (i * 8 + k) 255) (by rw [cs_ix8, nI_clamp (by omega)]) (nm_r (nI_1 k) (hv _ (cs_put h rfl)))⟩⟩)
def cs_u : Nat → Int32
  | 0 => 0
  | _ + 1 => 255
theorem cs_l0 : ((((1 : Int64).toUInt64 >>> ((nI 0).toInt64.toUInt64 &&& Int64.toUInt64 63)).toInt64) &&& 1) = 1 := by decide +kernel
theorem cs_l1 : ∀ i, i < 63 → ¬ ((((1 : Int64).toUInt64 >>> ((nI (i + 1)).toInt64.toUInt64 &&& Int64.toUInt64 63)).toInt64) &&& 1) = 1 := by decide +kernel
theorem cs_or0 {x : Int32} (hx : x = 255) : 0 ||| x = 255 := by
  rw [hx]
  decide
theorem cs_ref {post : Int32 → St2 → Prop} {x : Int64} (hx : x = 1) (h3 : ∀ j, j < 8 → a3 j = 255) (hk : ¬ pp = 0 → ∀ j, j < 64 → a5 j = 255)
    (H : ∀ (p : Int32) (b5 : Nat → Int32), ¬ p = 0 → (∀ j, j < 64 → b5 j = 255) → post 255 (0, 0, 0, 7, p, 0, nn, a1, a2, a3, a4, b5, a6, a7, a8, a9, a10, a11, a12)) : wpX_refusals post (0, 0, 0, 7, pp, 0, nn, a1, a2, a3, a4, a5, a6, a7, a8, a9, a10, a11, a12) x := by
  subst hx
  unfold wpX_refusals
  refine cs_pair h3 hk (fun p b5 hp h5 => ?_)
  refine pk_loop (σ := Unit) (fun n i _ => wX_refusals_9 post 1 0 0 0 7 p 0 nn a1 a2 a3 a4 b5 a6 a7 a8 a9 a10 a11 a12 n (cs_u i) (nI i)) (fun _ _ => True) 64 0 () (by omega) trivial (fun n _ _ => ?_) (fun n i _ hi _ hw => ?_)
  · exact pk_le 64 64 (fun _ => H p b5 hp h5) (fun z => absurd z (by omega))
  · refine pk_le 64 i (fun z => absurd z (by omega)) (fun _ => ?_)
    cases i with
    | zero => exact br_t cs_l0 ⟨pk_in 0 64 (by omega), nm_r (e' := cs_u 1) (cs_or0 (h5 0 (by omega))) (nm_r (nI_1 0) (hw () trivial))⟩
    | succ i => exact br_f (cs_l1 i (by omega)) (nm_r (nI_1 (i + 1)) (hw () trivial))
theorem cs_bit : ∀ k, k < 8 → ∀ i, i < 8 → ((((((1 : Int32) <<< (nI k &&& 31)) >>> (nI i &&& 31)) &&& 1) = 1) ↔ i = k) := by decide +kernel
theorem cs_n0 : ∀ k, k < 8 → ¬ ((1 : Int32) <<< (nI k &&& 31)) = 0 := by decide +kernel
theorem cs_nref {post : Int32 → Prop} {k : Nat} {x : Int32} (hk : k < 8) (hx : x = (1 : Int32) <<< (nI k &&& 31)) (h3 : ∀ j, j < 8 → a3 j = 255) (h : post 255) : wpX_nameRefusals post (0, 0, 0, 7, pp, 0, nn, a1, a2, a3, a4, a5, a6, a7, a8, a9, a10, a11, a12) x := by
  subst hx
  unfold wpX_nameRefusals
  refine pk_loop (fun n i s => wX_nameRefusals_4 post ((1 : Int32) <<< (nI k &&& 31)) 0 0 0 7 pp 0 nn a1 a2 a3 a4 a5 a6 a7 a8 a9 a10 a11 a12 n s (nI i)) (fun i s => (i ≤ k → s = 0) ∧ (k < i → s = 255)) 8 0 0 (by omega) ⟨fun _ => rfl, fun z => absurd z (by omega)⟩ (fun n s hs => ?_) (fun n i s hi hs hw => ?_)
  · refine pk_le 8 8 (fun _ => ?_) (fun z => absurd z (by omega))
    rw [hs.2 hk]
    exact h
  · refine pk_le 8 i (fun z => absurd z (by omega)) (fun _ => br_c (fun b => ⟨pk_in i 8 hi, nm_r (e' := 255) ?_ (nm_r (nI_1 i) (hw _ ⟨?_, fun _ => rfl⟩))⟩) (fun b => nm_r (nI_1 i) (hw _ ⟨?_, ?_⟩)))
    · have e := (cs_bit k hk i hi).mp b
      rw [hs.1 (by omega), nI_clamp (by omega)]
      exact cs_or0 (h3 i hi)
    · have e := (cs_bit k hk i hi).mp b
      exact fun z => absurd z (by omega)
    · exact fun z => hs.1 (by omega)
    · have e : ¬ i = k := fun e => b ((cs_bit k hk i hi).mpr e)
      exact fun z => hs.2 (by omega)
theorem cs_exc {post : Int32 → St2 → Prop} {k : Nat} (hk8 : k < 8) (h9 : a9 0 = 1) (h10 : a10 0 = (1 : Int32) <<< (nI k &&& 31)) (h3 : ∀ j, j < 8 → a3 j = 255) (hk : ¬ pp = 0 → ∀ j, j < 64 → a5 j = 255)
    (H : ∀ (p : Int32) (b5 : Nat → Int32), ¬ p = 0 → (∀ j, j < 64 → b5 j = 255) → post 0 (0, 0, 0, 7, p, 0, nn, a1, a2, a3, a4, b5, a6, a7, a8, a9, a10, a11, a12)) : wpX_excess post (0, 0, 0, 7, pp, 0, nn, a1, a2, a3, a4, a5, a6, a7, a8, a9, a10, a11, a12) 0 := by
  unfold wpX_excess
  exact ⟨pk_in 0 128 (by omega), cs_ref h9 h3 hk (fun p b5 hp h5 => ⟨pk_in 0 128 (by omega), cs_nref hk8 h10 h3 (ek_v (P := fun r => post r (0, 0, 0, 7, p, 0, nn, a1, a2, a3, a4, b5, a6, a7, a8, a9, a10, a11, a12)) (by decide) (H p b5 hp h5))⟩)⟩
end
end
section
section
variable {pp nn : Int32} {a1 a2 a3 a4 a5 a6 : Nat → Int32} {a7 : Nat → Int64} {a8 : Nat → Int32} {a9 : Nat → Int64} {a10 a11 a12 : Nat → Int32}
theorem cs_gapNode {post : Int32 → St2 → Prop} {k : Nat} {kind : Int32} (hk8 : k < 8) (h3 : ∀ j, j < 8 → a3 j = 255) (h4 : ∀ j, j < 24 → a4 j = 0) (hk : ¬ pp = 0 → ∀ j, j < 64 → a5 j = 255)
    (H : ∀ (p : Int32) (b5 b8 : Nat → Int32) (b9 : Nat → Int64) (b10 b11 b12 : Nat → Int32), (¬ p = 0 → ∀ j, j < 64 → b5 j = 255) → post (-1) (0, 0, 0, 7, p, 0, 1, a1, a2, a3, a4, b5, a6, a7, b8, b9, b10, b11, b12)) :
    wpX_gapNode post (0, 0, 0, 7, pp, 0, nn, a1, a2, a3, a4, a5, a6, a7, a8, a9, a10, a11, a12) (nI k) kind := by
  unfold wpX_gapNode
  refine cs_walk h4 (fun b8 b9 b10 b11 b12 _ _ h9 h10 _ _ => ⟨0 + 1 + 1, ?_⟩)
  refine br_f (by decide) (br_c (fun z => ⟨pk_in 0 128 (by omega), br_f (fun e => cs_n0 k hk8 (h10.symm.trans e)) ?_⟩) (fun z => cs_exc hk8 h9 h10 h3 hk (fun p b5 hp h5 => br_t rfl ?_)))
  · exact nm_r (e' := 1) (by decide) (br_t (by decide) (H pp a5 b8 b9 b10 b11 b12 hk))
  · exact nm_r (e' := 1) (by decide) (br_t (by decide) (H p b5 b8 b9 b10 b11 b12 (fun _ => h5)))
theorem cs_gap {post : Int32 → St2 → Prop} {k kind : Int32} (h3 : ∀ j, j < 8 → a3 j = 255) (h4 : ∀ j, j < 24 → a4 j = 0) (hk : ¬ pp = 0 → ∀ j, j < 64 → a5 j = 255)
    (H : ∀ (r p n : Int32) (b5 b8 : Nat → Int32) (b9 : Nat → Int64) (b10 b11 b12 : Nat → Int32), (¬ p = 0 → ∀ j, j < 64 → b5 j = 255) →
      ((k < 0 ∨ 7 < k ∨ kind < 0 ∨ ¬ kind ≤ 1) → r = -1) → (¬ k < 0 → ¬ 7 < k → ¬ kind < 0 → kind ≤ 1 → r = -4) → post r (0, 0, 0, 7, p, 0, n, a1, a2, a3, a4, b5, a6, a7, b8, b9, b10, b11, b12)) :
    wpX_gap post (0, 0, 0, 7, pp, 0, nn, a1, a2, a3, a4, a5, a6, a7, a8, a9, a10, a11, a12) k kind := by
  unfold wpX_gap
  refine br_c (fun z => H _ _ _ _ _ _ _ _ _ hk (fun _ => rfl) (fun c => absurd z c)) (fun z1 => ?_)
  refine br_c (fun z => H _ _ _ _ _ _ _ _ _ hk (fun _ => rfl) (fun _ c => absurd z c)) (fun z2 => ?_)
  refine br_c (fun z => H _ _ _ _ _ _ _ _ _ hk (fun _ => rfl) (fun _ _ c => absurd z c)) (fun z3 => ?_)
  refine br_c (fun z4 => ?_) (fun z => H _ _ _ _ _ _ _ _ _ hk (fun _ => rfl) (fun _ _ _ c => absurd c z))
  obtain ⟨j, hj, e⟩ := nI_of2 (M := 7) (n := 7) (by decide) z1 (Int32.not_lt.mp z2)
  rw [e]
  refine cs_gapNode (by omega) h3 h4 hk (fun p b5 b8 b9 b10 b11 b12 h5 => br_f (by decide) (H _ _ _ _ _ _ _ _ _ h5 (fun c => ?_) (fun _ _ _ _ => rfl)))
  rcases c with c | c | c | c
  · exact absurd c z1
  · exact absurd c z2
  · exact absurd c z3
  · exact absurd z4 c
theorem cs_traces {post : Int32 → St2 → Prop} {l : Int32} (h4 : ∀ j, j < 24 → a4 j = 0)
    (H : ∀ (r n : Int32) (b8 : Nat → Int32) (b9 : Nat → Int64) (b10 b11 b12 : Nat → Int32), (l < 0 → r = -1) → (¬ l < 0 → l ≤ 4 → l = 0 → r = 1) → (¬ l < 0 → l ≤ 4 → ¬ l = 0 → r = 0) → (¬ l < 0 → ¬ l ≤ 4 → r = -1) → post r (0, 0, 0, 7, pp, 0, n, a1, a2, a3, a4, a5, a6, a7, b8, b9, b10, b11, b12)) :
    wpX_traces post (0, 0, 0, 7, pp, 0, nn, a1, a2, a3, a4, a5, a6, a7, a8, a9, a10, a11, a12) l := by
  unfold wpX_traces
  refine br_c (fun z => H _ _ _ _ _ _ _ (fun _ => rfl) (fun c => absurd z c) (fun c => absurd z c) (fun c => absurd z c)) (fun z1 => ?_)
  refine br_c (fun z2 => ?_) (fun z => H _ _ _ _ _ _ _ (fun c => absurd c z1) (fun _ c => absurd c z) (fun _ c => absurd c z) (fun _ _ => rfl))
  obtain ⟨j, hj, e⟩ := nI_of2 (M := 4) (n := 4) (by decide) z1 z2
  subst e
  refine cs_walk h4 (fun b8 b9 b10 b11 b12 h0 h1 _ _ _ h12 => ⟨pk_in j 7 (by omega), ?_⟩)
  have e1 : b8 (nI j + 1).toNatClampNeg = 1 := by
    rw [nI_1, nI_clamp (by omega)]
    exact h1 _ (by omega) (by omega)
  by_cases e : j = 0
  · subst e
    refine nm_r (e' := 0) h0 ⟨0 + 1 + 1, pk_in 1 7 (by omega), ?_⟩
    refine br_f (by rw [e1]; decide) ⟨pk_in 0 128 (by omega), nm_r (e' := 1) (by rw [sb_cl0, h12]; decide) (nm_r (e' := 1) (by decide) ⟨pk_in 1 7 (by omega), br_t (by rw [e1]; decide) ?_⟩)⟩
    exact H _ _ _ _ _ _ _ (fun c => absurd c z1) (fun _ _ _ => rfl) (fun _ _ c => absurd rfl c) (fun _ c => absurd z2 c)
  · refine nm_r (e' := 1) (by rw [nI_clamp (by omega)]; exact h1 j (by omega) (by omega)) ⟨0 + 1, pk_in (j + 1) 7 (by omega) (nI_1 j), br_t (by rw [e1]; decide) ?_⟩
    exact H _ _ _ _ _ _ _ (fun c => absurd c z1) (fun _ _ c => absurd c (nI_ne0 (by omega) (by omega))) (fun _ _ _ => rfl) (fun _ c => absurd z2 c)
theorem cs_refuses {post : Int32 → St2 → Prop} {t : Int32} (h3 : ∀ j, j < 8 → a3 j = 255) (h7 : a7 0 = 1) (hk : ¬ pp = 0 → ∀ j, j < 64 → a5 j = 255)
    (H : ∀ (r p : Int32) (b5 : Nat → Int32), (¬ p = 0 → ∀ j, j < 64 → b5 j = 255) → (t < 0 → r = 0) → (¬ t < 0 → t ≤ 7 → r = 1) → (¬ t ≤ 7 → r = 0) → post r (0, 0, 0, 7, p, 0, nn, a1, a2, a3, a4, b5, a6, a7, a8, a9, a10, a11, a12)) :
    wpX_refuses post (0, 0, 0, 7, pp, 0, nn, a1, a2, a3, a4, a5, a6, a7, a8, a9, a10, a11, a12) t := by
  unfold wpX_refuses
  refine br_c (fun z => H _ _ _ hk (fun _ => rfl) (fun c => absurd z c) (fun _ => rfl)) (fun z1 => ?_)
  refine br_c (fun z2 => ?_) (fun z => H _ _ _ hk (fun c => absurd c z1) (fun _ c => absurd c z) (fun _ => rfl))
  obtain ⟨j, hj, e⟩ := nI_of2 (M := 7) (n := 7) (by decide) z1 z2
  subst e
  exact ⟨pk_in 0 5 (by omega), cs_ref h7 h3 hk (fun p b5 hp h5 => br_t (cs_255 j (by omega)) (H _ _ _ (fun _ => h5) (fun c => absurd c z1) (fun _ _ => rfl) (fun c => absurd z2 c)))⟩
theorem cs_deadlock {post : Int32 → St2 → Prop} (h3 : ∀ j, j < 8 → a3 j = 255) (h4 : ∀ j, j < 24 → a4 j = 0) (hk : ¬ pp = 0 → ∀ j, j < 64 → a5 j = 255)
    (H : ∀ (p n : Int32) (b5 b8 : Nat → Int32) (b9 : Nat → Int64) (b10 b11 b12 : Nat → Int32), post 0 (0, 0, 0, 7, p, 0, n, a1, a2, a3, a4, b5, a6, a7, b8, b9, b10, b11, b12)) :
    wpX_deadlock post (0, 0, 0, 7, pp, 0, nn, a1, a2, a3, a4, a5, a6, a7, a8, a9, a10, a11, a12) := by
  unfold wpX_deadlock
  refine cs_walk h4 (fun b8 b9 b10 b11 b12 _ _ h9 _ h11 _ => ⟨0 + 1, ?_⟩)
  refine br_f (by decide) ⟨pk_in 0 128 (by omega), cs_ref h9 h3 hk (fun p b5 hp h5 => br_t (by decide) ⟨pk_in 0 128 (by omega), ?_⟩)⟩
  exact ek_v (P := fun r => post r (0, 0, 0, 7, p, 0, 1, a1, a2, a3, a4, b5, a6, a7, b8, b9, b10, b11, b12)) h11 (H p 1 b5 b8 b9 b10 b11 b12)
theorem cs_define {post : Int32 → St2 → Prop} {k : Int32}
    (H : ∀ r : Int32, (k < 0 → r = -1) → (¬ k < 0 → k ≤ 7 → r = -3) → (¬ k ≤ 7 → r = -1) → post r (0, 0, 0, 7, pp, 0, nn, a1, a2, a3, a4, a5, a6, a7, a8, a9, a10, a11, a12)) : wpX_define post (0, 0, 0, 7, pp, 0, nn, a1, a2, a3, a4, a5, a6, a7, a8, a9, a10, a11, a12) k := by
  unfold wpX_define
  refine br_c (fun z => H _ (fun _ => rfl) (fun c => absurd z c) (fun _ => rfl)) (fun z1 => ?_)
  refine br_c (fun z2 => ?_) (fun z => H _ (fun c => absurd c z1) (fun _ c => absurd c z) (fun _ => rfl))
  exact br_t rfl (H _ (fun c => absurd c z1) (fun _ _ => rfl) (fun c => absurd z2 c))
end
theorem cs_init {post : St2 → Prop} (H : ∀ a3 : Nat → Int32, (∀ j, j < 8 → a3 j = 255) → post (0, 0, 0, 7, 0, 0, 0, (fun _ => 0), (fun _ => 0), a3, (fun _ => 0), (fun _ => 0), (fun _ => 0), vp_updL (fun _ => 0) 0 1, (fun _ => 0), (fun _ => 0), (fun _ => 0), (fun _ => 0), (fun _ => 0))) :
    wpX_init post 12 648 (0, 0, 0, 0, 0, 0, 0) := by
  unfold wpX_init
  refine ⟨by omega, by omega, by omega, by omega, by omega, by omega, by omega, by omega, by omega, by omega, by omega, by omega, by omega, by omega, by omega, by omega, by omega, by omega, by omega, by omega, by omega, by omega, by omega, by omega, ?_⟩
  exact pk_loop (fun n i s => wX_init_104 post 12 648 12 648 0 0 0 0 0 0 0 n (nI i) (fun _ => 0) (fun _ => 0) s (fun _ => 0) (fun _ => 0) (fun _ => 0) (fun _ => 0) (fun _ => 0) (fun _ => 0) (fun _ => 0) (fun _ => 0) (fun _ => 0)) (fun i s => ∀ j, j < i → s j = 255) 8 0 (fun _ => 0) (by omega) (fun j hj => absurd hj (by omega))
    (fun n s h => pk_le 8 8 (fun _ => nm_e (H s h)) (fun z => absurd z (by omega)))
    (fun n i s hi h hw => pk_le 8 i (fun z => absurd z (by omega)) (fun _ => ⟨pk_in i 8 hi, nm_r (e' := upd s i 255) (by rw [nI_clamp (by omega)]) (nm_r (nI_1 i) (hw _ (cs_put h rfl)))⟩))
end
section
theorem cs_fin {post : Int32 → St0 → Prop} {mc ms kc ks : Nat} {x0 x2 x3 x4 x6 x7 x8 x9 x10 x11 x12 : Int32}
    (f1 : x0 < 0 → x6 = -1) (f2 : ¬ x0 < 0 → x0 ≤ 2 → x6 = -4) (f3 : ¬ x0 < 0 → ¬ x0 ≤ 2 → x6 = -1)
    (g1 : x12 = 0 → x7 = -1) (g2 : x2 < 0 → x7 = -1) (g3 : 1 < x2 → x7 = -1) (g4 : ¬ x12 = 0 → ¬ x2 < 0 → ¬ 1 < x2 → x7 = -4)
    (t1 : x3 < 0 → x8 = -1) (t2 : ¬ x3 < 0 → x3 ≤ 4 → x3 = 0 → x8 = 1) (t3 : ¬ x3 < 0 → x3 ≤ 4 → ¬ x3 = 0 → x8 = 0) (t4 : ¬ x3 < 0 → ¬ x3 ≤ 4 → x8 = -1)
    (r1 : x4 < 0 → x9 = 0) (r2 : 7 < x4 → x9 = 0) (r3 : ¬ x4 < 0 → ¬ 7 < x4 → x9 = 1) (d1 : x10 = 0) (n1 : x12 = 0 → x11 = -1) (n2 : ¬ x12 = 0 → x11 = -3)
    (h : post 1 ()) : wL_lawOf_73 post mc ms x0 x2 x3 x4 x6 x7 x8 x9 x10 x11 x12 kc ks := by
  have s1 : ∀ z0 : Int32, x9 = z0 → wL_lawOf_166 post mc ms x10 x11 x12 z0 x9 kc ks := fun z0 e =>
    br_t e (br_t d1 (br_c (fun z => br_t (n1 z) h) (fun z => br_t (n2 z) h)))
  have s2 : ∀ z0 : Int32, x8 = z0 → wL_lawOf_144 post mc ms x4 x9 x10 x11 x12 z0 x8 kc ks := fun z0 e =>
    br_t e (br_c (fun z => s1 0 (r1 z)) (fun z => br_c (fun z' => s1 0 (r2 z')) (fun z' => s1 1 (r3 z z'))))
  have s3 : ∀ z0 : Int32, x7 = z0 → wL_lawOf_117 post mc ms x3 x4 x8 x9 x10 x11 x12 z0 x7 kc ks := fun z0 e =>
    br_t e (br_c (fun z => s2 (-1) (t1 z)) (fun z => br_c (fun z' => br_c (fun z'' => s2 1 (t2 z z' z'')) (fun z'' => s2 0 (t3 z z' z''))) (fun z' => s2 (-1) (t4 z z'))))
  have s4 : ∀ z0 : Int32, x6 = z0 → wL_lawOf_92 post mc ms x2 x3 x4 x7 x8 x9 x10 x11 x12 z0 x6 kc ks := fun z0 e =>
    br_t e (br_c (fun z => s3 (-1) (g1 z)) (fun z => br_c (fun z' => s3 (-1) (g2 z')) (fun z' => br_c (fun z'' => s3 (-1) (g3 z'')) (fun z'' => s3 (-4) (g4 z z' z'')))))
  exact br_c (fun z => s4 (-1) (f1 z)) (fun z => br_c (fun z' => s4 (-4) (f2 z z')) (fun z' => s4 (-1) (f3 z z')))
theorem cs_lawOf {post : Int32 → St0 → Prop} {p0 p1 p2 p3 p4 : Int32} (h : post 1 ()) : wpL_lawOf post 13 667 () p0 p1 p2 p3 p4 := by
  unfold wpL_lawOf
  refine ⟨by omega, by omega, 12, 648, by omega, by omega, ?_⟩
  refine cs_init (fun a3 h3 => ?_)
  refine cs_feed (fun _ _ => rfl) (fun r52 f1 f2 f3 => ?_)
  refine cs_gap h3 (fun _ _ => rfl) (fun c => absurd rfl c) (fun r96 p n b5 b8 b9 b10 b11 b12 hk g1 g2 => ?_)
  refine cs_traces (fun _ _ => rfl) (fun r140 n b8 b9 b10 b11 b12 t1 t2 t3 t4 => ?_)
  refine cs_refuses h3 pk_uLs hk (fun r184 p b5 hk r1 r2 r3 => ?_)
  refine cs_deadlock h3 (fun _ _ => rfl) hk (fun p n b5 b8 b9 b10 b11 b12 => ?_)
  refine cs_define (fun r272 d1 d2 d3 => ?_)
  have r2' : 7 < p4 → r184 = 0 := fun z => r3 (Int32.not_le.mpr z)
  have r3' : ¬ p4 < 0 → ¬ 7 < p4 → r184 = 1 := fun z z' => r2 z (Int32.not_lt.mp z')
  have g3' : 1 < p2 → r96 = -1 := fun z => g1 (.inr (.inr (.inr (Int32.not_le.mpr z))))
  have g2' : p2 < 0 → r96 = -1 := fun z => g1 (.inr (.inr (.inl z)))
  refine br_c (fun z => ?_) (fun z => br_c (fun z' => ?_) (fun z' => ?_))
  · exact cs_fin (x12 := 0) f1 f2 f3 (fun _ => g1 (.inl z)) g2' g3' (fun c => absurd rfl c) t1 t2 t3 t4 r1 r2' r3' rfl (fun _ => d1 z) (fun c => absurd rfl c) h
  · exact cs_fin (x12 := 0) f1 f2 f3 (fun _ => g1 (.inr (.inl z'))) g2' g3' (fun c => absurd rfl c) t1 t2 t3 t4 r1 r2' r3' rfl (fun _ => d3 (Int32.not_le.mpr z')) (fun c => absurd rfl c) h
  · exact cs_fin (x12 := 1) f1 f2 f3 (fun c => absurd c (by decide)) g2' g3' (fun _ c c' => g2 z z' c (Int32.not_lt.mp c')) t1 t2 t3 t4 r1 r2' r3' rfl (fun c => absurd c (by decide)) (fun _ => d2 z (Int32.not_lt.mp z')) h
theorem cs_cell {post : Int32 → Prop} {L : Nat} {xs : Nat → Int32} (hL : L ≤ 5) (i : Nat) (hi : i < 5) (h : ∀ r, post r) : wpL_cellAt post L xs () (nI i) :=
  pk_le L i (fun _ => h _) (fun z => ⟨pk_in i L z, h _⟩)
theorem i_vc (xs : Nat → Int32) (L : Nat) (hL : L ≤ 5) : wpL_law (fun r => r = 1) L xs :=
  cs_cell hL 0 (by omega) (fun _ => cs_cell hL 1 (by omega) (fun _ => cs_cell hL 2 (by omega) (fun _ => cs_cell hL 3 (by omega) (fun _ => cs_cell hL 4 (by omega) (fun _ => ⟨13, 667, by omega, by omega, cs_lawOf rfl⟩)))))
end
