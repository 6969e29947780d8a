section
/-! bits of 0 and 1 -/
theorem sj_z (x : Int32) : ((0 : Int32) >>> (x &&& 31)) &&& 1 = 0 := by simp
theorem sj_o : ∀ i, i < 5 → 0 < i → ((1 : Int32) >>> (nI i &&& 31)) &&& 1 = 0 := by decide +kernel
theorem sj_o0 : ¬ ((1 : Int32) >>> ((0 : Int32) &&& 31)) &&& 1 = 0 := by decide +kernel
theorem sj_g1 : (1 : Int32) &&& (0 ^^^ (-1)) = 1 := by decide +kernel
theorem sj_g0 : (1 : Int32) &&& (1 ^^^ (-1)) = 0 := by decide +kernel
theorem sj_h1 : (0 : Int32) ||| ((1 : Int32) <<< ((0 : Int32) &&& 31)) = 1 := by decide +kernel
theorem sj_h0 : (1 : Int32) &&& (((1 : Int32) <<< ((0 : Int32) &&& 31)) ^^^ (-1)) = 0 := by decide +kernel
theorem sj_at {a : Nat → Int32} {x : Int32} (h : a 0 = x) : a (0 : Int32).toNatClampNeg = x := by rw [sb_cl0]; exact h
theorem sj_fill {v s : Nat → Int32} {i m : Nat} {x : Int32} (hm : m = i) (h : ∀ j, j < i → s j = v j) (hx : x = v i) : ∀ j, j < i + 1 → upd s m x j = v j := by
  intro j hj
  rw [hm]
  by_cases e : j = i
  · rw [e, pk_us, hx]
  · rw [pk_un e]
    exact h j (by omega)
section
variable {c k q f g pc be : Int32} {a1 a2 a3 a4 a5 a6 a7 a8 : Nat → Int32}
/-! pushFollowers: no followers, nothing changes -/
theorem sj_pf27 {post : St2 → Prop} {x3 : Int32} (H : post (c, k, q, f, g, pc, be, a1, a2, a3, a4, a5, a6, a7, a8)) : ∃ n, wX_pushFollowers_27 post x3 0 c k q f g pc be n 0 a1 a2 a3 a4 a5 a6 a7 a8 :=
  pk_loop (σ := Unit) (fun n i _ => wX_pushFollowers_27 post x3 0 c k q f g pc be n (nI i) a1 a2 a3 a4 a5 a6 a7 a8) (fun _ _ => True) 5 0 () (by omega) trivial
    (fun n _ _ => pk_le 5 5 (fun _ => H) (fun z => absurd z (by omega)))
    (fun n i _ hi _ hw => pk_le 5 i (fun z => absurd z (by omega)) (fun _ => br_t (sj_z (nI i)) (nm_r (nI_1 i) (hw () trivial))))
theorem sj_pf {post : St2 → Prop} {i : Nat} {s : Int32} (hi : i < 5) (h6 : a6 i = 0) (H : post (c, k, q, f, g, pc, be, a1, a2, a3, a4, a5, a6, a7, a8)) : wpX_pushFollowers post (c, k, q, f, g, pc, be, a1, a2, a3, a4, a5, a6, a7, a8) (nI i) s := by
  unfold wpX_pushFollowers
  refine ⟨pk_in i 5 hi, pk_in i 5 hi, nm_e ⟨pk_in i 5 hi, nm_r (e' := 0) ?_ (sj_pf27 H)⟩⟩
  rw [nI_clamp (by omega), h6]
  simp
/-! setReady -/
theorem sj_s34 {post : St2 → Prop} {J : Int32 → Int32 → Int32 → Int32 → Int32 → Int32 → Int32 → Int32 → (Nat → Int32) → (Nat → Int32) → (Nat → Int32) → (Nat → Int32) → (Nat → Int32) → (Nat → Int32) → (Nat → Int32) → (Nat → Int32) → Prop} {s x2 : Int32} (h6 : ∀ j, j < 5 → a6 j = 0) (H : J (x2 + 1) c k q f g pc be a1 a2 a3 a4 a5 a6 a7 a8) : ∃ n, wX_setReady_34 post J s x2 n 0 c k q f g pc be a1 a2 a3 a4 a5 a6 a7 a8 :=
  pk_loop (σ := Unit) (fun n i _ => wX_setReady_34 post J s x2 n (nI i) c k q f g pc be a1 a2 a3 a4 a5 a6 a7 a8) (fun _ _ => True) 5 0 () (by omega) trivial
    (fun n _ _ => pk_le 5 5 (fun _ => nm_e H) (fun z => absurd z (by omega)))
    (fun n i _ hi _ hw => pk_le 5 i (fun z => absurd z (by omega)) (fun _ => br_c (fun _ => nm_r (nI_1 i) (hw () trivial)) (fun _ => sj_pf hi (h6 i hi) (nm_r (nI_1 i) (hw () trivial)))))
theorem sj_s27 {post : St2 → Prop} {s : Int32} (h6 : ∀ j, j < 5 → a6 j = 0) (H : post (c, k, q, f, g, pc, be, a1, a2, a3, a4, a5, a6, a7, a8)) : ∃ n, wX_setReady_27 post s n 0 c k q f g pc be a1 a2 a3 a4 a5 a6 a7 a8 :=
  pk_loop (σ := Unit) (fun n i _ => wX_setReady_27 post s n (nI i) c k q f g pc be a1 a2 a3 a4 a5 a6 a7 a8) (fun _ _ => True) 5 0 () (by omega) trivial
    (fun n _ _ => pk_le 5 5 (fun _ => H) (fun z => absurd z (by omega)))
    (fun n i _ hi _ hw => pk_le 5 i (fun z => absurd z (by omega)) (fun _ => sj_s34 h6 (by rw [nI_1]; exact hw () trivial)))
theorem sj_s2 {post : St2 → Prop} {s : Int32} (h6 : ∀ j, j < 5 → a6 j = 0) (H : ∀ b7 : Nat → Int32, (∀ j, j < 5 → b7 j = vp_nar .byte (a1 j)) → post (c, k, q, f, g, pc, be, a1, a2, a3, a4, a5, a6, b7, a8)) : ∃ n, wX_setReady_2 post s c k q f g pc be n 0 a1 a2 a3 a4 a5 a6 a7 a8 :=
  pk_loop (fun n i b7 => wX_setReady_2 post s c k q f g pc be n (nI i) a1 a2 a3 a4 a5 a6 b7 a8) (fun i b7 => ∀ j, j < i → b7 j = vp_nar .byte (a1 j)) 5 0 a7 (by omega) (fun j hj => absurd hj (by omega))
    (fun n b7 h => pk_le 5 5 (fun _ => sj_s27 h6 (H b7 h)) (fun z => absurd z (by omega)))
    (fun n i b7 hi h hw => pk_le 5 i (fun z => absurd z (by omega)) (fun _ => ⟨pk_in i 5 hi, pk_in i 5 hi, nm_e (nm_r (nI_1 i) (hw _ (sj_fill (v := fun j => vp_nar .byte (a1 j)) (nI_clamp (by omega)) h (by rw [nI_clamp (by omega)]))))⟩))
theorem sj_ready {post : St2 → Prop} {s : Int32} (h6 : ∀ j, j < 5 → a6 j = 0) (H : ∀ b7 : Nat → Int32, (∀ j, j < 5 → b7 j = vp_nar .byte (a1 j)) → post (c, k, q, f, g, pc, be, a1, a2, a3, a4, a5, a6, b7, a8)) : wpX_setReady post (c, k, q, f, g, pc, be, a1, a2, a3, a4, a5, a6, a7, a8) s := by
  unfold wpX_setReady
  exact sj_s2 h6 H
/-! earliestOf: of the group 1 it is 0, of the group 0 it is -1 -/
theorem sj_e4 {post : Int32 → Prop} {x y : Int32} (i0 : Nat) (h0 : i0 ≤ 5) (hb : ∀ i, i < 5 → i0 ≤ i → (x >>> (nI i &&& 31)) &&& 1 = 0) (H : post y) : ∃ n, wX_earliestOf_4 post x c k q f g pc be a1 a2 a3 a4 a5 a6 a7 a8 n y (nI i0) :=
  pk_loop (σ := Unit) (fun n i _ => wX_earliestOf_4 post x c k q f g pc be a1 a2 a3 a4 a5 a6 a7 a8 n y (nI i)) (fun i _ => i0 ≤ i) 5 i0 () h0 (Nat.le_refl i0)
    (fun n _ _ => pk_le 5 5 (fun _ => H) (fun z => absurd z (by omega)))
    (fun n i _ hi hj hw => pk_le 5 i (fun z => absurd z (by omega)) (fun _ => br_t (hb i hi hj) (nm_r (nI_1 i) (hw () (by omega)))))
theorem sj_e0 {post : Int32 → Prop} {x : Int32} (hx : x = 0) (H : post (-1)) : wpX_earliestOf post (c, k, q, f, g, pc, be, a1, a2, a3, a4, a5, a6, a7, a8) x := by
  subst hx
  unfold wpX_earliestOf
  exact sj_e4 0 (by omega) (fun i _ _ => sj_z (nI i)) H
theorem sj_e1 {post : Int32 → Prop} {x : Int32} (hx : x = 1) (H : post 0) : wpX_earliestOf post (c, k, q, f, g, pc, be, a1, a2, a3, a4, a5, a6, a7, a8) x := by
  subst hx
  unfold wpX_earliestOf
  obtain ⟨n, hn⟩ := sj_e4 (c := c) (k := k) (q := q) (f := f) (g := g) (pc := pc) (be := be) (a1 := a1) (a2 := a2) (a3 := a3) (a4 := a4) (a5 := a5) (a6 := a6) (a7 := a7) (a8 := a8) (post := post) (x := 1) (y := 0) 1 (by omega) (fun i hi hj => sj_o i hi (by omega)) H
  exact ⟨n + 1, br_f (by decide) (br_f sj_o0 (br_t (by decide) (nm_r (nI_1 0) hn)))⟩
/-! firstBlock of the group 1 -/
theorem sj_fb {post : Int32 → St2 → Prop} {x r p : Int32} (hx : x = 1) (h7 : a7 0 = r) (h2 : a2 0 = p) (H : post 1 (c, k, q, f, g, pc, (r + p), a1, a2, a3, a4, a5, a6, a7, a8)) : wpX_firstBlock post (c, k, q, f, g, pc, be, a1, a2, a3, a4, a5, a6, a7, a8) x := by
  subst hx
  unfold wpX_firstBlock
  refine ⟨2, ?_⟩
  refine br_f (by decide) (sj_e1 sj_g1 (br_t (by decide) (br_f (by decide) ⟨pk_in 0 5 (by omega), nm_r (sj_at h7) ?_⟩)))
  refine br_t rfl (nm_r sj_h1 ⟨pk_in 0 5 (by omega), nm_r (e' := r + p) (by rw [sj_at h2]) (nm_r (e' := 1) (by decide) ?_)⟩)
  exact br_f (by decide) (sj_e0 sj_g0 (br_f (by decide) H))
/-! push of nothing -/
theorem sj_push {post : St2 → Prop} {x : Int32} (hx : x = 0) (H : post (c, k, q, f, g, pc, be, a1, a2, a3, a4, a5, a6, a7, a8)) : wpX_push post (c, k, q, f, g, pc, be, a1, a2, a3, a4, a5, a6, a7, a8) x := by
  unfold wpX_push
  exact br_t hx H
/-! the cost of job 0: a late job, due 0, weight 1, not forced -/
theorem sj_cost {post : Int32 → Prop} {t : Int32} (hf : f = -1) (h3 : a3 0 = 0) (h4 : a4 0 = 0) (h5 : a5 0 = 1) (ht : 0 < t) (H : post t) : wpX_costNow post (c, k, q, f, g, pc, be, a1, a2, a3, a4, a5, a6, a7, a8) 0 t := by
  subst hf
  unfold wpX_costNow
  refine br_f (by decide) ?_
  unfold wX_costNow_19 wpX_ruled
  refine ⟨pk_in 0 5 (by omega), nm_r (e' := t) (by rw [sj_at h4]; simp) ⟨pk_in 0 5 (by omega), nm_r (sj_at h3) (br_f (by decide) (br_t ht (br_t rfl ⟨pk_in 0 5 (by omega), ?_⟩)))⟩⟩
  rw [sj_at h5, Int32.one_mul]
  exact H
/-! cheapestLast of the block 1 is 0 -/
theorem sj_c9 {post : Int32 → Prop} {t x : Int32} (H : post 0) : ∃ n, wX_cheapestLast_9 post 1 t c k q f g pc be a1 a2 a3 a4 a5 a6 a7 a8 n 0 x (nI 1) :=
  pk_loop (σ := Unit) (fun n i _ => wX_cheapestLast_9 post 1 t c k q f g pc be a1 a2 a3 a4 a5 a6 a7 a8 n 0 x (nI i)) (fun i _ => 1 ≤ i) 5 1 () (by omega) (by omega)
    (fun n _ _ => pk_le 5 5 (fun _ => H) (fun z => absurd z (by omega)))
    (fun n i _ hi hj hw => pk_le 5 i (fun z => absurd z (by omega)) (fun _ => br_t (sj_o i hi (by omega)) (br_t rfl (nm_r (nI_1 i) (hw () (by omega))))))
theorem sj_cl {post : Int32 → Prop} {x t : Int32} (hx : x = 1) (hf : f = -1) (h3 : a3 0 = 0) (h4 : a4 0 = 0) (h5 : a5 0 = 1) (h6 : a6 0 = 0) (ht : 0 < t) (H : post 0) : wpX_cheapestLast post (c, k, q, f, g, pc, be, a1, a2, a3, a4, a5, a6, a7, a8) x t := by
  subst hx
  unfold wpX_cheapestLast
  have h6' : (a6 (0 : Int32).toNatClampNeg) &&& 1 = 0 := by rw [sj_at h6]; decide
  by_cases hc : (100001 : Int32) ≤ t
  · obtain ⟨n, hn⟩ := sj_c9 (c := c) (k := k) (q := q) (f := f) (g := g) (pc := pc) (be := be) (a1 := a1) (a2 := a2) (a3 := a3) (a4 := a4) (a5 := a5) (a6 := a6) (a7 := a7) (a8 := a8) (post := post) (t := t) (x := 100001) H
    exact ⟨n + 1, br_f (by decide) (br_f sj_o0 (br_f (by decide) ⟨pk_in 0 5 (by omega), br_t h6' (sj_cost hf h3 h4 h5 ht (br_t hc (nm_r (nI_1 0) hn)))⟩))⟩
  · obtain ⟨n, hn⟩ := sj_c9 (c := c) (k := k) (q := q) (f := f) (g := g) (pc := pc) (be := be) (a1 := a1) (a2 := a2) (a3 := a3) (a4 := a4) (a5 := a5) (a6 := a6) (a7 := a7) (a8 := a8) (post := post) (t := t) (x := t) H
    exact ⟨n + 1, br_f (by decide) (br_f sj_o0 (br_f (by decide) ⟨pk_in 0 5 (by omega), br_t h6' (sj_cost hf h3 h4 h5 ht (br_f hc (nm_r (nI_1 0) hn)))⟩))⟩
/-! leastWorst of the set 1 -/
theorem sj_lw {post : Int32 → St2 → Prop} {x r p : Int32} (hx : x = 1) (hf : f = -1) (h1 : vp_nar .byte (a1 0) = r) (h2 : a2 0 = p) (h3 : a3 0 = 0) (h4 : a4 0 = 0) (h5 : a5 0 = 1) (h6 : ∀ j, j < 5 → a6 j = 0) (ht : 0 < r + p)
    (H : ∀ b7 b8 : Nat → Int32, b7 0 = r → post (r + p) (c, k, q, f, g, 0, (r + p), a1, a2, a3, a4, a5, a6, b7, b8)) : wpX_leastWorst post (c, k, q, f, g, pc, be, a1, a2, a3, a4, a5, a6, a7, a8) x := by
  subst hx
  unfold wpX_leastWorst
  have hw : ¬ r + p ≤ -100000 := by
    rw [Int32.lt_iff_toInt_lt] at ht
    rw [Int32.le_iff_toInt_le]
    have e1 : (0 : Int32).toInt = 0 := by decide
    have e2 : (-100000 : Int32).toInt = -100000 := by decide
    omega
  refine sj_ready h6 (fun b7 hb => nm_e ⟨2, ?_⟩)
  have h7 : b7 0 = r := by rw [hb 0 (by omega), h1]
  refine br_f (by decide) (br_f (by decide) (nm_r (e' := 0) (by decide) ⟨pk_in 0 16 (by omega), nm_r (e' := 1) (by rw [sb_cl0, pk_us]; decide) ?_⟩))
  refine sj_fb rfl h7 h2 (sj_push sj_g0 (sj_cl rfl hf h3 h4 h5 (h6 0 (by omega)) ht (sj_cost hf h3 h4 h5 ht (br_f hw ?_))))
  unfold wX_leastWorst_111
  refine sj_push sj_h0 (nm_r (e' := 1) (by decide) ?_)
  exact br_f (by decide) (br_t (by decide) (H b7 _ h7))
end
end
section
/-! the class's members, as the law meets them -/
/-- a state with no job: no followers, no forced job -/
def sj_E (u : St2) : Prop := match u with
  | (c, k, q, f, g, pc, be, a1, a2, a3, a4, a5, a6, a7, a8) => ¬ c ≤ 0 ∧ q = 0 ∧ f = -1 ∧ (∀ j, j < 5 → a6 j = 0)
/-- a state with job 0 alone: it was released at r and has length p -/
def sj_J (r p : Int32) (u : St2) : Prop := match u with
  | (c, k, q, f, g, pc, be, a1, a2, a3, a4, a5, a6, a7, a8) => q = 1 ∧ vp_nar .byte (a1 0) = r ∧ a2 0 = p ∧ (∀ j, j < 5 → a6 j = 0)
theorem sj_b9 : ∀ i, i ≤ 9 → (nI i).toInt8.toInt32 = nI i := by decide +kernel
theorem sj_bp : ∀ i, i ≤ 9 → ∀ j, j ≤ 3 → 1 ≤ j → (0 : Int32) < nI i + nI j := by decide +kernel
theorem sj_good {r p : Int32} (h1 : ¬ r < 0) (h2 : ¬ 9 < r) (h3 : ¬ p < 1) (h4 : p ≤ 3) : r.toInt8.toInt32 = r ∧ p.toInt8.toInt32 = p ∧ 0 < r + p := by
  obtain ⟨i, hi, rfl⟩ := nI_of2 (M := 9) (n := 9) (by decide) h1 (by
    rw [Int32.lt_iff_toInt_lt] at h2
    rw [Int32.le_iff_toInt_le]
    omega)
  have h0 : ¬ p < 0 := by
    rw [Int32.lt_iff_toInt_lt] at h3 ⊢
    have e0 : (0 : Int32).toInt = 0 := by decide
    have e1 : (1 : Int32).toInt = 1 := by decide
    omega
  obtain ⟨j, hj, rfl⟩ := nI_of2 (M := 3) (n := 3) (by decide) h0 h4
  have h1' : 1 ≤ j := by
    rcases Nat.lt_or_ge j 1 with z | z
    · exact absurd (show nI j < 1 from nI_lt (b := 1) z (by decide)) h3
    · exact z
  exact ⟨sj_b9 i hi, sj_b9 j (by omega), sj_bp i hi j hj h1'⟩
section
variable {c k q f g pc be : Int32} {a1 a2 a3 a4 a5 a6 a7 a8 : Nat → Int32}
theorem sj_holds {post : Int32 → Prop} {x : Int32} (hq : q = 0) (H : post 0) : wpX_holds post (c, k, q, f, g, pc, be, a1, a2, a3, a4, a5, a6, a7, a8) x := by
  subst hq
  unfold wpX_holds
  exact br_c (fun _ => H) (fun _ => br_c (fun _ => H) (fun _ => br_t (sj_z x) H))
theorem sj_worst {post : Int32 → St2 → Prop} (hq : q = 0) (H : post (-2000) (c, k, q, f, g, pc, be, a1, a2, a3, a4, a5, a6, a7, a8)) : wpX_worst post (c, k, q, f, g, pc, be, a1, a2, a3, a4, a5, a6, a7, a8) := by
  unfold wpX_worst
  exact br_t hq H
theorem sj_costAt {post : Int32 → Prop} {x t : Int32} (hq : q = 0) (H : post (-2000)) : wpX_costAt post (c, k, q, f, g, pc, be, a1, a2, a3, a4, a5, a6, a7, a8) x t := by
  unfold wpX_costAt
  exact sj_holds hq (br_t rfl H)
theorem sj_remove {post : Int32 → St2 → Prop} {x : Int32} (hq : q = 0) (H : post 0 (c, k, q, f, g, pc, be, a1, a2, a3, a4, a5, a6, a7, a8)) : wpX_remove post (c, k, q, f, g, pc, be, a1, a2, a3, a4, a5, a6, a7, a8) x := by
  unfold wpX_remove
  exact sj_holds hq (br_t rfl H)
theorem sj_free {post : Int32 → Prop} (hc : ¬ c ≤ 0) (hq : q = 0) (H : post 0) : wpX_freeNumber post (c, k, q, f, g, pc, be, a1, a2, a3, a4, a5, a6, a7, a8) := by
  subst hq
  unfold wpX_freeNumber
  exact ⟨1, br_f hc (br_t (sj_z 0) H)⟩
theorem sj_rule {post : St2 → Prop} (H : post (c, k, q, f, g, pc, be, a1, a2, (upd a3 0 0), (upd a4 0 0), (upd a5 0 1), a6, a7, a8)) : wpX_rule post (c, k, q, f, g, pc, be, a1, a2, a3, a4, a5, a6, a7, a8) 0 0 0 1 := by
  unfold wpX_rule
  refine ⟨pk_in 0 5 (by omega), nm_r (e' := upd a3 0 0) ?_ ⟨pk_in 0 5 (by omega), nm_r (e' := upd a4 0 0) ?_ ⟨pk_in 0 5 (by omega), nm_r (e' := upd a5 0 1) ?_ H⟩⟩⟩
  · rw [sb_cl0, show (0 : Int32).toInt8.toInt32 = 0 by decide]
  · rw [sb_cl0, show (0 : Int32).toInt8.toInt32 = 0 by decide]
  · rw [sb_cl0, show (1 : Int32).toInt8.toInt32 = 1 by decide]
theorem sj_cap {post : Int32 → St2 → Prop} {r p : Int32} (hq : q = 1) (hf : f = -1) (h1 : vp_nar .byte (a1 0) = r) (h2 : a2 0 = p) (h3 : a3 0 = 0) (h4 : a4 0 = 0) (h5 : a5 0 = 1) (h6 : ∀ j, j < 5 → a6 j = 0) (ht : 0 < r + p)
    (H0 : k < r + p → ∀ b7 b8 : Nat → Int32, post 0 (c, k, q, f, g, 0, (r + p), a1, a2, a3, a4, a5, a6, b7, b8))
    (H1 : ¬ k < r + p → ∀ b7 b8 : Nat → Int32, post 1 (c, k, q, f, g, 0, (r + p), a1, a2, a3, a4, a5, a6, b7, b8)) : wpX_withinCap post (c, k, q, f, g, pc, be, a1, a2, a3, a4, a5, a6, a7, a8) := by
  unfold wpX_withinCap
  refine br_f (by rw [hq]; decide) (sj_lw hq hf h1 h2 h3 h4 h5 h6 ht (fun b7 b8 _ => br_c (fun h => H0 h b7 b8) (fun h => H1 h b7 b8)))
theorem sj_enter {post : Int32 → St2 → Prop} {r p : Int32} (hE : sj_E (c, k, q, f, g, pc, be, a1, a2, a3, a4, a5, a6, a7, a8)) (hr : r.toInt8.toInt32 = r) (hp : p.toInt8.toInt32 = p) (ht : 0 < r + p)
    (H0 : k < r + p → ∀ u, sj_E u → post (-3) u)
    (H1 : ¬ k < r + p → ∀ u, sj_J r p u → post 0 u) : wpX_enter post (c, k, q, f, g, pc, be, a1, a2, a3, a4, a5, a6, a7, a8) r p 0 0 := by
  obtain ⟨hc, hq, hf, h6⟩ := hE
  have h6' : ∀ j, j < 5 → upd a6 0 0 j = 0 := by
    intro j hj
    by_cases e : j = 0
    · rw [e, pk_us]
    · rw [pk_un e]
      exact h6 j hj
  unfold wpX_enter
  refine sj_free hc hq (br_t (by decide) ⟨pk_in 0 5 (by omega), nm_r (e' := upd a1 0 r) (by rw [sb_cl0, hr]) ⟨pk_in 0 5 (by omega), nm_r (e' := upd a2 0 p) (by rw [sb_cl0, hp]) ⟨pk_in 0 5 (by omega), nm_r (e' := upd a6 0 0) (by rw [sb_cl0]) ?_⟩⟩⟩)
  refine sj_rule (nm_r (e' := 1) (by rw [hq]; exact sj_h1) ?_)
  have h1 : vp_nar .byte (upd a1 0 r 0) = r := by rw [pk_us, vp_nar_byte, hr]
  refine sj_cap rfl hf h1 pk_us pk_us pk_us pk_us h6' ht (fun h b7 b8 => ?_) (fun h b7 b8 => ?_)
  · exact br_t rfl (nm_r sj_h0 (H0 h _ ⟨hc, rfl, hf, h6'⟩))
  · exact br_f (by decide) (H1 h _ ⟨rfl, h1, pk_us, h6'⟩)
theorem sj_add {post : Int32 → St2 → Prop} {r p : Int32} (hE : sj_E (c, k, q, f, g, pc, be, a1, a2, a3, a4, a5, a6, a7, a8))
    (HB : ¬ (¬ r < 0 ∧ ¬ 9 < r ∧ ¬ p < 1 ∧ p ≤ 3) → ∀ u, sj_E u → post (-1) u)
    (H0 : (¬ r < 0 ∧ ¬ 9 < r ∧ ¬ p < 1 ∧ p ≤ 3) → k < r + p → ∀ u, sj_E u → post (-3) u)
    (H1 : (¬ r < 0 ∧ ¬ 9 < r ∧ ¬ p < 1 ∧ p ≤ 3) → ¬ k < r + p → ∀ u, sj_J r p u → post 0 u) : wpX_add post (c, k, q, f, g, pc, be, a1, a2, a3, a4, a5, a6, a7, a8) r p := by
  unfold wpX_add
  refine br_c (fun z => HB (fun h => h.1 z) _ hE) (fun h1 => br_c (fun z => HB (fun h => h.2.1 z) _ hE) (fun h2 => br_c (fun z => HB (fun h => h.2.2.1 z) _ hE) (fun h3 => br_c (fun h4 => ?_) (fun z => HB (fun h => z h.2.2.2) _ hE))))
  obtain ⟨hr, hp, ht⟩ := sj_good h1 h2 h3 h4
  exact sj_enter hE hr hp ht (fun h u hu => H0 ⟨h1, h2, h3, h4⟩ h u hu) (fun h u hu => H1 ⟨h1, h2, h3, h4⟩ h u hu)
theorem sj_span0 {post : Int32 → St2 → Prop} (hE : sj_E (c, k, q, f, g, pc, be, a1, a2, a3, a4, a5, a6, a7, a8)) (H : ∀ u, post 0 u) : wpX_span post (c, k, q, f, g, pc, be, a1, a2, a3, a4, a5, a6, a7, a8) := by
  obtain ⟨hc, hq, hf, h6⟩ := hE
  unfold wpX_span
  exact sj_ready h6 (fun b7 _ => ⟨1, br_f (by decide) (br_t hq (H _))⟩)
theorem sj_span1 {post : Int32 → St2 → Prop} {r p : Int32} (hJ : sj_J r p (c, k, q, f, g, pc, be, a1, a2, a3, a4, a5, a6, a7, a8)) (H : ∀ u, post (r + p) u) : wpX_span post (c, k, q, f, g, pc, be, a1, a2, a3, a4, a5, a6, a7, a8) := by
  obtain ⟨hq, h1, h2, h6⟩ := hJ
  subst hq
  unfold wpX_span
  refine sj_ready h6 (fun b7 hb => ⟨2, br_f (by decide) (br_f (by decide) (sj_fb rfl (by rw [hb 0 (by omega), h1]) h2 (nm_r sj_g0 (nm_r (e' := 1) (by decide) ?_))))⟩)
  exact br_f (by decide) (br_t rfl (H _))
end
end
section
/-! the law -/
/-- the cap that stands, of the cap that was asked for -/
def sj_M (x m : Int32) : Prop := (((-200) ≤ x → ((x ≤ 1000 → m = x) ∧ (¬ x ≤ 1000 → m = 1000))) ∧ (¬ (-200) ≤ x → m = -200))
theorem sj_i86 {post : St2 → Prop} {mc ms kc ks : Nat} {x z c k q g pc be : Int32} {a1 a2 a3 a4 a5 a7 a8 : Nat → Int32} (hz : ¬ z ≤ 0) (hq : q = 0) (H : ∀ m u, sj_M x m → sj_E u → u.2.1 = m → post u) :
    wX_init_86 post mc ms x z kc ks c k q (-1) g pc be a1 a2 a3 a4 a5 (fun _ => 0) a7 a8 := by
  unfold wX_init_86
  refine br_c (fun h1 => br_c (fun h2 => H x _ ?_ ⟨hz, hq, rfl, fun _ _ => rfl⟩ rfl) (fun h2 => H 1000 _ ?_ ⟨hz, hq, rfl, fun _ _ => rfl⟩ rfl)) (fun h1 => H (-200) _ ?_ ⟨hz, hq, rfl, fun _ _ => rfl⟩ rfl)
  · exact br_t h1 (br_t h2 rfl)
  · exact br_t h1 (br_f h2 rfl)
  · exact br_f h1 rfl
theorem sj_init {post : St2 → Prop} {x y : Int32} (H : ∀ m u, sj_M y m → sj_E u → u.2.1 = m → post u) : wpX_init post 33 529 (0, 0, 0, 0, 0, 0, 0) x y := by
  unfold wpX_init
  refine ⟨by decide, by decide, by decide, by decide, by decide, by decide, by decide, by decide, by decide, by decide, by decide, by decide, by decide, by decide, by decide, by decide, ?_⟩
  refine br_c (fun h => br_c (fun _ => sj_i86 ?_ rfl H) (fun _ => sj_i86 (by decide) rfl H)) (fun _ => sj_i86 (by decide) rfl H)
  intro h0
  rw [Int32.le_iff_toInt_le] at h h0
  have e0 : (0 : Int32).toInt = 0 := by decide
  have e1 : (1 : Int32).toInt = 1 := by decide
  omega
theorem sj_nle {x y : Int32} (h : ¬ x ≤ y) : y < x := by
  rw [Int32.le_iff_toInt_le] at h
  rw [Int32.lt_iff_toInt_lt]
  omega
theorem sj_nlt {x y : Int32} (h : x ≤ y) : ¬ y < x := by
  rw [Int32.le_iff_toInt_le] at h
  rw [Int32.lt_iff_toInt_lt]
  omega
section
variable {post : Int32 → St0 → Prop} {mc ms kc ks : Nat} {r p m : Int32}
/-! what the law says at its end, in its three cases -/
theorem sj_endB (hg : ¬ (¬ r < 0 ∧ ¬ 9 < r ∧ ¬ p < 1 ∧ p ≤ 3)) (H : post 1 ()) : wL_lawOf_88 post mc ms r p (-2000) (-2000) 0 (-1) 0 0 m kc ks := by
  have t : wL_lawOf_114 post mc ms r p (-2000) (-2000) 0 (-1) 0 0 m kc ks := by
    unfold wL_lawOf_114 wL_lawOf_115
    refine br_t rfl ?_
    unfold wL_lawOf_134 wL_lawOf_135
    refine br_t rfl ?_
    unfold wL_lawOf_157
    refine br_t rfl (br_t rfl (br_t rfl (br_t rfl (br_t rfl ?_))))
    unfold wL_lawOf_199
    refine br_t rfl (br_t rfl ?_)
    unfold wL_lawOf_216
    exact br_t rfl H
  unfold wL_lawOf_88
  exact br_c (fun _ => t) (fun h1 => br_c (fun _ => t) (fun h2 => br_c (fun _ => t) (fun h3 => br_c (fun _ => t) (fun h4 => absurd ⟨h1, h2, h3, Int32.not_lt.mp h4⟩ hg))))
theorem sj_end0 (hg : ¬ r < 0 ∧ ¬ 9 < r ∧ ¬ p < 1 ∧ p ≤ 3) (hm : m < r + p) (H : post 1 ()) : wL_lawOf_88 post mc ms r p (-2000) (-2000) 0 (-3) 0 0 m kc ks := by
  unfold wL_lawOf_88
  refine br_f hg.1 (br_f hg.2.1 (br_f hg.2.2.1 (br_f (sj_nlt hg.2.2.2) ?_)))
  unfold wL_lawOf_115
  refine br_f (by decide) (br_t hm ?_)
  unfold wL_lawOf_134 wL_lawOf_135
  refine br_f (by decide) (br_t rfl ?_)
  unfold wL_lawOf_157
  refine br_t rfl (br_t rfl (br_t rfl (br_t rfl (br_t rfl ?_))))
  unfold wL_lawOf_199
  refine br_t rfl (br_t rfl ?_)
  unfold wL_lawOf_216
  exact br_t rfl H
theorem sj_end1 (hg : ¬ r < 0 ∧ ¬ 9 < r ∧ ¬ p < 1 ∧ p ≤ 3) (hm : ¬ m < r + p) (H : post 1 ()) : wL_lawOf_88 post mc ms r p (-2000) (-2000) 0 0 1 (r + p) m kc ks := by
  unfold wL_lawOf_88
  refine br_f hg.1 (br_f hg.2.1 (br_f hg.2.2.1 (br_f (sj_nlt hg.2.2.2) ?_)))
  unfold wL_lawOf_115
  refine br_f (by decide) (br_f hm ?_)
  unfold wL_lawOf_135
  refine br_f (by decide) (br_f (by decide) ?_)
  unfold wL_lawOf_157
  refine br_t rfl (br_t rfl (br_t rfl (br_t rfl (br_f (by decide) ?_))))
  unfold wL_lawOf_199
  refine br_t rfl (br_f (by decide) ?_)
  unfold wL_lawOf_216
  exact br_t rfl H
/-- the law's last choice takes the cap that stands -/
theorem sj_most {A : Int32 → Prop} {x : Int32} (hM : sj_M x m) (h : A m) : (((-200) ≤ x → ((x ≤ 1000 → A x) ∧ (¬ x ≤ 1000 → A 1000))) ∧ (¬ (-200) ≤ x → A (-200))) := by
  refine br_c (fun h1 => br_c (fun h2 => ?_) (fun h2 => ?_)) (fun h1 => ?_)
  · rw [(hM.1 h1).1 h2] at h
    exact h
  · rw [(hM.1 h1).2 h2] at h
    exact h
  · rw [hM.2 h1] at h
    exact h
end
theorem sj_lawOf {post : Int32 → St0 → Prop} {x y r p i t : Int32} (H : post 1 ()) : wpL_lawOf post 34 544 () x y r p i t := by
  unfold wpL_lawOf
  refine ⟨by decide, by decide, 33, 529, by decide, by decide, sj_init (fun m u hM hE hm => ?_)⟩
  obtain ⟨c, k, q, f, g, pc, be, a1, a2, a3, a4, a5, a6, a7, a8⟩ := u
  obtain ⟨hc, hq, hf, h6⟩ := hE
  have hm' : k = m := hm
  subst hm'
  refine sj_worst hq (sj_costAt hq (sj_remove hq (sj_add ⟨hc, hq, hf, h6⟩ (fun hg u hu => ?_) (fun hg hk u hu => ?_) (fun hg hk u hu => ?_))))
  · obtain ⟨c', k', q', f', g', pc', be', b1, b2, b3, b4, b5, b6, b7, b8⟩ := u
    have hq' : q' = 0 := hu.2.1
    subst hq'
    exact sj_span0 hu (fun u => sj_most (A := fun z => wL_lawOf_88 post 34 544 r p (-2000) (-2000) 0 (-1) 0 0 z (1 + 33) (15 + 529)) hM (sj_endB hg H))
  · obtain ⟨c', k', q', f', g', pc', be', b1, b2, b3, b4, b5, b6, b7, b8⟩ := u
    have hq' : q' = 0 := hu.2.1
    subst hq'
    exact sj_span0 hu (fun u => sj_most (A := fun z => wL_lawOf_88 post 34 544 r p (-2000) (-2000) 0 (-3) 0 0 z (1 + 33) (15 + 529)) hM (sj_end0 hg hk H))
  · obtain ⟨c', k', q', f', g', pc', be', b1, b2, b3, b4, b5, b6, b7, b8⟩ := u
    have hq' : q' = 1 := hu.1
    subst hq'
    exact sj_span1 hu (fun u => sj_most (A := fun z => wL_lawOf_88 post 34 544 r p (-2000) (-2000) 0 0 1 (r + p) z (1 + 33) (15 + 529)) hM (sj_end1 hg hk H))
theorem sj_cell {post : Int32 → Prop} {L : Nat} {xs : Nat → Int32} (i : Nat) {y : Int32} (hL : L ≤ 6) (hi : i < 6) (hy : y = nI i) (H : ∀ x, post x) : wpL_cellAt post L xs () y := by
  subst hy
  unfold wpL_cellAt
  exact pk_le L i (fun _ => H 0) (fun z => ⟨pk_in i L z, H _⟩)
theorem i_vc (xs : Nat → Int32) (L : Nat) (hL : L ≤ 6) : wpL_law (fun r => r = 1) L xs := by
  unfold wpL_law
  refine sj_cell 0 hL (by omega) rfl (fun x0 => sj_cell 1 hL (by omega) rfl (fun x1 => sj_cell 2 hL (by omega) rfl (fun x2 => sj_cell 3 hL (by omega) rfl (fun x3 => sj_cell 4 hL (by omega) rfl (fun x4 => sj_cell 5 hL (by omega) rfl (fun x5 => ?_))))))
  exact ⟨34, 544, by decide, by decide, sj_lawOf rfl⟩
end
