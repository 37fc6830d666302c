section
/-- the picture: stream k holds c tuples, all of them (ky, v); the stretch of the key ky is the whole list -/
def pq_K (k ky : Nat) (v : Int32) (c : Nat) (a1 a2 a3 a4 : Nat → Int32) : Prop :=
  a3 k = nI c ∧ a4 (17 * k + ky) = nI 0 ∧ a4 (17 * k + ky + 1) = nI c ∧ ∀ j, j < c → a1 (40 * k + j) = nI ky ∧ a2 (40 * k + j) = v
theorem pq_i17 (k y : Nat) : (17 : Int32) * nI k + nI y = nI (17 * k + y) := by
  rw [show (17 : Int32) = nI 17 from rfl, pk_mul, nI_add]
theorem pq_i16 (k y : Nat) : (16 : Int32) * nI k + nI y = nI (16 * k + y) := by
  rw [show (16 : Int32) = nI 16 from rfl, pk_mul, nI_add]
theorem pq_m40 (k : Nat) : (40 : Int32) * nI k = nI (40 * k) := by
  rw [show (40 : Int32) = nI 40 from rfl, pk_mul]
theorem pq_i40 (k y : Nat) : (40 : Int32) * nI k + nI y = nI (40 * k + y) := by
  rw [pq_m40, nI_add]
theorem pq_i16' {k : Nat} (hk : k < 2) (y : Nat) : (16 : Int32) * (1 - nI k) + nI y = nI (16 * (1 - k) + y) := by
  rw [show (1 : Int32) = nI 1 from rfl, pk_sub (by omega), pq_i16]
theorem pq_at {post : Int32 → St2 → Prop} {x y : Int32} {u : St2} (e : x = y) (h : post y u) : post x u := by
  rw [e]
  exact h
theorem pq_15 {x : Int32} (h : 15 < x) : 16 ≤ x := by
  rw [Int32.lt_iff_toInt_lt] at h
  rw [Int32.le_iff_toInt_le]
  have e1 : (15 : Int32).toInt = 15 := by decide
  have e2 : (16 : Int32).toInt = 16 := by decide
  omega
theorem pq_16 {x : Int32} (h : ¬ x < 16) : 15 < x := by
  rw [Int32.lt_iff_toInt_lt] at h
  rw [Int32.lt_iff_toInt_lt]
  have e1 : (15 : Int32).toInt = 15 := by decide
  have e2 : (16 : Int32).toInt = 16 := by decide
  omega
theorem pq_nlt {x y : Int32} (h : ¬ x < y) : y ≤ x := by
  rw [Int32.lt_iff_toInt_lt] at h
  rw [Int32.le_iff_toInt_le]
  omega
theorem pq_gt {x y : Int32} (h : x < y) : ¬ y ≤ x := by
  rw [Int32.lt_iff_toInt_lt] at h
  rw [Int32.le_iff_toInt_le]
  omega
section
variable {f0 f1 f2 : Int32} {a1 a2 a3 a4 a5 a6 a7 a8 a9 a10 a11 : Nat → Int32} {k ky c : Nat} {v x0 x1 x2 : Int32}
/-! isStream, isKey -/
theorem pq_str {post : Int32 → Prop} (hk : k < 2) (H : post 1) : wpX_isStream post () (nI k) :=
  pk_eq k 0 (fun _ => H) (fun z => pk_eq k 1 (fun _ => H) (fun z' => absurd hk (by omega)))
theorem pq_strN {post : Int32 → Prop} (h0 : ¬ x0 = 0) (h1 : ¬ x0 = 1) (H : post 0) : wpX_isStream post () x0 :=
  br_f h0 (br_f h1 H)
theorem pq_key {post : Int32 → Prop} (hy : ky < 16) (H : post 1) : wpX_isKey post () (nI ky) :=
  br_f (nI_pos (by omega)) (pk_le 16 ky (fun z => absurd z (by omega)) (fun _ => H))
theorem pq_keyN {post : Int32 → Prop} (h : x1 < 0 ∨ 16 ≤ x1) (H : post 0) : wpX_isKey post () x1 :=
  br_c (fun _ => H) (fun z => br_c (fun _ => H) (fun z' => absurd h (fun g => g.elim z z')))
/-! place: the search ends at the list's begin -/
theorem pq_place {post : Int32 → Prop} (hk : k < 2) (hy : ky < 16) (hc : c ≤ 2) (h4 : a4 (17 * k + ky) = nI 0) (h5 : a4 (17 * k + ky + 1) = nI c) (h2 : ∀ j, j < c → a2 (40 * k + j) = v) (H : post (nI (40 * k))) :
    wpX_place post (f0, f1, f2, a1, a2, a3, a4, a5, a6, a7, a8, a9, a10, a11) (nI k) (nI ky) v := by
  unfold wpX_place
  dsimp only
  rw [pq_i17, nI_1, nI_clamp (show 17 * k + ky < 2 ^ 31 by omega), nI_clamp (show 17 * k + ky + 1 < 2 ^ 31 by omega), h4, h5, pq_i40, pq_i40, Nat.add_zero]
  refine ⟨pk_in (17 * k + ky) 34 (by omega), nm_e ⟨pk_in (17 * k + ky + 1) 34 (by omega), nm_e ?_⟩⟩
  exact pk_loop (fun n i d => wX_place_41 post v f0 f1 f2 a1 a2 a3 a4 a5 a6 a7 a8 a9 a10 a11 n (nI (40 * k)) (nI (40 * k + d)) (nI i)) (fun _ d => d ≤ c) 8 0 c (by omega) (Nat.le_refl c)
    (fun n d hd => pk_le 8 8 (fun _ => H) (fun z => absurd z (by omega)))
    (fun n i d hi hd hw => pk_le 8 i (fun z => absurd z (by omega)) (fun _ => pk_le (40 * k + d) (40 * k) (fun _ => H) (fun z => nm_r (e' := nI (40 * k + d / 2)) (by rw [nI_add, pk_shrN (by omega) _ 1 (by decide)]; exact congrArg nI (by omega)) ⟨pk_in (40 * k + d / 2) 80 (by omega), br_t (by rw [nI_clamp (by omega), h2 _ (by omega)]; exact Int32.le_refl v) (nm_r (nI_1 i) (hw (d / 2) (by omega)))⟩)))
/-! shiftBegins: the key's begin stays, its end moves -/
theorem pq_shift {post : St2 → Prop} {b : Int32} (hk : k < 2) (hy : ky < 16)
    (H : ∀ s : Nat → Int32, s (17 * k + ky) = a4 (17 * k + ky) → s (17 * k + ky + 1) = a4 (17 * k + ky + 1) + b → post (f0, f1, f2, a1, a2, a3, s, a5, a6, a7, a8, a9, a10, a11)) :
    wpX_shiftBegins post (f0, f1, f2, a1, a2, a3, a4, a5, a6, a7, a8, a9, a10, a11) (nI k) (nI ky) b := by
  unfold wpX_shiftBegins
  dsimp only
  refine nm_r (nI_1 ky) ?_
  exact pk_loop (fun n i s => wX_shiftBegins_5 post (nI k) b f0 f1 f2 n (nI i) a1 a2 a3 s a5 a6 a7 a8 a9 a10 a11) (fun i s => ky + 1 ≤ i ∧ s (17 * k + ky) = a4 (17 * k + ky) ∧ (i = ky + 1 → s (17 * k + ky + 1) = a4 (17 * k + ky + 1)) ∧ (i ≠ ky + 1 → s (17 * k + ky + 1) = a4 (17 * k + ky + 1) + b)) 17 (ky + 1) a4 (by omega) ⟨Nat.le_refl _, rfl, fun _ => rfl, fun z => absurd rfl z⟩
    (fun n s h => pk_lt 16 17 (fun _ => H s h.2.1 (h.2.2.2 (by omega))) (fun z => absurd z (by omega)))
    (fun n i s hi h hw => pk_lt 16 i (fun z => absurd z (by omega)) (fun _ => ⟨pk_in (17 * k + i) 34 (by omega) (pq_i17 k i), pk_in (17 * k + i) 34 (by omega) (pq_i17 k i), nm_e (nm_r (nI_1 i) (hw _ ⟨by omega, by
      rw [pk_cl (17 * k + i) (pq_i17 k i), pk_un (by have := h.1; omega)]
      exact h.2.1, fun z => absurd z (by have := h.1; omega), fun _ => by
      rw [pk_cl (17 * k + i) (pq_i17 k i)]
      by_cases e : i = ky + 1
      · rw [e, show 17 * k + (ky + 1) = 17 * k + ky + 1 by omega, pk_us, h.2.2.1 e]
      · rw [pk_un (by have := h.1; omega)]
        exact h.2.2.2 e⟩))⟩))
/-! feed -/
theorem pq_f91 {post : Int32 → St2 → Prop} (hk : k < 2) (hy : ky < 16) (hc : c ≤ 2) (K : pq_K k ky v c a1 a2 a3 a4)
    (H : ∀ b1 b2 b3 b4 b5 : Nat → Int32, pq_K k ky v (c + 1) b1 b2 b3 b4 → post (nI (c + 1)) (f0, f1, f2, b1, b2, b3, b4, b5, a6, a7, a8, a9, a10, a11)) :
    ∃ n, wX_feed_91 post (nI k) (nI ky) v (nI (40 * k)) f0 f1 f2 n (nI (40 * k + c)) a1 a2 a3 a4 a5 a6 a7 a8 a9 a10 a11 := by
  obtain ⟨h3, h4, h5, h12⟩ := K
  refine ⟨c + 1, pk_loopD (σ := (Nat → Int32) × (Nat → Int32)) (fun n d s => wX_feed_91 post (nI k) (nI ky) v (nI (40 * k)) f0 f1 f2 n (nI (40 * k + d)) s.1 s.2 a3 a4 a5 a6 a7 a8 a9 a10 a11) (fun d s => d ≤ c ∧ ∀ j, j ≤ c → j ≠ d → s.1 (40 * k + j) = nI ky ∧ s.2 (40 * k + j) = v) ?_ ?_ c (a1, a2) ⟨Nat.le_refl c, fun j hj hn => h12 j (by omega)⟩⟩
  · intro n s h
    refine pk_le (40 * k) (40 * k) (fun _ => ⟨pk_in (40 * k) 80 (by omega), nm_e ⟨pk_in (40 * k) 80 (by omega), nm_e ⟨pk_in k 2 hk, pk_in k 2 hk, nm_e ⟨pk_in (16 * k + ky) 32 (by omega) (pq_i16 k ky), pk_in (16 * k + ky) 32 (by omega) (pq_i16 k ky), nm_e (pq_shift hk hy (fun s4 g g' => ⟨pk_in k 2 hk, ?_⟩))⟩⟩⟩⟩) (fun z => absurd z (by omega))
    rw [nI_clamp (show k < 2 ^ 31 by omega), nI_clamp (show 40 * k < 2 ^ 31 by omega)]
    refine pq_at (by rw [pk_us, h3, nI_1]) (H _ _ _ _ _ ⟨by rw [pk_us, h3, nI_1], by rw [g, h4], by rw [g', h5, nI_1], fun j hj => ?_⟩)
    by_cases e : j = 0
    · rw [e, Nat.add_zero, pk_us, pk_us]
      exact ⟨rfl, rfl⟩
    · rw [pk_un (by omega), pk_un (by omega)]
      exact h.2 j (by omega) e
  · intro n d s h hw
    have g := h.2 d (by have := h.1; omega) (by omega)
    have hd := h.1
    have e1 : (nI (40 * k + (d + 1)) - 1).toNatClampNeg = 40 * k + d := pk_cl (40 * k + d) (nI_pred (40 * k + d)) (by omega)
    refine pk_le (40 * k + (d + 1)) (40 * k) (fun z => absurd z (by omega)) (fun _ => ⟨pk_in (40 * k + d) 80 (by omega) (nI_pred (40 * k + d)), pk_in (40 * k + (d + 1)) 80 (by omega), nm_r (e' := upd s.1 (40 * k + (d + 1)) (nI ky)) (by rw [e1, nI_clamp (by omega), g.1]) ⟨pk_in (40 * k + d) 80 (by omega) (nI_pred (40 * k + d)), pk_in (40 * k + (d + 1)) 80 (by omega), nm_r (e' := upd s.2 (40 * k + (d + 1)) v) (by rw [e1, nI_clamp (by omega), g.2]) (nm_r (pk_m1 (40 * k + d)) (hw (upd s.1 (40 * k + (d + 1)) (nI ky), upd s.2 (40 * k + (d + 1)) v) ⟨by omega, fun j hj hn => ?_⟩))⟩⟩)
    show upd s.1 (40 * k + (d + 1)) (nI ky) (40 * k + j) = nI ky ∧ upd s.2 (40 * k + (d + 1)) v (40 * k + j) = v
    by_cases e : j = d + 1
    · rw [e, pk_us, pk_us]
      exact ⟨rfl, rfl⟩
    · rw [pk_un (by omega), pk_un (by omega)]
      exact h.2 j hj e
theorem pq_feed {post : Int32 → St2 → Prop} (hk : k < 2) (hy : ky < 16) (hc : c ≤ 2) (hv1 : ¬ v < (-50)) (hv2 : v ≤ 50) (h6 : a6 (16 * k + ky) = 0) (K : pq_K k ky v c a1 a2 a3 a4)
    (H : ∀ b1 b2 b3 b4 b5 : Nat → Int32, pq_K k ky v (c + 1) b1 b2 b3 b4 → post (nI (c + 1)) (f0, f1, f2, b1, b2, b3, b4, b5, a6, a7, a8, a9, a10, a11)) :
    wpX_feed post (f0, f1, f2, a1, a2, a3, a4, a5, a6, a7, a8, a9, a10, a11) (nI k) (nI ky) v := by
  unfold wpX_feed
  dsimp only
  refine pq_str hk (br_f (by decide) (pq_key hy (br_f (by decide) (br_f hv1 (br_t hv2 ⟨pk_in (16 * k + ky) 32 (by omega) (pq_i16 k ky), br_t (by rw [pk_cl (16 * k + ky) (pq_i16 k ky)]; exact h6) ⟨pk_in k 2 hk, br_f ?_ (nm_r (pq_m40 k) (pq_place hk hy hc K.2.1 K.2.2.1 (fun j hj => (K.2.2.2 j hj).2) ⟨pk_in k 2 hk, nm_r ?_ (pq_f91 hk hy hc K H)⟩))⟩⟩)))))
  · rw [nI_clamp (show k < 2 ^ 31 by omega), K.1, show (40 : Int32) = nI 40 from rfl, nI_eq (by omega) (by omega)]
    omega
  · rw [nI_clamp (show k < 2 ^ 31 by omega), K.1, nI_add]
theorem pq_feedS {post : Int32 → St2 → Prop} (hk : k < 2) (hy : ky < 16) (hv1 : ¬ v < (-50)) (hv2 : v ≤ 50) (h6 : ¬ a6 (16 * k + ky) = 0)
    (H : post (-4) (f0, f1, f2, a1, a2, a3, a4, a5, a6, a7, a8, a9, a10, a11)) :
    wpX_feed post (f0, f1, f2, a1, a2, a3, a4, a5, a6, a7, a8, a9, a10, a11) (nI k) (nI ky) v := by
  unfold wpX_feed
  dsimp only
  exact pq_str hk (br_f (by decide) (pq_key hy (br_f (by decide) (br_f hv1 (br_t hv2 ⟨pk_in (16 * k + ky) 32 (by omega) (pq_i16 k ky), br_f (by rw [pk_cl (16 * k + ky) (pq_i16 k ky)]; exact h6) H⟩)))))
theorem pq_feedV {post : Int32 → St2 → Prop} (hk : k < 2) (hy : ky < 16) (hv : v < (-50) ∨ 50 < v)
    (H : post (-3) (f0, f1, f2, a1, a2, a3, a4, a5, a6, a7, a8, a9, a10, a11)) :
    wpX_feed post (f0, f1, f2, a1, a2, a3, a4, a5, a6, a7, a8, a9, a10, a11) (nI k) (nI ky) v := by
  unfold wpX_feed
  dsimp only
  exact pq_str hk (br_f (by decide) (pq_key hy (br_f (by decide) (br_c (fun _ => H) (fun z => br_f (hv.elim (fun g => absurd g z) pq_gt) H)))))
theorem pq_feedK {post : Int32 → St2 → Prop} (hk : k < 2) (hy : x1 < 0 ∨ 16 ≤ x1)
    (H : post (-2) (f0, f1, f2, a1, a2, a3, a4, a5, a6, a7, a8, a9, a10, a11)) :
    wpX_feed post (f0, f1, f2, a1, a2, a3, a4, a5, a6, a7, a8, a9, a10, a11) (nI k) x1 v := by
  unfold wpX_feed
  dsimp only
  exact pq_str hk (br_f (by decide) (pq_keyN hy (br_t rfl H)))
theorem pq_feedN {post : Int32 → St2 → Prop} (h0 : ¬ x0 = 0) (h1 : ¬ x0 = 1)
    (H : post (-1) (f0, f1, f2, a1, a2, a3, a4, a5, a6, a7, a8, a9, a10, a11)) :
    wpX_feed post (f0, f1, f2, a1, a2, a3, a4, a5, a6, a7, a8, a9, a10, a11) x0 x1 v := by
  unfold wpX_feed
  dsimp only
  exact pq_strN h0 h1 (br_t rfl H)
end
end
section
section
variable {f0 f1 f2 : Int32} {a1 a2 a3 a4 a5 a6 a7 a8 a9 a10 a11 : Nat → Int32} {k ky c : Nat} {v x0 x1 x2 x3 x4 : Int32}
/-! held -/
theorem pq_held {post : Int32 → Prop} (hk : k < 2) (H : post (a3 k)) :
    wpX_held post (f0, f1, f2, a1, a2, a3, a4, a5, a6, a7, a8, a9, a10, a11) (nI k) := by
  unfold wpX_held
  dsimp only
  refine pq_str hk (br_f (by decide) ⟨pk_in k 2 hk, ?_⟩)
  rw [nI_clamp (show k < 2 ^ 31 by omega)]
  exact H
theorem pq_heldN {post : Int32 → Prop} (h0 : ¬ x0 = 0) (h1 : ¬ x0 = 1) (H : post (-1)) :
    wpX_held post (f0, f1, f2, a1, a2, a3, a4, a5, a6, a7, a8, a9, a10, a11) x0 := by
  unfold wpX_held
  dsimp only
  exact pq_strN h0 h1 (br_t rfl H)
/-! closed -/
theorem pq_closed {post : Int32 → Prop} (hk : k < 2) (hy : ky < 16) (H0 : a6 (16 * k + ky) = 0 → post 0) (H1 : ¬ a6 (16 * k + ky) = 0 → post 1) :
    wpX_closed post (f0, f1, f2, a1, a2, a3, a4, a5, a6, a7, a8, a9, a10, a11) (nI k) (nI ky) := by
  unfold wpX_closed
  dsimp only
  refine pq_str hk (br_f (by decide) (pq_key hy (br_f (by decide) ⟨pk_in (16 * k + ky) 32 (by omega) (pq_i16 k ky), ?_⟩)))
  rw [pk_cl (16 * k + ky) (pq_i16 k ky)]
  exact ⟨H0, H1⟩
theorem pq_closedK {post : Int32 → Prop} (hk : k < 2) (hy : x1 < 0 ∨ 16 ≤ x1) (H : post (-2)) :
    wpX_closed post (f0, f1, f2, a1, a2, a3, a4, a5, a6, a7, a8, a9, a10, a11) (nI k) x1 := by
  unfold wpX_closed
  dsimp only
  exact pq_str hk (br_f (by decide) (pq_keyN hy (br_t rfl H)))
theorem pq_closedN {post : Int32 → Prop} (h0 : ¬ x0 = 0) (h1 : ¬ x0 = 1) (H : post (-1)) :
    wpX_closed post (f0, f1, f2, a1, a2, a3, a4, a5, a6, a7, a8, a9, a10, a11) x0 x1 := by
  unfold wpX_closed
  dsimp only
  exact pq_strN h0 h1 (br_t rfl H)
/-! close: the other stream has nothing shut, so no key is finished -/
theorem pq_c33 {post : Int32 → St2 → Prop} {fi la : Nat} (hk : k < 2) (hf : fi ≤ la) (hl : la < 16) (h6 : ∀ j, a6 j = 0)
    (H : ∀ s : Nat → Int32, (∀ j, j < 16 → (j < fi ∨ la + 1 ≤ j) → s (16 * k + j) = 0) → (∀ j, j < 16 → fi ≤ j → j < la + 1 → ¬ s (16 * k + j) = 0) → post 0 (f0, f1, f2, a1, a2, a3, a4, a5, s, a7, a8, a9, a10, a11)) :
    ∃ n, wX_close_33 post (nI k) (nI la) n 0 (nI fi) f0 f1 f2 a1 a2 a3 a4 a5 a6 a7 a8 a9 a10 a11 := by
  refine pk_loop (fun n i s => wX_close_33 post (nI k) (nI la) n 0 (nI i) f0 f1 f2 a1 a2 a3 a4 a5 s a7 a8 a9 a10 a11)
    (fun i s => fi ≤ i ∧ (∀ j, j < 16 → s (16 * (1 - k) + j) = 0) ∧ (∀ j, j < 16 → (j < fi ∨ i ≤ j) → s (16 * k + j) = 0) ∧ (∀ j, j < 16 → fi ≤ j → j < i → ¬ s (16 * k + j) = 0)) (la + 1) fi a6 (by omega)
    ⟨Nat.le_refl fi, fun j _ => h6 _, fun j _ _ => h6 _, fun j _ z z' => absurd z (by omega)⟩
    (fun n s h => pk_lt la (la + 1) (fun _ => H s h.2.2.1 h.2.2.2) (fun z => absurd z (by omega))) ?_
  intro n i s hi h hw
  obtain ⟨q0, q1, q2, q3⟩ := h
  refine pk_lt la i (fun z => absurd z (by omega)) (fun _ => ⟨pk_in (16 * k + i) 32 (by omega) (pq_i16 k i),
      br_t (by rw [pk_cl (16 * k + i) (pq_i16 k i)]; exact q2 i (by omega) (Or.inr (Nat.le_refl i)))
        ⟨pk_in (16 * k + i) 32 (by omega) (pq_i16 k i), nm_r (e' := upd s (16 * k + i) 1) (by rw [pk_cl (16 * k + i) (pq_i16 k i)]) ⟨pk_in (16 * (1 - k) + i) 32 (by omega) (pq_i16' hk i),
          br_t (by rw [pk_cl (16 * (1 - k) + i) (pq_i16' hk i), pk_un (by omega)]; exact q1 i (by omega))
            (nm_r (nI_1 i) (hw _ ⟨by omega, fun j hj => ?_, fun j hj z => ?_, fun j hj z z' => ?_⟩))⟩⟩⟩)
  · rw [pk_un (by omega)]
    exact q1 j hj
  · rw [pk_un (by omega)]
    exact q2 j hj (by omega)
  · by_cases e : j = i
    · rw [e, pk_us]
      decide
    · rw [pk_un (by omega)]
      exact q3 j hj z (by omega)
theorem pq_close {post : Int32 → St2 → Prop} (hk : k < 2) (h6 : ∀ j, a6 j = 0) (g1 : ¬ x3 < 0) (g2 : ¬ x4 < x3) (g3 : x4 < 16)
    (H : ∀ s : Nat → Int32, (∀ y, y < 16 → (s (16 * k + y) = 0 ↔ nI y < x3 ∨ x4 < nI y)) → post 0 (f0, f1, f2, a1, a2, a3, a4, a5, s, a7, a8, a9, a10, a11)) :
    wpX_close post (f0, f1, f2, a1, a2, a3, a4, a5, a6, a7, a8, a9, a10, a11) (nI k) x3 x4 := by
  obtain ⟨fi, hfi, rfl⟩ := nI_of g1
  have g4 : ¬ x4 < 0 := by
    intro z
    have t1 := Int32.lt_iff_toInt_lt.mp z
    have t2 : ¬ x4.toInt < (nI fi).toInt := fun q => g2 (Int32.lt_iff_toInt_lt.mpr q)
    have t3 : ¬ (nI fi).toInt < (0 : Int32).toInt := fun q => g1 (Int32.lt_iff_toInt_lt.mpr q)
    omega
  obtain ⟨la, hla, rfl⟩ := nI_of g4
  rw [nI_ltI hla hfi] at g2
  have g5 : la < 16 := (nI_ltI hla (by omega)).mp g3
  unfold wpX_close
  dsimp only
  refine pq_str hk (br_f (by decide) (br_f g1 (br_f (by rw [nI_ltI hla hfi]; exact g2) (br_t g3 (pq_c33 hk (by omega) g5 h6 (fun s k0 k1 => H s (fun y hy => ?_)))))))
  rw [nI_ltI (by omega) hfi, nI_ltI hla (by omega)]
  constructor
  · intro z
    rcases Nat.lt_or_ge y fi with q | q
    · exact Or.inl q
    · rcases Nat.lt_or_ge la y with q' | q'
      · exact Or.inr q'
      · exact absurd z (k1 y hy q (by omega))
  · intro z
    exact k0 y hy (by omega)
theorem pq_closeR {post : Int32 → St2 → Prop} (hk : k < 2) (g : x3 < 0 ∨ x4 < x3 ∨ 15 < x4)
    (H : post (-2) (f0, f1, f2, a1, a2, a3, a4, a5, a6, a7, a8, a9, a10, a11)) :
    wpX_close post (f0, f1, f2, a1, a2, a3, a4, a5, a6, a7, a8, a9, a10, a11) (nI k) x3 x4 := by
  unfold wpX_close
  dsimp only
  exact pq_str hk (br_f (by decide) (br_c (fun _ => H) (fun z1 => br_c (fun _ => H) (fun z2 => br_f (fun z3 => g.elim z1 (fun g' => g'.elim z2 (fun g'' => pq_gt z3 (pq_15 g'')))) H))))
theorem pq_closeN {post : Int32 → St2 → Prop} (h0 : ¬ x0 = 0) (h1 : ¬ x0 = 1)
    (H : post (-1) (f0, f1, f2, a1, a2, a3, a4, a5, a6, a7, a8, a9, a10, a11)) :
    wpX_close post (f0, f1, f2, a1, a2, a3, a4, a5, a6, a7, a8, a9, a10, a11) x0 x3 x4 := by
  unfold wpX_close
  dsimp only
  exact pq_strN h0 h1 (br_t rfl H)
/-! retract: only its answer is asked -/
theorem pq_r79 {post : Int32 → St2 → Prop} (hk : k < 2) (hy : ky < 16) (hc : c ≤ 2) (h3 : a3 k = nI (c + 1)) (H : ∀ u, post (nI c) u) :
    ∃ n, wX_retract_79 post (nI k) (nI ky) v (nI (40 * k + (c + 1))) f0 f1 f2 n (nI (40 * k + 1)) a1 a2 a3 a4 a5 a6 a7 a8 a9 a10 a11 := by
  refine pk_loop (σ := (Nat → Int32) × (Nat → Int32)) (fun n i s => wX_retract_79 post (nI k) (nI ky) v (nI (40 * k + (c + 1))) f0 f1 f2 n (nI i) s.1 s.2 a3 a4 a5 a6 a7 a8 a9 a10 a11) (fun i s => 40 * k + 1 ≤ i) (40 * k + (c + 1)) (40 * k + 1) (a1, a2) (by omega) (Nat.le_refl _) ?_ ?_
  · intro n s h
    refine pk_le (40 * k + (c + 1)) (40 * k + (c + 1)) (fun _ => ⟨pk_in k 2 hk, pk_in k 2 hk, nm_e ⟨pk_in (16 * k + ky) 32 (by omega) (pq_i16 k ky), pk_in (16 * k + ky) 32 (by omega) (pq_i16 k ky), nm_e (pq_shift hk hy (fun s4 g g' => ⟨pk_in k 2 hk, ?_⟩))⟩⟩) (fun z => absurd z (by omega))
    refine pq_at ?_ (H _)
    rw [nI_clamp (show k < 2 ^ 31 by omega), pk_us, h3, nI_pred]
  · intro n i s hi h hw
    have e : nI i - 1 = nI (i - 1) := pk_sub (a := i) (b := 1) (by omega)
    exact pk_le (40 * k + (c + 1)) i (fun z => absurd z (by omega)) (fun _ => ⟨pk_in i 80 (by omega), pk_in (i - 1) 80 (by omega) e, nm_e ⟨pk_in i 80 (by omega), pk_in (i - 1) 80 (by omega) e, nm_e (nm_r (nI_1 i) (hw (_, _) (by omega)))⟩⟩)
theorem pq_retract {post : Int32 → St2 → Prop} (hk : k < 2) (hy : ky < 16) (hc : c ≤ 1) (K : pq_K k ky v (c + 1) a1 a2 a3 a4) (H : ∀ u, post (nI c) u) :
    wpX_retract post (f0, f1, f2, a1, a2, a3, a4, a5, a6, a7, a8, a9, a10, a11) (nI k) (nI ky) v := by
  obtain ⟨h3, h4, h5, h12⟩ := K
  have g := h12 0 (by omega)
  rw [Nat.add_zero] at g
  unfold wpX_retract
  dsimp only
  refine pq_str hk (br_f (by decide) (pq_key hy (br_f (by decide) (pq_place hk hy (by omega) h4 h5 (fun j hj => (h12 j hj).2) ⟨pk_in k 2 hk, nm_r (e' := nI (40 * k + (c + 1))) (by rw [nI_clamp (show k < 2 ^ 31 by omega), h3, pq_i40]) (pk_le (40 * k + (c + 1)) (40 * k) (fun z => absurd z (by omega)) (fun _ => ⟨pk_in (40 * k) 80 (by omega), br_t ?_ ⟨pk_in (40 * k) 80 (by omega), br_t ?_ (nm_r (nI_1 (40 * k)) (pq_r79 hk hy (by omega) h3 H))⟩⟩))⟩))))
  · rw [nI_clamp (show 40 * k < 2 ^ 31 by omega)]
    exact g.1
  · rw [nI_clamp (show 40 * k < 2 ^ 31 by omega)]
    exact g.2
theorem pq_retract0 {post : Int32 → St2 → Prop} (hk : k < 2) (hy : ky < 16) (K : pq_K k ky v 0 a1 a2 a3 a4)
    (H : post (-3) (f0, f1, f2, a1, a2, a3, a4, a5, a6, a7, a8, a9, a10, a11)) :
    wpX_retract post (f0, f1, f2, a1, a2, a3, a4, a5, a6, a7, a8, a9, a10, a11) (nI k) (nI ky) v := by
  obtain ⟨h3, h4, h5, h12⟩ := K
  unfold wpX_retract
  dsimp only
  exact pq_str hk (br_f (by decide) (pq_key hy (br_f (by decide) (pq_place hk hy (by omega) h4 h5 (fun j hj => (h12 j hj).2) ⟨pk_in k 2 hk, nm_r (e' := nI (40 * k)) (by rw [nI_clamp (show k < 2 ^ 31 by omega), h3, pq_i40, Nat.add_zero]) (pk_le (40 * k) (40 * k) (fun _ => H) (fun z => absurd z (by omega)))⟩))))
theorem pq_retractK {post : Int32 → St2 → Prop} (hk : k < 2) (hy : x1 < 0 ∨ 16 ≤ x1)
    (H : post (-2) (f0, f1, f2, a1, a2, a3, a4, a5, a6, a7, a8, a9, a10, a11)) :
    wpX_retract post (f0, f1, f2, a1, a2, a3, a4, a5, a6, a7, a8, a9, a10, a11) (nI k) x1 v := by
  unfold wpX_retract
  dsimp only
  exact pq_str hk (br_f (by decide) (pq_keyN hy (br_t rfl H)))
theorem pq_retractN {post : Int32 → St2 → Prop} (h0 : ¬ x0 = 0) (h1 : ¬ x0 = 1)
    (H : post (-1) (f0, f1, f2, a1, a2, a3, a4, a5, a6, a7, a8, a9, a10, a11)) :
    wpX_retract post (f0, f1, f2, a1, a2, a3, a4, a5, a6, a7, a8, a9, a10, a11) x0 x1 v := by
  unfold wpX_retract
  dsimp only
  exact pq_strN h0 h1 (br_t rfl H)
end
end
section
section
variable {post : Int32 → St0 → Prop} {mc ms kc ks : Nat} {f0 f1 f2 : Int32} {a1 a2 a3 a4 a5 a6 a7 a8 a9 a10 a11 : Nat → Int32} {k ky c : Nat} {v x0 x1 x2 x3 x4 x7 x9 z : Int32}
/-! no stream: every call answers -1 -/
theorem pq_A192 (h0 : ¬ x0 = 0) (h1 : ¬ x0 = 1) (H : post 1 ()) : wL_lawOf_192 post mc ms x0 x1 x2 0 x7 (-1) z kc ks f0 f1 f2 a1 a2 a3 a4 a5 a6 a7 a8 a9 a10 a11 := by
  unfold wL_lawOf_192
  refine pq_closedN h0 h1 (br_t rfl ?_)
  unfold wL_lawOf_230
  refine br_t rfl (br_f (by decide) ?_)
  unfold wL_lawOf_256
  refine pq_feedN h0 h1 (br_t rfl (br_f (by decide) ?_))
  unfold wL_lawOf_292
  refine pq_heldN h0 h1 (br_t rfl ?_)
  unfold wL_lawOf_311
  refine br_t rfl (pq_retractN h0 h1 (br_t rfl ?_))
  exact br_t rfl H
theorem pq_A130 (h0 : ¬ x0 = 0) (h1 : ¬ x0 = 1) (H : post 1 ()) : wL_lawOf_130 post mc ms x0 x1 x2 x3 x4 0 x7 (-1) z kc ks f0 f1 f2 a1 a2 a3 a4 a5 a6 a7 a8 a9 a10 a11 := by
  unfold wL_lawOf_130
  refine pq_closeN h0 h1 (br_t rfl ?_)
  unfold wL_lawOf_161
  refine br_t rfl (br_t rfl ?_)
  unfold wL_lawOf_191
  exact pq_A192 h0 h1 H
theorem pq_A59 (h0 : ¬ x0 = 0) (h1 : ¬ x0 = 1) (H : post 1 ()) : wL_lawOf_59 post mc ms x0 x1 x2 x3 x4 0 x7 z kc ks f0 f1 f2 a1 a2 a3 a4 a5 a6 a7 a8 a9 a10 a11 := by
  unfold wL_lawOf_59
  refine br_t rfl ?_
  unfold wL_lawOf_91
  refine pq_feedN h0 h1 (br_t rfl ?_)
  unfold wL_lawOf_129
  exact br_c (fun _ => pq_A130 h0 h1 H) (fun _ => br_c (fun _ => pq_A130 h0 h1 H) (fun _ => br_c (fun _ => pq_A130 h0 h1 H) (fun _ => pq_A130 h0 h1 H)))
theorem pq_A40 (h0 : ¬ x0 = 0) (h1 : ¬ x0 = 1) (H : post 1 ()) : wL_lawOf_40 post mc ms x0 x1 x2 x3 x4 0 x7 kc ks f0 f1 f2 a1 a2 a3 a4 a5 a6 a7 a8 a9 a10 a11 := by
  unfold wL_lawOf_40 wL_lawOf_58
  exact br_c (fun _ => pq_A59 h0 h1 H) (fun _ => br_c (fun _ => pq_A59 h0 h1 H) (fun _ => pq_A59 h0 h1 H))
theorem pq_A23 (h0 : ¬ x0 = 0) (h1 : ¬ x0 = 1) (H : post 1 ()) : wL_lawOf_23 post mc ms x0 x1 x2 x3 x4 0 kc ks f0 f1 f2 a1 a2 a3 a4 a5 a6 a7 a8 a9 a10 a11 := by
  unfold wL_lawOf_23 wL_lawOf_39
  exact br_c (fun _ => pq_A40 h0 h1 H) (fun _ => br_c (fun _ => pq_A40 h0 h1 H) (fun _ => pq_A40 h0 h1 H))
/-! a stream: close, with a row or without -/
theorem pq_R130 (hk : k < 2) (h6 : ∀ j, a6 j = 0) (g : x3 < 0 ∨ x4 < x3 ∨ 15 < x4)
    (H : ∀ z (s : Nat → Int32), (∀ y, y < 16 → x1 = nI y → (s (16 * k + y) = 0 ↔ z = 0)) → wL_lawOf_192 post mc ms (nI k) x1 x2 1 x7 x9 z kc ks f0 f1 f2 a1 a2 a3 a4 a5 s a7 a8 a9 a10 a11) :
    wL_lawOf_130 post mc ms (nI k) x1 x2 x3 x4 1 x7 x9 0 kc ks f0 f1 f2 a1 a2 a3 a4 a5 a6 a7 a8 a9 a10 a11 := by
  unfold wL_lawOf_130
  refine pq_closeR hk g (br_f (by decide) (br_t rfl ?_))
  unfold wL_lawOf_161
  refine br_t rfl (br_f (by decide) (br_t rfl ?_))
  unfold wL_lawOf_191
  exact H 0 a6 (fun y _ _ => ⟨fun _ => rfl, fun _ => h6 _⟩)
theorem pq_Y130 (hk : k < 2) (h6 : ∀ j, a6 j = 0) (g1 : ¬ x3 < 0) (g2 : ¬ x4 < x3) (g3 : ¬ 15 < x4)
    (H : ∀ z (s : Nat → Int32), (∀ y, y < 16 → x1 = nI y → (s (16 * k + y) = 0 ↔ z = 0)) → wL_lawOf_192 post mc ms (nI k) x1 x2 1 x7 x9 z kc ks f0 f1 f2 a1 a2 a3 a4 a5 s a7 a8 a9 a10 a11) :
    wL_lawOf_130 post mc ms (nI k) x1 x2 x3 x4 1 x7 x9 1 kc ks f0 f1 f2 a1 a2 a3 a4 a5 a6 a7 a8 a9 a10 a11 := by
  have g4 : x4 < 16 := Decidable.byContradiction (fun q => g3 (pq_16 q))
  unfold wL_lawOf_130
  refine pq_close hk h6 g1 g2 g4 (fun s hs => br_f (by decide) (br_f (by decide) ?_))
  unfold wL_lawOf_161
  refine br_t rfl (br_f (by decide) (br_f (by decide) ?_))
  unfold wL_lawOf_191
  refine br_c (fun q => ?_) (fun q => br_c (fun q' => ?_) (fun q' => ?_))
  · refine H 0 s (fun y hy e => ?_)
    rw [hs y hy, ← e]
    exact ⟨fun _ => rfl, fun _ => Or.inl q⟩
  · refine H 0 s (fun y hy e => ?_)
    rw [hs y hy, ← e]
    exact ⟨fun _ => rfl, fun _ => Or.inr q'⟩
  · refine H 1 s (fun y hy e => ?_)
    rw [hs y hy, ← e]
    exact ⟨fun t => t.elim (fun t' => absurd t' q) (fun t' => absurd t' q'), fun t => absurd t (by decide)⟩
/-! no key: every call but held answers -2 -/
theorem pq_B192 (hk : k < 2) (hx : x1 < 0 ∨ 16 ≤ x1) (h3 : a3 k = 0) (H : post 1 ()) : wL_lawOf_192 post mc ms (nI k) x1 x2 1 0 (-2) z kc ks f0 f1 f2 a1 a2 a3 a4 a5 a6 a7 a8 a9 a10 a11 := by
  unfold wL_lawOf_192
  refine pq_closedK hk hx (br_f (by decide) (br_t rfl ?_))
  unfold wL_lawOf_230
  refine br_t rfl (br_f (by decide) ?_)
  unfold wL_lawOf_256
  refine pq_feedK hk hx (br_t rfl (br_f (by decide) ?_))
  unfold wL_lawOf_292
  refine pq_held hk (br_f (by decide) ?_)
  unfold wL_lawOf_311
  refine br_t h3 (pq_retractK hk hx (br_f (by decide) (br_t rfl ?_)))
  exact br_t rfl H
theorem pq_B59 (hk : k < 2) (hx : x1 < 0 ∨ 16 ≤ x1) (h3 : a3 k = 0) (h6 : ∀ j, a6 j = 0) (H : post 1 ()) : wL_lawOf_59 post mc ms (nI k) x1 x2 x3 x4 1 0 z kc ks f0 f1 f2 a1 a2 a3 a4 a5 a6 a7 a8 a9 a10 a11 := by
  unfold wL_lawOf_59
  refine br_f (by decide) (br_t rfl ?_)
  unfold wL_lawOf_91
  refine pq_feedK hk hx (br_t rfl ?_)
  unfold wL_lawOf_129
  have G : ∀ z' (s : Nat → Int32), (∀ y, y < 16 → x1 = nI y → (s (16 * k + y) = 0 ↔ z' = 0)) → wL_lawOf_192 post mc ms (nI k) x1 x2 1 0 (-2) z' kc ks f0 f1 f2 a1 a2 a3 a4 a5 s a7 a8 a9 a10 a11 :=
    fun z' s _ => pq_B192 hk hx h3 H
  exact br_c (fun g => pq_R130 hk h6 (Or.inl g) G) (fun g => br_c (fun g' => pq_R130 hk h6 (Or.inr (Or.inl g')) G) (fun g' => br_c (fun g'' => pq_R130 hk h6 (Or.inr (Or.inr g'')) G) (fun g'' => pq_Y130 hk h6 g g' g'' G)))
/-! no value: feed answers -3, nothing is held -/
theorem pq_C192 (hk : k < 2) (hy : ky < 16) (hv : v < (-50) ∨ 50 < v) (K : pq_K k ky v 0 a1 a2 a3 a4) (hz : a6 (16 * k + ky) = 0 ↔ z = 0) (H : post 1 ()) : wL_lawOf_192 post mc ms (nI k) (nI ky) v 1 1 (-3) z kc ks f0 f1 f2 a1 a2 a3 a4 a5 a6 a7 a8 a9 a10 a11 := by
  have T : ∀ x11 y : Int32, wL_lawOf_230 post mc ms (nI k) (nI ky) v 1 1 (-3) x11 y y kc ks f0 f1 f2 a1 a2 a3 a4 a5 a6 a7 a8 a9 a10 a11 := by
    intro x11 y
    unfold wL_lawOf_230
    refine br_t rfl (br_f (by decide) ?_)
    unfold wL_lawOf_256
    refine pq_feedV hk hy hv (br_t rfl (br_f (by decide) ?_))
    unfold wL_lawOf_292
    refine pq_held hk (br_f (by decide) ?_)
    unfold wL_lawOf_311
    refine br_t K.1 (pq_retract0 hk hy K (br_f (by decide) (br_f (by decide) (br_t (by decide) ?_))))
    exact br_t rfl H
  unfold wL_lawOf_192
  exact pq_closed hk hy (fun q => br_f (by decide) (br_f (by decide) (br_t (hz.mp q) (T _ _)))) (fun q => br_f (by decide) (br_f (by decide) (br_f (fun t => q (hz.mpr t)) (T _ _))))
theorem pq_C59 (hk : k < 2) (hy : ky < 16) (hv : v < (-50) ∨ 50 < v) (K : pq_K k ky v 0 a1 a2 a3 a4) (h6 : ∀ j, a6 j = 0) (H : post 1 ()) : wL_lawOf_59 post mc ms (nI k) (nI ky) v x3 x4 1 1 0 kc ks f0 f1 f2 a1 a2 a3 a4 a5 a6 a7 a8 a9 a10 a11 := by
  unfold wL_lawOf_59
  refine br_f (by decide) (br_f (by decide) (br_t rfl ?_))
  unfold wL_lawOf_91
  refine pq_feedV hk hy hv (br_t rfl ?_)
  unfold wL_lawOf_129
  have G : ∀ z' (s : Nat → Int32), (∀ y, y < 16 → nI ky = nI y → (s (16 * k + y) = 0 ↔ z' = 0)) → wL_lawOf_192 post mc ms (nI k) (nI ky) v 1 1 (-3) z' kc ks f0 f1 f2 a1 a2 a3 a4 a5 s a7 a8 a9 a10 a11 :=
    fun z' s q => pq_C192 hk hy hv K (q ky hy rfl) H
  exact br_c (fun g => pq_R130 hk h6 (Or.inl g) G) (fun g => br_c (fun g' => pq_R130 hk h6 (Or.inr (Or.inl g')) G) (fun g' => br_c (fun g'' => pq_R130 hk h6 (Or.inr (Or.inr g'')) G) (fun g'' => pq_Y130 hk h6 g g' g'' G)))
/-! a good tuple -/
theorem pq_D192 (hk : k < 2) (hy : ky < 16) (hv1 : ¬ v < (-50)) (hv2 : v ≤ 50) (K : pq_K k ky v 1 a1 a2 a3 a4) (hz : a6 (16 * k + ky) = 0 ↔ z = 0) (H : post 1 ()) : wL_lawOf_192 post mc ms (nI k) (nI ky) v 1 1 1 z kc ks f0 f1 f2 a1 a2 a3 a4 a5 a6 a7 a8 a9 a10 a11 := by
  unfold wL_lawOf_192
  refine pq_closed hk hy (fun q => br_f (by decide) (br_f (by decide) (br_t (hz.mp q) ?_))) (fun q => br_f (by decide) (br_f (by decide) (br_f (fun t => q (hz.mpr t)) ?_)))
  · unfold wL_lawOf_230
    refine br_t rfl (br_t (by decide) (br_t (hz.mp q) ?_))
    unfold wL_lawOf_256
    refine pq_feed hk hy (by omega) hv1 hv2 q K (fun b1 b2 b3 b4 b5 K' => br_t rfl (br_t (by decide) (br_t (hz.mp q) ?_)))
    unfold wL_lawOf_292
    refine pq_held hk (br_f (by decide) ?_)
    unfold wL_lawOf_311
    refine br_t K'.1 (pq_retract (c := 1) hk hy (by omega) K' (fun u => br_f (by decide) (br_f (by decide) (br_f (by decide) ?_))))
    exact br_t (by decide) H
  · unfold wL_lawOf_230
    refine br_t rfl (br_t (by decide) (br_f (fun t => q (hz.mpr t)) ?_))
    unfold wL_lawOf_256
    refine pq_feedS hk hy hv1 hv2 q (br_t rfl (br_t (by decide) (br_f (fun t => q (hz.mpr t)) ?_)))
    unfold wL_lawOf_292
    refine pq_held hk (br_f (by decide) ?_)
    unfold wL_lawOf_311
    refine br_t K.1 (pq_retract (c := 0) hk hy (by omega) K (fun u => br_f (by decide) (br_f (by decide) (br_f (by decide) ?_))))
    exact br_t (by decide) H
theorem pq_D59 (hk : k < 2) (hy : ky < 16) (hv1 : ¬ v < (-50)) (hv2 : v ≤ 50) (K : pq_K k ky v 0 a1 a2 a3 a4) (h6 : ∀ j, a6 j = 0) (H : post 1 ()) : wL_lawOf_59 post mc ms (nI k) (nI ky) v x3 x4 1 1 1 kc ks f0 f1 f2 a1 a2 a3 a4 a5 a6 a7 a8 a9 a10 a11 := by
  unfold wL_lawOf_59
  refine br_f (by decide) (br_f (by decide) (br_f (by decide) ?_))
  unfold wL_lawOf_91
  refine pq_feed hk hy (by omega) hv1 hv2 (h6 _) K (fun b1 b2 b3 b4 b5 K' => br_t rfl ?_)
  unfold wL_lawOf_129
  have G : ∀ z' (s : Nat → Int32), (∀ y, y < 16 → nI ky = nI y → (s (16 * k + y) = 0 ↔ z' = 0)) → wL_lawOf_192 post mc ms (nI k) (nI ky) v 1 1 1 z' kc ks f0 f1 f2 b1 b2 b3 b4 b5 s a7 a8 a9 a10 a11 :=
    fun z' s q => pq_D192 hk hy hv1 hv2 K' (q ky hy rfl) H
  exact br_c (fun g => pq_R130 hk h6 (Or.inl g) G) (fun g => br_c (fun g' => pq_R130 hk h6 (Or.inr (Or.inl g')) G) (fun g' => br_c (fun g'' => pq_R130 hk h6 (Or.inr (Or.inr g'')) G) (fun g'' => pq_Y130 hk h6 g g' g'' G)))
/-! the law from the flag of the stream on -/
theorem pq_G23 (hk : k < 2) (h3 : ∀ j, a3 j = 0) (h4 : ∀ j, a4 j = 0) (h6 : ∀ j, a6 j = 0) (H : post 1 ()) : wL_lawOf_23 post mc ms (nI k) x1 v x3 x4 1 kc ks f0 f1 f2 a1 a2 a3 a4 a5 a6 a7 a8 a9 a10 a11 := by
  unfold wL_lawOf_23 wL_lawOf_39
  have B : x1 < 0 ∨ 16 ≤ x1 → wL_lawOf_40 post mc ms (nI k) x1 v x3 x4 1 0 kc ks f0 f1 f2 a1 a2 a3 a4 a5 a6 a7 a8 a9 a10 a11 := by
    intro hx
    unfold wL_lawOf_40 wL_lawOf_58
    exact br_c (fun _ => pq_B59 hk hx (h3 _) h6 H) (fun _ => br_c (fun _ => pq_B59 hk hx (h3 _) h6 H) (fun _ => pq_B59 hk hx (h3 _) h6 H))
  refine br_c (fun g => B (Or.inl g)) (fun g => br_c (fun g' => B (Or.inr (pq_15 g'))) (fun g' => ?_))
  obtain ⟨ky, hy, rfl⟩ := nI_of2 (n := 15) (show (15 : Int32).toInt = ((15 : Nat) : Int) by decide) g (pq_nlt g')
  have K : pq_K k ky v 0 a1 a2 a3 a4 := ⟨h3 _, h4 _, h4 _, fun j hj => absurd hj (by omega)⟩
  unfold wL_lawOf_40 wL_lawOf_58
  exact br_c (fun q => pq_C59 hk (by omega) (Or.inl q) K h6 H) (fun q => br_c (fun q' => pq_C59 hk (by omega) (Or.inr q') K h6 H) (fun q' => pq_D59 hk (by omega) q (pq_nlt q') K h6 H))
theorem pq_lawOf (H : post 1 ()) : wpL_lawOf post 12 354 () x0 x1 x2 x3 x4 := by
  unfold wpL_lawOf
  refine ⟨by decide, by decide, 11, 340, by decide, by decide, ?_⟩
  unfold wpX_init
  dsimp only
  refine ⟨by decide, by decide, by decide, by decide, by decide, by decide, by decide, by decide, by decide, by decide, by decide, by decide, by decide, by decide, by decide, by decide, by decide, by decide, by decide, by decide, by decide, by decide, ?_⟩
  unfold wL_lawOf_18
  refine br_c (fun e => ?_) (fun e => br_c (fun e' => ?_) (fun e' => pq_A23 e e' H))
  · rw [e]
    exact pq_G23 (k := 0) (by omega) (fun _ => rfl) (fun _ => rfl) (fun _ => rfl) H
  · rw [e']
    exact pq_G23 (k := 1) (by omega) (fun _ => rfl) (fun _ => rfl) (fun _ => rfl) H
theorem pq_cell {post : Int32 → Prop} {L : Nat} {xs : Nat → Int32} {i : Nat} (hL : L ≤ 5) (hi : i < 5) (H : ∀ x, post x) : wpL_cellAt post L xs () (nI i) :=
  pk_le L i (fun _ => H _) (fun q => ⟨pk_in i L q, H _⟩)
end
end
section
theorem i_vc (xs : Nat → Int32) (L : Nat) (hL : L ≤ 5) : wpL_law (fun r => r = 1) L xs := by
  unfold wpL_law
  exact pq_cell (i := 0) hL (by omega) (fun x0 => pq_cell (i := 1) hL (by omega) (fun x1 => pq_cell (i := 2) hL (by omega) (fun x2 => pq_cell (i := 3) hL (by omega) (fun x3 => pq_cell (i := 4) hL (by omega) (fun x4 => ⟨12, 354, by decide, by decide, pq_lawOf (post := fun r _ => r = 1) rfl⟩)))))
end
