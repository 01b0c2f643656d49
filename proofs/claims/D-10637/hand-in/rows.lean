section
section
variable {sp ob nn : Int32} {a1 a2 a3 a4 a5 a6 a7 : Nat → Int32}
theorem fm_4 (b : Nat) : (4 : Int32) * nI b = nI (4 * b) := pk_mul 4 b
theorem fm_44 (b : Nat) : (4 : Int32) * nI b + 4 = nI (4 * b + 4) := (congrArg (fun x => x + (4 : Int32)) (fm_4 b)).trans (nI_add (4 * b) 4)
theorem fm_43 (b : Nat) : (4 : Int32) * nI b + 3 = nI (4 * b + 3) := (congrArg (fun x => x + (3 : Int32)) (fm_4 b)).trans (nI_add (4 * b) 3)
theorem fm_b : ∀ i, i < 32 → (nI i).toInt8.toInt32 = nI i := by decide +kernel
/-- a block all of whose pages are erased -/
theorem fm_er1 {post : Int32 → Prop} {b : Nat} (hb : b < 8) (h : ∀ j, 4 * b ≤ j → j < 4 * b + 4 → a1 j = 0) (hp : post 1) : wpX_isErased post (sp, ob, nn, a1, a2, a3, a4, a5, a6, a7) (nI b) :=
  nm_r (fm_4 b) (pk_loop (σ := Unit) (fun n i _ => wX_isErased_4 post (nI b) sp ob nn a1 a2 a3 a4 a5 a6 a7 n (nI i)) (fun i _ => 4 * b ≤ i) (4 * b + 4) (4 * b) () (by omega) (Nat.le_refl _)
    (fun n _ _ => pk_le (4 * b + 4) (4 * b + 4) (fun _ => hp) (fun z => absurd z (by omega)) (fm_44 b))
    (fun n i _ hi hl hw => pk_le (4 * b + 4) i (fun z => absurd z (by omega)) (fun _ => ⟨pk_in i 32 (by omega), br_t (by rw [nI_clamp (by omega)]; exact h i hl hi) (nm_r (nI_1 i) (hw () (Nat.le_succ_of_le hl)))⟩) (fm_44 b)))
/-- a block whose first page isn't erased -/
theorem fm_er0 {post : Int32 → Prop} {b : Nat} (hb : b < 8) (h : ¬ a1 (4 * b) = 0) (hp : post 0) : wpX_isErased post (sp, ob, nn, a1, a2, a3, a4, a5, a6, a7) (nI b) :=
  nm_r (fm_4 b) ⟨1, pk_le (4 * b + 4) (4 * b) (fun z => absurd z (by omega)) (fun _ => ⟨pk_in (4 * b) 32 (by omega), br_f (by rw [nI_clamp (by omega)]; exact h) hp⟩) (fm_44 b)⟩
/-- startUp's last loop, from block 1 on -/
theorem fm_129t {post : St2 → Prop} {r : Int32} (hz : ∀ j, 3 ≤ j → j < 32 → a1 j = 0) (hp : post (sp, r, nn, a1, a2, a3, a4, a5, a6, a7)) : ∃ n, wX_startUp_129 post sp nn a1 a2 a3 a4 a5 a6 a7 n (nI 1) r :=
  pk_loop (σ := Unit) (fun n i _ => wX_startUp_129 post sp nn a1 a2 a3 a4 a5 a6 a7 n (nI i) r) (fun i _ => 1 ≤ i) 8 1 () (by omega) (Nat.le_refl _)
    (fun n _ _ => pk_le 8 8 (fun _ => hp) (fun z => absurd z (by omega)))
    (fun n i _ hi hl hw => pk_le 8 i (fun z => absurd z (by omega)) (fun _ => fm_er1 hi (fun j h1 h2 => hz j (by omega) (by omega)) (br_f (by decide) (nm_r (nI_1 i) (hw () (Nat.le_succ_of_le hl))))))
theorem fm_z4 (e0 : a1 0 = 0) (e1 : a1 1 = 0) (e2 : a1 2 = 0) (hz : ∀ j, 3 ≤ j → j < 32 → a1 j = 0) : ∀ j, j < 32 → a1 j = 0 := by
  intro j hj
  by_cases h3 : 3 ≤ j
  · exact hz j h3 hj
  · have : j = 0 ∨ j = 1 ∨ j = 2 := by omega
    rcases this with rfl | rfl | rfl
    · exact e0
    · exact e1
    · exact e2
theorem fm_129 {post : St2 → Prop} {r : Int32} (hz : ∀ j, 3 ≤ j → j < 32 → a1 j = 0) (h0 : (a1 0 = 0 ∧ a1 1 = 0 ∧ a1 2 = 0 ∧ r = -1) ∨ (¬ a1 0 = 0 ∧ r = 0)) (hp : post (sp, r, nn, a1, a2, a3, a4, a5, a6, a7)) : ∃ n, wX_startUp_129 post sp nn a1 a2 a3 a4 a5 a6 a7 n 0 (-1) := by
  obtain ⟨n, hn⟩ := fm_129t hz hp
  refine ⟨n + 1, pk_le 8 0 (fun z => absurd z (by omega)) (fun _ => ?_)⟩
  rcases h0 with ⟨e0, e1, e2, rfl⟩ | ⟨e0, rfl⟩
  · exact fm_er1 (b := 0) (by omega) (fun j _ h2 => fm_z4 e0 e1 e2 hz j (by omega)) (br_f (by decide) (nm_r (nI_1 0) hn))
  · have e : ((4 : Int32) * 0 + 3).toNatClampNeg = 3 := by decide
    exact fm_er0 (b := 0) (by omega) e0 (br_t rfl ⟨pk_in 3 32 (by omega) (fm_43 0), br_t (by rw [e]; exact hz 3 (by omega) (by omega)) (nm_r (nI_1 0) hn)⟩)
/-- startUp's scan: a page that isn't good -/
theorem fm_33s {post : St2 → Prop} {n i : Nat} (hi : i < 32) (h : ¬ a1 i = 1) (hw : wX_startUp_33 post sp ob n (nI (i + 1)) nn a1 a2 a3 a4 a5 a6 a7) : wX_startUp_33 post sp ob (n + 1) (nI i) nn a1 a2 a3 a4 a5 a6 a7 :=
  pk_le 32 i (fun z => absurd z (by omega)) (fun _ => ⟨pk_in i 32 hi, br_f (by rw [nI_clamp (by omega)]; exact h) (nm_r (nI_1 i) hw)⟩)
/-- a good page, the first of its logical page -/
theorem fm_33a {post : St2 → Prop} {n i p : Nat} (hi : i < 32) (hp : p < 12) (h1 : a1 i = 1) (h3 : a3 i = nI p) (h7 : a7 p < 0) (h5 : ¬ a5 i < nn) (hw : wX_startUp_33 post sp ob n (nI (i + 1)) (a5 i + 1) a1 a2 a3 a4 a5 a6 (upd a7 p (nI i))) : wX_startUp_33 post sp ob (n + 1) (nI i) nn a1 a2 a3 a4 a5 a6 a7 := by
  have c : (nI i).toNatClampNeg = i := nI_clamp (by omega)
  have cp : (nI p).toNatClampNeg = p := nI_clamp (by omega)
  refine pk_le 32 i (fun z => absurd z (by omega)) (fun _ => ⟨pk_in i 32 hi, br_t (by rw [c]; exact h1) ⟨pk_in i 32 hi, nm_r (e' := nI p) (by rw [c]; exact h3) ⟨pk_in p 12 hp, br_t (by rw [cp]; exact h7) ?_⟩⟩⟩)
  refine ⟨pk_in p 12 hp, nm_r (e' := upd a7 p (nI i)) (by rw [cp, fm_b i hi]) ?_⟩
  exact ⟨pk_in i 32 hi, br_f (by rw [c]; exact h5) ⟨pk_in i 32 hi, nm_r (e' := a5 i + 1) (by rw [c]) (nm_r (nI_1 i) hw)⟩⟩
/-- a good page, newer than the one before it -/
theorem fm_33b {post : St2 → Prop} {n i p k : Nat} (hi : i < 32) (hp : p < 12) (hk : k < 32) (h1 : a1 i = 1) (h3 : a3 i = nI p) (h7 : a7 p = nI k) (h5 : ¬ a5 i ≤ a5 k) (h6 : ¬ a5 i < nn) (hw : wX_startUp_33 post sp ob n (nI (i + 1)) (a5 i + 1) a1 a2 a3 a4 a5 a6 (upd a7 p (nI i))) : wX_startUp_33 post sp ob (n + 1) (nI i) nn a1 a2 a3 a4 a5 a6 a7 := by
  have c : (nI i).toNatClampNeg = i := nI_clamp (by omega)
  have cp : (nI p).toNatClampNeg = p := nI_clamp (by omega)
  have ck : (nI k).toNatClampNeg = k := nI_clamp (by omega)
  refine pk_le 32 i (fun z => absurd z (by omega)) (fun _ => ⟨pk_in i 32 hi, br_t (by rw [c]; exact h1) ⟨pk_in i 32 hi, nm_r (e' := nI p) (by rw [c]; exact h3) ⟨pk_in p 12 hp, br_f (by rw [cp, h7]; exact nI_pos (by omega)) ⟨pk_in i 32 hi, pk_in p 12 hp, pk_in k 32 hk (by rw [cp]; exact h7), br_f (by rw [c, cp, h7, ck]; exact h5) ?_⟩⟩⟩⟩)
  refine ⟨pk_in p 12 hp, nm_r (e' := upd a7 p (nI i)) (by rw [cp, fm_b i hi]) ?_⟩
  exact ⟨pk_in i 32 hi, br_f (by rw [c]; exact h6) ⟨pk_in i 32 hi, nm_r (e' := a5 i + 1) (by rw [c]) (nm_r (nI_1 i) hw)⟩⟩
/-- no good page any more -/
theorem fm_33t {post : St2 → Prop} (i0 : Nat) (hi0 : i0 ≤ 32) (h : ∀ j, i0 ≤ j → j < 32 → ¬ a1 j = 1) (hx : ∃ n, wX_startUp_129 post sp nn a1 a2 a3 a4 a5 a6 a7 n 0 ob) : ∃ n, wX_startUp_33 post sp ob n (nI i0) nn a1 a2 a3 a4 a5 a6 a7 :=
  pk_loop (σ := Unit) (fun n i _ => wX_startUp_33 post sp ob n (nI i) nn a1 a2 a3 a4 a5 a6 a7) (fun i _ => i0 ≤ i) 32 i0 () hi0 (Nat.le_refl _)
    (fun n _ _ => pk_le 32 32 (fun _ => hx) (fun z => absurd z (by omega)))
    (fun n i _ hi hl hw => fm_33s hi (h i hl hi) (hw () (Nat.le_succ_of_le hl)))
theorem fm_fill {s : Nat → Int32} {i k : Nat} {x : Int32} (hk : k = i) (h : ∀ j, j < i → s j = x) : ∀ j, j < i + 1 → upd s k x j = x := by
  intro j hj
  rw [hk]
  by_cases e : j = i
  · rw [e, pk_us]
  · rw [pk_un e]
    exact h j (by omega)
theorem fm_12 {post : St2 → Prop} (H : ∀ b7 : Nat → Int32, (∀ j, j < 12 → b7 j = -1) → ∃ n, wX_startUp_33 post sp (-1) n 0 1 a1 a2 a3 a4 a5 a6 b7) : wpX_startUp post (sp, ob, nn, a1, a2, a3, a4, a5, a6, a7) :=
  pk_loop (fun n i s => wX_startUp_12 post sp (-1) 1 n (nI i) a1 a2 a3 a4 a5 a6 s) (fun i s => ∀ j, j < i → s j = -1) 12 0 a7 (by omega) (fun j hj => absurd hj (by omega))
    (fun n s h => pk_le 12 12 (fun _ => H s h) (fun z => absurd z (by omega)))
    (fun n i s hi h hw => pk_le 12 i (fun z => absurd z (by omega)) (fun _ => ⟨pk_in i 12 hi, nm_e (nm_r (nI_1 i) (hw _ (fm_fill (nI_clamp (by omega)) h)))⟩))
/-- startUp where no page is good -/
theorem fm_su0 {post : St2 → Prop} {r : Int32} (h : ∀ j, j < 32 → ¬ a1 j = 1) (hz : ∀ j, 3 ≤ j → j < 32 → a1 j = 0) (h0 : (a1 0 = 0 ∧ a1 1 = 0 ∧ a1 2 = 0 ∧ r = -1) ∨ (¬ a1 0 = 0 ∧ r = 0))
    (H : ∀ b7 : Nat → Int32, (∀ j, j < 12 → b7 j = -1) → post (sp, r, 1, a1, a2, a3, a4, a5, a6, b7)) : wpX_startUp post (sp, ob, nn, a1, a2, a3, a4, a5, a6, a7) :=
  fm_12 (fun b7 hb => fm_33t 0 (by omega) (fun j _ hj => h j hj) (fm_129 hz h0 (H b7 hb)))
/-- startUp where page 0 alone is good -/
theorem fm_su1 {post : St2 → Prop} {p : Nat} (hp : p < 12) (h0 : a1 0 = 1) (h1 : ∀ j, 1 ≤ j → j < 32 → ¬ a1 j = 1) (hz : ∀ j, 3 ≤ j → j < 32 → a1 j = 0) (h3 : a3 0 = nI p) (h5 : a5 0 = 1)
    (H : ∀ b7 : Nat → Int32, b7 p = nI 0 → (∀ j, j < 12 → j ≠ p → b7 j = -1) → post (sp, 0, 2, a1, a2, a3, a4, a5, a6, b7)) : wpX_startUp post (sp, ob, nn, a1, a2, a3, a4, a5, a6, a7) := by
  refine fm_12 (fun b7 hb => ?_)
  have hq : post (sp, 0, 2, a1, a2, a3, a4, a5, a6, upd b7 p (nI 0)) := H _ pk_us (fun j hj hne => by rw [pk_un hne]; exact hb j hj)
  obtain ⟨n, hn⟩ := fm_33t 1 (by omega) h1 (fm_129 hz (Or.inr ⟨by rw [h0]; decide, rfl⟩) hq)
  refine ⟨n + 1, fm_33a (i := 0) (by omega) hp h0 h3 (by rw [hb p hp]; decide) (by rw [h5]; decide) ?_⟩
  have e : a5 0 + 1 = 2 := by rw [h5]; decide
  rw [e]
  exact hn
/-- startUp where pages 0 and 2 are good and tell of one logical page -/
theorem fm_su2 {post : St2 → Prop} {p : Nat} (hp : p < 12) (h0 : a1 0 = 1) (h1 : ¬ a1 1 = 1) (h2 : a1 2 = 1) (hz : ∀ j, 3 ≤ j → j < 32 → a1 j = 0) (h3 : a3 0 = nI p) (h32 : a3 2 = nI p) (h5 : a5 0 = 1) (h52 : a5 2 = 2)
    (H : ∀ b7 : Nat → Int32, b7 p = nI 2 → (∀ j, j < 12 → j ≠ p → b7 j = -1) → post (sp, 0, 3, a1, a2, a3, a4, a5, a6, b7)) : wpX_startUp post (sp, ob, nn, a1, a2, a3, a4, a5, a6, a7) := by
  refine fm_12 (fun b7 hb => ?_)
  have hq : post (sp, 0, 3, a1, a2, a3, a4, a5, a6, upd (upd b7 p (nI 0)) p (nI 2)) := H _ pk_us (fun j hj hne => by rw [pk_un hne, pk_un hne]; exact hb j hj)
  obtain ⟨n, hn⟩ := fm_33t 3 (by omega) (fun j hj hk => by rw [hz j hj hk]; decide) (fm_129 hz (Or.inr ⟨by rw [h0]; decide, rfl⟩) hq)
  have e : a5 0 + 1 = 2 := by rw [h5]; decide
  have e2 : a5 2 + 1 = 3 := by rw [h52]; decide
  refine ⟨n + 1 + 1 + 1, fm_33a (i := 0) (by omega) hp h0 h3 (by rw [hb p hp]; decide) (by rw [h5]; decide) ?_⟩
  rw [e]
  refine fm_33s (i := 1) (by omega) h1 ?_
  refine fm_33b (i := 2) (k := 0) (by omega) hp (by omega) h2 h32 pk_us (by rw [h52, h5]; decide) (by rw [h52]; decide) ?_
  rw [e2]
  exact hn
end
end
section
section
variable {sp ob nn : Int32} {a1 a2 a3 a4 a5 a6 a7 : Nat → Int32}
theorem fm_pg1 {post : Int32 → Prop} {q : Nat} (hq : q < 12) (hp : post 1) : wpX_isPage post (sp, ob, nn, a1, a2, a3, a4, a5, a6, a7) (nI q) :=
  br_f (nI_pos (by omega)) (br_f (nI_nlt (a := 11) (b := q) (by omega) (by decide)) hp)
theorem fm_pg0 {post : Int32 → Prop} {x : Int32} (h : x < 0 ∨ 11 < x) (hp : post 0) : wpX_isPage post (sp, ob, nn, a1, a2, a3, a4, a5, a6, a7) x :=
  br_c (fun _ => hp) (fun g => br_t (h.resolve_left g) hp)
/-- logical page j has no value -/
def fm_no (a4 a7 : Nat → Int32) (j : Nat) : Prop := a7 j < 0 ∨ ∃ k : Nat, k < 32 ∧ a7 j = nI k ∧ ¬ a4 k = 0
theorem fm_nm {j : Nat} (h : a7 j = -1) : fm_no a4 a7 j := Or.inl (by rw [h]; decide)
theorem fm_has0 {post : Int32 → Prop} {q : Nat} (hq : q < 12) (h : fm_no a4 a7 q) (hp : post 0) : wpX_has post (sp, ob, nn, a1, a2, a3, a4, a5, a6, a7) (nI q) := by
  unfold wpX_has
  refine fm_pg1 hq (br_f (by decide) ⟨pk_in q 12 hq, ?_⟩)
  rw [nI_clamp (show q < 2 ^ 31 by omega)]
  rcases h with h | ⟨k, hk, e, h⟩
  · exact br_t h hp
  · rw [e]
    exact br_f (nI_pos (by omega)) ⟨pk_in q 12 hq, pk_in k 32 hk, br_f (by rw [nI_clamp (by omega)]; exact h) hp⟩
theorem fm_has1 {post : Int32 → Prop} {q k : Nat} (hq : q < 12) (hk : k < 32) (e : a7 q = nI k) (h : a4 k = 0) (hp : post 1) : wpX_has post (sp, ob, nn, a1, a2, a3, a4, a5, a6, a7) (nI q) := by
  unfold wpX_has
  refine fm_pg1 hq (br_f (by decide) ⟨pk_in q 12 hq, ?_⟩)
  rw [nI_clamp (show q < 2 ^ 31 by omega), e]
  exact br_f (nI_pos (by omega)) ⟨pk_in q 12 hq, pk_in k 32 hk, br_t (by rw [nI_clamp (by omega)]; exact h) hp⟩
theorem fm_hasB {post : Int32 → Prop} {x : Int32} (h : x < 0 ∨ 11 < x) (hp : post 0) : wpX_has post (sp, ob, nn, a1, a2, a3, a4, a5, a6, a7) x := by
  unfold wpX_has
  exact fm_pg0 h (br_t rfl hp)
theorem fm_rd0 {post : Int32 → Prop} {q : Nat} (hq : q < 12) (h : fm_no a4 a7 q) (hp : post 0) : wpX_read post (sp, ob, nn, a1, a2, a3, a4, a5, a6, a7) (nI q) := by
  unfold wpX_read
  exact fm_has0 hq h (br_t rfl hp)
theorem fm_rdB {post : Int32 → Prop} {x : Int32} (h : x < 0 ∨ 11 < x) (hp : post 0) : wpX_read post (sp, ob, nn, a1, a2, a3, a4, a5, a6, a7) x := by
  unfold wpX_read
  exact fm_hasB h (br_t rfl hp)
theorem fm_rd1 {post : Int32 → Prop} {q k : Nat} (hq : q < 12) (hk : k < 32) (e : a7 q = nI k) (h : a4 k = 0) (hp : post (a2 k)) : wpX_read post (sp, ob, nn, a1, a2, a3, a4, a5, a6, a7) (nI q) := by
  unfold wpX_read
  refine fm_has1 hq hk e h (br_f (by decide) ⟨pk_in q 12 hq, ?_⟩)
  rw [nI_clamp (show q < 2 ^ 31 by omega), e]
  refine ⟨pk_in k 32 hk, ?_⟩
  rw [nI_clamp (show k < 2 ^ 31 by omega)]
  exact hp
theorem fm_nu0 {post : Int32 → Prop} {x : Int32} (h : ∀ j, j < 12 → fm_no a4 a7 j) (hp : post (-2)) : wpX_nextUsed post (sp, ob, nn, a1, a2, a3, a4, a5, a6, a7) x :=
  pk_loop (σ := Unit) (fun n i _ => wX_nextUsed_2 post x sp ob nn a1 a2 a3 a4 a5 a6 a7 n (nI i)) (fun _ _ => True) 12 0 () (by omega) trivial
    (fun n _ _ => pk_le 12 12 (fun _ => hp) (fun z => absurd z (by omega)))
    (fun n i _ hi _ hw => pk_le 12 i (fun z => absurd z (by omega)) (fun _ => br_c (fun _ => nm_r (nI_1 i) (hw () trivial)) (fun _ => fm_has0 hi (h i hi) (br_t rfl (nm_r (nI_1 i) (hw () trivial))))))
theorem fm_nuL {post : Int32 → Prop} {x : Int32} {p : Nat} (h : ∀ j, j < 12 → j ≠ p → fm_no a4 a7 j) (hx : nI p ≤ x) (hp : post (-2)) : wpX_nextUsed post (sp, ob, nn, a1, a2, a3, a4, a5, a6, a7) x :=
  pk_loop (σ := Unit) (fun n i _ => wX_nextUsed_2 post x sp ob nn a1 a2 a3 a4 a5 a6 a7 n (nI i)) (fun _ _ => True) 12 0 () (by omega) trivial
    (fun n _ _ => pk_le 12 12 (fun _ => hp) (fun z => absurd z (by omega)))
    (fun n i _ hi _ hw => pk_le 12 i (fun z => absurd z (by omega)) (fun _ => br_c (fun _ => nm_r (nI_1 i) (hw () trivial)) (fun g => fm_has0 hi (h i hi (fun e => g (e ▸ hx))) (br_t rfl (nm_r (nI_1 i) (hw () trivial))))))
theorem fm_nuG {post : Int32 → Prop} {x : Int32} {p k : Nat} (hq : p < 12) (hk : k < 32) (e : a7 p = nI k) (h4 : a4 k = 0) (h : ∀ j, j < 12 → j ≠ p → fm_no a4 a7 j) (hx : ¬ nI p ≤ x) (hp : post (nI p)) : wpX_nextUsed post (sp, ob, nn, a1, a2, a3, a4, a5, a6, a7) x :=
  pk_loop (σ := Unit) (fun n i _ => wX_nextUsed_2 post x sp ob nn a1 a2 a3 a4 a5 a6 a7 n (nI i)) (fun _ _ => True) p 0 () (by omega) trivial
    (fun n _ _ => pk_le 12 p (fun z => absurd z (by omega)) (fun _ => br_f hx (fm_has1 hq hk e h4 (br_f (by decide) hp))))
    (fun n i _ hi _ hw => pk_le 12 i (fun z => absurd z (by omega)) (fun _ => br_c (fun _ => nm_r (nI_1 i) (hw () trivial)) (fun _ => fm_has0 (by omega) (h i (by omega) (by omega)) (br_t rfl (nm_r (nI_1 i) (hw () trivial))))))
theorem fm_us0 {post : Int32 → Prop} (h : ∀ j, j < 12 → fm_no a4 a7 j) (hp : post 0) : wpX_used post (sp, ob, nn, a1, a2, a3, a4, a5, a6, a7) :=
  pk_loop (σ := Unit) (fun n i _ => wX_used_4 post sp ob nn a1 a2 a3 a4 a5 a6 a7 n 0 (nI i)) (fun _ _ => True) 12 0 () (by omega) trivial
    (fun n _ _ => pk_le 12 12 (fun _ => hp) (fun z => absurd z (by omega)))
    (fun n i _ hi _ hw => pk_le 12 i (fun z => absurd z (by omega)) (fun _ => fm_has0 hi (h i hi) (br_t rfl (nm_r (nI_1 i) (hw () trivial)))))
theorem fm_us1 {post : Int32 → Prop} {p k : Nat} (hq : p < 12) (hk : k < 32) (e : a7 p = nI k) (h4 : a4 k = 0) (h : ∀ j, j < 12 → j ≠ p → fm_no a4 a7 j) (hp : post 1) : wpX_used post (sp, ob, nn, a1, a2, a3, a4, a5, a6, a7) :=
  pk_loop (fun n i s => wX_used_4 post sp ob nn a1 a2 a3 a4 a5 a6 a7 n s (nI i)) (fun i s => (i ≤ p → s = 0) ∧ (p < i → s = 1)) 12 0 (0 : Int32) (by omega) ⟨fun _ => rfl, fun z => absurd z (by omega)⟩
    (fun n s hs => pk_le 12 12 (fun _ => by rw [hs.2 hq]; exact hp) (fun z => absurd z (by omega)))
    (fun n i s hi hs hw => pk_le 12 i (fun z => absurd z (by omega)) (fun _ => by
      by_cases g : i = p
      · subst g
        have e0 : s = 0 := hs.1 (Nat.le_refl _)
        subst e0
        exact fm_has1 hi hk e h4 (br_f (by decide) (nm_e (nm_r (nI_1 i) (hw _ ⟨fun z => absurd z (by omega), fun _ => by decide⟩))))
      · exact fm_has0 hi (h i hi g) (br_t rfl (nm_r (nI_1 i) (hw s ⟨fun z => hs.1 (by omega), fun z => hs.2 (by omega)⟩)))))
theorem fm_nibm {post : Int32 → Prop} (hp : post (-1)) : wpX_nextInBlock post (sp, -1, nn, a1, a2, a3, a4, a5, a6, a7) :=
  br_f (by decide) hp
theorem fm_nib {post : Int32 → Prop} {k : Nat} (hk : k < 4) (h : ∀ j, j < k → ¬ a1 j = 0) (h0 : a1 k = 0) (hp : post (nI k)) : wpX_nextInBlock post (sp, 0, nn, a1, a2, a3, a4, a5, a6, a7) :=
  br_t (by decide) (nm_r (fm_4 0) (pk_loop (σ := Unit) (fun n i _ => wX_nextInBlock_16 post sp 0 nn a1 a2 a3 a4 a5 a6 a7 n (nI i)) (fun _ _ => True) k 0 () (by omega) trivial
    (fun n _ _ => pk_le 4 k (fun z => absurd z (by omega)) (fun _ => ⟨pk_in k 32 (by omega), br_t (by rw [nI_clamp (by omega)]; exact h0) hp⟩) (fm_44 0))
    (fun n i _ hi _ hw => pk_le 4 i (fun z => absurd z (by omega)) (fun _ => ⟨pk_in i 32 (by omega), br_f (by rw [nI_clamp (by omega)]; exact h i hi) (nm_r (nI_1 i) (hw () trivial))⟩) (fm_44 0))))
theorem fm_fb {post : Int32 → Prop} (h : ∀ j, j < 32 → a1 j = 0) (hp : post 8) : wpX_freeBlocks post (sp, ob, nn, a1, a2, a3, a4, a5, a6, a7) :=
  pk_loop (σ := Unit) (fun n i _ => wX_freeBlocks_4 post sp ob nn a1 a2 a3 a4 a5 a6 a7 n (nI i) (nI i)) (fun _ _ => True) 8 0 () (by omega) trivial
    (fun n _ _ => pk_le 8 8 (fun _ => hp) (fun z => absurd z (by omega)))
    (fun n i _ hi _ hw => pk_le 8 i (fun z => absurd z (by omega)) (fun _ => fm_er1 hi (fun j _ _ => h j (by omega)) (br_f (by decide) (nm_r (nI_1 i) (nm_r (nI_1 i) (hw () trivial))))))
theorem fm_lw {post : Int32 → Prop} (h : ∀ j, j < 32 → a1 j = 0) (h6 : ∀ j, j < 8 → a6 0 ≤ a6 j) (hp : post 0) : wpX_leastWornFreeBlock post (sp, ob, nn, a1, a2, a3, a4, a5, a6, a7) := by
  have ht : ∃ n, wX_leastWornFreeBlock_4 post sp ob nn a1 a2 a3 a4 a5 a6 a7 n (nI 0) (nI 1) :=
    pk_loop (σ := Unit) (fun n i _ => wX_leastWornFreeBlock_4 post sp ob nn a1 a2 a3 a4 a5 a6 a7 n (nI 0) (nI i)) (fun _ _ => True) 8 1 () (by omega) trivial
      (fun n _ _ => pk_le 8 8 (fun _ => hp) (fun z => absurd z (by omega)))
      (fun n i _ hi _ hw => pk_le 8 i (fun z => absurd z (by omega)) (fun _ => fm_er1 hi (fun j _ _ => h j (by omega)) (br_f (by decide) (br_f (by decide) ⟨pk_in i 8 hi, pk_in 0 8 (by omega), br_t (by rw [nI_clamp (show 0 < 2 ^ 31 by omega), nI_clamp (show i < 2 ^ 31 by omega)]; exact h6 i hi) (nm_r (nI_1 i) (hw () trivial))⟩))))
  obtain ⟨n, hn⟩ := ht
  exact ⟨n + 1, pk_le 8 0 (fun z => absurd z (by omega)) (fun _ => fm_er1 (b := 0) (by omega) (fun j _ _ => h j (by omega)) (br_f (by decide) (br_t (by decide) (nm_r (nI_1 0) hn))))⟩
/-- freshPage: all is erased, no block is open -/
theorem fm_fr0 {post : Int32 → St2 → Prop} (h : ∀ j, j < 32 → a1 j = 0) (h6 : ∀ j, j < 8 → a6 0 ≤ a6 j) (hsp : ¬ 8 ≤ sp) (hp : post (nI 0) (sp, 0, nn, a1, a2, a3, a4, a5, a6, a7)) : wpX_freshPage post (sp, -1, nn, a1, a2, a3, a4, a5, a6, a7) := by
  unfold wpX_freshPage
  refine fm_nibm (br_t (by decide) ?_)
  refine fm_fb h (br_f hsp ?_)
  unfold wX_freshPage_27
  refine br_f (by decide) ?_
  unfold wX_freshPage_40
  refine fm_lw h h6 (br_f (by decide) ?_)
  unfold wX_freshPage_58
  exact fm_nib (k := 0) (by omega) (fun j hj => absurd hj (by omega)) (h 0 (by omega)) hp
/-- freshPage: block 0 is open, page k is its first erased one -/
theorem fm_frk {post : Int32 → St2 → Prop} {k : Nat} (hk : k < 4) (h : ∀ j, j < k → ¬ a1 j = 0) (h0 : a1 k = 0) (hp : post (nI k) (sp, 0, nn, a1, a2, a3, a4, a5, a6, a7)) : wpX_freshPage post (sp, 0, nn, a1, a2, a3, a4, a5, a6, a7) := by
  unfold wpX_freshPage
  exact fm_nib hk h h0 (br_f (nI_pos (by omega)) hp)
theorem fm_fp {post : St2 → Prop} {k p : Nat} {v z z' : Int32} (hk : k < 32) (hp : p < 12) (hz : vp_nar .boolean z = z') (H : post (sp, ob, nn + 1, upd a1 k 1, upd a2 k v, upd a3 k (nI p), upd a4 k z', upd a5 k nn, a6, upd a7 p (nI k))) : wpX_fillPage post (sp, ob, nn, a1, a2, a3, a4, a5, a6, a7) (nI k) (nI p) v z := by
  have c : (nI k).toNatClampNeg = k := nI_clamp (by omega)
  have c2 : (nI p).toNatClampNeg = p := nI_clamp (by omega)
  have i : vp_in (nI k) 32 := pk_in k 32 hk
  refine ⟨i, nm_r (e' := upd a1 k 1) (by rw [c]) ⟨i, nm_r (e' := upd a2 k v) (by rw [c]) ⟨i, nm_r (e' := upd a3 k (nI p)) (by rw [c, fm_b p (by omega)]) ⟨i, nm_r (e' := upd a4 k z') (by rw [c, hz]) ⟨i, nm_r (e' := upd a5 k nn) (by rw [c]) (nm_e ?_)⟩⟩⟩⟩⟩
  exact ⟨pk_in p 12 hp, nm_r (e' := upd a7 p (nI k)) (by rw [c2, fm_b k hk]) H⟩
/-- write of a page that has no value, on an erased flash -/
theorem fm_wr1 {post : Int32 → St2 → Prop} {p : Nat} {v : Int32} (hp : p < 12) (h : ∀ j, j < 32 → a1 j = 0) (h6 : ∀ j, j < 8 → a6 0 ≤ a6 j) (hsp : ¬ 8 ≤ sp) (h7 : ∀ j, j < 12 → a7 j = -1)
    (H : post 0 (sp, 0, nn + 1, upd a1 0 1, upd a2 0 v, upd a3 0 (nI p), upd a4 0 0, upd a5 0 nn, a6, upd a7 p (nI 0))) : wpX_write post (sp, -1, nn, a1, a2, a3, a4, a5, a6, a7) (nI p) v := by
  unfold wpX_write
  refine fm_pg1 hp (br_f (by decide) ?_)
  refine fm_has0 hp (fm_nm (h7 p hp)) (br_t rfl ?_)
  unfold wX_write_23 wpX_program
  refine fm_fr0 h h6 hsp ?_
  exact fm_fp (k := 0) (by omega) hp rfl H
theorem fm_wrB {post : Int32 → St2 → Prop} {x v : Int32} (h : x < 0 ∨ 11 < x) (H : post (-1) (sp, ob, nn, a1, a2, a3, a4, a5, a6, a7)) : wpX_write post (sp, ob, nn, a1, a2, a3, a4, a5, a6, a7) x v := by
  unfold wpX_write
  exact fm_pg0 h (br_t rfl H)
theorem fm_toB {post : Int32 → St2 → Prop} {x v : Int32} (h : x < 0 ∨ 11 < x) (H : post (-1) (sp, ob, nn, a1, a2, a3, a4, a5, a6, a7)) : wpX_torn post (sp, ob, nn, a1, a2, a3, a4, a5, a6, a7) x v := by
  unfold wpX_torn
  exact fm_pg0 h (br_t rfl H)
theorem fm_trB {post : Int32 → St2 → Prop} {x : Int32} (h : x < 0 ∨ 11 < x) (H : post (-1) (sp, ob, nn, a1, a2, a3, a4, a5, a6, a7)) : wpX_trim post (sp, ob, nn, a1, a2, a3, a4, a5, a6, a7) x := by
  unfold wpX_trim
  exact fm_pg0 h (br_t rfl H)
theorem fm_tr0 {post : Int32 → St2 → Prop} {q : Nat} (hq : q < 12) (h : fm_no a4 a7 q) (H : post 0 (sp, ob, nn, a1, a2, a3, a4, a5, a6, a7)) : wpX_trim post (sp, ob, nn, a1, a2, a3, a4, a5, a6, a7) (nI q) := by
  unfold wpX_trim
  refine fm_pg1 hq (br_f (by decide) ?_)
  exact fm_has0 hq h (br_t rfl H)
/-- trim of the one page that has a value, page 2 being the next erased one -/
theorem fm_tr1 {post : Int32 → St2 → Prop} {q : Nat} (hq : q < 12) (e : a7 q = nI 0) (h4 : a4 0 = 0) (h0 : ¬ a1 0 = 0) (h1 : ¬ a1 1 = 0) (h2 : a1 2 = 0)
    (H : post 1 (sp, 0, nn + 1, upd a1 2 1, upd a2 2 0, upd a3 2 (nI q), upd a4 2 1, upd a5 2 nn, a6, upd a7 q (nI 2))) : wpX_trim post (sp, 0, nn, a1, a2, a3, a4, a5, a6, a7) (nI q) := by
  unfold wpX_trim
  refine fm_pg1 hq (br_f (by decide) ?_)
  refine fm_has1 hq (by omega) e h4 (br_f (by decide) ?_)
  unfold wpX_program
  refine fm_frk (k := 2) (by omega) (fun j hj => ?_) h2 ?_
  · have : j = 0 ∨ j = 1 := by omega
    rcases this with rfl | rfl
    · exact h0
    · exact h1
  · exact fm_fp (k := 2) (by omega) hq rfl H
/-- torn on an erased flash: page 0 is spoiled -/
theorem fm_to0 {post : Int32 → St2 → Prop} {q : Nat} {v : Int32} (hq : q < 12) (h : ∀ j, j < 32 → a1 j = 0) (h6 : ∀ j, j < 8 → a6 0 ≤ a6 j) (hsp : ¬ 8 ≤ sp)
    (H : ∀ b2 b3 b5 b7 : Nat → Int32, (∀ j, j < 12 → b7 j = -1) → post (nI q) (sp, 0, 1, upd a1 0 2, b2, b3, a4, b5, a6, b7)) : wpX_torn post (sp, -1, nn, a1, a2, a3, a4, a5, a6, a7) (nI q) v := by
  unfold wpX_torn
  refine fm_pg1 hq (br_f (by decide) ?_)
  refine fm_fr0 h h6 hsp ?_
  have i : vp_in (nI 0) 32 := pk_in 0 32 (by omega)
  have c : (nI 0).toNatClampNeg = 0 := nI_clamp (by omega)
  refine ⟨i, nm_r (e' := upd a1 0 2) (by rw [c]) ⟨i, nm_e ⟨i, nm_e ⟨i, nm_e ?_⟩⟩⟩⟩
  refine fm_su0 (r := 0) (fun j hj => ?_) (fun j h3 hj => ?_) (Or.inr ⟨by rw [pk_us]; decide, rfl⟩) (fun b7 hb => H _ _ _ b7 hb)
  · by_cases e : j = 0
    · rw [e, pk_us]; decide
    · rw [pk_un e, h j hj]; decide
  · rw [pk_un (by omega)]; exact h j hj
/-- torn where page 0 is good and page 1 the next: page 1 is spoiled -/
theorem fm_to1 {post : Int32 → St2 → Prop} {p q : Nat} {v : Int32} (hq : q < 12) (hp : p < 12) (h0 : a1 0 = 1) (hz : ∀ j, 1 ≤ j → j < 32 → a1 j = 0) (h3 : a3 0 = nI p) (h5 : a5 0 = 1)
    (H : ∀ b7 : Nat → Int32, b7 p = nI 0 → (∀ j, j < 12 → j ≠ p → b7 j = -1) → post (nI q) (sp, 0, 2, upd a1 1 2, upd a2 1 v, upd a3 1 (nI q), a4, upd a5 1 nn, a6, b7)) : wpX_torn post (sp, 0, nn, a1, a2, a3, a4, a5, a6, a7) (nI q) v := by
  unfold wpX_torn
  refine fm_pg1 hq (br_f (by decide) ?_)
  refine fm_frk (k := 1) (by omega) (fun j hj => by rw [show j = 0 by omega, h0]; decide) (hz 1 (by omega) (by omega)) ?_
  have i : vp_in (nI 1) 32 := pk_in 1 32 (by omega)
  have c : (nI 1).toNatClampNeg = 1 := nI_clamp (by omega)
  refine ⟨i, nm_r (e' := upd a1 1 2) (by rw [c]) ⟨i, nm_r (e' := upd a2 1 v) (by rw [c]) ⟨i, nm_r (e' := upd a3 1 (nI q)) (by rw [c, fm_b q (by omega)]) ⟨i, nm_r (e' := upd a5 1 nn) (by rw [c]) ?_⟩⟩⟩⟩
  refine fm_su1 hp (by rw [pk_un (by omega)]; exact h0) (fun j h1 hj => ?_) (fun j h3 hj => ?_) (by rw [pk_un (by omega)]; exact h3) (by rw [pk_un (by omega)]; exact h5) H
  · by_cases e : j = 1
    · rw [e, pk_us]; decide
    · rw [pk_un e, hz j h1 hj]; decide
  · rw [pk_un (by omega)]; exact hz j (by omega) hj
end
end
section
section
variable {sp ob nn : Int32} {a1 a2 a3 a4 a5 a6 a7 : Nat → Int32}
/-- powerCut where no page is good -/
theorem fm_pcN {post : Int32 → St2 → Prop} (h0 : a1 0 = 0 ∨ a1 0 = 2) (hz : ∀ j, 1 ≤ j → j < 32 → a1 j = 0) (H : ∀ u, post 0 u) : wpX_powerCut post (sp, ob, nn, a1, a2, a3, a4, a5, a6, a7) := by
  have h : ∀ j, j < 32 → ¬ a1 j = 1 := by
    intro j hj
    by_cases e : j = 0
    · rw [e]
      rcases h0 with g | g
      · rw [g]; decide
      · rw [g]; decide
    · rw [hz j (by omega) hj]; decide
  have hz3 : ∀ j, 3 ≤ j → j < 32 → a1 j = 0 := fun j h3 hj => hz j (by omega) hj
  unfold wpX_powerCut
  rcases h0 with g | g
  · exact fm_su0 (r := -1) h hz3 (Or.inl ⟨g, hz 1 (by omega) (by omega), hz 2 (by omega) (by omega), rfl⟩) (fun b7 hb => fm_us0 (fun j hj => fm_nm (hb j hj)) (H _))
  · exact fm_su0 (r := 0) h hz3 (Or.inr ⟨by rw [g]; decide, rfl⟩) (fun b7 hb => fm_us0 (fun j hj => fm_nm (hb j hj)) (H _))
/-- powerCut where page 0 alone is good -/
theorem fm_pcG {post : Int32 → St2 → Prop} {p : Nat} (hp : p < 12) (h0 : a1 0 = 1) (h1 : a1 1 = 0 ∨ a1 1 = 2) (hz : ∀ j, 2 ≤ j → j < 32 → a1 j = 0) (h3 : a3 0 = nI p) (h4 : a4 0 = 0) (h5 : a5 0 = 1) (H : ∀ u, post 1 u) : wpX_powerCut post (sp, ob, nn, a1, a2, a3, a4, a5, a6, a7) := by
  have h : ∀ j, 1 ≤ j → j < 32 → ¬ a1 j = 1 := by
    intro j hj1 hj
    by_cases e : j = 1
    · rw [e]
      rcases h1 with g | g
      · rw [g]; decide
      · rw [g]; decide
    · rw [hz j (by omega) hj]; decide
  unfold wpX_powerCut
  exact fm_su1 hp h0 h (fun j h3 hj => hz j (by omega) hj) h3 h5 (fun b7 hb hn => fm_us1 hp (by omega) hb h4 (fun j hj hne => fm_nm (hn j hj hne)) (H _))
/-- powerCut where page 2 says that the one page has no value -/
theorem fm_pcH {post : Int32 → St2 → Prop} {p : Nat} (hp : p < 12) (h0 : a1 0 = 1) (h1 : ¬ a1 1 = 1) (h2 : a1 2 = 1) (hz : ∀ j, 3 ≤ j → j < 32 → a1 j = 0) (h3 : a3 0 = nI p) (h32 : a3 2 = nI p) (h42 : ¬ a4 2 = 0) (h5 : a5 0 = 1) (h52 : a5 2 = 2) (H : ∀ u, post 0 u) : wpX_powerCut post (sp, ob, nn, a1, a2, a3, a4, a5, a6, a7) := by
  unfold wpX_powerCut
  refine fm_su2 hp h0 h1 h2 hz h3 h32 h5 h52 (fun b7 hb hn => fm_us0 (fun j hj => ?_) (H _))
  by_cases e : j = p
  · rw [e]
    exact Or.inr ⟨2, by omega, hb, h42⟩
  · exact fm_nm (hn j hj e)
theorem fm_205 {post : Int32 → St0 → Prop} {mc ms kc ks : Nat} {z0 z1 : Int32} (hp : post 1 ()) (e : z1 = z0) : wL_lawOf_205 post mc ms z0 z1 kc ks := by
  unfold wL_lawOf_205
  exact br_t e hp
theorem fm_204 {post : Int32 → St0 → Prop} {mc ms kc ks : Nat} {z : Int32} (hp : post 1 ()) (e : z = 0) : wL_lawOf_204 post mc ms z kc ks := by
  unfold wL_lawOf_204
  exact fm_205 hp e
/-- the law behind torn, where the first page was no page -/
theorem fm_N100 {post : Int32 → St0 → Prop} {mc ms kc ks : Nat} {x1 x2 x3 x4 x6 z0 z1 : Int32} (hp : post 1 ()) (hx : (x6 = 0 ∧ (x3 < 0 ∨ 11 < x3)) ∨ (x6 = 1 ∧ ∃ q : Nat, q < 12 ∧ x3 = nI q))
    (h0 : a1 0 = 0 ∨ a1 0 = 2) (hz : ∀ j, 1 ≤ j → j < 32 → a1 j = 0) (h7 : ∀ j, j < 12 → a7 j = -1) (e : z1 = z0) : wL_lawOf_100 post mc ms x1 x2 x3 x4 0 x6 0 z0 z1 kc ks sp ob nn a1 a2 a3 a4 a5 a6 a7 := by
  have hn : ∀ j, j < 12 → fm_no a4 a7 j := fun j hj => fm_nm (h7 j hj)
  have k180 : ∀ z0 z1, z1 = z0 → wL_lawOf_180 post mc ms 0 0 z0 z1 kc ks sp ob nn a1 a2 a3 a4 a5 a6 a7 := by
    intro z0 z1 e
    unfold wL_lawOf_180
    refine br_t e (fm_pcN h0 hz (fun u => ?_))
    obtain ⟨u1, u2, u3, u4, u5, u6, u7, u8, u9, u10⟩ := u
    exact br_t rfl (fm_204 hp rfl)
  have k150 : ∀ z0 z1, z1 = z0 → wL_lawOf_150 post mc ms x3 0 x6 0 z0 z1 kc ks sp ob nn a1 a2 a3 a4 a5 a6 a7 := by
    intro z0 z1 e
    unfold wL_lawOf_150
    refine br_t e ?_
    rcases hx with ⟨rfl, hb⟩ | ⟨rfl, q, hq, rfl⟩
    · exact fm_trB hb (br_t rfl (k180 _ _ rfl))
    · exact fm_tr0 hq (hn q hq) (br_f (by decide) (br_t rfl (k180 _ _ rfl)))
  have k121 : ∀ z0 z1, z1 = z0 → wL_lawOf_121 post mc ms x1 x3 x4 0 x6 0 z0 z1 kc ks sp ob nn a1 a2 a3 a4 a5 a6 a7 := by
    intro z0 z1 e
    unfold wL_lawOf_121
    refine br_t e (fm_nu0 hn (br_t rfl ?_))
    unfold wL_lawOf_148
    exact k150 _ _ rfl
  unfold wL_lawOf_100
  refine br_t e ?_
  rcases hx with ⟨rfl, hb⟩ | ⟨rfl, q, hq, rfl⟩
  · exact fm_rdB hb (br_t rfl (k121 _ _ rfl))
  · exact fm_rd0 hq (hn q hq) (br_t rfl (k121 _ _ rfl))
/-- the law behind torn, where page 0 holds logical page p -/
theorem fm_G100 {post : Int32 → St0 → Prop} {mc ms kc ks p : Nat} {x2 x3 x4 x6 x7 z0 z1 : Int32} (hp : post 1 ()) (hp12 : p < 12)
    (hx : (x6 = 0 ∧ x7 = 0 ∧ (x3 < 0 ∨ 11 < x3)) ∨ (x6 = 1 ∧ x7 = 0 ∧ ∃ q : Nat, q < 12 ∧ q ≠ p ∧ x3 = nI q) ∨ (x6 = 1 ∧ x7 = 1 ∧ x3 = nI p ∧ a1 1 = 2))
    (h0 : a1 0 = 1) (h1 : a1 1 = 0 ∨ a1 1 = 2) (hz : ∀ j, 2 ≤ j → j < 32 → a1 j = 0) (h2 : a2 0 = x2) (h3 : a3 0 = nI p) (h4 : a4 0 = 0) (h5 : a5 0 = 1) (h7 : a7 p = nI 0) (h7n : ∀ j, j < 12 → j ≠ p → a7 j = -1) (e : z1 = z0) :
    wL_lawOf_100 post mc ms (nI p) x2 x3 x4 1 x6 x7 z0 z1 kc ks sp 0 2 a1 a2 a3 a4 a5 a6 a7 := by
  have hn : ∀ j, j < 12 → j ≠ p → fm_no a4 a7 j := fun j hj hne => fm_nm (h7n j hj hne)
  have k180 : ∀ z0 z1, z1 = z0 → wL_lawOf_180 post mc ms 1 0 z0 z1 kc ks sp 0 2 a1 a2 a3 a4 a5 a6 a7 := by
    intro z0 z1 e
    unfold wL_lawOf_180
    refine br_t e (fm_pcG hp12 h0 h1 hz h3 h4 h5 (fun u => ?_))
    obtain ⟨u1, u2, u3, u4, u5, u6, u7, u8, u9, u10⟩ := u
    exact br_f (by decide) (br_t rfl (fm_205 hp rfl))
  have k150 : ∀ z0 z1, z1 = z0 → wL_lawOf_150 post mc ms x3 1 x6 x7 z0 z1 kc ks sp 0 2 a1 a2 a3 a4 a5 a6 a7 := by
    intro z0 z1 e
    unfold wL_lawOf_150
    refine br_t e ?_
    rcases hx with ⟨rfl, rfl, hb⟩ | ⟨rfl, rfl, q, hq, hne, rfl⟩ | ⟨rfl, rfl, rfl, g1⟩
    · exact fm_trB hb (br_t rfl (k180 _ _ rfl))
    · exact fm_tr0 hq (hn q hq hne) (br_f (by decide) (br_t rfl (k180 _ _ rfl)))
    · refine fm_tr1 hp12 h7 h4 (by rw [h0]; decide) (by rw [g1]; decide) (hz 2 (by omega) (by omega)) (br_f (by decide) (br_f (by decide) ?_))
      unfold wL_lawOf_180
      refine br_t rfl (fm_pcH hp12 ?_ ?_ pk_us ?_ ?_ pk_us ?_ ?_ pk_us (fun u => ?_))
      · rw [pk_un (by omega)]; exact h0
      · rw [pk_un (by omega), g1]; decide
      · intro j hj3 hj
        rw [pk_un (by omega)]; exact hz j (by omega) hj
      · rw [pk_un (by omega)]; exact h3
      · rw [pk_us]; decide
      · rw [pk_un (by omega)]; exact h5
      · obtain ⟨u1, u2, u3, u4, u5, u6, u7, u8, u9, u10⟩ := u
        exact br_f (by decide) (br_f (by decide) (fm_204 hp rfl))
  have k121 : ∀ z0 z1, z1 = z0 → wL_lawOf_121 post mc ms (nI p) x3 x4 1 x6 x7 z0 z1 kc ks sp 0 2 a1 a2 a3 a4 a5 a6 a7 := by
    intro z0 z1 e
    unfold wL_lawOf_121
    refine br_t e ?_
    by_cases g : nI p ≤ x4
    · refine fm_nuL hn g (br_f (by decide) (br_t g ?_))
      unfold wL_lawOf_148
      exact k150 _ _ rfl
    · exact fm_nuG hp12 (by omega) h7 h4 hn g (br_f (by decide) (br_f g (k150 _ _ rfl)))
  unfold wL_lawOf_100
  refine br_t e ?_
  rcases hx with ⟨rfl, rfl, hb⟩ | ⟨rfl, rfl, q, hq, hne, rfl⟩ | ⟨rfl, rfl, rfl, g1⟩
  · exact fm_rdB hb (br_t rfl (k121 _ _ rfl))
  · exact fm_rd0 hq (hn q hq hne) (br_t rfl (k121 _ _ rfl))
  · exact fm_rd1 hp12 (by omega) h7 h4 (br_f (by decide) (k121 _ _ h2))
theorem fm_N78 {post : Int32 → St0 → Prop} {mc ms kc ks : Nat} {x1 x2 x3 x4 x6 z0 z1 : Int32} (hp : post 1 ()) (hx : (x6 = 0 ∧ (x3 < 0 ∨ 11 < x3)) ∨ (x6 = 1 ∧ ∃ q : Nat, q < 12 ∧ x3 = nI q))
    (h : ∀ j, j < 32 → a1 j = 0) (h6 : ∀ j, j < 8 → a6 0 ≤ a6 j) (hsp : ¬ 8 ≤ sp) (h7 : ∀ j, j < 12 → a7 j = -1) (e : z1 = z0) : wL_lawOf_78 post mc ms x1 x2 x3 x4 0 x6 0 z0 z1 kc ks sp (-1) 1 a1 a2 a3 a4 a5 a6 a7 := by
  unfold wL_lawOf_78
  refine br_t e ?_
  rcases hx with ⟨rfl, hb⟩ | ⟨rfl, q, hq, rfl⟩
  · exact fm_toB hb (br_t rfl (fm_N100 hp (Or.inl ⟨rfl, hb⟩) (Or.inl (h 0 (by omega))) (fun j _ hj => h j hj) h7 rfl))
  · refine fm_to0 hq h h6 hsp (fun b2 b3 b5 b7 hb => br_f (by decide) (fm_N100 hp (Or.inr ⟨rfl, q, hq, rfl⟩) (Or.inr pk_us) (fun j h1 hj => ?_) hb rfl))
    rw [pk_un (by omega)]; exact h j hj
theorem fm_G78 {post : Int32 → St0 → Prop} {mc ms kc ks p : Nat} {x2 x3 x4 x6 x7 z0 z1 : Int32} (hp : post 1 ()) (hp12 : p < 12)
    (hx : (x6 = 0 ∧ x7 = 0 ∧ (x3 < 0 ∨ 11 < x3)) ∨ (x6 = 1 ∧ x7 = 0 ∧ ∃ q : Nat, q < 12 ∧ q ≠ p ∧ x3 = nI q) ∨ (x6 = 1 ∧ x7 = 1 ∧ x3 = nI p))
    (h0 : a1 0 = 1) (hz : ∀ j, 1 ≤ j → j < 32 → a1 j = 0) (h2 : a2 0 = x2) (h3 : a3 0 = nI p) (h4 : a4 0 = 0) (h5 : a5 0 = 1) (h7 : a7 p = nI 0) (h7n : ∀ j, j < 12 → j ≠ p → a7 j = -1) (e : z1 = z0) :
    wL_lawOf_78 post mc ms (nI p) x2 x3 x4 1 x6 x7 z0 z1 kc ks sp 0 2 a1 a2 a3 a4 a5 a6 a7 := by
  have tq : ∀ q : Nat, q < 12 → ∀ y7 : Int32, ((y7 = 0 ∧ q ≠ p) ∨ (y7 = 1 ∧ q = p)) → wpX_torn (fun r_63 u => match u with | (fm51_spareBlocks_64, fm51_openBlock_65, fm51_nextNumber_66, am871_69, am872_72, am873_75, am874_78, am875_81, am876_84, am877_87) => ((((1 : Int32) = 0 → (wL_lawOf_100 post mc ms (nI p) x2 (nI q) x4 1 1 y7 (-1) r_63 kc ks fm51_spareBlocks_64 fm51_openBlock_65 fm51_nextNumber_66 am871_69 am872_72 am873_75 am874_78 am875_81 am876_84 am877_87)) ∧ (¬ (1 : Int32) = 0 → (wL_lawOf_100 post mc ms (nI p) x2 (nI q) x4 1 1 y7 (nI q) r_63 kc ks fm51_spareBlocks_64 fm51_openBlock_65 fm51_nextNumber_66 am871_69 am872_72 am873_75 am874_78 am875_81 am876_84 am877_87))))) (sp, 0, 2, a1, a2, a3, a4, a5, a6, a7) (nI q) x2 := by
    intro q hq y7 hy
    refine fm_to1 hq hp12 h0 hz h3 h5 (fun b7 hb hbn => br_f (by decide) (fm_G100 hp hp12 ?_ ?_ (Or.inr pk_us) ?_ ?_ ?_ h4 ?_ hb hbn rfl))
    · rcases hy with ⟨g, hne⟩ | ⟨g, hne⟩
      · exact Or.inr (Or.inl ⟨rfl, g, q, hq, hne, rfl⟩)
      · exact Or.inr (Or.inr ⟨rfl, g, by rw [hne], pk_us⟩)
    · rw [pk_un (by omega)]; exact h0
    · intro j h2 hj
      rw [pk_un (by omega)]; exact hz j (by omega) hj
    · rw [pk_un (by omega)]; exact h2
    · rw [pk_un (by omega)]; exact h3
    · rw [pk_un (by omega)]; exact h5
  unfold wL_lawOf_78
  refine br_t e ?_
  rcases hx with ⟨rfl, rfl, hb⟩ | ⟨rfl, rfl, q, hq, hne, rfl⟩ | ⟨rfl, rfl, rfl⟩
  · exact fm_toB hb (br_t rfl (fm_G100 hp hp12 (Or.inl ⟨rfl, rfl, hb⟩) h0 (Or.inl (hz 1 (by omega) (by omega))) (fun j h2 hj => hz j (by omega) hj) h2 h3 h4 h5 h7 h7n rfl))
  · exact tq q hq 0 (Or.inl ⟨rfl, hne⟩)
  · exact tq p hp12 1 (Or.inr ⟨rfl, rfl⟩)
/-- the constructor -/
theorem fm_in {post : St2 → Prop} {x0 : Int32} (H : ∀ (sp : Int32) (b7 : Nat → Int32), ¬ 8 ≤ sp → (∀ j, j < 12 → b7 j = -1) → post (sp, -1, 1, (fun _ => 0), (fun _ => 0), (fun _ => 0), (fun _ => 0), (fun _ => 0), (fun _ => 0), b7)) : wpX_init post 7 180 (0, 0, 0) x0 := by
  have k : ∀ sp : Int32, ¬ 8 ≤ sp → wX_init_80 post 7 180 sp 7 180 0 0 0 (fun _ => 0) (fun _ => 0) (fun _ => 0) (fun _ => 0) (fun _ => 0) (fun _ => 0) (fun _ => 0) := by
    intro sp hsp
    unfold wX_init_80
    exact fm_su0 (r := -1) (fun j _ => (by decide : ¬ (0 : Int32) = 1)) (fun j _ _ => rfl) (Or.inl ⟨rfl, rfl, rfl, rfl⟩) (fun b7 hb => H sp b7 hsp hb)
  exact ⟨by omega, by omega, by omega, by omega, by omega, by omega, by omega, by omega, by omega, by omega, by omega, by omega, by omega, by omega,
    br_c (fun _ => br_c (fun h3 => k x0 (fun h8 => absurd (Int32.le_trans h8 h3) (by decide))) (fun _ => k 3 (by decide))) (fun _ => k 1 (by decide))⟩
/-- the law from the constructor on, the first page being no page -/
theorem fm_N49 {post : Int32 → St0 → Prop} {x0 x1 x2 x3 x4 x6 : Int32} (hp : post 1 ()) (h1 : x1 < 0 ∨ 11 < x1) (hx : (x6 = 0 ∧ (x3 < 0 ∨ 11 < x3)) ∨ (x6 = 1 ∧ ∃ q : Nat, q < 12 ∧ x3 = nI q)) : wL_lawOf_49 post 72 1136 x0 x1 x2 x3 x4 0 x6 0 0 0 := by
  unfold wL_lawOf_49
  refine ⟨by omega, by omega, 7, 180, by omega, by omega, fm_in (fun sp b7 hsp hb => ?_)⟩
  exact fm_wrB h1 (br_t rfl (fm_N78 hp hx (fun _ _ => rfl) (fun _ _ => (by decide : (0 : Int32) ≤ 0)) hsp hb rfl))
theorem fm_G49 {post : Int32 → St0 → Prop} {x0 x2 x3 x4 x6 x7 : Int32} {p : Nat} (hp : post 1 ()) (hp12 : p < 12) (hx : (x6 = 0 ∧ x7 = 0 ∧ (x3 < 0 ∨ 11 < x3)) ∨ (x6 = 1 ∧ x7 = 0 ∧ ∃ q : Nat, q < 12 ∧ q ≠ p ∧ x3 = nI q) ∨ (x6 = 1 ∧ x7 = 1 ∧ x3 = nI p)) : wL_lawOf_49 post 72 1136 x0 (nI p) x2 x3 x4 1 x6 x7 0 0 := by
  unfold wL_lawOf_49
  refine ⟨by omega, by omega, 7, 180, by omega, by omega, fm_in (fun sp b7 hsp hb => ?_)⟩
  refine fm_wr1 hp12 (fun _ _ => rfl) (fun _ _ => (by decide : (0 : Int32) ≤ 0)) hsp hb (br_f (by decide) ?_)
  exact fm_G78 hp hp12 hx pk_us (fun j h1 _ => by rw [pk_un (by omega)]) pk_us pk_us pk_us pk_us pk_us (fun j hj hne => by rw [pk_un hne]; exact hb j hj) rfl
end
theorem fm_pgC (x : Int32) : (x < 0 ∨ 11 < x) ∨ ∃ q : Nat, q < 12 ∧ x = nI q := by
  rcases pk_ix x (n := 12) (by decide) with h | h | h
  · exact Or.inl (Or.inl h)
  · exact Or.inl (Or.inr (Int32.lt_of_lt_of_le (by decide : (11 : Int32) < 12) h))
  · exact Or.inr h
theorem fm_pgB {A B : Prop} {x : Int32} (h : x < 0 ∨ 11 < x) (a : A) : ((x < 0 → A) ∧ (¬ x < 0 → ((11 < x → A) ∧ (¬ 11 < x → B)))) :=
  br_c (fun _ => a) (fun g => br_t (h.resolve_left g) a)
theorem fm_pgG {A B : Prop} {q : Nat} (h : q < 12) (b : B) : ((nI q < 0 → A) ∧ (¬ nI q < 0 → ((11 < nI q → A) ∧ (¬ 11 < nI q → B)))) :=
  br_f (nI_pos (by omega)) (br_f (nI_nlt (a := 11) (b := q) (by omega) (by decide)) b)
theorem fm_law {post : Int32 → St0 → Prop} (x0 x1 x2 x3 x4 : Int32) (hp : post 1 ()) : wpL_lawOf post 72 1136 () x0 x1 x2 x3 x4 := by
  rcases fm_pgC x1 with h1 | ⟨p, hp12, rfl⟩
  · refine fm_pgB h1 ?_
    rcases fm_pgC x3 with h3 | ⟨q, hq, rfl⟩
    · exact fm_pgB h3 (br_t rfl (fm_N49 hp h1 (Or.inl ⟨rfl, h3⟩)))
    · exact fm_pgG hq (br_t rfl (fm_N49 hp h1 (Or.inr ⟨rfl, q, hq, rfl⟩)))
  · refine fm_pgG hp12 ?_
    rcases fm_pgC x3 with h3 | ⟨q, hq, rfl⟩
    · refine fm_pgB h3 (br_f (by decide) (br_f ?_ (fm_G49 hp hp12 (Or.inl ⟨rfl, rfl, h3⟩))))
      intro e
      rw [e] at h3
      rcases h3 with g | g
      · exact absurd g (nI_pos (by omega))
      · exact absurd g (nI_nlt (a := 11) (b := p) (by omega) (by decide))
    · refine fm_pgG hq (br_f (by decide) (pk_eq q p (fun e => ?_) (fun e => ?_)))
      · exact fm_G49 hp hp12 (Or.inr (Or.inr ⟨rfl, rfl, by rw [e]⟩))
      · exact fm_G49 hp hp12 (Or.inr (Or.inl ⟨rfl, rfl, q, hq, e, rfl⟩))
theorem fm_cell {post : Int32 → Prop} {L : Nat} {xs : Nat → Int32} (hL : L ≤ 5) (k : Nat) (hk : k < 5) (H : ∀ r, post r) : wpL_cellAt post L xs () (nI k) :=
  pk_le L k (fun _ => H _) (fun z => ⟨pk_in k L z, H _⟩)
theorem i_vc (xs : Nat → Int32) (L : Nat) (hL : L ≤ 5) : wpL_law (fun r => r = 1) L xs := by
  unfold wpL_law
  exact fm_cell hL 0 (by omega) (fun r1 => fm_cell hL 1 (by omega) (fun r2 => fm_cell hL 2 (by omega) (fun r3 => fm_cell hL 3 (by omega) (fun r4 => fm_cell hL 4 (by omega) (fun r5 => ⟨72, 1136, by omega, by omega, fm_law r1 r2 r3 r4 r5 rfl⟩)))))
end
