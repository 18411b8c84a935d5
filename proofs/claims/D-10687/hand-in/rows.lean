section
/-! the pure picture: the tetrahedron's twelve arrows (names sm_..) -/
def sm_fr (h : Nat) : Nat := [0, 1, 2, 0, 2, 3, 0, 3, 1, 1, 3, 2].getD h 0
def sm_ag (h : Nat) : Nat := [8, 11, 3, 2, 10, 6, 5, 9, 0, 7, 4, 1].getD h 0
def sm_ou (v : Nat) : Nat := [6, 9, 11, 10].getD v 0
def sm_nx (h : Nat) : Nat := if h % 3 = 2 then h - 2 else h + 1
def sm_bf (h : Nat) : Nat := if h % 3 = 0 then h + 2 else h - 1
def sm_to (h : Nat) : Nat := sm_fr (sm_nx h)
def sm_th (h : Nat) : Nat := sm_fr (sm_bf h)
/-- one turn about the arrow's foot, on and back -/
def sm_ro (h : Nat) : Nat := sm_ag (sm_bf h)
def sm_rb (h : Nat) : Nat := sm_nx (sm_ag h)
/-- the arrow from a to b -/
def sm_ar (a b : Nat) : Nat := [0, 0, 3, 6, 8, 0, 1, 9, 2, 11, 0, 4, 5, 7, 10, 0].getD (4 * a + b) 0
/-- find's loop -/
def sm_go (b : Nat) : Nat → Nat → Int32
  | 0, _ => -1
  | k + 1, h => if sm_to h = b then nI h else sm_go b k (sm_ro h)
/-- around's loops -/
def sm_ix : Nat → Nat → Nat
  | 0, h => h
  | k + 1, h => sm_ix k (sm_ro h)
def sm_iy : Nat → Nat → Nat
  | 0, h => h
  | k + 1, h => sm_iy k (sm_rb h)
/-- joinedTo's loop -/
def sm_jt : Nat → Int32 → Nat → Int32
  | 0, x, _ => x
  | k + 1, x, h => sm_jt k (x ||| ((1 : Int32) <<< (nI (sm_to h) &&& 31))) (sm_ro h)
/-- distance's inner loop, from one vertex a -/
def sm_dw (a : Nat) : Nat → Int32 → Nat → Int32
  | 0, x, _ => x
  | m + 1, x, i => sm_dw a m (x ||| (if i = a then sm_jt 10 0 (sm_ou a) else 0)) (i + 1)
/-- refresh's loop: the last arrow below i from v -/
def sm_la : Nat → Nat → Nat
  | 0, _ => 0
  | i + 1, v => if i < 12 ∧ v = sm_fr i then i else sm_la i v
/-- the turns from -20 to 20 -/
def sm_kk (t : Nat) : Int32 := Int32.ofInt ((t : Int) - 20)
def sm_du (a b t : Nat) : Nat := if t < 20 then sm_to (sm_iy (20 - t) (sm_ar a b)) else sm_to (sm_ix (t - 20) (sm_ar a b))
/-- the law's own remainder -/
def sm_st (k : Int32) : Int32 := ((k - k / 3 * 3) + 3) - ((k - k / 3 * 3) + 3) / 3 * 3
theorem sm_nx_lt : ∀ h, h < 12 → sm_nx h < 12 := by decide +kernel
theorem sm_bf_lt : ∀ h, h < 12 → sm_bf h < 12 := by decide +kernel
theorem sm_ag_lt : ∀ h, h < 12 → sm_ag h < 12 := by decide +kernel
theorem sm_fr_lt : ∀ h, h < 12 → sm_fr h < 4 := by decide +kernel
theorem sm_ou_lt : ∀ v, v < 4 → sm_ou v < 12 := by decide +kernel
theorem sm_ar_lt : ∀ a, a < 4 → ∀ b, b < 4 → sm_ar a b < 12 := by decide +kernel
theorem sm_to_lt {h : Nat} (hh : h < 12) : sm_to h < 4 := sm_fr_lt _ (sm_nx_lt h hh)
theorem sm_th_lt {h : Nat} (hh : h < 12) : sm_th h < 4 := sm_fr_lt _ (sm_bf_lt h hh)
theorem sm_ro_lt {h : Nat} (hh : h < 12) : sm_ro h < 12 := sm_ag_lt _ (sm_bf_lt h hh)
theorem sm_rb_lt {h : Nat} (hh : h < 12) : sm_rb h < 12 := sm_nx_lt _ (sm_ag_lt h hh)
theorem sm_nxd : ∀ h, h < 12 → (nI h - nI h / 3 * 3 = 2 ∧ nI h - 2 = nI (sm_nx h)) ∨ (¬ nI h - nI h / 3 * 3 = 2 ∧ nI h + 1 = nI (sm_nx h)) := by decide +kernel
theorem sm_bfd : ∀ h, h < 12 → (nI h - nI h / 3 * 3 = 0 ∧ nI h + 2 = nI (sm_bf h)) ∨ (¬ nI h - nI h / 3 * 3 = 0 ∧ nI h - 1 = nI (sm_bf h)) := by decide +kernel
theorem sm_tne : ∀ h, h < 12 → sm_th h ≠ sm_th (sm_ag h) := by decide +kernel
theorem sm_goT : ∀ a, a < 4 → ∀ b, b < 4 → a ≠ b → sm_go b 10 (sm_ou a) = nI (sm_ar a b) := by decide +kernel
theorem sm_goE : ∀ a, a < 4 → sm_go a 10 (sm_ou a) = -1 := by decide +kernel
theorem sm_vs1 : ∀ a, a < 4 → ¬ (((15 : Int32) >>> (nI a &&& 31)) &&& 1) = 0 := by decide +kernel
theorem sm_vs0 : ∀ a, a < 10 → 4 ≤ a → (((15 : Int32) >>> (nI a &&& 31)) &&& 1) = 0 := by decide +kernel
theorem sm_usd : ∀ i, i < 48 → ((((15 : Int32) >>> ((nI i / 3) &&& 31)) &&& 1) = 0 ↔ 12 ≤ i) := by decide +kernel
theorem sm_us4 : ∀ i, i < 4 → ¬ (((15 : Int32) >>> (nI i &&& 31)) &&& 1) = 0 := by decide +kernel
theorem sm_us5 : ∀ i, i < 5 → ¬ (((31 : Int32) >>> (nI i &&& 31)) &&& 1) = 0 := by decide +kernel
theorem sm_by : ∀ v, v < 48 → (nI v).toInt8.toInt32 = nI v := by decide +kernel
theorem sm_la48 : ∀ v, v < 4 → sm_la 48 v = sm_ou v := by decide +kernel
theorem sm_bit : ∀ a, a < 4 → ∀ i, i < 10 → (((((1 : Int32) <<< (nI a &&& 31)) >>> (nI i &&& 31)) &&& 1) = 0 ↔ i ≠ a) := by decide +kernel
theorem sm_dwb : ∀ a, a < 4 → ∀ b, b < 4 → a ≠ b → ¬ ((sm_dw a 10 ((1 : Int32) <<< (nI a &&& 31)) 0 >>> (nI b &&& 31)) &&& 1) = 0 := by decide +kernel
theorem sm_kk1 : ∀ t, t < 41 → ¬ sm_kk t < -20 ∧ sm_kk t ≤ 20 := by decide +kernel
theorem sm_kk2 : ∀ t, t < 20 → sm_kk t ≤ 0 ∧ - sm_kk t = nI (20 - t) := by decide +kernel
theorem sm_kk3 : ∀ t, t < 41 → 20 ≤ t → sm_kk t = nI (t - 20) ∧ - sm_kk t ≤ 0 := by decide +kernel
def sm_dB (a b t : Nat) : Bool := if sm_st (sm_kk t) = 0 then decide (nI (sm_du a b t) = nI b) else if sm_st (sm_kk t) = 1 then decide (nI (sm_du a b t) = nI (sm_th (sm_ar a b))) else decide (nI (sm_du a b t) = ((6 - nI a) - nI b) - nI (sm_th (sm_ar a b)))
theorem sm_dBt : ∀ a, a < 4 → ∀ b, b < 4 → a ≠ b → ∀ t, t < 41 → sm_dB a b t = true := by decide +kernel
theorem sm_dud : ∀ a, a < 4 → ∀ b, b < 4 → a ≠ b → ∀ t, t < 41 → (sm_st (sm_kk t) = 0 → nI (sm_du a b t) = nI b) ∧ (¬ sm_st (sm_kk t) = 0 → sm_st (sm_kk t) = 1 → nI (sm_du a b t) = nI (sm_th (sm_ar a b))) ∧ (¬ sm_st (sm_kk t) = 0 → ¬ sm_st (sm_kk t) = 1 → nI (sm_du a b t) = ((6 - nI a) - nI b) - nI (sm_th (sm_ar a b))) := by
  intro a ha b hb hab t ht
  have h := sm_dBt a ha b hb hab t ht
  unfold sm_dB at h
  refine ⟨fun z => ?_, fun z z' => ?_, fun z z' => ?_⟩
  · rw [if_pos z] at h
    exact of_decide_eq_true h
  · rw [if_neg z, if_pos z'] at h
    exact of_decide_eq_true h
  · rw [if_neg z, if_neg z'] at h
    exact of_decide_eq_true h
theorem sm_kOf (p : Int32) : p < -20 ∨ (¬ p < -20 ∧ ¬ p ≤ 20) ∨ ∃ t : Nat, t < 41 ∧ p = sm_kk t := by
  by_cases h1 : p < -20
  · exact Or.inl h1
  · by_cases h2 : p ≤ 20
    · have e1 : (-20 : Int32).toInt = -20 := by decide
      have e2 : (20 : Int32).toInt = 20 := by decide
      have g1 : (-20 : Int32).toInt ≤ p.toInt := Int32.le_iff_toInt_le.mp (Int32.not_lt.mp h1)
      have g2 : p.toInt ≤ (20 : Int32).toInt := Int32.le_iff_toInt_le.mp h2
      rw [e1] at g1
      rw [e2] at g2
      refine Or.inr (Or.inr ⟨(p.toInt + 20).toNat, by omega, ?_⟩)
      unfold sm_kk
      rw [show (((p.toInt + 20).toNat : Nat) : Int) - 20 = p.toInt by omega]
      exact (Int32.ofInt_toInt p).symm
    · exact Or.inr (Or.inl ⟨h1, h2⟩)
/-- no vertex of the tetrahedron -/
def sm_no (p : Int32) : Prop := p < 0 ∨ nI 10 ≤ p ∨ ∃ j : Nat, j < 10 ∧ 4 ≤ j ∧ p = nI j
theorem sm_vx (p : Int32) : (∃ a : Nat, a < 4 ∧ p = nI a) ∨ sm_no p := by
  rcases pk_ix p (n := 10) (by decide) with h | h | ⟨j, hj, e⟩
  · exact Or.inr (Or.inl h)
  · exact Or.inr (Or.inr (Or.inl h))
  · by_cases h4 : j < 4
    · exact Or.inl ⟨j, h4, e⟩
    · exact Or.inr (Or.inr (Or.inr ⟨j, hj, by omega, e⟩))
/-- the two ends are no arrow -/
def sm_bad (p q : Int32) : Prop := sm_no p ∨ (∃ a : Nat, a < 4 ∧ p = nI a ∧ sm_no q) ∨ (∃ a : Nat, a < 4 ∧ p = nI a ∧ q = nI a)
theorem sm_two (p q : Int32) : sm_bad p q ∨ ∃ a b : Nat, a < 4 ∧ b < 4 ∧ a ≠ b ∧ p = nI a ∧ q = nI b := by
  rcases sm_vx p with ⟨a, ha, ea⟩ | h
  · rcases sm_vx q with ⟨b, hb, eb⟩ | h
    · by_cases e : a = b
      · exact Or.inl (Or.inr (Or.inr ⟨a, ha, ea, by rw [eb, e]⟩))
      · exact Or.inr ⟨a, b, ha, hb, e, ea, eb⟩
    · exact Or.inl (Or.inr (Or.inl ⟨a, ha, ea, h⟩))
  · exact Or.inl (Or.inl h)
end
section
/-! the state against the picture, and the methods that look -/
def sm_I (A : Nat → Int32) : Prop := ∀ i, i < 48 → vp_in (A i) 10
def sm_K (A1 A2 A3 : Nat → Int32) : Prop := (∀ h, h < 12 → A1 h = nI (sm_fr h)) ∧ (∀ h, h < 12 → A2 h = nI (sm_ag h)) ∧ (∀ v, v < 4 → A3 v = nI (sm_ou v)) ∧ sm_I A1
theorem sm_next {post : Int32 → Prop} {h : Nat} (hh : h < 12) (hp : post (nI (sm_nx h))) : wpX_next post () (nI h) := by
  unfold wpX_next
  refine ⟨by decide, ?_⟩
  rcases sm_nxd h hh with ⟨c, e⟩ | ⟨c, e⟩
  · exact br_t c (by rw [e]; exact hp)
  · exact br_f c (by rw [e]; exact hp)
theorem sm_before {post : Int32 → Prop} {h : Nat} (hh : h < 12) (hp : post (nI (sm_bf h))) : wpX_before post () (nI h) := by
  unfold wpX_before
  refine ⟨by decide, ?_⟩
  rcases sm_bfd h hh with ⟨c, e⟩ | ⟨c, e⟩
  · exact br_t c (by rw [e]; exact hp)
  · exact br_f c (by rw [e]; exact hp)
theorem sm_wto {post : Int32 → Prop} {f0 f1 : Int32} {A1 A2 A3 : Nat → Int32} {h : Nat} (k : sm_K A1 A2 A3) (hh : h < 12) (hp : post (nI (sm_to h))) : wpX_to post (f0, f1, A1, A2, A3) (nI h) := by
  have e : sm_nx h < 12 := sm_nx_lt h hh
  unfold wpX_to
  dsimp only
  refine sm_next hh ⟨pk_in (sm_nx h) 48 (by omega), ?_⟩
  rw [nI_clamp (by omega), k.1 _ e]
  exact hp
theorem sm_third {post : Int32 → Prop} {f0 f1 : Int32} {A1 A2 A3 : Nat → Int32} {h : Nat} (k : sm_K A1 A2 A3) (hh : h < 12) (hp : post (nI (sm_th h))) : wpX_third post (f0, f1, A1, A2, A3) (nI h) := by
  have e : sm_bf h < 12 := sm_bf_lt h hh
  unfold wpX_third
  dsimp only
  refine sm_before hh ⟨pk_in (sm_bf h) 48 (by omega), ?_⟩
  rw [nI_clamp (by omega), k.1 _ e]
  exact hp
theorem sm_isv1 {post : Int32 → Prop} {f1 : Int32} {A1 A2 A3 : Nat → Int32} {a : Nat} (ha : a < 4) (hp : post 1) : wpX_isVertex post (15, f1, A1, A2, A3) (nI a) :=
  br_f (nI_pos (by omega)) (br_f (nI_ge (b := 10) (by omega) (by decide)) (br_f (sm_vs1 a ha) hp))
theorem sm_isv0 {post : Int32 → Prop} {f1 : Int32} {A1 A2 A3 : Nat → Int32} {p : Int32} (h : sm_no p) (hp : post 0) : wpX_isVertex post (15, f1, A1, A2, A3) p := by
  by_cases h0 : p < 0
  · exact br_t h0 hp
  · refine br_f h0 ?_
    rcases h with h | h | ⟨j, hj, h4, e⟩
    · exact absurd h h0
    · exact br_t h hp
    · subst e
      exact br_f (nI_ge (b := 10) hj (by decide)) (br_t (sm_vs0 j hj h4) hp)
/-! find -/
theorem sm_f28 {post : Int32 → Prop} {f0 f1 : Int32} {A1 A2 A3 : Nat → Int32} {b : Nat} (hb : b < 4) (k : sm_K A1 A2 A3) : ∀ (m h i : Nat), h < 12 → i + m = 10 → post (sm_go b m h) → wX_find_28 post (nI b) f0 f1 A1 A2 A3 (m + 1) (nI h) (nI i) := by
  intro m
  induction m with
  | zero =>
    intro h i hh hi hp
    exact pk_le 10 i (fun _ => hp) (fun z => absurd z (by omega))
  | succ m ih =>
    intro h i hh hi hp
    have e0 := sm_to_lt hh
    have e1 := sm_bf_lt h hh
    have e2 := sm_ro_lt hh
    have hp' : post (if sm_to h = b then nI h else sm_go b m (sm_ro h)) := hp
    refine pk_le 10 i (fun z => absurd z (by omega)) (fun _ => sm_wto k hh (pk_eq (sm_to h) b (fun z => ?_) (fun z => sm_before hh ⟨pk_in (sm_bf h) 48 (by omega), nm_r ?_ (nm_r (nI_1 i) (ih (sm_ro h) (i + 1) e2 (by omega) ?_))⟩)))
    · rw [if_pos z] at hp'
      exact hp'
    · rw [nI_clamp (by omega), k.2.1 _ e1]
      rfl
    · rw [if_neg z] at hp'
      exact hp'
theorem sm_findG {post : Int32 → Prop} {f1 : Int32} {A1 A2 A3 : Nat → Int32} {a b : Nat} (k : sm_K A1 A2 A3) (ha : a < 4) (hb : b < 4) (hp : post (sm_go b 10 (sm_ou a))) : wpX_find post (15, f1, A1, A2, A3) (nI a) (nI b) := by
  unfold wpX_find
  dsimp only
  refine sm_isv1 ha (br_f (by decide) (sm_isv1 hb (br_f (by decide) ⟨pk_in a 10 (by omega), nm_r ?_ ⟨11, sm_f28 hb k 10 (sm_ou a) 0 (sm_ou_lt a ha) rfl hp⟩⟩)))
  rw [nI_clamp (by omega), k.2.2.1 a ha]
theorem sm_findT {post : Int32 → Prop} {f1 : Int32} {A1 A2 A3 : Nat → Int32} {a b : Nat} (k : sm_K A1 A2 A3) (ha : a < 4) (hb : b < 4) (hab : a ≠ b) (hp : post (nI (sm_ar a b))) : wpX_find post (15, f1, A1, A2, A3) (nI a) (nI b) :=
  sm_findG k ha hb (by rw [sm_goT a ha b hb hab]; exact hp)
theorem sm_findB {post : Int32 → Prop} {f1 : Int32} {A1 A2 A3 : Nat → Int32} {p q : Int32} (k : sm_K A1 A2 A3) (h : sm_bad p q) (hp : post (-1)) : wpX_find post (15, f1, A1, A2, A3) p q := by
  rcases h with h | ⟨a, ha, e, h⟩ | ⟨a, ha, e, e'⟩
  · unfold wpX_find
    dsimp only
    exact sm_isv0 h (br_t rfl hp)
  · subst e
    unfold wpX_find
    dsimp only
    exact sm_isv1 ha (br_f (by decide) (sm_isv0 h (br_t rfl hp)))
  · subst e e'
    exact sm_findG k ha ha (by rw [sm_goE a ha]; exact hp)
/-! isFace, opposite -/
theorem sm_isFaceT {post : Int32 → Prop} {f1 : Int32} {A1 A2 A3 : Nat → Int32} {a b : Nat} {c : Int32} (k : sm_K A1 A2 A3) (ha : a < 4) (hb : b < 4) (hab : a ≠ b) (h1 : nI (sm_th (sm_ar a b)) = c → post 1) (h0 : ¬ nI (sm_th (sm_ar a b)) = c → post 0) : wpX_isFace post (15, f1, A1, A2, A3) (nI a) (nI b) c := by
  have e := sm_ar_lt a ha b hb
  unfold wpX_isFace
  dsimp only
  exact sm_findT k ha hb hab (br_f (nI_pos (by omega)) (sm_third k e ⟨h1, h0⟩))
theorem sm_isFaceB {post : Int32 → Prop} {f1 : Int32} {A1 A2 A3 : Nat → Int32} {p q c : Int32} (k : sm_K A1 A2 A3) (h : sm_bad p q) (hp : post 0) : wpX_isFace post (15, f1, A1, A2, A3) p q c := by
  unfold wpX_isFace
  dsimp only
  exact sm_findB k h (br_t (by decide) hp)
theorem sm_oppositeT {post : Int32 → Prop} {f1 : Int32} {A1 A2 A3 : Nat → Int32} {a b : Nat} (k : sm_K A1 A2 A3) (ha : a < 4) (hb : b < 4) (hab : a ≠ b) (hp : post (nI (sm_th (sm_ar a b)))) : wpX_opposite post (15, f1, A1, A2, A3) (nI a) (nI b) := by
  have e := sm_ar_lt a ha b hb
  unfold wpX_opposite
  dsimp only
  exact sm_findT k ha hb hab (br_t (nI_pos' (by omega)) (sm_third k e hp))
theorem sm_oppositeB {post : Int32 → Prop} {f1 : Int32} {A1 A2 A3 : Nat → Int32} {p q : Int32} (k : sm_K A1 A2 A3) (h : sm_bad p q) (hp : post (-1)) : wpX_opposite post (15, f1, A1, A2, A3) p q := by
  unfold wpX_opposite
  dsimp only
  exact sm_findB k h (br_f (by decide) hp)
/-! around -/
theorem sm_a61 {post : Int32 → Prop} {f0 f1 : Int32} {A1 A2 A3 : Nat → Int32} (k : sm_K A1 A2 A3) {p : Int32} {e : Nat} (he : e < 100) (hpe : -p = nI e) : ∀ (m h i : Nat), h < 12 → i + m = e → post (nI (sm_to (sm_iy m h))) → wX_around_61 post p f0 f1 A1 A2 A3 (m + 1) (nI h) (nI i) := by
  intro m
  induction m with
  | zero =>
    intro h i hh hi hp
    exact pk_le e i (fun _ => sm_wto k hh hp) (fun z => absurd z (by omega)) hpe
  | succ m ih =>
    intro h i hh hi hp
    have e1 := sm_ag_lt h hh
    refine pk_le e i (fun z => absurd z (by omega)) (fun _ => ⟨pk_in h 48 (by omega), nm_r (e' := nI (sm_ag h)) ?_ (sm_next e1 (nm_r (nI_1 i) (ih (sm_rb h) (i + 1) (sm_rb_lt hh) (by omega) hp)))⟩) hpe
    rw [nI_clamp (by omega), k.2.1 _ hh]
theorem sm_a30 {post : Int32 → Prop} {f0 f1 : Int32} {A1 A2 A3 : Nat → Int32} (k : sm_K A1 A2 A3) {p : Int32} {e : Nat} (he : e < 100) (hpe : p = nI e) : ∀ (m h i : Nat), h < 12 → i + m = e → (∀ g, g < 12 → g = sm_ix m h → ∃ fu, wX_around_61 post p f0 f1 A1 A2 A3 fu (nI g) 0) → wX_around_30 post p f0 f1 A1 A2 A3 (m + 1) (nI h) (nI i) := by
  intro m
  induction m with
  | zero =>
    intro h i hh hi hp
    exact pk_le e i (fun _ => hp h hh rfl) (fun z => absurd z (by omega)) hpe
  | succ m ih =>
    intro h i hh hi hp
    have e1 := sm_bf_lt h hh
    refine pk_le e i (fun z => absurd z (by omega)) (fun _ => sm_before hh ⟨pk_in (sm_bf h) 48 (by omega), nm_r ?_ (nm_r (nI_1 i) (ih (sm_ro h) (i + 1) (sm_ro_lt hh) (by omega) hp))⟩) hpe
    rw [nI_clamp (by omega), k.2.1 _ e1]
    rfl
theorem sm_aroundT {post : Int32 → Prop} {f1 : Int32} {A1 A2 A3 : Nat → Int32} {a b t : Nat} (k : sm_K A1 A2 A3) (ha : a < 4) (hb : b < 4) (hab : a ≠ b) (ht : t < 41) (hp : post (nI (sm_du a b t))) : wpX_around post (15, f1, A1, A2, A3) (nI a) (nI b) (sm_kk t) := by
  have e := sm_ar_lt a ha b hb
  have c := sm_kk1 t ht
  unfold wpX_around
  dsimp only
  refine sm_findT k ha hb hab (br_f (nI_pos (by omega)) (br_f c.1 (br_t c.2 ?_)))
  unfold sm_du at hp
  by_cases g : t < 20
  · rw [if_pos g] at hp
    have d := sm_kk2 t g
    exact ⟨1, br_t d.1 ⟨20 - t + 1, sm_a61 k (e := 20 - t) (by omega) d.2 (20 - t) (sm_ar a b) 0 e (by omega) hp⟩⟩
  · rw [if_neg g] at hp
    have d := sm_kk3 t ht (by omega)
    refine ⟨t - 20 + 1, sm_a30 k (e := t - 20) (by omega) d.1 (t - 20) (sm_ar a b) 0 e (by omega) (fun g hg eg => ⟨1, br_t d.2 (sm_wto k hg ?_)⟩)⟩
    rw [eg]
    exact hp
theorem sm_aroundO {post : Int32 → Prop} {f1 : Int32} {A1 A2 A3 : Nat → Int32} {a b : Nat} {p : Int32} (k : sm_K A1 A2 A3) (ha : a < 4) (hb : b < 4) (hab : a ≠ b) (h : p < -20 ∨ (¬ p < -20 ∧ ¬ p ≤ 20)) (hp : post (-1)) : wpX_around post (15, f1, A1, A2, A3) (nI a) (nI b) p := by
  have e := sm_ar_lt a ha b hb
  unfold wpX_around
  dsimp only
  refine sm_findT k ha hb hab (br_f (nI_pos (by omega)) ?_)
  rcases h with h | ⟨h, h'⟩
  · exact br_t h hp
  · exact br_f h (br_f h' hp)
theorem sm_aroundB {post : Int32 → Prop} {f1 : Int32} {A1 A2 A3 : Nat → Int32} {p q c : Int32} (k : sm_K A1 A2 A3) (h : sm_bad p q) (hp : post (-1)) : wpX_around post (15, f1, A1, A2, A3) p q c := by
  unfold wpX_around
  dsimp only
  exact sm_findB k h (br_t (by decide) hp)
/-! joinedTo, distance -/
theorem sm_j12 {post : Int32 → Prop} {f0 f1 : Int32} {A1 A2 A3 : Nat → Int32} (k : sm_K A1 A2 A3) : ∀ (m : Nat) (x : Int32) (h i : Nat), h < 12 → i + m = 10 → post (sm_jt m x h) → wX_joinedTo_12 post f0 f1 A1 A2 A3 (m + 1) x (nI h) (nI i) := by
  intro m
  induction m with
  | zero =>
    intro x h i hh hi hp
    exact pk_le 10 i (fun _ => hp) (fun z => absurd z (by omega))
  | succ m ih =>
    intro x h i hh hi hp
    have e1 := sm_bf_lt h hh
    refine pk_le 10 i (fun z => absurd z (by omega)) (fun _ => sm_wto k hh (nm_e (sm_before hh ⟨pk_in (sm_bf h) 48 (by omega), nm_r ?_ (nm_r (nI_1 i) (ih _ (sm_ro h) (i + 1) (sm_ro_lt hh) (by omega) hp))⟩)))
    rw [nI_clamp (by omega), k.2.1 _ e1]
    rfl
theorem sm_joined {post : Int32 → Prop} {f0 f1 : Int32} {A1 A2 A3 : Nat → Int32} {a : Nat} (k : sm_K A1 A2 A3) (ha : a < 4) (hp : post (sm_jt 10 0 (sm_ou a))) : wpX_joinedTo post (f0, f1, A1, A2, A3) (nI a) := by
  unfold wpX_joinedTo
  dsimp only
  refine ⟨pk_in a 10 (by omega), nm_r ?_ ⟨11, sm_j12 k 10 0 (sm_ou a) 0 (sm_ou_lt a ha) rfl hp⟩⟩
  rw [nI_clamp (by omega), k.2.2.1 a ha]
theorem sm_d46 {post : Int32 → Prop} {J : Int32 → Int32 → Prop} {x2 x4 f0 f1 : Int32} {A1 A2 A3 : Nat → Int32} {a : Nat} (k : sm_K A1 A2 A3) (ha : a < 4) : ∀ (m : Nat) (x : Int32) (i : Nat), i + m = 10 → J (sm_dw a m x i) (x4 + 1) → wX_distance_46 post J x2 ((1 : Int32) <<< (nI a &&& 31)) x4 f0 f1 A1 A2 A3 (m + 1) x (nI i) := by
  intro m
  induction m with
  | zero =>
    intro x i hi hp
    exact pk_le 10 i (fun _ => nm_e hp) (fun z => absurd z (by omega))
  | succ m ih =>
    intro x i hi hp
    have hp' : J (sm_dw a m (x ||| (if i = a then sm_jt 10 0 (sm_ou a) else 0)) (i + 1)) (x4 + 1) := hp
    have c := sm_bit a ha i (by omega)
    refine pk_le 10 i (fun z => absurd z (by omega)) (fun _ => ?_)
    by_cases g : i = a
    · rw [if_pos g] at hp'
      refine br_f (fun z => c.mp z g) ?_
      subst g
      exact sm_joined k ha (nm_e (nm_r (nI_1 i) (ih _ (i + 1) (by omega) hp')))
    · rw [if_neg g] at hp'
      exact br_t (c.mpr g) (nm_e (nm_r (nI_1 i) (ih _ (i + 1) (by omega) hp')))
theorem sm_distanceT {post : Int32 → Prop} {f1 : Int32} {A1 A2 A3 : Nat → Int32} {a b : Nat} (k : sm_K A1 A2 A3) (ha : a < 4) (hb : b < 4) (hab : a ≠ b) (hp : post 1) : wpX_distance post (15, f1, A1, A2, A3) (nI a) (nI b) := by
  unfold wpX_distance
  dsimp only
  refine sm_isv1 ha (br_f (by decide) (sm_isv1 hb (br_f (by decide) (nm_e ⟨2, br_f (by decide) (br_t ((sm_bit a ha b (by omega)).mpr (fun z => hab z.symm)) ⟨11, sm_d46 k ha 10 _ 0 rfl ?_⟩)⟩))))
  exact br_f (by decide) (br_f (sm_dwb a ha b hb hab) hp)
theorem sm_distanceE {post : Int32 → Prop} {f1 : Int32} {A1 A2 A3 : Nat → Int32} {a : Nat} (ha : a < 4) (hp : post 0) : wpX_distance post (15, f1, A1, A2, A3) (nI a) (nI a) := by
  unfold wpX_distance
  dsimp only
  exact sm_isv1 ha (br_f (by decide) (sm_isv1 ha (br_f (by decide) (nm_e ⟨1, br_f (by decide) (br_f (fun z => (sm_bit a ha a (by omega)).mp z rfl) hp)⟩))))
theorem sm_distance0 {post : Int32 → Prop} {f1 : Int32} {A1 A2 A3 : Nat → Int32} {p q : Int32} (h : sm_no p ∨ (∃ a : Nat, a < 4 ∧ p = nI a ∧ sm_no q)) (hp : post (-1)) : wpX_distance post (15, f1, A1, A2, A3) p q := by
  unfold wpX_distance
  dsimp only
  rcases h with h | ⟨a, ha, e, h⟩
  · exact sm_isv0 h (br_t rfl hp)
  · subst e
    exact sm_isv1 ha (br_f (by decide) (sm_isv0 h (br_t rfl hp)))
/-! flip -/
theorem sm_canFlip {post : Int32 → Prop} {f1 : Int32} {A1 A2 A3 : Nat → Int32} {h : Nat} (k : sm_K A1 A2 A3) (hh : h < 12) (hp : post 0) : wpX_canFlip post (15, f1, A1, A2, A3) (nI h) := by
  have e1 := sm_ag_lt h hh
  have t1 := sm_th_lt hh
  have t2 := sm_th_lt e1
  have ne := sm_tne h hh
  have e2 := sm_ar_lt _ t1 _ t2
  unfold wpX_canFlip
  dsimp only
  refine sm_third k hh ⟨pk_in h 48 (by omega), ?_⟩
  rw [nI_clamp (by omega), k.2.1 h hh]
  exact sm_third k e1 (pk_eq (sm_th h) (sm_th (sm_ag h)) (fun z => absurd z ne) (fun _ => sm_findT k t1 t2 ne (br_t (nI_pos' (by omega)) hp)))
theorem sm_flipT {post : Int32 → St2 → Prop} {f1 : Int32} {A1 A2 A3 : Nat → Int32} {a b : Nat} (k : sm_K A1 A2 A3) (ha : a < 4) (hb : b < 4) (hab : a ≠ b) (hp : post (-3) (15, f1, A1, A2, A3)) : wpX_flip post (15, f1, A1, A2, A3) (nI a) (nI b) := by
  have e := sm_ar_lt a ha b hb
  unfold wpX_flip
  dsimp only
  exact sm_findT k ha hb hab (br_t (nI_pos' (by omega)) (sm_canFlip k e (br_t rfl hp)))
theorem sm_flipB {post : Int32 → St2 → Prop} {f1 : Int32} {A1 A2 A3 : Nat → Int32} {p q : Int32} (k : sm_K A1 A2 A3) (h : sm_bad p q) (hp : post (-1) (15, f1, A1, A2, A3)) : wpX_flip post (15, f1, A1, A2, A3) p q := by
  unfold wpX_flip
  dsimp only
  exact sm_findB k h (br_f (by decide) hp)
end
section
/-! the methods that write: write, link, refresh, newFace, freeVertex, splitFace, and the maker -/
theorem sm_I_upd {A : Nat → Int32} {j v : Nat} (h : sm_I A) (hv : v < 10) : sm_I (upd A j (nI v).toInt8.toInt32) := by
  intro i hi
  by_cases e : i = j
  · rw [e, pk_us, sm_by v (by omega)]
    exact pk_in v 10 hv
  · rw [pk_un e]
    exact h i hi
theorem sm_Iof {A : Nat → Int32} (h : ∀ i, i < 48 → 0 ≤ (A i).toInt ∧ (A i).toInt < 10) : sm_I A := fun i hi => vp_in_iff.mpr (h i hi)
theorem sm_m0 (f : Nat) : (3 : Int32) * nI f = nI (3 * f) := pk_mul 3 f
theorem sm_m1 (f : Nat) : (3 : Int32) * nI f + 1 = nI (3 * f + 1) := by
  rw [sm_m0]
  exact nI_1 _
theorem sm_m2 (f : Nat) : (3 : Int32) * nI f + 2 = nI (3 * f + 2) := by
  rw [sm_m0]
  exact nI_add _ 2
theorem sm_write {post : St2 → Prop} {f0 f1 : Int32} {A1 A2 A3 : Nat → Int32} {f a b c : Nat} (hf : f < 16) (ha : a < 10) (hb : b < 10) (hc : c < 10) (kI : sm_I A1) (H : ∀ A, sm_I A → post (f0, f1, A, A2, A3)) : wpX_write post (f0, f1, A1, A2, A3) (nI f) (nI a) (nI b) (nI c) :=
  ⟨pk_in (3 * f) 48 (by omega) (sm_m0 f), nm_e ⟨pk_in (3 * f + 1) 48 (by omega) (sm_m1 f), nm_e ⟨pk_in (3 * f + 2) 48 (by omega) (sm_m2 f), nm_e (H _ (sm_I_upd (sm_I_upd (sm_I_upd kI ha) hb) hc))⟩⟩⟩
theorem sm_link {post : St2 → Prop} {f0 f1 : Int32} {A1 A2 A3 : Nat → Int32} {p q : Int32} (h g : Nat) (hh : h < 48) (hg : g < 48) (ep : p = nI h) (eq : q = nI g) (H : ∀ A, post (f0, f1, A1, A, A3)) : wpX_link post (f0, f1, A1, A2, A3) p q :=
  ⟨pk_in h 48 hh ep, nm_e ⟨pk_in g 48 hg eq, nm_e (H _)⟩⟩
theorem sm_refA {post : St2 → Prop} {f0 f1 : Int32} {A1 A2 A3 : Nat → Int32} (kI : sm_I A1) (H : ∀ A, post (f0, f1, A1, A2, A)) : wpX_refresh post (f0, f1, A1, A2, A3) := by
  unfold wpX_refresh
  dsimp only
  refine pk_loop (fun n i s => wX_refresh_2 post f0 f1 n (nI i) A1 A2 s) (fun _ _ => True) 48 0 A3 (by omega) trivial (fun n s _ => pk_le 48 48 (fun _ => H s) (fun z => absurd z (by omega))) (fun n i s hi _ hw => pk_le 48 i (fun z => absurd z (by omega)) (fun _ => ⟨by decide, br_c (fun _ => br_t rfl (nm_r (nI_1 i) (hw s trivial))) (fun _ => br_f (by decide) ⟨pk_in i 48 hi, ?_, nm_e (nm_r (nI_1 i) (hw _ trivial))⟩)⟩))
  rw [nI_clamp (by omega)]
  exact kI i hi
theorem sm_ref0 {post : St2 → Prop} {f0 : Int32} {A1 A2 A3 : Nat → Int32} (h1 : ∀ h, h < 12 → A1 h = nI (sm_fr h)) (h3 : ∀ v, v < 4 → A3 v = nI 0) (H : ∀ A, (∀ v, v < 4 → A v = nI (sm_ou v)) → post (f0, 15, A1, A2, A)) : wpX_refresh post (f0, 15, A1, A2, A3) := by
  unfold wpX_refresh
  dsimp only
  refine pk_loop (fun n i s => wX_refresh_2 post f0 15 n (nI i) A1 A2 s) (fun i s => ∀ v, v < 4 → s v = nI (sm_la i v)) 48 0 A3 (by omega) h3 (fun n s h => pk_le 48 48 (fun _ => H s (fun v hv => by rw [h v hv, sm_la48 v hv])) (fun z => absurd z (by omega))) (fun n i s hi h hw => ?_)
  refine pk_le 48 i (fun z => absurd z (by omega)) (fun _ => ⟨by decide, ?_⟩)
  have u := sm_usd i hi
  by_cases g : i < 12
  · have e1 := sm_fr_lt i g
    have E : A1 (nI i).toNatClampNeg = nI (sm_fr i) := by rw [nI_clamp (by omega), h1 i g]
    refine br_f (fun z => absurd (u.mp z) (by omega)) (br_f (by decide) ⟨pk_in i 48 hi, pk_in (sm_fr i) 10 (by omega) E, nm_e (nm_r (nI_1 i) (hw _ ?_))⟩)
    intro v hv
    rw [E, nI_clamp (by omega), sm_by i hi]
    by_cases e : v = sm_fr i
    · rw [← e, pk_us, show sm_la (i + 1) v = i from if_pos ⟨g, e⟩]
    · rw [pk_un e, h v hv, show sm_la (i + 1) v = sm_la i v from if_neg (fun z => e z.2)]
  · refine br_t (u.mpr (by omega)) (br_t rfl (nm_r (nI_1 i) (hw s ?_)))
    intro v hv
    rw [h v hv, show sm_la (i + 1) v = sm_la i v from if_neg (fun z => g z.1)]
theorem sm_fv2 {post : Int32 → Prop} {f1 : Int32} {A1 A2 A3 : Nat → Int32} (hp : post (nI 4)) : ∀ (m i : Nat), i + m = 4 → wX_freeVertex_2 post 15 f1 A1 A2 A3 (m + 1) (nI i) := by
  intro m
  induction m with
  | zero =>
    intro i hi
    have e : i = 4 := by omega
    subst e
    exact pk_le 10 4 (fun z => absurd z (by omega)) (fun _ => sm_isv0 (Or.inr (Or.inr ⟨4, by omega, by omega, rfl⟩)) (br_t rfl hp))
  | succ m ih =>
    intro i hi
    exact pk_le 10 i (fun z => absurd z (by omega)) (fun _ => sm_isv1 (by omega) (br_f (by decide) (nm_r (nI_1 i) (ih (i + 1) (by omega)))))
theorem sm_fv {post : Int32 → Prop} {f1 : Int32} {A1 A2 A3 : Nat → Int32} (hp : post (nI 4)) : wpX_freeVertex post (15, f1, A1, A2, A3) := by
  unfold wpX_freeVertex
  dsimp only
  exact ⟨5, sm_fv2 hp 4 0 rfl⟩
theorem sm_nf2 {post : Int32 → St2 → Prop} {f0 F : Int32} {A1 A2 A3 : Nat → Int32} {w : Nat} (hw : w < 15) (hu : ∀ i, i < w → ¬ ((F >>> (nI i &&& 31)) &&& 1) = 0) (hn : ((F >>> (nI w &&& 31)) &&& 1) = 0) (hq : post (nI w) (f0, F ||| ((1 : Int32) <<< (nI w &&& 31)), A1, A2, A3)) : ∀ (m i : Nat), i + m = w → wX_newFace_2 post f0 F A1 A2 A3 (m + 1) (nI i) := by
  intro m
  induction m with
  | zero =>
    intro i hi
    have e : i = w := by omega
    subst e
    refine pk_le 15 i (fun z => absurd z (by omega)) (fun _ => br_t hn (br_t rfl ?_))
    exact nm_e hq
  | succ m ih =>
    intro i hi
    exact pk_le 15 i (fun z => absurd z (by omega)) (fun _ => br_f (hu i (by omega)) (br_f (by decide) (nm_r (nI_1 i) (ih (i + 1) (by omega)))))
theorem sm_nf {post : Int32 → St2 → Prop} {f0 F F' : Int32} {A1 A2 A3 : Nat → Int32} (w : Nat) (hw : w < 15) (hu : ∀ i, i < w → ¬ ((F >>> (nI i &&& 31)) &&& 1) = 0) (hn : ((F >>> (nI w &&& 31)) &&& 1) = 0) (hF : F ||| ((1 : Int32) <<< (nI w &&& 31)) = F') (hq : post (nI w) (f0, F', A1, A2, A3)) : wpX_newFace post (f0, F, A1, A2, A3) := by
  subst hF
  unfold wpX_newFace
  dsimp only
  exact ⟨w + 1, sm_nf2 hw hu hn hq w 0 (by omega)⟩
/-! splitFace -/
theorem sm_splitB {post : Int32 → St2 → Prop} {f1 : Int32} {A1 A2 A3 : Nat → Int32} {p q c : Int32} (k : sm_K A1 A2 A3) (h : sm_bad p q) (hp : post (-1) (15, f1, A1, A2, A3)) : wpX_splitFace post (15, f1, A1, A2, A3) p q c := by
  unfold wpX_splitFace
  dsimp only
  exact sm_findB k h (br_t (by decide) hp)
theorem sm_splitN {post : Int32 → St2 → Prop} {f1 : Int32} {A1 A2 A3 : Nat → Int32} {a b : Nat} {c : Int32} (k : sm_K A1 A2 A3) (ha : a < 4) (hb : b < 4) (hab : a ≠ b) (hc : ¬ nI (sm_th (sm_ar a b)) = c) (hp : post (-1) (15, f1, A1, A2, A3)) : wpX_splitFace post (15, f1, A1, A2, A3) (nI a) (nI b) c := by
  have e := sm_ar_lt a ha b hb
  unfold wpX_splitFace
  dsimp only
  exact sm_findT k ha hb hab (br_f (nI_pos (by omega)) (sm_third k e (br_f hc hp)))
theorem sm_splitT {post : Int32 → St2 → Prop} {A1 A2 A3 : Nat → Int32} {a b : Nat} (k : sm_K A1 A2 A3) (ha : a < 4) (hb : b < 4) (hab : a ≠ b) (hp : ∀ g0 g1 B1 B2 B3, post (nI 4) (g0, g1, B1, B2, B3)) : wpX_splitFace post (15, 15, A1, A2, A3) (nI a) (nI b) (nI (sm_th (sm_ar a b))) := by
  have e := sm_ar_lt a ha b hb
  have n1 := sm_nx_lt _ e
  have b1 := sm_bf_lt _ e
  have g0 := sm_ag_lt _ e
  have g1 := sm_ag_lt _ n1
  have g2 := sm_ag_lt _ b1
  have t1 := sm_th_lt e
  unfold wpX_splitFace
  dsimp only
  refine sm_findT k ha hb hab (br_f (nI_pos (by omega)) (sm_third k e (br_t rfl (sm_fv (br_f (by decide) (sm_next e (sm_before e ⟨pk_in (sm_nx (sm_ar a b)) 48 (by omega), nm_r (e' := nI (sm_ag (sm_nx (sm_ar a b)))) ?_ ⟨pk_in (sm_bf (sm_ar a b)) 48 (by omega), nm_r (e' := nI (sm_ag (sm_bf (sm_ar a b)))) ?_ ⟨pk_in (sm_ar a b) 48 (by omega), nm_r (e' := nI (sm_ag (sm_ar a b))) ?_ ⟨by decide, nm_r (e' := nI (sm_ar a b / 3)) ?_ ?_⟩⟩⟩⟩))))))) 
  · rw [nI_clamp (by omega), k.2.1 _ n1]
  · rw [nI_clamp (by omega), k.2.1 _ b1]
  · rw [nI_clamp (by omega), k.2.1 _ e]
  · exact pk_div (d := 3) (by omega) (by omega) (by omega)
  · refine sm_nf (F' := 31) 4 (by omega) sm_us4 (by decide) (by decide) ?_
    dsimp only
    refine sm_nf (F' := 63) 5 (by omega) sm_us5 (by decide) (by decide) ?_
    dsimp only
    refine sm_write (by omega) (by omega) (by omega) (by omega) k.2.2.2 (fun B1 i1 => ?_)
    dsimp only
    refine sm_write (by omega) (by omega) (by omega) (by omega) i1 (fun B2 i2 => ?_)
    dsimp only
    refine sm_write (by omega) (by omega) (by omega) (by omega) i2 (fun B3 i3 => ?_)
    dsimp only
    refine sm_link (3 * (sm_ar a b / 3)) (sm_ag (sm_ar a b)) (by omega) (by omega) (sm_m0 _) rfl (fun C1 => ?_)
    dsimp only
    refine sm_link (3 * 4) (sm_ag (sm_nx (sm_ar a b))) (by omega) (by omega) (sm_m0 4) rfl (fun C2 => ?_)
    dsimp only
    refine sm_link (3 * 5) (sm_ag (sm_bf (sm_ar a b))) (by omega) (by omega) (sm_m0 5) rfl (fun C3 => ?_)
    dsimp only
    refine sm_link (3 * (sm_ar a b / 3) + 1) (3 * 4 + 2) (by omega) (by omega) (sm_m1 _) (sm_m2 4) (fun C4 => ?_)
    dsimp only
    refine sm_link (3 * 4 + 1) (3 * 5 + 2) (by omega) (by omega) (sm_m1 4) (sm_m2 5) (fun C5 => ?_)
    dsimp only
    refine sm_link (3 * 5 + 1) (3 * (sm_ar a b / 3) + 2) (by omega) (by omega) (sm_m1 5) (sm_m2 _) (fun C6 => ?_)
    dsimp only
    exact nm_e (sm_refA i3 (fun D => hp _ _ _ _ _))
/-! the maker -/
theorem sm_wr {post : St2 → Prop} {f0 f1 : Int32} {A1 A2 A3 : Nat → Int32} {p0 p1 p2 p3 : Int32} (h0 : 0 ≤ (3 * p0).toInt ∧ (3 * p0).toInt < 48) (h1 : 0 ≤ (3 * p0 + 1).toInt ∧ (3 * p0 + 1).toInt < 48) (h2 : 0 ≤ (3 * p0 + 2).toInt ∧ (3 * p0 + 2).toInt < 48) (H : post (f0, f1, upd (upd (upd A1 (3 * p0).toNatClampNeg p1.toInt8.toInt32) (3 * p0 + 1).toNatClampNeg p2.toInt8.toInt32) (3 * p0 + 2).toNatClampNeg p3.toInt8.toInt32, A2, A3)) : wpX_write post (f0, f1, A1, A2, A3) p0 p1 p2 p3 :=
  ⟨vp_in_iff.mpr h0, nm_e ⟨vp_in_iff.mpr h1, nm_e ⟨vp_in_iff.mpr h2, nm_e H⟩⟩⟩
theorem sm_lk {post : St2 → Prop} {f0 f1 : Int32} {A1 A2 A3 : Nat → Int32} {p q : Int32} (h0 : 0 ≤ p.toInt ∧ p.toInt < 48) (h1 : 0 ≤ q.toInt ∧ q.toInt < 48) (H : post (f0, f1, A1, upd (upd A2 p.toNatClampNeg q.toInt8.toInt32) q.toNatClampNeg p.toInt8.toInt32, A3)) : wpX_link post (f0, f1, A1, A2, A3) p q :=
  ⟨vp_in_iff.mpr h0, nm_e ⟨vp_in_iff.mpr h1, nm_e H⟩⟩
theorem sm_init {post : St2 → Prop} {mc ms : Nat} (hmc : 3 ≤ mc) (hms : 106 ≤ ms) (H : ∀ A1 A2 A3, sm_K A1 A2 A3 → post (15, 15, A1, A2, A3)) : wpX_init post mc ms (0, 0) := by
  unfold wpX_init
  dsimp only
  refine ⟨by omega, by omega, by omega, by omega, by omega, by omega, ?_⟩
  refine sm_wr (by decide) (by decide) (by decide) ?_
  dsimp only
  refine sm_wr (by decide) (by decide) (by decide) ?_
  dsimp only
  refine sm_wr (by decide) (by decide) (by decide) ?_
  dsimp only
  refine sm_wr (by decide) (by decide) (by decide) ?_
  dsimp only
  refine sm_lk (by decide) (by decide) ?_
  dsimp only
  refine sm_lk (by decide) (by decide) ?_
  dsimp only
  refine sm_lk (by decide) (by decide) ?_
  dsimp only
  refine sm_lk (by decide) (by decide) ?_
  dsimp only
  refine sm_lk (by decide) (by decide) ?_
  dsimp only
  refine sm_lk (by decide) (by decide) ?_
  dsimp only
  refine sm_ref0 (by decide +kernel) (by decide +kernel) (fun A hA => ?_)
  dsimp only
  exact H _ _ _ ⟨by decide +kernel, by decide +kernel, hA, sm_Iof (by decide +kernel)⟩
end
section
/-! the law's own tail, and the owed statement -/
theorem sm_law3 {post : Int32 → Prop} {a b : Nat} (ha : a < 4) (hb : b < 4) (hab : a ≠ b) (hp : post (nI (sm_th (sm_ar a b)))) : wpL_third post () (nI a) (nI b) := by
  have ha' : a = 0 ∨ a = 1 ∨ a = 2 ∨ a = 3 := by omega
  have hb' : b = 0 ∨ b = 1 ∨ b = 2 ∨ b = 3 := by omega
  rcases ha' with rfl | rfl | rfl | rfl <;> rcases hb' with rfl | rfl | rfl | rfl <;> first | exact absurd rfl hab | (repeat (first | refine br_t (by decide) ?_ | refine br_f (by decide) ?_)) <;> exact ek_v (P := post) (by decide +kernel) hp
/-- the tail where the two ends are no arrow -/
theorem sm_t262B {post : Int32 → St0 → Prop} {mc ms : Nat} {x2 x14 z : Int32} {kc ks : Nat} (hp : post 1 ()) : wL_lawOf_262 post mc ms x2 (-1) (-1) 0 x14 z z kc ks :=
  br_t rfl (br_t rfl (br_t rfl (br_t rfl (br_t rfl hp))))
theorem sm_t134B {post : Int32 → St0 → Prop} {mc ms : Nat} {x0 x1 x2 x3 x8 x11 x12 : Int32} {kc ks : Nat} (h8 : ((x11 = 0 ∨ x12 = 0) ∧ x8 = -1) ∨ (¬ x11 = 0 ∧ ¬ x12 = 0 ∧ x0 = x1 ∧ x8 = 0)) (hp : post 1 ()) : wL_lawOf_134 post mc ms x0 x1 x2 x3 0 (-1) (-1) x8 (-1) (-1) x11 x12 0 (-1) kc ks := by
  refine nm_e ⟨by decide, by decide, nm_e (br_t rfl (br_t rfl (br_t rfl (br_t rfl (br_t rfl ?_)))))⟩
  rcases h8 with ⟨h | h, e⟩ | ⟨h, h', e, e8⟩
  · subst e
    exact br_t h (sm_t262B hp)
  · subst e
    by_cases g : x11 = 0
    · exact br_t g (sm_t262B hp)
    · exact br_f g (br_t h (sm_t262B hp))
  · subst e8
    exact br_f h (br_f h' (br_t e (sm_t262B hp)))
/-- a bound's two comparisons -/
theorem sm_cmp {p : Int32} (h : sm_no p) {A B : Prop} (ha : A) : (p < 0 → A) ∧ (¬ p < 0 → ((3 < p → A) ∧ (¬ 3 < p → B))) := by
  refine br_c (fun _ => ha) (fun h0 => ?_)
  rcases h with h | h | ⟨j, hj, h4, e⟩
  · exact absurd h h0
  · refine br_t ?_ ha
    have e3 : (3 : Int32).toInt = 3 := by decide
    have e10 : (nI 10).toInt = 10 := by decide
    have g := Int32.le_iff_toInt_le.mp h
    rw [e10] at g
    exact Int32.lt_iff_toInt_lt.mpr (by rw [e3]; omega)
  · subst e
    exact br_t (nI_lt (a := 3) (by omega) (by omega)) ha
theorem sm_cmpT {a : Nat} (h : a < 4) {A B C : Prop} (hb : B) : (nI a < 0 → A) ∧ (¬ nI a < 0 → ((3 < nI a → C) ∧ (¬ 3 < nI a → B))) :=
  br_f (nI_pos (by omega)) (br_f (nI_nlt (a := 3) (b := a) (by omega) (by decide)) hb)
/-- the tail where they are -/
theorem sm_t262T {post : Int32 → St0 → Prop} {mc ms : Nat} {x2 x10 x14 z : Int32} {kc ks : Nat} (h10 : (x2 = x14 ∧ x10 = 4) ∨ (¬ x2 = x14 ∧ x10 = -1)) (hp : post 1 ()) : wL_lawOf_262 post mc ms x2 (-3) x10 1 x14 z z kc ks := by
  refine br_t rfl (br_f (by decide) (br_t rfl (br_f (by decide) ?_)))
  rcases h10 with ⟨h, e⟩ | ⟨h, e⟩
  · subst e
    exact br_t h (br_t rfl hp)
  · subst e
    exact br_f h (br_t rfl hp)
theorem sm_t199T {post : Int32 → St0 → Prop} {mc ms : Nat} {x0 x1 x2 x5 x7 x10 x14 z : Int32} {kc ks : Nat} (hx : ¬ x0 = x1) (hz : x7 = z) (h5 : (x2 = x14 ∧ x5 = 1 ∧ x10 = 4) ∨ (¬ x2 = x14 ∧ x5 = 0 ∧ x10 = -1)) (hp : post 1 ()) : wL_lawOf_199 post mc ms x0 x1 x2 x5 x14 x7 1 (-3) x10 1 1 1 x14 z kc ks := by
  refine br_f (by decide) ?_
  rcases h5 with ⟨h, e5, e10⟩ | ⟨h, e5, e10⟩
  · subst e5
    exact br_t h (br_t rfl (br_t rfl (br_t hz (br_f (by decide) (br_f (by decide) (br_f hx (sm_t262T (Or.inl ⟨h, e10⟩) hp)))))))
  · subst e5
    exact br_f h (br_t rfl (br_t rfl (br_t hz (br_f (by decide) (br_f (by decide) (br_f hx (sm_t262T (Or.inr ⟨h, e10⟩) hp)))))))
/-- the whole of the law's body, at any four ints -/
theorem sm_lawOf {post : Int32 → St0 → Prop} (p q c d : Int32) (hp : post 1 ()) : wpL_lawOf post 24 384 () p q c d := by
  unfold wpL_lawOf
  refine ⟨by omega, by omega, 3, 106, by omega, by omega, sm_init (by omega) (by omega) (fun A1 A2 A3 k => ?_)⟩
  dsimp only
  rcases sm_two p q with h | ⟨a, b, ha, hb, hab, e, e'⟩
  · refine sm_isFaceB k h (sm_oppositeB k h (sm_aroundB k h ?_))
    rcases h with h | ⟨a, ha, e, h⟩ | ⟨a, ha, e, e'⟩
    · refine sm_distance0 (Or.inl h) (sm_flipB k (Or.inl h) ?_)
      dsimp only
      refine sm_splitB k (Or.inl h) ?_
      refine sm_cmp h ?_
      have T : ∀ x12 : Int32, wL_lawOf_96 post 24 384 p q c d 0 (-1) (-1) (-1) (-1) (-1) 0 x12 (1 + 3) (5 + 106) := fun x12 => br_t rfl (br_t rfl (sm_t134B (Or.inl ⟨Or.inl rfl, rfl⟩) hp))
      exact br_c (fun _ => T 0) (fun _ => br_c (fun _ => T 0) (fun _ => T 1))
    · subst e
      refine sm_distance0 (Or.inr ⟨a, ha, rfl, h⟩) (sm_flipB k (Or.inr (Or.inl ⟨a, ha, rfl, h⟩)) ?_)
      dsimp only
      refine sm_splitB k (Or.inr (Or.inl ⟨a, ha, rfl, h⟩)) ?_
      refine sm_cmpT ha ?_
      refine sm_cmp h ?_
      exact br_f (by decide) (br_t rfl (br_t rfl (sm_t134B (Or.inl ⟨Or.inr rfl, rfl⟩) hp)))
    · subst e e'
      refine sm_distanceE ha (sm_flipB k (Or.inr (Or.inr ⟨a, ha, rfl, rfl⟩)) ?_)
      dsimp only
      refine sm_splitB k (Or.inr (Or.inr ⟨a, ha, rfl, rfl⟩)) ?_
      refine sm_cmpT ha ?_
      refine sm_cmpT ha ?_
      exact br_f (by decide) (br_f (by decide) (br_t rfl (br_t rfl (sm_t134B (Or.inr ⟨by decide, by decide, rfl, rfl⟩) hp))))
  · subst e e'
    have ne : ¬ nI a = nI b := fun z => hab ((nI_eq (by omega) (by omega)).mp z)
    -- the tail, whatever the third vertex and the turns are
    have T : ∀ (x5 x7 x10 : Int32), ((c = nI (sm_th (sm_ar a b)) ∧ x5 = 1 ∧ x10 = 4) ∨ (¬ c = nI (sm_th (sm_ar a b)) ∧ x5 = 0 ∧ x10 = -1)) → (x7 = -1 ∧ (d < -20 ∨ (¬ d < -20 ∧ ¬ d ≤ 20)) ∨ ∃ t : Nat, t < 41 ∧ d = sm_kk t ∧ x7 = nI (sm_du a b t)) → wL_lawOf_80 post 24 384 (nI a) (nI b) c d x5 (nI (sm_th (sm_ar a b))) x7 1 (-3) x10 1 (1 + 3) (5 + 106) := by
      intro x5 x7 x10 h5 h7
      refine sm_cmpT hb (br_f (by decide) (br_f (by decide) (br_f ne (br_f (by decide) (sm_law3 ha hb hab ?_)))))
      refine nm_e ⟨by decide, by decide, nm_e (br_f (by decide) ?_)⟩
      rcases h7 with ⟨e7, h | ⟨h, h'⟩⟩ | ⟨t, ht, ed, e7⟩
      · exact br_t h (sm_t199T ne e7 h5 hp)
      · exact br_f h (br_f h' (sm_t199T ne e7 h5 hp))
      · subst ed e7
        have c1 := sm_kk1 t ht
        have du := sm_dud a ha b hb hab t ht
        exact br_f c1.1 (br_t c1.2 (br_c (fun z => sm_t199T ne (du.1 z) h5 hp) (fun z => br_c (fun z' => sm_t199T ne (du.2.1 z z') h5 hp) (fun z' => sm_t199T ne (du.2.2 z z') h5 hp))))
    -- from the turns on
    have R : ∀ (x5 : Int32), ((c = nI (sm_th (sm_ar a b)) ∧ x5 = 1) ∨ (¬ c = nI (sm_th (sm_ar a b)) ∧ x5 = 0)) → ∀ (x7 : Int32), (x7 = -1 ∧ (d < -20 ∨ (¬ d < -20 ∧ ¬ d ≤ 20)) ∨ ∃ t : Nat, t < 41 ∧ d = sm_kk t ∧ x7 = nI (sm_du a b t)) → wpX_splitFace (fun r_36 u => match u with | (fm0_vertexSet_37, fm0_faceSet_38, am611_41, am612_44, am613_47) => (((nI a < 0 → (wL_lawOf_79 post 24 384 (nI a) (nI b) c d x5 (nI (sm_th (sm_ar a b))) x7 1 (-3) r_36 (1 + 3) (5 + 106))) ∧ (¬ nI a < 0 → (((3 < nI a → (wL_lawOf_79 post 24 384 (nI a) (nI b) c d x5 (nI (sm_th (sm_ar a b))) x7 1 (-3) r_36 (1 + 3) (5 + 106))) ∧ (¬ 3 < nI a → (wL_lawOf_80 post 24 384 (nI a) (nI b) c d x5 (nI (sm_th (sm_ar a b))) x7 1 (-3) r_36 1 (1 + 3) (5 + 106))))))))) (15, 15, A1, A2, A3) (nI a) (nI b) c := by
      intro x5 h5 x7 h7
      rcases h5 with ⟨hc, e5⟩ | ⟨hc, e5⟩
      · have hc' := hc
        subst hc'
        exact sm_splitT k ha hb hab (fun g0 g1 B1 B2 B3 => sm_cmpT ha (T x5 x7 _ (Or.inl ⟨rfl, e5, rfl⟩) h7))
      · exact sm_splitN k ha hb hab (fun z => hc z.symm) (sm_cmpT ha (T x5 x7 _ (Or.inr ⟨hc, e5, rfl⟩) h7))
    refine sm_isFaceT k ha hb hab (fun hc => ?_) (fun hc => ?_)
    · refine sm_oppositeT k ha hb hab ?_
      rcases sm_kOf d with h | h | ⟨t, ht, ed⟩
      · exact sm_aroundO k ha hb hab (Or.inl h) (sm_distanceT k ha hb hab (sm_flipT k ha hb hab (R 1 (Or.inl ⟨hc.symm, rfl⟩) (-1) (Or.inl ⟨rfl, Or.inl h⟩))))
      · exact sm_aroundO k ha hb hab (Or.inr h) (sm_distanceT k ha hb hab (sm_flipT k ha hb hab (R 1 (Or.inl ⟨hc.symm, rfl⟩) (-1) (Or.inl ⟨rfl, Or.inr h⟩))))
      · have ed' := ed
        rw [ed']
        rw [ed'] at R
        exact sm_aroundT k ha hb hab ht (sm_distanceT k ha hb hab (sm_flipT k ha hb hab (R 1 (Or.inl ⟨hc.symm, rfl⟩) _ (Or.inr ⟨t, ht, rfl, rfl⟩))))
    · refine sm_oppositeT k ha hb hab ?_
      have hc' : ¬ c = nI (sm_th (sm_ar a b)) := fun z => hc z.symm
      rcases sm_kOf d with h | h | ⟨t, ht, ed⟩
      · exact sm_aroundO k ha hb hab (Or.inl h) (sm_distanceT k ha hb hab (sm_flipT k ha hb hab (R 0 (Or.inr ⟨hc', rfl⟩) (-1) (Or.inl ⟨rfl, Or.inl h⟩))))
      · exact sm_aroundO k ha hb hab (Or.inr h) (sm_distanceT k ha hb hab (sm_flipT k ha hb hab (R 0 (Or.inr ⟨hc', rfl⟩) (-1) (Or.inl ⟨rfl, Or.inr h⟩))))
      · have ed' := ed
        rw [ed']
        rw [ed'] at R
        exact sm_aroundT k ha hb hab ht (sm_distanceT k ha hb hab (sm_flipT k ha hb hab (R 0 (Or.inr ⟨hc', rfl⟩) _ (Or.inr ⟨t, ht, rfl, rfl⟩))))
theorem sm_cell {post : Int32 → Prop} {L : Nat} {xs : Nat → Int32} (hL : L ≤ 4) {p : Int32} (j : Nat) (hj : j < 4) (ep : p = nI j) (H : ∀ r, post r) : wpL_cellAt post L xs () p := by
  subst ep
  exact pk_le L j (fun _ => H 0) (fun z => ⟨vp_in_nI z (by omega), H _⟩)
theorem i_vc (xs : Nat → Int32) (L : Nat) (hL : L ≤ 4) : wpL_law (fun r => r = 1) L xs := by
  unfold wpL_law
  refine sm_cell hL 0 (by omega) rfl (fun p => sm_cell hL 1 (by omega) rfl (fun q => sm_cell hL 2 (by omega) rfl (fun c => sm_cell hL 3 (by omega) rfl (fun d => ?_))))
  exact ⟨24, 384, by omega, by omega, sm_lawOf p q c d rfl⟩
end
