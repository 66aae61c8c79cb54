section
/-- a register's number -/
def cd_ok (p : Int32) : Prop := ¬ p < 0 ∧ p ≤ 7
/-- every register holds nil -/
def cd_Z (a4 a5 : Nat → Int32) : Prop := (∀ j, a4 j = 0) ∧ (∀ j, a5 j = 0)
theorem cd_okN {p : Int32} (h : cd_ok p) : ∃ j : Nat, j < 8 ∧ p = nI j := by
  obtain ⟨j, hj, e⟩ := nI_of2 (M := 7) (n := 7) (by decide) h.1 h.2
  exact ⟨j, by omega, e⟩
theorem cd_in8 {p : Int32} (h : cd_ok p) : vp_in p 8 := by
  obtain ⟨j, hj, e⟩ := cd_okN h
  exact pk_in j 8 hj e
theorem cd_n2 {x : Int32} (h : x = 0) : ¬ x = 2 := by
  rw [h]
  decide
theorem cd_le0 {x : Int32} (h : ¬ x < 0) (h' : x ≤ 0) : x = 0 := by
  obtain ⟨j, hj, e⟩ := nI_of2 (M := 0) (n := 0) (by decide) h h'
  have j0 : j = 0 := by omega
  rw [e, j0]
  rfl
theorem cd_ne0 {x : Int32} (h : ¬ x ≤ 0) : ¬ x = 0 := by
  intro e
  rw [e] at h
  exact absurd (by decide) h
theorem cd_lt1 {x : Int32} (h : ¬ x < 1) : ∃ m : Nat, 1 ≤ m ∧ m < 2 ^ 31 ∧ x = nI m := by
  have h0 : ¬ x < 0 := by
    intro z
    rw [Int32.lt_iff_toInt_lt] at h z
    have e1 : (1 : Int32).toInt = 1 := by decide
    have e0 : (0 : Int32).toInt = 0 := by decide
    omega
  obtain ⟨m, hm, e⟩ := nI_of h0
  refine ⟨m, ?_, hm, e⟩
  rcases Nat.eq_zero_or_pos m with z | z
  · rw [e, z] at h
    exact absurd (by decide) h
  · exact z
/-- what list asks of k is what the law asks of it -/
theorem cd_k {s k : Int32} (hs : cd_ok s) (hk : ¬ k < 1) : ¬ 8 - s < k ↔ (¬ 8 < k ∧ s + k ≤ 8) := by
  obtain ⟨j, hj, ej⟩ := cd_okN hs
  obtain ⟨m, h1, hm, em⟩ := cd_lt1 hk
  have e8 : (8 : Int32) = nI 8 := rfl
  rw [ej, em, e8, pk_sub (by omega), nI_add, nI_ltI (by omega) hm, nI_ltI (by omega) hm]
  constructor
  · intro z
    exact ⟨by omega, nI_le (by omega) (by omega)⟩
  · intro z
    have z2 := z.2
    rw [nI_leI (by omega) (by omega)] at z2
    omega
theorem cd_up {f : Nat → Int32} {k : Nat} (h : ∀ j, f j = 0) : ∀ j, upd f k 0 j = 0 := by
  intro j
  by_cases e : j = k
  · rw [e, pk_us]
  · rw [pk_un e]
    exact h j
theorem cd_Zu {a4 a5 : Nat → Int32} {k l : Nat} (h : cd_Z a4 a5) : cd_Z (upd a4 k 0) (upd a5 l 0) := ⟨cd_up h.1, cd_up h.2⟩
theorem cd_fill {f : Nat → Int64} {i k : Nat} (hk : k = i) (h : ∀ j, j < i → f j = 0) : ∀ j, j < i + 1 → vp_updL f k 0 j = 0 := by
  intro j hj
  rw [hk]
  by_cases e : j = i
  · rw [e, pk_uLs]
  · rw [pk_uLn e]
    exact h j (by omega)
theorem cd_and0 {x y : Int64} (h : x = 0) : x &&& y = 0 := by
  rw [h]
  simp
end
section
section
variable {gt gc p q : Int32} {a1 a2 a3 a4 a5 : Nat → Int32} {a6 a7 : Nat → Int64} {c : Nat}
theorem cd_bad {post : Int32 → Prop} {u : St2} (h0 : cd_ok p → post 0) (h1 : ¬ cd_ok p → post 1) : wpX_bad post u p := by
  obtain ⟨b, f, pr, g, h, b1, b2, b3, b4, b5, b6, b7⟩ := u
  exact br_c (fun z => h1 (fun t => t.1 z)) (fun z => br_c (fun y => h0 ⟨z, y⟩) (fun y => h1 (fun t => y t.2)))
theorem cd_badc {A B : Prop} {u : St2} (h0 : cd_ok p → A) (h1 : ¬ cd_ok p → B) : wpX_bad (fun r => (r = 0 → A) ∧ (¬ r = 0 → B)) u p :=
  cd_bad (fun z => br_t rfl (h0 z)) (fun z => br_f (by decide) (h1 z))
theorem cd_spine {post : Int32 → St2 → Prop} (hp : cd_ok p) (k : cd_Z a4 a5)
    (H : post 0 (nI c, nI c, 0, 0, 0, a1, a2, a3, a4, a5, a6, a7)) : wpX_spine post (nI c, nI c, 0, gt, gc, a1, a2, a3, a4, a5, a6, a7) p :=
  ⟨cd_in8 hp, nm_r (k.1 _) ⟨cd_in8 hp, nm_r (k.2 _) ⟨0 + 1, br_f (by decide) (br_f (by decide) H)⟩⟩⟩
theorem cd_length {post : Int32 → St2 → Prop} (k : cd_Z a4 a5)
    (H : ∀ r g h, (cd_ok p → r = 0) → (¬ cd_ok p → r = -1) → post r (nI c, nI c, 0, g, h, a1, a2, a3, a4, a5, a6, a7)) : wpX_length post (nI c, nI c, 0, gt, gc, a1, a2, a3, a4, a5, a6, a7) p := by
  unfold wpX_length
  exact cd_badc (fun z => cd_spine z k (br_t (by decide) (H 0 0 0 (fun _ => rfl) (fun t => absurd z t)))) (fun z => H (-1) gt gc (fun t => absurd t z) (fun _ => rfl))
theorem cd_car {post : Int32 → St2 → Prop} (k : cd_Z a4 a5)
    (H : ∀ r, (cd_ok p ∧ cd_ok q → r = -3) → (¬ (cd_ok p ∧ cd_ok q) → r = -1) → post r (nI c, nI c, 0, gt, gc, a1, a2, a3, a4, a5, a6, a7)) : wpX_car post (nI c, nI c, 0, gt, gc, a1, a2, a3, a4, a5, a6, a7) p q := by
  unfold wpX_car
  exact cd_badc (fun z => cd_badc (fun y => ⟨cd_in8 y, br_f (cd_n2 (k.1 _)) (H (-3) (fun _ => rfl) (fun t => absurd ⟨z, y⟩ t))⟩) (fun y => H (-1) (fun t => absurd t.2 y) (fun _ => rfl))) (fun z => H (-1) (fun t => absurd t.1 z) (fun _ => rfl))
theorem cd_walk {post : Int32 → St2 → Prop} {w n : Int32} (k : cd_Z a4 a5)
    (H : ∀ r b4 b5, cd_Z b4 b5 → (cd_ok p ∧ cd_ok q ∧ ¬ n < 0 ∧ n ≤ 16 → n = 0 → r = 0) → (cd_ok p ∧ cd_ok q ∧ ¬ n < 0 ∧ n ≤ 16 → ¬ n = 0 → r = -3) → (¬ (cd_ok p ∧ cd_ok q ∧ ¬ n < 0 ∧ n ≤ 16) → r = -1) → post r (nI c, nI c, 0, gt, gc, a1, a2, a3, b4, b5, a6, a7)) : wpX_walk post (nI c, nI c, 0, gt, gc, a1, a2, a3, a4, a5, a6, a7) p q w n := by
  have N : ¬ (cd_ok p ∧ cd_ok q ∧ ¬ n < 0 ∧ n ≤ 16) → post (-1) (nI c, nI c, 0, gt, gc, a1, a2, a3, a4, a5, a6, a7) := fun z => H (-1) a4 a5 k (fun t => absurd t z) (fun t => absurd t z) (fun _ => rfl)
  unfold wpX_walk
  refine cd_badc (fun z => cd_badc (fun y => br_c (fun x => N (fun t => t.2.2.1 x)) (fun x => br_c (fun v => ⟨cd_in8 y, nm_r (k.1 _) ⟨cd_in8 y, nm_r (k.2 _) ⟨0 + 1, br_c (fun t => ?_) (fun t => br_f (by decide) ?_)⟩⟩⟩) (fun v => N (fun t => v t.2.2.2)))) (fun y => N (fun t => y t.2.1))) (fun z => N (fun t => z t.1))
  · have n0 : n = 0 := cd_le0 x t
    exact ⟨cd_in8 z, nm_e ⟨cd_in8 z, nm_e (H 0 _ _ (cd_Zu k) (fun _ _ => rfl) (fun _ g => absurd n0 g) (fun g => absurd ⟨z, y, x, v⟩ g))⟩⟩
  · have n0 : ¬ n = 0 := cd_ne0 t
    exact H (-3) a4 a5 k (fun _ g => absurd g n0) (fun _ _ => rfl) (fun g => absurd ⟨z, y, x, v⟩ g)
theorem cd_proper {post : Int32 → St2 → Prop} (hp : cd_ok p) (k : cd_Z a4 a5)
    (H : post 0 (nI c, nI c, 0, 0, 0, a1, a2, a3, a4, a5, a6, a7)) : wpX_proper post (nI c, nI c, 0, gt, gc, a1, a2, a3, a4, a5, a6, a7) p := by
  unfold wpX_proper
  exact cd_spine hp k (br_f (by decide) (br_t rfl H))
theorem cd_delete {post : Int32 → St2 → Prop} {n : Int32} (k : cd_Z a4 a5)
    (H : ∀ r g h, (cd_ok p → r = 0) → (¬ cd_ok p → r = -1) → post r (nI c, nI c, 0, g, h, a1, a2, a3, a4, a5, a6, a7)) : wpX_delete post (nI c, nI c, 0, gt, gc, a1, a2, a3, a4, a5, a6, a7) p n := by
  unfold wpX_delete
  exact cd_badc (fun z => cd_proper z k (br_f (by decide) (H 0 0 0 (fun _ => rfl) (fun t => absurd z t)))) (fun z => H (-1) gt gc (fun t => absurd t z) (fun _ => rfl))
theorem cd_collect {post : St2 → Prop} (hc : c ≤ 160) (k : cd_Z a4 a5)
    (H : ∀ d, d ≤ 160 → post (nI d, nI d, 0, gt, gc, a1, a2, a3, a4, a5, a6, a7)) : wpX_collect post (nI c, nI c, 0, gt, gc, a1, a2, a3, a4, a5, a6, a7) :=
  nm_r (pk_sub (a := 160) hc) (pk_loop (σ := Unit) (fun n i _ => wX_collect_21 post (nI (160 - c)) n (nI i) (nI c) (nI (160 - c)) 0 gt gc a1 a2 a3 a4 a5 a6 a7) (fun _ _ => True) 8 0 () (by omega) trivial
    (fun n _ _ => pk_le 8 8 (fun _ => ⟨0 + 1, br_f (by decide) (br_t (Int32.le_refl _) (H (160 - c) (by omega)))⟩) (fun z => absurd z (by omega)))
    (fun n i _ hi _ hw => pk_le 8 i (fun z => absurd z (by omega)) (fun _ => ⟨pk_in i 8 hi, br_f (cd_n2 (k.1 _)) (nm_r (nI_1 i) (hw () trivial))⟩)))
theorem cd_claim {post : Int32 → St2 → Prop} {u : St2} {x y z w : Int32} (e : x = 0) (e' : z = 0) (H : post 1 u) : wpX_claim post u x y z w := by
  obtain ⟨b, f, pr, g, h, b1, b2, b3, b4, b5, b6, b7⟩ := u
  exact br_t (e.trans e'.symm) (br_f (cd_n2 e) (br_t e H))
theorem cd_a85 {post : Int32 → St2 → Prop} (n : Nat) (H : post 1 (nI c, nI c, 0, gt, gc, a1, a2, a3, a4, a5, a6, a7)) : wX_alike_85 post (n + 1) 1 0 1 (nI c) (nI c) 0 gt gc a1 a2 a3 a4 a5 a6 a7 :=
  br_f (by decide) (br_f (by decide) (br_t rfl ⟨rfl, H⟩))
theorem cd_a108 {post : Int32 → St2 → Prop} (n : Nat) (h : ∀ j, j < 64 → a6 j = 0) (H : post 1 (nI c, nI c, 0, gt, gc, a1, a2, a3, a4, a5, a6, a7)) : ∃ m, wX_alike_108 post (wX_alike_85 post (n + 1)) 0 m 1 0 0 (nI c) (nI c) 0 gt gc a1 a2 a3 a4 a5 a6 a7 :=
  pk_loop (σ := Unit) (fun m i _ => wX_alike_108 post (wX_alike_85 post (n + 1)) 0 m 1 0 (nI i) (nI c) (nI c) 0 gt gc a1 a2 a3 a4 a5 a6 a7) (fun _ _ => True) 64 0 () (by omega) trivial
    (fun m _ _ => pk_le 64 64 (fun _ => nm_r (show (0 : Int32) + 1 = 1 by decide) (cd_a85 n H)) (fun z => absurd z (by omega)))
    (fun m i _ hi _ hw => pk_le 64 i (fun z => absurd z (by omega)) (fun _ => br_f (by decide) ⟨pk_in i 64 hi, pk_in i 64 hi, br_t (cd_and0 (by rw [nI_clamp (by omega)]; exact h i hi)) (nm_r (nI_1 i) (hw () trivial))⟩))
theorem cd_a24 {post : Int32 → St2 → Prop} (hp : cd_ok p) (hq : cd_ok q) (k : cd_Z a4 a5)
    (H : ∀ b6 b7, post 1 (nI c, nI c, 0, gt, gc, a1, a2, a3, a4, a5, b6, b7)) : ∃ n, wX_alike_24 post p q (nI c) (nI c) 0 gt gc n 0 a1 a2 a3 a4 a5 a6 a7 :=
  pk_loop (σ := (Nat → Int64) × (Nat → Int64)) (fun n i s => wX_alike_24 post p q (nI c) (nI c) 0 gt gc n (nI i) a1 a2 a3 a4 a5 s.1 s.2) (fun i s => ∀ j, j < i → s.1 j = 0) 64 0 (a6, a7) (by omega) (fun j hj => absurd hj (by omega))
    (fun n s h => pk_le 64 64 (fun _ => ⟨cd_in8 hp, cd_in8 hp, cd_in8 hq, cd_in8 hq, cd_claim (k.1 _) (k.1 _) ⟨0 + 1 + 1, br_f (by decide) (br_f (by decide) (br_f (by decide) (cd_a108 0 h (H s.1 s.2))))⟩⟩) (fun z => absurd z (by omega)))
    (fun n i s hi h hw => pk_le 64 i (fun z => absurd z (by omega)) (fun _ => ⟨pk_in i 64 hi, nm_e ⟨pk_in i 64 hi, nm_e (nm_r (nI_1 i) (hw (_, _) (cd_fill (nI_clamp (by omega)) h)))⟩⟩))
theorem cd_alike {post : Int32 → St2 → Prop} (hc : c ≤ 160) (k : cd_Z a4 a5)
    (H : ∀ r d b6 b7, d ≤ 160 → (cd_ok p ∧ cd_ok q → r = 1) → (¬ (cd_ok p ∧ cd_ok q) → r = 0) → post r (nI d, nI d, 0, gt, gc, a1, a2, a3, a4, a5, b6, b7)) : wpX_alike post (nI c, nI c, 0, gt, gc, a1, a2, a3, a4, a5, a6, a7) p q := by
  unfold wpX_alike
  exact cd_badc (fun z => cd_badc (fun y => cd_collect hc k (fun d hd => cd_a24 z y k (fun b6 b7 => H 1 d b6 b7 hd (fun _ => rfl) (fun t => absurd ⟨z, y⟩ t)))) (fun y => H 0 c a6 a7 hc (fun t => absurd t.2 y) (fun _ => rfl))) (fun z => H 0 c a6 a7 hc (fun t => absurd t.1 z) (fun _ => rfl))
theorem cd_mayMake {post : Int32 → St2 → Prop} {m : Nat} (hm : m ≤ 8) (H : post 1 (nI c, nI c, 0, gt, gc, a1, a2, a3, a4, a5, a6, a7)) : wpX_mayMake post (nI c, nI c, 0, gt, gc, a1, a2, a3, a4, a5, a6, a7) (nI m) :=
  have e : (0 : Int32) + nI m = nI m := Int32.zero_add _
  pk_le m 32 (fun _ => pk_lt 32 m (fun z => absurd z (by omega)) (fun _ => H) rfl e) (fun z => absurd z (by omega)) e
theorem cd_need {post : St2 → Prop} {m : Nat} (hc : c ≤ 160) (hm : m ≤ 8) (H : post (nI c, nI c, 0, gt, gc, a1, a2, a3, a4, a5, a6, a7)) : wpX_need post (nI c, nI c, 0, gt, gc, a1, a2, a3, a4, a5, a6, a7) (nI m) :=
  pk_le (c + m) (c + 160) (fun _ => H) (fun z => absurd z (by omega)) (nI_add c m) (nI_add c 160)
theorem cd_l66 {post : Int32 → St2 → Prop} {j m : Nat} (hc : c ≤ 160) (hp : cd_ok p) (hj : j + m ≤ 8) (H : ∀ u, post 0 u) : ∃ n, wX_list_66 post p (nI j) (nI m) (nI c) n 0 (nI c) (nI c) 0 gt gc a1 a2 a3 a4 a5 a6 a7 :=
  pk_loop (σ := (Nat → Int32) × (Nat → Int32) × (Nat → Int32)) (fun n i s => wX_list_66 post p (nI j) (nI m) (nI c) n (nI i) (nI c) (nI c) 0 gt gc s.1 s.2.1 s.2.2 a4 a5 a6 a7) (fun _ _ => True) m 0 (a1, a2, a3) (by omega) trivial
    (fun n s _ => pk_le m m (fun _ => nm_e (nm_e ⟨cd_in8 hp, nm_e ⟨cd_in8 hp, nm_e (H _)⟩⟩)) (fun z => absurd z (by omega)))
    (fun n i s hi _ hw => pk_le m i (fun z => absurd z (by omega)) (fun _ => ⟨pk_in (j + i) 8 (by omega) (nI_add j i), pk_in (j + i) 8 (by omega) (nI_add j i), pk_in (c + i) 320 (by omega) (nI_add c i), nm_e ⟨pk_in (c + i) 320 (by omega) (nI_add c i), nm_e (br_c (fun _ => ⟨pk_in (c + i) 320 (by omega) (nI_add c i), nm_e (nm_r (nI_1 i) (hw (_, _, _) trivial))⟩) (fun _ => ⟨pk_in (c + i) 320 (by omega) (nI_add c i), nm_e (nm_r (nI_1 i) (hw (_, _, _) trivial))⟩))⟩⟩))
theorem cd_list {post : Int32 → St2 → Prop} {n : Int32} (hc : c ≤ 160)
    (H : ∀ r u, (cd_ok p ∧ cd_ok q ∧ ¬ n < 1 ∧ ¬ 8 < n ∧ q + n ≤ 8 → r = 0) → (¬ (cd_ok p ∧ cd_ok q ∧ ¬ n < 1 ∧ ¬ 8 < n ∧ q + n ≤ 8) → r = -1) → post r u) : wpX_list post (nI c, nI c, 0, gt, gc, a1, a2, a3, a4, a5, a6, a7) p q n := by
  have N : ¬ (cd_ok p ∧ cd_ok q ∧ ¬ n < 1 ∧ ¬ 8 < n ∧ q + n ≤ 8) → post (-1) (nI c, nI c, 0, gt, gc, a1, a2, a3, a4, a5, a6, a7) := fun z => H (-1) _ (fun t => absurd t z) (fun _ => rfl)
  unfold wpX_list
  refine cd_badc (fun z => cd_badc (fun y => br_c (fun x => N (fun t => t.2.2.1 x)) (fun x => br_c (fun v => N (fun t => t.2.2.2.1 v)) (fun v => br_c (fun s => ?_) (fun s => N (fun t => s t.2.2.2.2))))) (fun y => N (fun t => y t.2.1))) (fun z => N (fun t => z t.1))
  have P : ∀ u, post 0 u := fun u => H 0 u (fun _ => rfl) (fun g => absurd ⟨z, y, x, v, s⟩ g)
  obtain ⟨j, hj, ej⟩ := cd_okN y
  obtain ⟨m, h1, hm, em⟩ := cd_lt1 x
  have h8 : m ≤ 8 := by
    rcases Nat.lt_or_ge 8 m with g | g
    · rw [em] at v
      exact absurd (nI_lt g hm) v
    · exact g
  have hs : j + m ≤ 8 := by
    have s' : nI j + nI m ≤ nI 8 := by
      rw [← ej, ← em]
      exact s
    rw [nI_add, nI_leI (by omega) (by omega)] at s'
    exact s'
  rw [ej, em]
  exact cd_mayMake h8 (br_f (by decide) (cd_need hc h8 (cd_l66 hc z hs P)))
end
end
section
section
variable {post : Int32 → St0 → Prop} {mc ms kc ks : Nat} {x1 x2 x3 x6 x7 x8 x9 x10 x11 x12 x13 z0 z1 : Int32}
theorem cd_182 (hp : post 1 ()) (hz : z1 = z0) (hx : x10 = x13) (h1 : (x13 = 0 ∨ x2 < 1 ∨ 8 - x1 < x2) → x11 = -1) (h0 : ¬ (x13 = 0 ∨ x2 < 1 ∨ 8 - x1 < x2) → x11 = 0) : wL_lawOf_182 post mc ms x1 x2 x10 x11 x13 z0 z1 kc ks :=
  br_t hz (br_t hx (br_c (fun a => br_t (h1 (Or.inl a)) hp) (fun a => br_c (fun b => br_t (h1 (Or.inr (Or.inl b))) hp) (fun b => br_c (fun d => br_t (h1 (Or.inr (Or.inr d))) hp) (fun d => br_t (h0 (fun t => t.elim a (fun t => t.elim b d))) hp)))))
theorem cd_167 (hp : post 1 ()) (hz : z1 = z0) (h9 : x12 = 0 → x9 = -1) (h9' : ¬ x12 = 0 → x9 = 0) (hx : x10 = x13) (h1 : (x13 = 0 ∨ x2 < 1 ∨ 8 - x1 < x2) → x11 = -1) (h0 : ¬ (x13 = 0 ∨ x2 < 1 ∨ 8 - x1 < x2) → x11 = 0) : wL_lawOf_167 post mc ms x1 x2 x9 x10 x11 x12 x13 z0 z1 kc ks :=
  br_t hz (br_c (fun a => cd_182 hp (h9 a) hx h1 h0) (fun a => cd_182 hp (h9' a) hx h1 h0))
theorem cd_133 (hp : post 1 ()) (hz : z1 = z0) (h8 : (x13 = 0 ∨ x3 < 0 ∨ ¬ x3 ≤ 16) → x8 = -1) (h8' : ¬ (x13 = 0 ∨ x3 < 0 ∨ ¬ x3 ≤ 16) → x3 = 0 → x8 = 0) (h8'' : ¬ (x13 = 0 ∨ x3 < 0 ∨ ¬ x3 ≤ 16) → ¬ x3 = 0 → x8 = -3) (h9 : x12 = 0 → x9 = -1) (h9' : ¬ x12 = 0 → x9 = 0) (hx : x10 = x13) (h1 : (x13 = 0 ∨ x2 < 1 ∨ 8 - x1 < x2) → x11 = -1) (h0 : ¬ (x13 = 0 ∨ x2 < 1 ∨ 8 - x1 < x2) → x11 = 0) : wL_lawOf_133 post mc ms x1 x2 x3 x8 x9 x10 x11 x12 x13 z0 z1 kc ks :=
  br_t hz (br_c (fun a => cd_167 hp (h8 (Or.inl a)) h9 h9' hx h1 h0) (fun a => br_c (fun b => cd_167 hp (h8 (Or.inr (Or.inl b))) h9 h9' hx h1 h0) (fun b => br_c (fun d => br_c (fun e => cd_167 hp (h8' (fun t => t.elim a (fun t => t.elim b (fun t => t d))) e) h9 h9' hx h1 h0) (fun e => cd_167 hp (h8'' (fun t => t.elim a (fun t => t.elim b (fun t => t d))) e) h9 h9' hx h1 h0)) (fun d => cd_167 hp (h8 (Or.inr (Or.inr d))) h9 h9' hx h1 h0))))
theorem cd_103 (hp : post 1 ()) (h6 : x12 = 0 → x6 = -1) (h6' : ¬ x12 = 0 → x6 = 0) (h7 : x13 = 0 → x7 = -1) (h7' : ¬ x13 = 0 → x7 = -3) (h8 : (x13 = 0 ∨ x3 < 0 ∨ ¬ x3 ≤ 16) → x8 = -1) (h8' : ¬ (x13 = 0 ∨ x3 < 0 ∨ ¬ x3 ≤ 16) → x3 = 0 → x8 = 0) (h8'' : ¬ (x13 = 0 ∨ x3 < 0 ∨ ¬ x3 ≤ 16) → ¬ x3 = 0 → x8 = -3) (h9 : x12 = 0 → x9 = -1) (h9' : ¬ x12 = 0 → x9 = 0) (hx : x10 = x13) (h1 : (x13 = 0 ∨ x2 < 1 ∨ 8 - x1 < x2) → x11 = -1) (h0 : ¬ (x13 = 0 ∨ x2 < 1 ∨ 8 - x1 < x2) → x11 = 0) : wL_lawOf_103 post mc ms x1 x2 x3 x6 x7 x8 x9 x10 x11 x12 x13 kc ks := by
  have T : ∀ w, x6 = w → wL_lawOf_117 post mc ms x1 x2 x3 x7 x8 x9 x10 x11 x12 x13 w x6 kc ks := fun w e =>
    br_t e (br_c (fun a => cd_133 hp (h7 a) h8 h8' h8'' h9 h9' hx h1 h0) (fun a => cd_133 hp (h7' a) h8 h8' h8'' h9 h9' hx h1 h0))
  exact br_c (fun a => T (-1) (h6 a)) (fun a => T 0 (h6' a))
/-- the law's own checks, out of what the seven answers are -/
theorem cd_checks {p0 p1 p2 p3 : Int32} (hp : post 1 ()) (l1 : cd_ok p0 → x6 = 0) (l0 : ¬ cd_ok p0 → x6 = -1)
    (c1 : cd_ok p0 ∧ cd_ok p1 → x7 = -3) (c0 : ¬ (cd_ok p0 ∧ cd_ok p1) → x7 = -1)
    (w1 : cd_ok p0 ∧ cd_ok p1 ∧ ¬ p3 < 0 ∧ p3 ≤ 16 → p3 = 0 → x8 = 0) (w2 : cd_ok p0 ∧ cd_ok p1 ∧ ¬ p3 < 0 ∧ p3 ≤ 16 → ¬ p3 = 0 → x8 = -3) (w0 : ¬ (cd_ok p0 ∧ cd_ok p1 ∧ ¬ p3 < 0 ∧ p3 ≤ 16) → x8 = -1)
    (g1 : cd_ok p0 → x9 = 0) (g0 : ¬ cd_ok p0 → x9 = -1)
    (a1 : cd_ok p0 ∧ cd_ok p1 → x10 = 1) (a0 : ¬ (cd_ok p0 ∧ cd_ok p1) → x10 = 0)
    (m1 : cd_ok p0 ∧ cd_ok p1 ∧ ¬ p2 < 1 ∧ ¬ 8 < p2 ∧ p1 + p2 ≤ 8 → x11 = 0) (m0 : ¬ (cd_ok p0 ∧ cd_ok p1 ∧ ¬ p2 < 1 ∧ ¬ 8 < p2 ∧ p1 + p2 ≤ 8) → x11 = -1) :
    (p0 < 0 → wL_lawOf_80 post mc ms p1 p2 p3 x6 x7 x8 x9 x10 x11 kc ks) ∧ (¬ p0 < 0 → ((7 < p0 → wL_lawOf_80 post mc ms p1 p2 p3 x6 x7 x8 x9 x10 x11 kc ks) ∧ (¬ 7 < p0 → wL_lawOf_81 post mc ms p1 p2 p3 x6 x7 x8 x9 x10 x11 1 kc ks))) := by
  have no : ¬ (1 : Int32) = 0 := by decide
  -- not both, r's own place as it is
  have F : ∀ w : Int32, (w = 0 → ¬ cd_ok p0) → (¬ w = 0 → cd_ok p0) → ¬ (cd_ok p0 ∧ cd_ok p1) → wL_lawOf_103 post mc ms p1 p2 p3 x6 x7 x8 x9 x10 x11 w 0 kc ks := fun w hw hw' nb =>
    cd_103 hp (fun z => l0 (hw z)) (fun z => l1 (hw' z)) (fun _ => c0 nb) (fun z => absurd rfl z) (fun _ => w0 (fun t => nb ⟨t.1, t.2.1⟩)) (fun z => absurd (Or.inl rfl) z) (fun z => absurd (Or.inl rfl) z) (fun z => g0 (hw z)) (fun z => g1 (hw' z)) (a0 nb) (fun _ => m0 (fun t => nb ⟨t.1, t.2.1⟩)) (fun z => absurd (Or.inl rfl) z)
  have B : cd_ok p0 → cd_ok p1 → wL_lawOf_103 post mc ms p1 p2 p3 x6 x7 x8 x9 x10 x11 1 1 kc ks := fun hr hs =>
    cd_103 hp (fun z => absurd z no) (fun _ => l1 hr) (fun z => absurd z no) (fun _ => c1 ⟨hr, hs⟩) (fun z => w0 (fun t => z.elim no (fun z => z.elim t.2.2.1 (fun z => z t.2.2.2))))
      (fun z e => w1 ⟨hr, hs, fun t => z (Or.inr (Or.inl t)), Decidable.byContradiction (fun t => z (Or.inr (Or.inr t)))⟩ e)
      (fun z e => w2 ⟨hr, hs, fun t => z (Or.inr (Or.inl t)), Decidable.byContradiction (fun t => z (Or.inr (Or.inr t)))⟩ e)
      (fun z => absurd z no) (fun _ => g1 hr) (a1 ⟨hr, hs⟩)
      (fun z => m0 (fun t => z.elim no (fun z => z.elim t.2.2.1 (fun z => (cd_k hs t.2.2.1).mpr t.2.2.2 z))))
      (fun z => m1 (by
        have k1 : ¬ p2 < 1 := fun t => z (Or.inr (Or.inl t))
        have k2 := (cd_k hs k1).mp (fun t => z (Or.inr (Or.inr t)))
        exact ⟨hr, hs, k1, k2⟩))
  have Q : ¬ cd_ok p0 → wL_lawOf_80 post mc ms p1 p2 p3 x6 x7 x8 x9 x10 x11 kc ks := fun nr =>
    br_t rfl (F 0 (fun _ => nr) (fun z => absurd rfl z) (fun t => nr t.1))
  refine br_c (fun z => Q (fun t => t.1 z)) (fun z => br_c (fun y => Q (fun t => absurd t.2 (Int32.not_le.mpr y))) (fun y => ?_))
  have hr : cd_ok p0 := ⟨z, Int32.not_lt.mp y⟩
  have G : ¬ cd_ok p1 → wL_lawOf_102 post mc ms p1 p2 p3 x6 x7 x8 x9 x10 x11 1 kc ks := fun ns => F 1 (fun t => absurd t no) (fun _ => hr) (fun t => ns t.2)
  exact br_f no (br_c (fun x => G (fun t => t.1 x)) (fun x => br_c (fun v => G (fun t => absurd t.2 (Int32.not_le.mpr v))) (fun v => B hr ⟨x, Int32.not_lt.mp v⟩)))
theorem cd_lawOf {p0 p1 p2 p3 p4 : Int32} (h1 : 8 ≤ mc) (h2 : 1116 ≤ ms) (hp : post 1 ()) : wpL_lawOf post mc ms () p0 p1 p2 p3 p4 := by
  have Z : cd_Z (fun _ => 0) (fun _ => 0) := ⟨fun _ => rfl, fun _ => rfl⟩
  unfold wpL_lawOf
  refine ⟨by omega, by omega, 7, 1104, by omega, by omega, ?_⟩
  refine ⟨by omega, by omega, by omega, by omega, by omega, by omega, by omega, by omega, by omega, by omega, by omega, by omega, by omega, by omega, ?_⟩
  refine cd_length (c := 0) Z (fun r6 _ _ l1 l0 => ?_)
  refine cd_car Z (fun r7 c1 c0 => ?_)
  refine cd_walk Z (fun r8 b4 b5 Y w1 w2 w0 => ?_)
  refine cd_delete Y (fun r9 _ _ g1 g0 => ?_)
  refine cd_alike (by omega) Y (fun r10 d _ _ hd a1 a0 => ?_)
  refine cd_list hd (fun r11 u m1 m0 => ?_)
  obtain ⟨_, _, _, _, _, _, _, _, _, _, _, _⟩ := u
  exact cd_checks hp l1 l0 c1 c0 w1 w2 w0 g1 g0 a1 a0 m1 m0
end
end
section
theorem cd_cell {post : Int32 → Prop} {L : Nat} {xs : Nat → Int32} (hL : L ≤ 5) (i : Nat) (hi : i < 5) (H : ∀ r, post r) : wpL_cellAt post L xs () (nI i) :=
  pk_le L i (fun _ => H 0) (fun z => ⟨pk_in i L z, H _⟩)
theorem i_vc (xs : Nat → Int32) (L : Nat) (hL : L ≤ 5) : wpL_law (fun r => r = 1) L xs := by
  unfold wpL_law
  refine cd_cell hL 0 (by omega) (fun r1 => ?_)
  refine cd_cell hL 1 (by omega) (fun r2 => ?_)
  refine cd_cell hL 2 (by omega) (fun r3 => ?_)
  refine cd_cell hL 3 (by omega) (fun r4 => ?_)
  refine cd_cell hL 4 (by omega) (fun r5 => ?_)
  exact ⟨638, 10208, by omega, by omega, cd_lawOf (by omega) (by omega) rfl⟩
end
