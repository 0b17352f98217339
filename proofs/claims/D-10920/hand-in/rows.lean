section
/-- an extent's number that the class takes -/
def hs_in (p : Int32) : Prop := ¬ p < 0 ∧ p < 8
/-- a disk's number that the class takes -/
def hs_dk (p : Int32) : Prop := ¬ p < 0 ∧ p < 5
theorem hs_8 (x : Int32) : x < 8 ↔ ¬ 7 < x := by
  rw [Int32.lt_iff_toInt_lt, Int32.lt_iff_toInt_lt]
  have e8 : (8 : Int32).toInt = 8 := by decide
  have e7 : (7 : Int32).toInt = 7 := by decide
  omega
theorem hs_5 (x : Int32) : x < 5 ↔ ¬ 4 < x := by
  rw [Int32.lt_iff_toInt_lt, Int32.lt_iff_toInt_lt]
  have e5 : (5 : Int32).toInt = 5 := by decide
  have e4 : (4 : Int32).toInt = 4 := by decide
  omega
theorem hs_vp {p : Int32} (k : hs_in p) : vp_in p 8 := by
  obtain ⟨h, g⟩ := k
  rw [Int32.lt_iff_toInt_lt] at h g
  have e0 : (0 : Int32).toInt = 0 := by decide
  have e8 : (8 : Int32).toInt = 8 := by decide
  exact vp_in_iff.mpr (by omega)
theorem hs_vd {p : Int32} (k : hs_dk p) : vp_in p 5 := by
  obtain ⟨h, g⟩ := k
  rw [Int32.lt_iff_toInt_lt] at h g
  have e0 : (0 : Int32).toInt = 0 := by decide
  have e5 : (5 : Int32).toInt = 5 := by decide
  exact vp_in_iff.mpr (by omega)
theorem hs_le0 {x : Int32} (h : x = 0) : x ≤ 0 := by
  rw [h]
  decide
theorem hs_nlt {x y : Int32} (h : ¬ x < 0) (e : y = 0) : ¬ x < y := by
  rw [e]
  exact h
theorem hs_cell {post : Int32 → Prop} {L : Nat} {xs : Nat → Int32} {p : Int32} (k : Nat) (hk : p = nI k) (hk5 : k < 5) (hL : L ≤ 5) (H : ∀ r, post r) : wpL_cellAt post L xs () p :=
  pk_le L k (fun _ => H _) (fun z => ⟨pk_in k L z hk, H _⟩) rfl hk
section
variable {post : Int32 → St2 → Prop} {t d m : Int32} {a1 a2 a3 a4 a5 a6 a7 a8 : Nat → Int32} {p0 p1 p2 : Int32}
theorem hs_bad {Q : Int32 → Prop} (h1 : ¬ hs_in p0 → Q 1) (h0 : hs_in p0 → Q 0) : wpX_bad Q (t, d, m, a1, a2, a3, a4, a5, a6, a7, a8) p0 :=
  br_c (fun z => h1 (fun k => k.1 z)) (fun z => br_c (fun y => h0 ⟨z, y⟩) (fun y => h1 (fun k => y k.2)))
theorem hs_damage (h3 : ∀ j, a3 j = 0) (H : ∀ r, (hs_in p0 → r = -3) → (¬ hs_in p0 → r = -1) → post r (t, d, m, a1, a2, a3, a4, a5, a6, a7, a8)) :
    wpX_damage post (t, d, m, a1, a2, a3, a4, a5, a6, a7, a8) p0 p1 p2 := by
  unfold wpX_damage
  exact hs_bad (fun k => br_f (by decide) (H _ (fun z => absurd z k) (fun _ => rfl)))
    (fun k => br_t rfl ⟨hs_vp k, br_t (h3 _) (H _ (fun _ => rfl) (fun z => absurd k z))⟩)
theorem hs_put (hd : d = 0) (H : ∀ r, (hs_in p0 → r = -3) → (¬ hs_in p0 → r = -1) → post r (t, d, m, a1, a2, a3, a4, a5, a6, a7, a8)) :
    wpX_put post (t, d, m, a1, a2, a3, a4, a5, a6, a7, a8) p0 := by
  unfold wpX_put
  exact hs_bad (fun k => br_f (by decide) (H _ (fun z => absurd z k) (fun _ => rfl)))
    (fun k => br_t rfl (br_t hd (H _ (fun _ => rfl) (fun z => absurd k z))))
theorem hs_read (h3 : ∀ j, a3 j = 0) (H : post 0 (t, d, m, a1, a2, a3, a4, a5, a6, a7, a8)) :
    wpX_read post (t, d, m, a1, a2, a3, a4, a5, a6, a7, a8) p0 p1 := by
  unfold wpX_read
  exact hs_bad (fun k => br_f (by decide) H)
    (fun k => br_t rfl (br_c (fun _ => H) (fun z => ⟨hs_vp k, br_f (hs_nlt z (h3 _)) H⟩)))
theorem hs_any (h3 : ∀ j, a3 j = 0) (H : post 0 (t, d, m, a1, a2, a3, a4, a5, a6, a7, a8)) :
    wpX_anyDamaged post (t, d, m, a1, a2, a3, a4, a5, a6, a7, a8) :=
  pk_loop (σ := Unit) (fun n i _ => wX_anyDamaged_4 post n 0 (nI i) t d m a1 a2 a3 a4 a5 a6 a7 a8) (fun _ _ => True) 8 0 () (by omega) trivial
    (fun n _ _ => pk_le 8 8 (fun _ => ⟨narrow_b0, H⟩) (fun z => absurd z (by omega)))
    (fun n i _ hi _ hw => pk_le 8 i (fun z => absurd z (by omega)) (fun _ => ⟨pk_in i 8 hi, br_t (hs_le0 (h3 _)) (nm_r (nI_1 i) (hw () trivial))⟩))
theorem hs_53 {x1 : Int32} (h3 : ∀ j, a3 j = 0) (H : post 0 (t, d, m, a1, a2, a3, a4, a5, a6, a7, a8)) :
    ∃ n, wX_lose_53 post x1 n 0 t d m a1 a2 a3 a4 a5 a6 a7 a8 :=
  pk_loop (σ := Unit) (fun n i _ => wX_lose_53 post x1 n (nI i) t d m a1 a2 a3 a4 a5 a6 a7 a8) (fun _ _ => True) 8 0 () (by omega) trivial
    (fun n _ _ => pk_le 8 8 (fun _ => H) (fun z => absurd z (by omega)))
    (fun n i _ hi _ hw => pk_le 8 i (fun z => absurd z (by omega)) (fun _ => ⟨pk_in i 8 hi, br_t (hs_le0 (h3 _)) (nm_r (nI_1 i) (hw () trivial))⟩))
theorem hs_ix (j i : Nat) : nI j * 12 + nI i = nI (j * 12 + i) := by
  rw [← nI_add, ← pk_mul]
  rfl
theorem hs_25 {j : Nat} (hj : j < 5) (h3 : ∀ j, a3 j = 0) (H : ∀ a, post 0 (t, d, m, a, a2, a3, a4, a5, a6, a7, a8)) :
    ∃ n, wX_lose_25 post (nI j) t d m n 0 a1 a2 a3 a4 a5 a6 a7 a8 :=
  pk_loop (fun n i s => wX_lose_25 post (nI j) t d m n (nI i) s a2 a3 a4 a5 a6 a7 a8) (fun _ _ => True) 12 0 a1 (by omega) trivial
    (fun n s _ => pk_le 12 12 (fun _ => hs_53 h3 (H s)) (fun z => absurd z (by omega)))
    (fun n i s hi _ hw => pk_le 12 i (fun z => absurd z (by omega)) (fun _ => ⟨pk_in (j * 12 + i) 60 (by omega) (hs_ix j i), nm_e (nm_r (nI_1 i) (hw _ trivial))⟩))
theorem hs_lose (h3 : ∀ j, a3 j = 0) (H : ∀ r a, (hs_dk p0 → r = 0) → (¬ hs_dk p0 → r = -1) → post r (t, d, m, a, a2, a3, a4, a5, a6, a7, a8)) :
    wpX_lose post (t, d, m, a1, a2, a3, a4, a5, a6, a7, a8) p0 := by
  unfold wpX_lose
  refine br_c (fun z => H _ _ (fun k => absurd z k.1) (fun _ => rfl)) (fun z => br_c (fun y => hs_any h3 ?_) (fun y => H _ _ (fun k => absurd k.2 y) (fun _ => rfl)))
  have k : hs_dk p0 := ⟨z, y⟩
  obtain ⟨j, hj, e⟩ := vp_in_of (hs_vd k) (by omega)
  refine br_t rfl ?_
  subst e
  exact hs_25 hj h3 (fun a => H _ a (fun _ => rfl) (fun q => absurd k q))
theorem hs_free {Q : St2 → Prop} (k : hs_in p0) (h3 : ∀ j, a3 j = 0) (H : Q (t, d, m, a1, a2, a3, a4, a5, a6, a7, a8)) :
    wpX_free Q (t, d, m, a1, a2, a3, a4, a5, a6, a7, a8) p0 :=
  ⟨hs_vp k, br_t (h3 _) H⟩
theorem hs_copy (h3 : ∀ j, a3 j = 0) (H : ∀ r, (hs_in p0 → hs_in p1 → r = 0) → (¬ (hs_in p0 ∧ hs_in p1) → r = -1) → post r (t, d, m, a1, a2, a3, a4, a5, a6, a7, a8)) :
    wpX_copy post (t, d, m, a1, a2, a3, a4, a5, a6, a7, a8) p0 p1 := by
  unfold wpX_copy
  exact hs_bad (fun k => br_f (by decide) (H _ (fun z => absurd z k) (fun _ => rfl)))
    (fun k => br_t rfl (hs_bad (fun k1 => br_f (by decide) (H _ (fun _ z => absurd z k1) (fun _ => rfl)))
      (fun k1 => br_t rfl ⟨hs_vp k, br_t (h3 _) (hs_free k1 h3 (H _ (fun _ _ => rfl) (fun z => absurd ⟨k, k1⟩ z)))⟩)))
theorem hs_draft (hd : d = 0) (H : ∀ d' a, post 1 (t, d', m, a1, a2, a3, a4, a5, a, a7, a8)) :
    wpX_draft post (t, d, m, a1, a2, a3, a4, a5, a6, a7, a8) p0 := by
  subst hd
  exact br_f (by decide) ⟨pk_in 0 4 (by omega), nm_e (nm_r (e' := 1) (by decide) (H _ _))⟩
end
section
variable {post : Int32 → St0 → Prop} {mc ms kc ks : Nat} {x1 x4 x6 x7 x8 x9 x10 x11 x12 z0 z1 : Int32}
theorem hs_159 (h : z1 = z0) (h11 : x11 = 1) (hp : post 1 ()) : wL_lawOf_159 post mc ms x11 z0 z1 kc ks :=
  br_t h (br_t h11 hp)
theorem hs_134 (h : z1 = z0) (h11 : x11 = 1) (hp : post 1 ()) (hA : ¬ (¬ x12 = 0 ∧ hs_in x1) → x10 = -1) (hB : ¬ x12 = 0 → hs_in x1 → x10 = 0) :
    wL_lawOf_134 post mc ms x1 x10 x11 x12 z0 z1 kc ks :=
  br_t h (br_c (fun a => hs_159 (hA (fun q => q.1 a)) h11 hp)
    (fun a => br_c (fun b => hs_159 (hA (fun q => q.2.1 b)) h11 hp)
      (fun b => br_c (fun c => hs_159 (hA (fun q => (hs_8 _).mp q.2.2 c)) h11 hp)
        (fun c => hs_159 (hB a ⟨b, (hs_8 _).mpr c⟩) h11 hp))))
theorem hs_108 (h : z1 = z0) (h8 : x8 = 0) (h11 : x11 = 1) (hp : post 1 ()) (hA : ¬ (¬ x12 = 0 ∧ hs_in x1) → x10 = -1) (hB : ¬ x12 = 0 → hs_in x1 → x10 = 0)
    (hC : hs_dk x4 → x9 = 0) (hD : ¬ hs_dk x4 → x9 = -1) : wL_lawOf_108 post mc ms x1 x4 x8 x9 x10 x11 x12 z0 z1 kc ks :=
  br_t h (br_t h8 (br_c (fun a => hs_134 (hD (fun q => q.1 a)) h11 hp hA hB)
    (fun a => br_c (fun b => hs_134 (hD (fun q => (hs_5 _).mp q.2 b)) h11 hp hA hB)
      (fun b => hs_134 (hC ⟨a, (hs_5 _).mpr b⟩) h11 hp hA hB))))
theorem hs_92 (h : z1 = z0) (h70 : x12 = 0 → x7 = -1) (h71 : ¬ x12 = 0 → x7 = -3) (h8 : x8 = 0) (h11 : x11 = 1) (hp : post 1 ()) (hA : ¬ (¬ x12 = 0 ∧ hs_in x1) → x10 = -1) (hB : ¬ x12 = 0 → hs_in x1 → x10 = 0)
    (hC : hs_dk x4 → x9 = 0) (hD : ¬ hs_dk x4 → x9 = -1) : wL_lawOf_92 post mc ms x1 x4 x7 x8 x9 x10 x11 x12 z0 z1 kc ks :=
  br_t h (br_c (fun a => hs_108 (h70 a) h8 h11 hp hA hB hC hD) (fun a => hs_108 (h71 a) h8 h11 hp hA hB hC hD))
theorem hs_77 (h60 : z0 = 0 → x6 = -1) (h61 : ¬ z0 = 0 → x6 = -3) (h70 : z0 = 0 → x7 = -1) (h71 : ¬ z0 = 0 → x7 = -3) (h8 : x8 = 0) (h11 : x11 = 1) (hp : post 1 ()) (hA : ¬ (¬ z0 = 0 ∧ hs_in x1) → x10 = -1) (hB : ¬ z0 = 0 → hs_in x1 → x10 = 0)
    (hC : hs_dk x4 → x9 = 0) (hD : ¬ hs_dk x4 → x9 = -1) : wL_lawOf_77 post mc ms x1 x4 x6 x7 x8 x9 x10 x11 z0 kc ks :=
  br_c (fun a => hs_92 (h60 a) h70 h71 h8 h11 hp hA hB hC hD) (fun a => hs_92 (h61 a) h70 h71 h8 h11 hp hA hB hC hD)
theorem hs_76 (h6 : x6 = -1) (h7 : x7 = -1) (h8 : x8 = 0) (h10 : x10 = -1) (h11 : x11 = 1) (hp : post 1 ())
    (hC : hs_dk x4 → x9 = 0) (hD : ¬ hs_dk x4 → x9 = -1) : wL_lawOf_76 post mc ms x1 x4 x6 x7 x8 x9 x10 x11 kc ks :=
  hs_77 (fun _ => h6) (fun z => absurd rfl z) (fun _ => h7) (fun z => absurd rfl z) h8 h11 hp (fun _ => h10) (fun z => absurd rfl z) hC hD
theorem hs_end {p0 : Int32} (h6 : hs_in p0 → x6 = -3) (g6 : ¬ hs_in p0 → x6 = -1) (h7 : hs_in p0 → x7 = -3) (g7 : ¬ hs_in p0 → x7 = -1) (h8 : x8 = 0)
    (h10 : hs_in p0 → hs_in x1 → x10 = 0) (g10 : ¬ (hs_in p0 ∧ hs_in x1) → x10 = -1) (h11 : x11 = 1) (hp : post 1 ()) (hC : hs_dk x4 → x9 = 0) (hD : ¬ hs_dk x4 → x9 = -1) :
    (p0 < 0 → wL_lawOf_76 post mc ms x1 x4 x6 x7 x8 x9 x10 x11 kc ks) ∧ (¬ p0 < 0 → ((7 < p0 → wL_lawOf_76 post mc ms x1 x4 x6 x7 x8 x9 x10 x11 kc ks) ∧ (¬ 7 < p0 → wL_lawOf_77 post mc ms x1 x4 x6 x7 x8 x9 x10 x11 1 kc ks))) := by
  have out : ¬ hs_in p0 → wL_lawOf_76 post mc ms x1 x4 x6 x7 x8 x9 x10 x11 kc ks :=
    fun k => hs_76 (g6 k) (g7 k) h8 (g10 (fun q => k q.1)) h11 hp hC hD
  refine br_c (fun a => out (fun q => q.1 a)) (fun a => br_c (fun b => out (fun q => (hs_8 _).mp q.2 b)) (fun b => ?_))
  have k : hs_in p0 := ⟨a, (hs_8 _).mpr b⟩
  have e1 : ¬ (1 : Int32) = 0 := by decide
  exact hs_77 (fun z => absurd z e1) (fun _ => h6 k) (fun z => absurd z e1) (fun _ => h7 k) h8 h11 hp
    (fun q => g10 (fun w => q ⟨e1, w.2⟩)) (fun _ q => h10 k q) hC hD
theorem hs_lawOf {p0 p1 p2 p3 p4 : Int32} (hp : post 1 ()) : wpL_lawOf post 96 1536 () p0 p1 p2 p3 p4 := by
  unfold wpL_lawOf
  refine ⟨by omega, by omega, 95, 1525, by omega, by omega, ?_⟩
  refine ⟨by omega, by omega, by omega, by omega, by omega, by omega, by omega, by omega, by omega, by omega, by omega, by omega, by omega, by omega, by omega, by omega, ?_⟩
  refine hs_damage (fun _ => rfl) (fun r1 h6 g6 => ?_)
  refine hs_put rfl (fun r2 h7 g7 => ?_)
  refine hs_read (fun _ => rfl) ?_
  refine hs_lose (fun _ => rfl) (fun r4 a hC hD => ?_)
  refine hs_copy (fun _ => rfl) (fun r5 h10 g10 => ?_)
  refine hs_draft rfl (fun d' a' => ?_)
  exact hs_end h6 g6 h7 g7 rfl h10 g10 rfl hp hC hD
end
theorem i_vc (xs : Nat → Int32) (L : Nat) (hL : L ≤ 5) : wpL_law (fun r => r = 1) L xs := by
  unfold wpL_law
  refine hs_cell 0 rfl (by omega) hL (fun r1 => ?_)
  refine hs_cell 1 rfl (by omega) hL (fun r2 => ?_)
  refine hs_cell 2 rfl (by omega) hL (fun r3 => ?_)
  refine hs_cell 3 rfl (by omega) hL (fun r4 => ?_)
  refine hs_cell 4 rfl (by omega) hL (fun r5 => ?_)
  exact ⟨96, 1536, by omega, by omega, hs_lawOf rfl⟩
end
