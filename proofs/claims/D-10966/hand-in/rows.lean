section
/-! ===== the pure picture ===== -/
/-- startPoints over the first k points -/
def gp_S : Nat → Int32
  | 0 => 0
  | k + 1 => gp_S k ||| (nI k <<< ((3 * nI k) &&& 31))
/-- what point p has become -/
def gp_P (x p : Int32) : Int32 := (x >>> ((3 * p) &&& 31)) &&& 7
/-- joined over the first k points -/
def gp_J (x lo hi : Int32) : Nat → Int32
  | 0 => 0
  | k + 1 => gp_J x lo hi k ||| ((if gp_P x (nI k) = hi then lo else gp_P x (nI k)) <<< ((3 * nI k) &&& 31))
/-- the points among the first k that are still themselves -/
def gp_C (x : Int32) : Nat → Int32
  | 0 => 0
  | k + 1 => if gp_P x (nI k) = nI k then gp_C x k + 1 else gp_C x k
/-- powers -/
def gp_pw (y p : Int32) : Nat → Int32
  | 0 => p
  | j + 1 => gp_pw y p j * y
/-- valueAt's inner sum over row i, of the polynomial that has the one term d -/
def gp_rs (d : Nat) (y : Int32) (i : Nat) (s p : Int32) : Nat → Int32
  | 0 => s
  | j + 1 => gp_rs d y i s p j + (if 9 * i + j = d then 1 else 0) * gp_pw y p j
/-- valueAt's sum over the first i rows -/
def gp_V (d : Nat) (x y : Int32) : Nat → Int32
  | 0 => 0
  | i + 1 => gp_rs d y i (gp_V d x y i) (gp_pw x 1 i) 9
/-- the kinds of graph: no edge (d = 0), one loop (d = 1), one edge (d = 9); d is the place of the one term of the polynomial -/
def gp_K (c d : Nat) (f1 : Int32) (a1 a2 : Nat → Int32) : Prop :=
  (d = 0 ∧ f1 = 0) ∨ (f1 = 1 ∧ ∃ u v : Nat, u < c ∧ v < c ∧ a1 0 = nI u ∧ a2 0 = nI v ∧ ((u = v ∧ d = 1) ∨ (u ≠ v ∧ d = 9)))
/-- the terms hold x^(d/9) y^(d%9) -/
def gp_T (d : Nat) (a : Nat → Int32) : Prop := ∀ j, j < 81 → a j = if j = d then 1 else 0
/-- not ready, or the terms stand -/
def gp_R (d : Nat) (f2 : Int32) (a : Nat → Int32) : Prop := f2 = 0 ∨ (f2 = 1 ∧ gp_T d a)
theorem gp_SP : ∀ c, c < 7 → ∀ u, u < c → gp_P (gp_S c) (nI u) = nI u := by decide +kernel
theorem gp_CS : ∀ c, c < 7 → gp_C (gp_S c) c = nI c := by decide +kernel
theorem gp_CJ : ∀ c, c < 7 → ∀ u, u < c → ∀ v, v < c → u ≠ v → gp_C (gp_J (gp_S c) (nI (min u v)) (nI (max u v)) c) c = nI (c - 1) := by decide +kernel
theorem gp_b8 : ∀ u, u < 6 → (nI u).toInt8.toInt32 = nI u := by decide +kernel
theorem gp_ix (i j : Nat) : 9 * nI i + nI j = nI (9 * i + j) := by
  show nI 9 * nI i + nI j = _
  rw [pk_mul, nI_add]
/-! ===== the methods that change nothing ===== -/
section
variable {post : Int32 → Prop} {c : Nat} {f1 f2 f3 : Int32} {a1 a2 a3 a4 a5 a6 a7 : Nat → Int32}
theorem gp_start (hc : c ≤ 6) (H : post (gp_S c)) : wpX_startPoints post (nI c, f1, f2, f3, a1, a2, a3, a4, a5, a6, a7) :=
  pk_loop (fun n i s => wX_startPoints_4 post (nI c) f1 f2 f3 a1 a2 a3 a4 a5 a6 a7 n s (nI i)) (fun i s => s = gp_S i) c 0 0 (by omega) rfl
    (fun n s h => pk_le c c (fun _ => h ▸ H) (fun z => absurd z (by omega)))
    (fun n i s hi h hw => pk_le c i (fun z => absurd z (by omega)) (fun _ => nm_e (nm_r (nI_1 i) (hw _ (by rw [h]; rfl)))))
theorem gp_po {f0 x p : Int32} (H : post (gp_P x p)) : wpX_pointOf post (f0, f1, f2, f3, a1, a2, a3, a4, a5, a6, a7) x p := H
theorem gp_j30 {x lo hi : Int32} (hc : c ≤ 6) (H : post (gp_J x lo hi c)) : ∃ n, wX_joined_30 post x lo hi (nI c) f1 f2 f3 a1 a2 a3 a4 a5 a6 a7 n 0 0 := by
  refine pk_loop (fun n i s => wX_joined_30 post x lo hi (nI c) f1 f2 f3 a1 a2 a3 a4 a5 a6 a7 n s (nI i)) (fun i s => s = gp_J x lo hi i) c 0 0 (by omega) rfl
    (fun n s h => pk_le c c (fun _ => h ▸ H) (fun z => absurd z (by omega))) ?_
  intro n i s hi' h hw
  refine pk_le c i (fun z => absurd z (by omega)) (fun _ x8 e8 => ?_)
  have e8' : x8 = gp_P x (nI i) := e8
  subst h
  refine br_c (fun t => ?_) (fun t => ?_)
  · refine nm_e (nm_r (nI_1 i) (hw _ ?_))
    show _ = gp_J x lo hi i ||| ((if gp_P x (nI i) = hi then lo else gp_P x (nI i)) <<< ((3 * nI i) &&& 31))
    rw [if_pos (by rw [← e8']; exact t)]
  · refine nm_e (nm_r (nI_1 i) (hw _ ?_))
    show _ = gp_J x lo hi i ||| ((if gp_P x (nI i) = hi then lo else gp_P x (nI i)) <<< ((3 * nI i) &&& 31))
    rw [if_neg (by rw [← e8']; exact t), e8']
theorem gp_joined {x a b : Int32} {u v : Nat} (hc : c ≤ 6) (hu : u < 6) (hv : v < 6) (ha : a = nI u) (hb : b = nI v) (H : post (gp_J x (nI (min u v)) (nI (max u v)) c)) : wpX_joined post (nI c, f1, f2, f3, a1, a2, a3, a4, a5, a6, a7) x a b := by
  subst ha hb
  by_cases h : v ≤ u
  · rw [Nat.min_eq_right h, Nat.max_eq_left h] at H
    exact br_t (nI_le h (by omega)) (br_t (nI_le h (by omega)) (gp_j30 hc H))
  · rw [Nat.min_eq_left (by omega), Nat.max_eq_right (by omega)] at H
    exact br_f (nI_ge (by omega) (by omega)) (br_f (nI_ge (by omega) (by omega)) (gp_j30 hc H))
/-- no edge at all -/
theorem gp_dt0 {m x : Int32} (H : post x) : wpX_drawnTogether post (nI c, 0, f2, f3, a1, a2, a3, a4, a5, a6, a7) m x :=
  ⟨1, br_t (by decide) H⟩
/-- one edge, not among those drawn -/
theorem gp_dtN {x : Int32} (H : post x) : wpX_drawnTogether post (nI c, 1, f2, f3, a1, a2, a3, a4, a5, a6, a7) 0 x :=
  ⟨2, br_f (by decide) (br_t (by decide) (nm_e (br_t (by decide) H)))⟩
/-- one edge, drawn together -/
theorem gp_dt1 {m x : Int32} {u v : Nat} (hm : m = 1) (hc : c ≤ 6) (hu : u < 6) (hv : v < 6) (hA : gp_P x (a1 (0 : Int32).toNatClampNeg) = nI u) (hB : gp_P x (a2 (0 : Int32).toNatClampNeg) = nI v) (H : post (if u = v then x else gp_J x (nI (min u v)) (nI (max u v)) c)) : wpX_drawnTogether post (nI c, 1, f2, f3, a1, a2, a3, a4, a5, a6, a7) m x := by
  subst hm
  refine ⟨2, br_f (by decide) (br_f (by decide) ⟨pk_in 0 8 (by omega), gp_po ⟨pk_in 0 8 (by omega), gp_po ?_⟩⟩)⟩
  rw [hA, hB]
  refine pk_eq u v (fun z => nm_e (br_t (by decide) ?_)) (fun z => gp_joined hc hu hv rfl rfl (nm_e (br_t (by decide) ?_)))
  · rw [if_pos z] at H
    exact H
  · rw [if_neg z] at H
    exact H
theorem gp_p23 {x : Int32} (hc : c ≤ 6) (H : post (gp_C x c)) : ∃ n, wX_parts_23 post x (nI c) f1 f2 f3 a1 a2 a3 a4 a5 a6 a7 n 0 0 := by
  refine pk_loop (fun n i s => wX_parts_23 post x (nI c) f1 f2 f3 a1 a2 a3 a4 a5 a6 a7 n s (nI i)) (fun i s => s = gp_C x i) c 0 0 (by omega) rfl
    (fun n s h => pk_le c c (fun _ => h ▸ H) (fun z => absurd z (by omega))) ?_
  intro n i s hi' h hw
  subst h
  refine pk_le c i (fun z => absurd z (by omega)) (fun _ => br_c (fun t => nm_e (nm_r (nI_1 i) (hw _ ?_))) (fun t => nm_r (nI_1 i) (hw _ ?_)))
  · show _ = if gp_P x (nI i) = nI i then gp_C x i + 1 else gp_C x i
    exact (if_pos (show gp_P x (nI i) = nI i from t)).symm
  · show _ = if gp_P x (nI i) = nI i then gp_C x i + 1 else gp_C x i
    exact (if_neg (show ¬ gp_P x (nI i) = nI i from t)).symm
theorem gp_ends {x : Int32} {u : Nat} {a : Nat → Int32} (h : a 0 = nI u) (hp : gp_P x (nI u) = nI u) : gp_P x (a (0 : Int32).toNatClampNeg) = nI u := by
  rw [sb_cl0, h, hp]
theorem gp_parts {d : Nat} (hc : c ≤ 6) (K : gp_K c d f1 a1 a2) (H : post (if d = 9 then nI (c - 1) else nI c)) : wpX_parts post (nI c, f1, f2, f3, a1, a2, a3, a4, a5, a6, a7) := by
  refine gp_start hc ?_
  rcases K with ⟨rfl, rfl⟩ | ⟨rfl, u, v, hu, hv, h1, h2, hk⟩
  · refine gp_dt0 (gp_p23 hc ?_)
    rw [gp_CS c (by omega)]
    exact H
  · refine gp_dt1 (by decide) hc (by omega) (by omega) (gp_ends h1 (gp_SP c (by omega) u hu)) (gp_ends h2 (gp_SP c (by omega) v hv)) (gp_p23 hc ?_)
    rcases hk with ⟨z, rfl⟩ | ⟨z, rfl⟩
    · rw [if_pos z, gp_CS c (by omega)]
      exact H
    · rw [if_neg z, gp_CJ c (by omega) u hu v hv z]
      exact H
end
end
section
/-! ===== the polynomial ===== -/
section
variable {post : St2 → Prop} {c : Nat} {f0 f1 f2 f3 : Int32} {a1 a2 a3 a4 a5 a6 a7 : Nat → Int32}
theorem gp_push {w : Nat} {p0 p1 p2 p3 : Int32} (hw : w < 12) (H : post (f0, f1, f2, nI (w + 1), a1, a2, a3, upd a4 w p0.toInt16.toInt32, upd a5 w p1, upd a6 w p2.toInt8.toInt32, upd a7 w p3.toInt8.toInt32)) : wpX_push post (f0, f1, f2, nI w, a1, a2, a3, a4, a5, a6, a7) p0 p1 p2 p3 := by
  have e : (nI w).toNatClampNeg = w := nI_clamp (by omega)
  have hi : vp_in (nI w) 12 := vp_in_nI hw (by omega)
  exact ⟨hi, nm_r (by rw [e]) ⟨hi, nm_r (by rw [e]) ⟨hi, nm_r (by rw [e]) ⟨hi, nm_r (by rw [e]) (nm_r (nI_1 w) H)⟩⟩⟩⟩
/-- a graph without edges left: its term is counted -/
theorem gp_wo0 {p0 p1 p2 p3 : Int32} {k : Nat} (h0 : p0 = 0) (hk : k < 81) (e : 9 * p2 + p3 = nI k) (H : post (f0, f1, f2, f3, a1, a2, upd a3 k (a3 k + 1), a4, a5, a6, a7)) : wpX_workOff post (f0, f1, f2, f3, a1, a2, a3, a4, a5, a6, a7) p0 p1 p2 p3 := by
  refine br_t h0 ?_
  rw [e, nI_clamp (by omega)]
  exact ⟨pk_in k 81 hk, pk_in k 81 hk, nm_e H⟩
/-- a graph with the one edge left -/
theorem gp_wo1 {p0 p1 p2 p3 : Int32} {u v : Nat} (h0 : p0 = 1) (hp : p1 = gp_S c) (h2 : p2 = 0) (h3 : p3 = 0) (hc : c ≤ 6) (hu : u < c) (hv : v < c) (h1 : a1 0 = nI u) (h1' : a2 0 = nI v)
    (HL : u = v → post (nI c, 1, f2, nI 1, a1, a2, a3, upd a4 0 0, upd a5 0 (gp_S c), upd a6 0 0, upd a7 0 1))
    (HE : u ≠ v → ∀ x, post (nI c, 1, f2, nI 1, a1, a2, a3, upd a4 0 0, upd a5 0 x, upd a6 0 1, upd a7 0 0)) :
    wpX_workOff post (nI c, 1, f2, nI 0, a1, a2, a3, a4, a5, a6, a7) p0 p1 p2 p3 := by
  subst h0 hp h2 h3
  have hA := gp_ends h1 (gp_SP c (by omega) u hu)
  have hB := gp_ends h1' (gp_SP c (by omega) v hv)
  refine br_f (by decide) ⟨1, br_f (by decide) (nm_r (e' := (0 : Int32)) (by decide) ⟨pk_in 0 8 (by omega), gp_po ⟨pk_in 0 8 (by omega), gp_po ?_⟩⟩)⟩
  rw [hA, hB]
  refine pk_eq u v (fun z => gp_push (by omega) (HL z)) (fun z => gp_joined hc (by omega) (by omega) rfl rfl (gp_dtN ⟨pk_in 0 8 (by omega), gp_po ⟨pk_in 0 8 (by omega), gp_po ?_⟩⟩))
  rw [hA, hB]
  exact pk_eq u v (fun y => absurd y z) (fun _ => gp_push (by omega) (HE z _))
/-- the last turn and the end -/
theorem gp_last {d p q : Nat} (hd : d < 81) (he : 9 * p + q = d) (h4 : a4 0 = 0) (h6 : a6 0 = nI p) (h7 : a7 0 = nI q) (H : post (f0, f1, f2, nI 0, a1, a2, upd a3 d (a3 d + 1), a4, a5, a6, a7)) : wX_findPolynomial_59 post 2 f0 f1 f2 (nI 1) a1 a2 a3 a4 a5 a6 a7 := by
  refine br_f (by decide) (nm_r (e' := nI 0) (by decide) ⟨pk_in 0 12 (by omega), pk_in 0 12 (by omega), pk_in 0 12 (by omega), pk_in 0 12 (by omega), ?_⟩)
  rw [nI_clamp (show 0 < 2 ^ 31 by omega)]
  refine gp_wo0 h4 hd ?_ (br_t (by decide) H)
  rw [h6, h7, gp_ix, he]
theorem gp_one {d : Nat} (hd : d < 81) {a : Nat → Int32} (h : ∀ j, j < 81 → a j = 0) : gp_T d (upd a d (a d + 1)) := by
  intro j hj
  by_cases e : j = d
  · rw [e, pk_us, if_pos rfl, h d hd]
    rfl
  · rw [pk_un e, if_neg e]
    exact h j hj
theorem gp_find {d : Nat} (hc : c ≤ 6) (K : gp_K c d f1 a1 a2) (R : gp_R d f2 a3) (H : ∀ (g : Int32) (b3 b4 b5 b6 b7 : Nat → Int32), gp_T d b3 → post (nI c, f1, 1, g, a1, a2, b3, b4, b5, b6, b7)) : wpX_findPolynomial post (nI c, f1, f2, f3, a1, a2, a3, a4, a5, a6, a7) := by
  rcases R with rfl | ⟨rfl, hT⟩
  · refine br_t rfl ?_
    refine pk_loop (fun n i s => wX_findPolynomial_15 post (nI c) f1 1 f3 n (nI i) a1 a2 s a4 a5 a6 a7) (fun i s => ∀ j, j < i → s j = 0) 81 0 a3 (by omega) (fun j hj => absurd hj (by omega)) ?_ ?_
    · intro n s hs
      refine pk_le 81 81 (fun _ => gp_start hc (gp_push (w := 0) (by omega) ?_)) (fun z => absurd z (by omega))
      rcases K with ⟨rfl, rfl⟩ | ⟨rfl, u, v, hu, hv, h1, h2, hk⟩
      · exact ⟨2, gp_last (d := 0) (p := 0) (q := 0) (by omega) (by omega) (by rw [pk_us]; decide) (by rw [pk_us]; decide) (by rw [pk_us]; decide) (H _ _ _ _ _ _ (gp_one (by omega) hs))⟩
      · refine ⟨3, br_f (by decide) (nm_r (e' := nI 0) (by decide) ⟨pk_in 0 12 (by omega), pk_in 0 12 (by omega), pk_in 0 12 (by omega), pk_in 0 12 (by omega), ?_⟩)⟩
        rw [nI_clamp (show 0 < 2 ^ 31 by omega)]
        refine gp_wo1 (u := u) (v := v) (by rw [pk_us]; decide) (by rw [pk_us]) (by rw [pk_us]; decide) (by rw [pk_us]; decide) hc hu hv h1 h2 (fun z => ?_) (fun z x => ?_)
        · rcases hk with ⟨_, rfl⟩ | ⟨y, _⟩
          · exact gp_last (d := 1) (p := 0) (q := 1) (by omega) (by omega) (by rw [pk_us]) (by rw [pk_us]; decide) (by rw [pk_us]; decide) (H _ _ _ _ _ _ (gp_one (by omega) hs))
          · exact absurd z y
        · rcases hk with ⟨y, _⟩ | ⟨_, rfl⟩
          · exact absurd y z
          · exact gp_last (d := 9) (p := 1) (q := 0) (by omega) (by omega) (by rw [pk_us]) (by rw [pk_us]; decide) (by rw [pk_us]; decide) (H _ _ _ _ _ _ (gp_one (by omega) hs))
    · intro n i s hi h hw
      refine pk_le 81 i (fun z => absurd z (by omega)) (fun _ => ⟨pk_in i 81 hi, nm_e (nm_r (nI_1 i) (hw _ ?_))⟩)
      intro j hj
      rw [nI_clamp (by omega)]
      by_cases e : j = i
      · rw [e, pk_us]
      · rw [pk_un e]
        exact h j (by omega)
  · exact br_f (by decide) (H _ _ _ _ _ _ hT)
end
/-! ===== its answers ===== -/
section
variable {post : Int32 → St2 → Prop} {c : Nat} {f0 f1 f2 f3 : Int32} {a1 a2 a3 a4 a5 a6 a7 : Nat → Int32}
theorem gp_K_d {d : Nat} (K : gp_K c d f1 a1 a2) : d = 0 ∨ d = 1 ∨ d = 9 := by
  rcases K with ⟨h, _⟩ | ⟨_, _, _, _, _, _, _, ⟨_, h⟩ | ⟨_, h⟩⟩
  · exact Or.inl h
  · exact Or.inr (Or.inl h)
  · exact Or.inr (Or.inr h)
theorem gp_coef {d : Nat} {x y : Int32} (hc : c ≤ 6) (K : gp_K c d f1 a1 a2) (R : gp_R d f2 a3) (H : ∀ (e g : Int32) (b3 b4 b5 b6 b7 : Nat → Int32), gp_R d e b3 → post (if x = nI (d / 9) ∧ y = nI (d % 9) then 1 else 0) (nI c, f1, e, g, a1, a2, b3, b4, b5, b6, b7)) : wpX_coefficient post (nI c, f1, f2, f3, a1, a2, a3, a4, a5, a6, a7) x y := by
  have hd := gp_K_d K
  have out : (x < 0 ∨ 8 < x ∨ y < 0 ∨ 8 < y) → post 0 (nI c, f1, f2, f3, a1, a2, a3, a4, a5, a6, a7) := by
    intro o
    have h := H f2 f3 a3 a4 a5 a6 a7 R
    rw [if_neg] at h
    · exact h
    · rintro ⟨rfl, rfl⟩
      rcases hd with rfl | rfl | rfl <;> revert o <;> decide
  refine br_c (fun h => out (Or.inl h)) (fun h1 => br_c (fun h => out (Or.inr (Or.inl h))) (fun h2 => br_c (fun h => out (Or.inr (Or.inr (Or.inl h)))) (fun h3 => br_c (fun h4 => ?_) (fun h => out (Or.inr (Or.inr (Or.inr (Int32.not_le.mp h))))))))
  obtain ⟨i, hi, rfl⟩ := nI_of2 (M := 8) (n := 8) (by decide) h1 (Int32.not_lt.mp h2)
  obtain ⟨j, hj, rfl⟩ := nI_of2 (M := 8) (n := 8) (by decide) h3 h4
  refine gp_find hc K R (fun g b3 b4 b5 b6 b7 hT => ⟨pk_in (9 * i + j) 81 (by omega) (gp_ix i j), ?_⟩)
  have h := H 1 g b3 b4 b5 b6 b7 (Or.inr ⟨rfl, hT⟩)
  rw [gp_ix, nI_clamp (by omega), hT _ (by omega)]
  have e : (nI i = nI (d / 9) ∧ nI j = nI (d % 9)) ↔ 9 * i + j = d := by
    rw [nI_eq (by omega) (by omega), nI_eq (by omega) (by omega)]
    omega
  by_cases z : 9 * i + j = d
  · rw [if_pos (e.mpr z)] at h
    rw [if_pos z]
    exact h
  · rw [if_neg (fun y => z (e.mp y))] at h
    rw [if_neg z]
    exact h
theorem gp_v26 {J : Int32 → Int32 → Int32 → Prop} {d i : Nat} {x y p s : Int32} (hi : i < 9) (hT : gp_T d a3) (H : J (gp_rs d y i s p 9) (p * x) (nI (i + 1))) : ∃ n, wX_valueAt_26 post J x y p (nI i) f0 f1 f2 f3 a1 a2 a3 a4 a5 a6 a7 n s p 0 := by
  refine pk_loop (σ := Int32 × Int32) (fun n j t => wX_valueAt_26 post J x y p (nI i) f0 f1 f2 f3 a1 a2 a3 a4 a5 a6 a7 n t.1 t.2 (nI j)) (fun j t => t = (gp_rs d y i s p j, gp_pw y p j)) 9 0 (s, p) (by omega) rfl ?_ ?_
  · rintro n _ rfl
    exact pk_le 9 9 (fun _ => nm_e (nm_r (nI_1 i) H)) (fun z => absurd z (by omega))
  · rintro n j _ hj rfl hw
    refine pk_le 9 j (fun z => absurd z (by omega)) (fun _ => ⟨pk_in (9 * i + j) 81 (by omega) (gp_ix i j), nm_e (nm_e (nm_r (nI_1 j) ?_))⟩)
    have h := hw (gp_rs d y i s p j + a3 (9 * nI i + nI j).toNatClampNeg * gp_pw y p j, gp_pw y p j * y) (by
      rw [gp_ix, nI_clamp (by omega), hT _ (by omega)]
      rfl)
    exact h
theorem gp_v12 {d : Nat} {x y : Int32} (hT : gp_T d a3) (H : post (gp_V d x y 9) (f0, f1, f2, f3, a1, a2, a3, a4, a5, a6, a7)) : ∃ n, wX_valueAt_12 post x y f0 f1 f2 f3 a1 a2 a3 a4 a5 a6 a7 n 0 1 0 := by
  refine pk_loop (σ := Int32 × Int32) (fun n i t => wX_valueAt_12 post x y f0 f1 f2 f3 a1 a2 a3 a4 a5 a6 a7 n t.1 t.2 (nI i)) (fun i t => t = (gp_V d x y i, gp_pw x 1 i)) 9 0 (0, 1) (by omega) rfl ?_ ?_
  · rintro n _ rfl
    exact pk_le 9 9 (fun _ => H) (fun z => absurd z (by omega))
  · rintro n i _ hi rfl hw
    exact pk_le 9 i (fun z => absurd z (by omega)) (fun _ => gp_v26 hi hT (hw (gp_V d x y (i + 1), gp_pw x 1 (i + 1)) rfl))
theorem gp_value {d : Nat} {x y : Int32} (hc : c ≤ 6) (K : gp_K c d f1 a1 a2) (R : gp_R d f2 a3) (H : ∀ (g : Int32) (b3 b4 b5 b6 b7 : Nat → Int32), gp_R d 1 b3 → post (gp_V d x y 9) (nI c, f1, 1, g, a1, a2, b3, b4, b5, b6, b7)) : wpX_valueAt post (nI c, f1, f2, f3, a1, a2, a3, a4, a5, a6, a7) x y :=
  gp_find hc K R (fun g b3 b4 b5 b6 b7 hT => gp_v12 hT (H g b3 b4 b5 b6 b7 (Or.inr ⟨rfl, hT⟩)))
theorem gp_V00 : ∀ k, k < 5 → gp_V 0 0 (1 - nI k) 9 = 1 := by decide +kernel
theorem gp_V01 : ∀ k, k < 5 → gp_V 1 0 (1 - nI k) 9 = 1 - nI k := by decide +kernel
theorem gp_V09 : ∀ k, k < 5 → gp_V 9 0 (1 - nI k) 9 = 0 := by decide +kernel
theorem gp_V2 : gp_V 0 2 0 9 = 1 ∧ gp_V 1 2 0 9 = 0 ∧ gp_V 9 2 0 9 = 2 := by decide +kernel
theorem gp_acyclic {d : Nat} (hc : c ≤ 6) (K : gp_K c d f1 a1 a2) (R : gp_R d f2 a3) (H : ∀ (g : Int32) (b3 b4 b5 b6 b7 : Nat → Int32), gp_R d 1 b3 → post (if d = 1 then 0 else if d = 9 then 2 else 1) (nI c, f1, 1, g, a1, a2, b3, b4, b5, b6, b7)) : wpX_acyclic post (nI c, f1, f2, f3, a1, a2, a3, a4, a5, a6, a7) := by
  refine gp_value hc K R (fun g b3 b4 b5 b6 b7 R' => ?_)
  have h := H g b3 b4 b5 b6 b7 R'
  rcases gp_K_d K with rfl | rfl | rfl
  · rw [gp_V2.1]; exact h
  · rw [gp_V2.2.1]; exact h
  · rw [gp_V2.2.2]; exact h
theorem gp_sgn0 : ∀ c, c < 7 → ((((0 : Int32) - nI c) + nI c) &&& 1) = 0 := by decide +kernel
theorem gp_sgn1 : ∀ c, c < 7 → ¬ ((((1 : Int32) - nI c) + nI c) &&& 1) = 0 := by decide +kernel
theorem gp_sgn9 : ∀ c, c < 7 → 0 < c → ((((1 : Int32) - nI c) + nI (c - 1)) &&& 1) = 0 := by decide +kernel
theorem gp_neg : ∀ k, k < 5 → -(1 - nI k) = nI k - 1 := by decide +kernel
theorem gp_flows {d : Nat} {k : Int32} (hc : c ≤ 6) (K : gp_K c d f1 a1 a2) (R : gp_R d f2 a3) (H : ∀ (e g : Int32) (b3 b4 b5 b6 b7 : Nat → Int32), gp_R d e b3 → post (if k < 1 ∨ ¬ k ≤ 4 then -1 else if d = 9 then 0 else if d = 1 then k - 1 else 1) (nI c, f1, e, g, a1, a2, b3, b4, b5, b6, b7)) : wpX_flows post (nI c, f1, f2, f3, a1, a2, a3, a4, a5, a6, a7) k := by
  have out : (k < 1 ∨ ¬ k ≤ 4) → post (-1) (nI c, f1, f2, f3, a1, a2, a3, a4, a5, a6, a7) := by
    intro o
    have h := H f2 f3 a3 a4 a5 a6 a7 R
    rw [if_pos o] at h
    exact h
  refine br_c (fun h => out (Or.inl h)) (fun h1 => br_c (fun h2 => ?_) (fun h => out (Or.inr h)))
  have hk0 : ¬ k < 0 := by
    intro z
    rw [Int32.lt_iff_toInt_lt] at h1 z
    have e1 : (1 : Int32).toInt = 1 := by decide
    have e0 : (0 : Int32).toInt = 0 := by decide
    omega
  have hin : ¬ (k < 1 ∨ ¬ k ≤ 4) := fun z => z.elim h1 (fun y => y h2)
  obtain ⟨j, hj, rfl⟩ := nI_of2 (M := 4) (n := 4) (by decide) hk0 h2
  refine gp_parts hc K (gp_value hc K R (fun g b3 b4 b5 b6 b7 R' => ?_))
  have h := H 1 g b3 b4 b5 b6 b7 R'
  rw [if_neg hin] at h
  rcases K with ⟨rfl, rfl⟩ | ⟨rfl, u, v, hu, hv, _, _, ⟨_, rfl⟩ | ⟨_, rfl⟩⟩
  · refine br_t (gp_sgn0 c (by omega)) ?_
    rw [gp_V00 j (by omega)]
    exact h
  · refine br_f (gp_sgn1 c (by omega)) ?_
    rw [gp_V01 j (by omega), gp_neg j (by omega)]
    exact h
  · refine br_t (gp_sgn9 c (by omega) (by omega)) ?_
    rw [gp_V09 j (by omega)]
    exact h
theorem gp_merge {d : Nat} {k : Int32} (K : gp_K c d f1 a1 a2) (H : ∀ s : St2, post (if d ≠ 0 ∧ k = 0 then 0 else -1) s) : wpX_merge post (nI c, f1, f2, f3, a1, a2, a3, a4, a5, a6, a7) k := by
  have out : ¬ (d ≠ 0 ∧ k = 0) → ∀ s, post (-1) s := by
    intro o s
    have h := H s
    rw [if_neg o] at h
    exact h
  refine br_c (fun h => out (fun z => absurd h (by rw [z.2]; decide)) _) (fun h1 => ?_)
  rcases K with ⟨rfl, rfl⟩ | ⟨rfl, u, v, hu, hv, _, _, hk⟩
  · exact br_f h1 (out (fun z => z.1 rfl) _)
  · refine br_c (fun h2 => ?_) (fun h2 => out (fun z => h2 (by rw [z.2]; decide)) _)
    have e : k = 0 := by
      obtain ⟨j, hj, rfl⟩ := nI_of h1
      have h2' : nI j < nI 1 := h2
      rw [nI_ltI hj (by omega)] at h2'
      have : j = 0 := by omega
      rw [this, nI_0]
    subst e
    have hd : d ≠ 0 := by rcases hk with ⟨_, h⟩ | ⟨_, h⟩ <;> omega
    have ok : ∀ s, post 0 s := by
      intro s
      have h := H s
      rw [if_pos ⟨hd, rfl⟩] at h
      exact h
    have m50 : ∀ x4 z0, wX_merge_50 post 0 x4 z0 (nI c) 1 f2 f3 a1 a2 a3 a4 a5 a6 a7 := by
      intro x4 z0
      exact br_f (by decide) (br_t (by decide) (nm_r (e' := (0 : Int32)) (by decide) ⟨1, br_t (by decide) ⟨1, br_t (by decide) (ok _)⟩⟩))
    refine ⟨pk_in 0 8 (by omega), fun x2 _ => ⟨pk_in 0 8 (by omega), fun x3 _ => ?_⟩⟩
    exact br_c (fun _ => br_c (fun _ => m50 _ _) (fun _ => m50 _ _)) (fun _ => br_c (fun _ => m50 _ _) (fun _ => m50 _ _))
end
end
section
/-! ===== the law, from its last check up ===== -/
/-- the law's put, loop and edge, by the kind of graph -/
def gp_7 (d : Nat) : Int32 := if d = 0 then 0 else 1
def gp_8 (d : Nat) : Int32 := if d = 1 then 1 else 0
def gp_9 (d : Nat) : Int32 := if d = 9 then 1 else 0
section
variable {post : Int32 → St0 → Prop} {mc ms kc ks : Nat} {c d : Nat} {f1 f2 f3 : Int32} {a1 a2 a3 a4 a5 a6 a7 : Nat → Int32} {k i j z0 z1 : Int32}
theorem gp_312 (hp : post 1 ()) (h : z1 = z0) : wL_lawOf_312 post mc ms z0 z1 kc ks := br_t h hp
theorem gp_287 (hp : post 1 ()) (h : z1 = z0) (K : gp_K c d f1 a1 a2) : wL_lawOf_287 post mc ms k (gp_7 d) z0 z1 kc ks (nI c) f1 f2 f3 a1 a2 a3 a4 a5 a6 a7 := by
  refine br_t h (gp_merge K (fun s => ?_))
  rcases gp_K_d K with rfl | rfl | rfl
  · exact br_t rfl (gp_312 hp rfl)
  · refine br_f (by decide) (br_c (fun z => ?_) (fun z => ?_))
    · rw [if_pos ⟨by omega, z⟩]
      exact gp_312 hp rfl
    · rw [if_neg (fun y => z y.2)]
      exact gp_312 hp rfl
  · refine br_f (by decide) (br_c (fun z => ?_) (fun z => ?_))
    · rw [if_pos ⟨by omega, z⟩]
      exact gp_312 hp rfl
    · rw [if_neg (fun y => z y.2)]
      exact gp_312 hp rfl
theorem gp_258 (hp : post 1 ()) (h : z1 = z0) (hc : c ≤ 6) (K : gp_K c d f1 a1 a2) (R : gp_R d f2 a3) : wL_lawOf_258 post mc ms k (gp_7 d) (gp_8 d) (gp_9 d) z0 z1 kc ks (nI c) f1 f2 f3 a1 a2 a3 a4 a5 a6 a7 := by
  refine br_t h (gp_acyclic hc K R (fun g b3 b4 b5 b6 b7 _ => ?_))
  rcases gp_K_d K with rfl | rfl | rfl
  · exact br_t rfl (br_t rfl (gp_287 hp rfl K))
  · exact br_f (by decide) (gp_287 hp rfl K)
  · exact br_t rfl (br_f (by decide) (gp_287 hp rfl K))
theorem gp_212 (hp : post 1 ()) (h : z1 = z0) (hc : c ≤ 6) (K : gp_K c d f1 a1 a2) (R : gp_R d f2 a3) : wL_lawOf_212 post mc ms k (gp_7 d) (gp_8 d) (gp_9 d) z0 z1 kc ks (nI c) f1 f2 f3 a1 a2 a3 a4 a5 a6 a7 := by
  refine br_t h (gp_flows hc K R (fun e g b3 b4 b5 b6 b7 R' => ?_))
  refine br_c (fun h1 => ?_) (fun h1 => br_c (fun h2 => ?_) (fun h2 => ?_))
  · rw [if_pos (Or.inl h1)]
    exact gp_258 hp rfl hc K R'
  · rw [if_neg (fun z => z.elim h1 (fun y => y h2))]
    rcases gp_K_d K with rfl | rfl | rfl
    · exact br_t rfl (br_t rfl (gp_258 hp rfl hc K R'))
    · exact br_t rfl (br_f (by decide) (gp_258 hp rfl hc K R'))
    · exact br_f (by decide) (gp_258 hp rfl hc K R')
  · rw [if_pos (Or.inr h2)]
    exact gp_258 hp rfl hc K R'
theorem gp_pred (h0 : 0 < c) : nI (c - 1) = nI c - 1 := by
  obtain ⟨m, rfl⟩ : ∃ m, c = m + 1 := ⟨c - 1, by omega⟩
  rw [nI_pred, Nat.add_sub_cancel]
theorem gp_188 (hp : post 1 ()) (h : z1 = z0) (h0 : 0 < c) (hc : c ≤ 6) (K : gp_K c d f1 a1 a2) (R : gp_R d f2 a3) : wL_lawOf_188 post mc ms k (nI c) (gp_7 d) (gp_8 d) (gp_9 d) z0 z1 kc ks (nI c) f1 f2 f3 a1 a2 a3 a4 a5 a6 a7 := by
  refine br_t h (gp_parts hc K ?_)
  rcases gp_K_d K with rfl | rfl | rfl
  · exact br_t rfl (gp_212 hp rfl hc K R)
  · exact br_t rfl (gp_212 hp rfl hc K R)
  · exact br_f (by decide) (gp_212 hp (gp_pred h0) hc K R)
theorem gp_111 (hp : post 1 ()) (h : z1 = z0) (h0 : 0 < c) (hc : c ≤ 6) (K : gp_K c d f1 a1 a2) (R : gp_R d f2 a3) : wL_lawOf_111 post mc ms k i j (nI c) (gp_7 d) (gp_8 d) (gp_9 d) z0 z1 kc ks (nI c) f1 f2 f3 a1 a2 a3 a4 a5 a6 a7 := by
  refine br_t h (gp_coef hc K R (fun e g b3 b4 b5 b6 b7 R' => ?_))
  rcases gp_K_d K with rfl | rfl | rfl
  · refine br_t rfl (br_t rfl (br_c (fun h1 => br_c (fun h2 => ?_) (fun h2 => ?_)) (fun h1 => ?_)))
    · rw [if_pos ⟨h1, h2⟩]
      exact gp_188 hp rfl h0 hc K R'
    · rw [if_neg (fun z => h2 z.2)]
      exact gp_188 hp rfl h0 hc K R'
    · rw [if_neg (fun z => h1 z.1)]
      exact gp_188 hp rfl h0 hc K R'
  · refine br_t rfl (br_f (by decide) (br_c (fun h1 => br_c (fun h2 => ?_) (fun h2 => ?_)) (fun h1 => ?_)))
    · rw [if_pos ⟨h1, h2⟩]
      exact gp_188 hp rfl h0 hc K R'
    · rw [if_neg (fun z => h2 z.2)]
      exact gp_188 hp rfl h0 hc K R'
    · rw [if_neg (fun z => h1 z.1)]
      exact gp_188 hp rfl h0 hc K R'
  · refine br_f (by decide) (br_c (fun h1 => br_c (fun h2 => ?_) (fun h2 => ?_)) (fun h1 => ?_))
    · rw [if_pos ⟨h1, h2⟩]
      exact gp_188 hp rfl h0 hc K R'
    · rw [if_neg (fun z => h2 z.2)]
      exact gp_188 hp rfl h0 hc K R'
    · rw [if_neg (fun z => h1 z.1)]
      exact gp_188 hp rfl h0 hc K R'
end
/-! ===== the making of the graph ===== -/
/-- the points asked for, and the points there are -/
def gp_N (p n : Int32) : Prop := (1 ≤ p ∧ p ≤ 6 ∧ n = p) ∨ (1 ≤ p ∧ ¬ p ≤ 6 ∧ n = 6) ∨ (¬ 1 ≤ p ∧ n = 1)
theorem gp_N_c {p n : Int32} (h : gp_N p n) : ∃ c : Nat, 0 < c ∧ c ≤ 6 ∧ n = nI c := by
  rcases h with ⟨h1, h6, rfl⟩ | ⟨_, _, rfl⟩ | ⟨_, rfl⟩
  · have hk0 : ¬ n < 0 := by
      intro z
      rw [Int32.le_iff_toInt_le] at h1
      rw [Int32.lt_iff_toInt_lt] at z
      have e1 : (1 : Int32).toInt = 1 := by decide
      have e0 : (0 : Int32).toInt = 0 := by decide
      omega
    obtain ⟨j, hj, rfl⟩ := nI_of2 (M := 6) (n := 6) (by decide) hk0 h6
    refine ⟨j, ?_, hj, rfl⟩
    have h1' : nI 1 ≤ nI j := h1
    rw [nI_leI (by omega) (by omega)] at h1'
    omega
  · exact ⟨6, by omega, by omega, rfl⟩
  · exact ⟨1, by omega, by omega, rfl⟩
section
variable {f2 f3 : Int32} {a1 a2 a3 a4 a5 a6 a7 : Nat → Int32}
theorem gp_init {post : St2 → Prop} {p n : Int32} (h : gp_N p n) (H : post (n, 0, 0, 0, (fun _ => 0), (fun _ => 0), (fun _ => 0), (fun _ => 0), (fun _ => 0), (fun _ => 0), (fun _ => 0))) : wpX_init post 7 145 (0, 0, 0, 0) p := by
  refine ⟨by omega, by omega, by omega, by omega, by omega, by omega, by omega, by omega, by omega, by omega, by omega, by omega, by omega, by omega, ?_⟩
  rcases h with ⟨h1, h6, rfl⟩ | ⟨h1, h6, rfl⟩ | ⟨h1, rfl⟩
  · exact br_t h1 (br_t h6 H)
  · exact br_t h1 (br_f h6 H)
  · exact br_f h1 H
theorem gp_addN {post : Int32 → St2 → Prop} {n u v : Int32} (o : u < 0 ∨ n ≤ u ∨ v < 0 ∨ n ≤ v) (H : post (-1) (n, 0, f2, f3, a1, a2, a3, a4, a5, a6, a7)) : wpX_add post (n, 0, f2, f3, a1, a2, a3, a4, a5, a6, a7) u v :=
  br_t (by decide) (br_c (fun _ => H) (fun h1 => br_c (fun _ => H) (fun h2 => br_c (fun _ => H) (fun h3 => br_c (fun h4 => absurd o (fun z => z.elim h1 (fun z => z.elim h2 (fun z => z.elim h3 (fun z => Int32.not_le.mpr h4 z))))) (fun _ => H)))))
theorem gp_add1 {post : Int32 → St2 → Prop} {c u v : Nat} (hc : c ≤ 6) (hu : u < c) (hv : v < c) (H : post 1 (nI c, 1, 0, f3, upd a1 0 (nI u), upd a2 0 (nI v), a3, a4, a5, a6, a7)) : wpX_add post (nI c, 0, f2, f3, a1, a2, a3, a4, a5, a6, a7) (nI u) (nI v) := by
  refine br_t (by decide) (br_f (nI_pos (by omega)) (br_f (nI_ge hu (by omega)) (br_f (nI_pos (by omega)) (br_t (nI_lt hv (by omega)) ?_))))
  exact ⟨pk_in 0 8 (by omega), nm_r (by rw [sb_cl0, gp_b8 u (by omega)]) ⟨pk_in 0 8 (by omega), nm_r (by rw [sb_cl0, gp_b8 v (by omega)]) (nm_r (e' := (1 : Int32)) (by decide) H)⟩⟩
end
section
variable {post : Int32 → St0 → Prop} {p n u v k i j : Int32}
/-- no edge put -/
theorem gp_82N (hp : post 1 ()) (h : gp_N p n) (o : u < 0 ∨ n ≤ u ∨ v < 0 ∨ n ≤ v) : wL_lawOf_47 post 78 1232 p u v k i j n 0 0 := by
  obtain ⟨c, h0, hc, rfl⟩ := gp_N_c h
  have t : wL_lawOf_82 post 78 1232 p u v k i j (nI c) 0 0 0 0 0 :=
    ⟨by omega, by omega, 7, 145, by omega, by omega, gp_init h (gp_addN o (br_t rfl (gp_111 (d := 0) hp rfl h0 hc (Or.inl ⟨rfl, rfl⟩) (Or.inl rfl))))⟩
  exact br_t rfl (br_t rfl t)
/-- an edge or a loop put -/
theorem gp_82P (hp : post 1 ()) (h : gp_N p n) (h1 : ¬ u < 0) (h2 : ¬ n ≤ u) (h3 : ¬ v < 0) (h4 : ¬ n ≤ v) : wL_lawOf_48 post 78 1232 p u v k i j n 1 0 0 := by
  obtain ⟨c, h0, hc, rfl⟩ := gp_N_c h
  obtain ⟨a, ha, rfl⟩ := nI_of h1
  obtain ⟨b, hb, rfl⟩ := nI_of h3
  rw [nI_leI (by omega) ha] at h2
  rw [nI_leI (by omega) hb] at h4
  have ha' : a < c := by omega
  have hb' : b < c := by omega
  refine br_f (by decide) (pk_eq a b (fun e => ?_) (fun e => ?_))
  · have t : wL_lawOf_82 post 78 1232 p (nI a) (nI b) k i j (nI c) 1 1 0 0 0 :=
      ⟨by omega, by omega, 7, 145, by omega, by omega, gp_init h (gp_add1 hc ha' hb' (br_f (by decide) (gp_111 (d := 1) hp rfl h0 hc (Or.inr ⟨rfl, a, b, ha', hb', pk_us, pk_us, Or.inl ⟨e, rfl⟩⟩) (Or.inl rfl))))⟩
    exact br_f (by decide) (br_t (by rw [e]) t)
  · have t : wL_lawOf_82 post 78 1232 p (nI a) (nI b) k i j (nI c) 1 0 1 0 0 :=
      ⟨by omega, by omega, 7, 145, by omega, by omega, gp_init h (gp_add1 hc ha' hb' (br_f (by decide) (gp_111 (d := 9) hp rfl h0 hc (Or.inr ⟨rfl, a, b, ha', hb', pk_us, pk_us, Or.inr ⟨e, rfl⟩⟩) (Or.inl rfl))))⟩
    exact br_f (by decide) (br_f (by rw [nI_eq ha hb]; exact e) t)
theorem gp_21 (hp : post 1 ()) (h : gp_N p n) : wL_lawOf_21 post 78 1232 p u v k i j n 0 0 :=
  br_c (fun h1 => gp_82N hp h (Or.inl h1)) (fun h1 => br_c (fun h2 => gp_82N hp h (Or.inr (Or.inl h2))) (fun h2 => br_c (fun h3 => gp_82N hp h (Or.inr (Or.inr (Or.inl h3)))) (fun h3 => br_c (fun h4 => gp_82N hp h (Or.inr (Or.inr (Or.inr h4)))) (fun h4 => gp_82P hp h h1 h2 h3 h4))))
theorem gp_lawOf (hp : post 1 ()) : wpL_lawOf post 78 1232 () p u v k i j :=
  br_c (fun h1 => br_c (fun h6 => gp_21 hp (Or.inl ⟨h1, h6, rfl⟩)) (fun h6 => gp_21 hp (Or.inr (Or.inl ⟨h1, h6, rfl⟩)))) (fun h1 => gp_21 hp (Or.inr (Or.inr ⟨h1, rfl⟩)))
end
theorem gp_cell {post : Int32 → Prop} {L : Nat} {xs : Nat → Int32} (p : Nat) (hp : p < 6) (hL : L ≤ 6) (H : ∀ r, post r) : wpL_cellAt post L xs () (nI p) :=
  pk_le L p (fun _ => H _) (fun z => ⟨pk_in p L z, H _⟩)
theorem i_vc (xs : Nat → Int32) (L : Nat) (hL : L ≤ 6) : wpL_law (fun r => r = 1) L xs :=
  gp_cell 0 (by omega) hL (fun _ => gp_cell 1 (by omega) hL (fun _ => gp_cell 2 (by omega) hL (fun _ => gp_cell 3 (by omega) hL (fun _ => gp_cell 4 (by omega) hL (fun _ => gp_cell 5 (by omega) hL (fun _ => ⟨78, 1232, by omega, by omega, gp_lawOf rfl⟩))))))
end
