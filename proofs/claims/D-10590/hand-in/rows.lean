section
section
variable {a1 a2 a3 a4 a5 a6 a8 a9 a10 : Nat → Int32} {a7 : Nat → Int64} {tk jb hp cm il : Int32} {ct : Int64}

theorem ps_u0 {f : Nat → Int32} {x : Int32} : upd f (0 : Int32).toNatClampNeg x 0 = x := by
  rw [sb_cl0]; exact pk_us
theorem ps_u0L {f : Nat → Int64} {x : Int64} : vp_updL f (0 : Int32).toNatClampNeg x 0 = x := by
  rw [sb_cl0]; exact pk_uLs

/-- arrive: none is coming -/
theorem ps_arr0 {post : St2 → Prop} (H : post (tk, jb, ct, hp, 0, il, a1, a2, a3, a4, a5, a6, a7, a8, a9, a10)) : wpX_arrive post (tk, jb, ct, hp, 0, il, a1, a2, a3, a4, a5, a6, a7, a8, a9, a10) :=
  ⟨1, br_t (by decide) (nm_r (e' := (0 : Int32)) (by decide) ⟨1, br_t (by decide) H⟩)⟩

/-- arrive: one is coming, and its time is not yet there -/
theorem ps_arr1 {post : St2 → Prop} {T A : Nat} (hT : T < A) (hA : A ≤ 1000) (h9 : a9 0 = 0) (h2 : a2 0 = nI A)
    (H : ∀ b9 : Nat → Int32, b9 0 = 0 → post (nI T, jb, ct, hp, 1, il, a1, a2, a3, a4, a5, a6, a7, a8, b9, a10)) : wpX_arrive post (nI T, jb, ct, hp, 1, il, a1, a2, a3, a4, a5, a6, a7, a8, a9, a10) := by
  have e9 : a9 (0 : Int32).toNatClampNeg = 0 := by rw [sb_cl0]; exact h9
  have e2 : a2 (a9 (0 : Int32).toNatClampNeg).toNatClampNeg = nI A := by rw [e9, sb_cl0]; exact h2
  refine ⟨1, br_f (by decide) ⟨pk_in 0 24 (by decide), pk_in 0 24 (by decide) e9, br_t (by rw [e2]; exact nI_lt hT (by omega)) (nm_r (e' := (1 : Int32)) (by decide) ⟨2, br_f (by decide) ⟨pk_in 0 24 (by decide), pk_in 0 24 (by decide), nm_e (nm_r (e' := (1 : Int32)) (by decide) (br_t (by decide) (H _ ?_)))⟩⟩)⟩⟩
  exact ps_u0.trans e9

/-- arrive: one is coming, and it comes -/
theorem ps_arr2 {post : St2 → Prop} {T A : Nat} (hT : A ≤ T) (hb : T ≤ 5000) (h9 : a9 0 = 0) (h2 : a2 0 = nI A)
    (H : ∀ b3 b10 : Nat → Int32, b10 0 = 0 → post (nI T, jb, ct, hp, 0, 1, a1, a2, b3, a4, a5, a6, a7, a8, a9, b10)) : wpX_arrive post (nI T, jb, ct, hp, 1, 0, a1, a2, a3, a4, a5, a6, a7, a8, a9, a10) := by
  have e9 : a9 (0 : Int32).toNatClampNeg = 0 := by rw [sb_cl0]; exact h9
  have e2 : a2 (a9 (0 : Int32).toNatClampNeg).toNatClampNeg = nI A := by rw [e9, sb_cl0]; exact h2
  refine ⟨2, br_f (by decide) ⟨pk_in 0 24 (by decide), pk_in 0 24 (by decide) e9, br_f (by rw [e2]; exact nI_nlt hT (by omega)) ⟨pk_in 0 24 (by decide), pk_in 0 24 (by decide) e9, nm_e ⟨pk_in 0 24 (by decide), pk_in 0 24 (by decide), nm_e (nm_r (e' := (1 : Int32)) (by decide) (nm_r (e' := (1 : Int32)) (by decide) (br_t (by decide) (nm_r (e' := (0 : Int32)) (by decide) ⟨1, br_t (by decide) (H _ _ ?_)⟩))))⟩⟩⟩⟩
  exact ps_u0.trans e9

/-- nobody in line: nothing is taken in -/
theorem ps_adm0 {post : St2 → Prop} (H : post (tk, jb, ct, hp, cm, 0, a1, a2, a3, a4, a5, a6, a7, a8, a9, a10)) : wpX_admit post (tk, jb, ct, hp, cm, 0, a1, a2, a3, a4, a5, a6, a7, a8, a9, a10) :=
  ⟨1, br_t (by decide) (nm_r (e' := (0 : Int32)) (by decide) ⟨1, br_t (by decide) H⟩)⟩

/-- job 0 is in line, the heap is empty: it is taken in -/
theorem ps_adm1 {post : St2 → Prop} (h10 : a10 0 = 0)
    (H : ∀ (b3 b4 b8 : Nat → Int32) (b7 : Nat → Int64), b7 0 = ct + (a1 0).toInt64 → b8 0 = 0 → post (tk, jb, ct, 1, cm, 0, a1, a2, b3, b4, a5, a6, b7, b8, a9, a10)) : wpX_admit post (tk, jb, ct, 0, cm, 1, a1, a2, a3, a4, a5, a6, a7, a8, a9, a10) := by
  have e10 : a10 (0 : Int32).toNatClampNeg = 0 := by rw [sb_cl0]; exact h10
  refine ⟨2, br_f (by decide) (br_f (by decide) ⟨pk_in 0 24 (by decide), nm_r e10 ⟨pk_in 0 24 (by decide), nm_e ⟨pk_in 0 24 (by decide), nm_e ⟨pk_in 0 24 (by decide), pk_in 0 24 (by decide), nm_e ?_⟩⟩⟩⟩)⟩
  refine nm_r (e' := (1 : Int32)) (by decide) ⟨1, br_t (by decide) ⟨pk_in 0 8 (by decide), nm_e (nm_r (e' := (1 : Int32)) (by decide) (br_t (by decide) (nm_r (e' := (0 : Int32)) (by decide) ⟨1, br_t (by decide) (H _ _ _ _ ?_ ?_)⟩)))⟩⟩
  · exact ps_u0L
  · exact ps_u0

/-- stretch: the last step -/
theorem ps_104 {post : Int32 → Prop} {k l : Nat} (hk : k ≤ l) (h1 : 1 ≤ l) (hl : l ≤ 5000) (H : ∀ k, 1 ≤ k → k ≤ l → post (nI k)) : wX_stretch_104 post (nI k) tk jb ct hp cm il a1 a2 a3 a4 a5 a6 a7 a8 a9 a10 :=
  pk_le 1 k (fun h => H k h hk) (fun _ => H 1 (Nat.le_refl 1) h1)

/-- stretch: nothing coming, nothing served -/
theorem ps_str0 {post : Int32 → Prop} {l : Nat} (h1 : 1 ≤ l) (hl : l ≤ 5000) (H : post (nI l)) : wpX_stretch post (tk, jb, ct, 0, 0, il, a1, a2, a3, a4, a5, a6, a7, a8, a9, a10) (nI l) :=
  br_t (by decide) (br_t (by decide) (pk_le 1 l (fun _ => H) (fun h => absurd h (by omega))))

/-- stretch: one is coming, nothing served -/
theorem ps_strC {post : Int32 → Prop} {l T A : Nat} (h1 : 1 ≤ l) (hl : l ≤ 5000) (hT : T ≤ A) (hA : A ≤ 1000) (h9 : a9 0 = 0) (h2 : a2 0 = nI A)
    (H : ∀ k, 1 ≤ k → k ≤ l → post (nI k)) : wpX_stretch post (nI T, jb, ct, 0, 1, il, a1, a2, a3, a4, a5, a6, a7, a8, a9, a10) (nI l) := by
  have e2 : a2 (a9 0).toNatClampNeg - nI T = nI (A - T) := by rw [h9, sb_cl0, h2]; exact pk_sub hT
  exact br_f (by decide) ⟨pk_in 0 24 (by decide) h9, br_c (fun _ => br_t (by decide) (ps_104 (Nat.le_refl l) h1 hl H)) (fun h => ⟨pk_in 0 24 (by decide) h9, nm_r e2 (br_t (by decide) (ps_104 (by
    rw [e2] at h
    rcases Nat.lt_or_ge (A - T) l with z | z
    · omega
    · exact absurd (nI_le z (by omega)) h) h1 hl H))⟩)⟩

theorem ps_div (d : Nat) (hd : d ≤ 1000000) : (lN d + (840 : Int32).toInt64 - 1) / (840 : Int32).toInt64 = lN ((d + 839) / 840) := by
  have e : (840 : Int32).toInt64 = lN 840 := nI_l (n := 840) (by decide)
  rw [e, lN_add, show (1 : Int64) = lN 1 from rfl, lN_sub (by omega), pk_lDiv (by omega) (by decide) (by decide)]
  rfl

/-- stretch: nothing coming, one served -/
theorem ps_strH {post : Int32 → Prop} {l C M : Nat} (h1 : 1 ≤ l) (hl : l ≤ 5000) (hC : C ≤ M) (hM : M ≤ C + 100000) (h8 : a8 0 = 0) (h7 : a7 0 = lN M)
    (H : ∀ k, 1 ≤ k → k ≤ l → post (nI k)) : wpX_stretch post (tk, jb, lN C, 1, 0, il, a1, a2, a3, a4, a5, a6, a7, a8, a9, a10) (nI l) := by
  have e7 : a7 (a8 0).toNatClampNeg - lN C = lN (M - C) := by rw [h8, sb_cl0, h7]; exact lN_sub hC
  refine br_t (by decide) (br_f (by decide) ⟨by decide, nm_r (e' := (840 : Int32)) (by decide) ⟨pk_in 0 24 (by decide) h8, nm_r e7 ⟨by decide, nm_r (ps_div (M - C) (by omega)) (br_c (fun _ => ps_104 (Nat.le_refl l) h1 hl H) (fun h => ?_))⟩⟩⟩)
  rw [lN_i]
  refine ps_104 ?_ h1 hl H
  rw [nI_l (by omega), pk_lLE (by omega) (by omega)] at h
  omega

/-- complete: nothing served -/
theorem ps_com0 {post : Int32 → St2 → Prop} (H : post 0 (tk, jb, ct, 0, cm, il, a1, a2, a3, a4, a5, a6, a7, a8, a9, a10)) : wpX_complete post (tk, jb, ct, 0, cm, il, a1, a2, a3, a4, a5, a6, a7, a8, a9, a10) :=
  ⟨1, br_f (by decide) (br_t (by decide) H)⟩

/-- complete: one served -/
theorem ps_comH {post : Int32 → St2 → Prop} {C M : Nat} (hC : C ≤ 10000000) (hM : M ≤ 10000000) (h8 : a8 0 = 0) (h7 : a7 0 = lN M)
    (H1 : C < M → post 0 (tk, jb, lN C, 1, cm, il, a1, a2, a3, a4, a5, a6, a7, a8, a9, a10)) (H2 : ∀ b3 b5 b6 : Nat → Int32, post 1 (tk, jb, lN C, 0, cm, il, a1, a2, b3, a4, b5, b6, a7, a8, a9, a10)) : wpX_complete post (tk, jb, lN C, 1, cm, il, a1, a2, a3, a4, a5, a6, a7, a8, a9, a10) := by
  have e7 : a7 (a8 0).toNatClampNeg = lN M := by rw [h8, sb_cl0, h7]
  refine ⟨2, br_f (by decide) (br_f (by decide) ⟨pk_in 0 24 (by decide) h8, br_c (fun h => H1 ?_) (fun _ => nm_r h8 ⟨pk_in 0 24 (by decide), nm_e ⟨pk_in 0 24 (by decide), nm_e ⟨pk_in 0 24 (by decide), pk_in 0 24 (by decide), nm_e ?_⟩⟩⟩)⟩)⟩
  · rw [e7, pk_lLT (by omega) (by omega)] at h
    exact h
  · exact nm_r (e' := (0 : Int32)) (by decide) ⟨pk_in 0 8 (by decide), nm_e (br_t rfl (nm_r (e' := (1 : Int32)) (by decide) (br_f (by decide) (br_t (by decide) (H2 _ _ _)))))⟩
end
end
section
section
/-- run, nothing to do: one turn -/
theorem ps_runE {a1 a2 a3 a4 a5 a6 a8 a9 a10 : Nat → Int32} {a7 : Nat → Int64} {jb : Int32} {ct : Int64} {post : Int32 → St2 → Prop} {x3 : Int32} {T l N n : Nat} (hN : T + l = N) (hb : N ≤ 5000) (H : post x3 (nI N, jb, ct, 0, 0, 0, a1, a2, a3, a4, a5, a6, a7, a8, a9, a10)) :
    wX_run_21 post (n + 2) (nI l) x3 (nI T) jb ct 0 0 0 a1 a2 a3 a4 a5 a6 a7 a8 a9 a10 := by
  refine pk_le l 0 (fun h => ?_) (fun h => ps_arr0 (ps_adm0 (ps_str0 h (by omega) (br_t (by decide) ?_))))
  · have e : T = N := by omega
    rw [e]; exact H
  · refine nm_r (nI_add T l) (nm_r (pk_sub (Nat.le_refl l)) (ps_com0 (nm_r (e' := x3) (Int32.add_zero x3) ?_)))
    rw [Nat.sub_self, hN]
    exact br_t (by decide) H

/-- the rest of a turn, once the line is empty: job 0 served -/
theorem ps_tailH {a1 a2 a3 a4 a5 a6 a8 a9 a10 : Nat → Int32} {a7 : Nat → Int64} {jb : Int32} {post : Int32 → St2 → Prop} {x3 : Int32} {T l N n C M : Nat} (hN : T + l = N) (hb : N ≤ 5000) (hl : 1 ≤ l) (hn : l + 1 ≤ n)
    (h0 : C ≤ 840 * T) (hC : C ≤ M) (hM : M ≤ C + 100000) (h8 : a8 0 = 0) (h7 : a7 0 = lN M)
    (H : ∀ (r : Int32) (u : St2), u.1 = nI N → post r u)
    (IH : ∀ (l' T' C' : Nat) (y : Int32), l' + 2 ≤ n → T' + l' = N → C' ≤ 840 * T' → C' ≤ M → M ≤ C' + 100000 → wX_run_21 post n (nI l') y (nI T') jb (lN C') 1 0 0 a1 a2 a3 a4 a5 a6 a7 a8 a9 a10) :
    wpX_stretch (fun r => (((1 : Int32) ≤ 0 → wX_run_69 post (wX_run_21 post n) (nI l) x3 r (nI T) jb (lN C) 1 0 0 a1 a2 a3 a4 a5 a6 a7 a8 a9 a10) ∧ (¬ (1 : Int32) ≤ 0 → (¬ (1 : Int32) = 0 ∧ (∀ f : Int64, f = lN C + (((840 / (1 : Int32)).toInt64) * r.toInt64) → wX_run_69 post (wX_run_21 post n) (nI l) x3 r (nI T) jb f 1 0 0 a1 a2 a3 a4 a5 a6 a7 a8 a9 a10))))) (nI T, jb, lN C, 1, 0, 0, a1, a2, a3, a4, a5, a6, a7, a8, a9, a10) (nI l) := by
  refine ps_strH hl (by omega) hC hM h8 h7 (fun k k1 k2 => br_f (by decide) ⟨by decide, nm_r (e' := lN (C + 840 * k)) ?_ ?_⟩)
  · rw [nI_l (show k < 2 ^ 31 by omega), show (840 / (1 : Int32)).toInt64 = lN 840 from by decide, lN_mul, lN_add]
  · refine nm_r (nI_add T k) (nm_r (pk_sub k2) (ps_comH (M := M) (by omega) (by omega) h8 h7 (fun h => nm_e ?_) (fun b3 b5 b6 => nm_e ?_)))
    · exact IH (l - k) (T + k) (C + 840 * k) _ (by omega) (by omega) (by omega) (by omega) (by omega)
    · obtain ⟨m, rfl⟩ : ∃ m, n = m + 2 := ⟨n - 2, by omega⟩
      exact ps_runE (N := N) (by omega) hb (H _ _ rfl)

/-- run, job 0 served -/
theorem ps_runH {jb : Int32} {post : Int32 → St2 → Prop} {N : Nat} (hb : N ≤ 5000) (H : ∀ (r : Int32) (u : St2), u.1 = nI N → post r u) {M : Nat} {a1 a2 a3 a4 a5 a6 a8 a9 a10 : Nat → Int32} {a7 : Nat → Int64} (h8 : a8 0 = 0) (h7 : a7 0 = lN M) :
    ∀ (n l T C : Nat) (x3 : Int32), l + 2 ≤ n → T + l = N → C ≤ 840 * T → C ≤ M → M ≤ C + 100000 → wX_run_21 post n (nI l) x3 (nI T) jb (lN C) 1 0 0 a1 a2 a3 a4 a5 a6 a7 a8 a9 a10 := by
  intro n
  induction n with
  | zero => intro l T C x3 h; exact absurd h (by omega)
  | succ n ih =>
    intro l T C x3 hn hN h0 hC hM
    refine pk_le l 0 (fun h => H _ _ ?_) (fun h => ps_arr0 (ps_adm0 (ps_tailH hN hb h (by omega) h0 hC hM h8 h7 H ih)))
    have e : T = N := by omega
    rw [e]

/-- run, job 0 coming -/
theorem ps_runC {jb : Int32} {post : Int32 → St2 → Prop} {N : Nat} (hb : N ≤ 5000) (H : ∀ (r : Int32) (u : St2), u.1 = nI N → post r u) {A Z : Nat} {a1 a2 a3 a4 a5 a6 a8 a10 : Nat → Int32} {a7 : Nat → Int64} (hA : A ≤ 1000) (hZ : Z ≤ 100000) (h1 : a1 0 = nI Z) (h2 : a2 0 = nI A) :
    ∀ (n l T : Nat) (x3 : Int32) (a9 : Nat → Int32), l + 2 ≤ n → T + l = N → a9 0 = 0 → wX_run_21 post n (nI l) x3 (nI T) jb (lN 0) 0 1 0 a1 a2 a3 a4 a5 a6 a7 a8 a9 a10 := by
  intro n
  induction n with
  | zero => intro l T x3 a9 h; exact absurd h (by omega)
  | succ n ih =>
    intro l T x3 a9 hn hN h9
    refine pk_le l 0 (fun h => H _ _ ?_) (fun h => ?_)
    · have e : T = N := by omega
      rw [e]
    · rcases Nat.lt_or_ge T A with z | z
      · refine ps_arr1 z hA h9 h2 (fun b9 h9' => ps_adm0 (ps_strC h (by omega) (by omega) hA h9' h2 (fun k k1 k2 => br_t (by decide) (nm_r (nI_add T k) (nm_r (pk_sub k2) (ps_com0 (nm_e ?_)))))))
        exact ih (l - k) (T + k) _ b9 (by omega) (by omega) h9'
      · refine ps_arr2 z (by omega) h9 h2 (fun b3 b10 h10 => ps_adm1 h10 (fun c3 c4 c8 c7 h7 h8 => ?_))
        have e7 : c7 0 = lN Z := by rw [h7, h1, nI_l (show Z < 2 ^ 31 by omega), lN_add, Nat.zero_add]
        exact ps_tailH hN hb h (by omega) (by omega) (by omega) (by omega) h8 e7 H (ps_runH hb H h8 e7 n)

/-- what run makes of its argument -/
def ps_Q (p : Int32) (N : Nat) : Prop := (¬ 0 ≤ p ∧ N = 0) ∨ (0 ≤ p ∧ ¬ p ≤ 5000 ∧ N = 5000) ∨ (0 ≤ p ∧ p ≤ 5000 ∧ p = nI N)

theorem ps_run {a1 a2 a3 a4 a5 a6 a8 a9 a10 : Nat → Int32} {a7 : Nat → Int64} {tk jb hp cm il : Int32} {ct : Int64} {post : Int32 → St2 → Prop} {p : Int32} (H : ∀ N : Nat, N ≤ 5000 → ps_Q p N → ∃ n, wX_run_21 post n (nI N) 0 tk jb ct hp cm il a1 a2 a3 a4 a5 a6 a7 a8 a9 a10) : wpX_run post (tk, jb, ct, hp, cm, il, a1, a2, a3, a4, a5, a6, a7, a8, a9, a10) p := by
  refine br_c (fun h => ?_) (fun h => br_t (by decide) (H 0 (by omega) (Or.inl ⟨h, rfl⟩)))
  refine br_c (fun h5 => ?_) (fun h5 => H 5000 (by omega) (Or.inr (Or.inl ⟨h, h5, rfl⟩)))
  obtain ⟨j, hj, e⟩ := nI_of2 (x := p) (M := 5000) (n := 5000) (by decide) (Int32.not_lt.mpr h) h5
  rw [e]
  exact H j hj (Or.inr (Or.inr ⟨h, h5, e⟩))
end
end
section
section
variable {a1 a2 a3 a4 a5 a6 a8 a9 a10 : Nat → Int32} {a7 : Nat → Int64} {tk jb hp cm il : Int32} {ct : Int64} {mc ms kc ks : Nat}

/-- submit that takes the job -/
theorem ps_sub {post : Int32 → St2 → Prop} {p0 p1 : Int32} (h1 : ¬ p0 < 1) (h2 : p0 ≤ 100000) (h3 : ¬ p1 < 0) (h4 : p1 ≤ 1000)
    (H : ∀ b1 b2 b3 b4 b5 b6 b9 : Nat → Int32, b1 0 = p0 → b2 0 = p1 → b3 0 = 0 → b4 0 = -5 → b6 0 = 0 → b9 0 = 0 → post 0 (0, 1, ct, 0, 1, il, b1, b2, b3, b4, b5, b6, a7, a8, b9, a10)) :
    wpX_submit post (0, 0, ct, 0, 0, il, a1, a2, a3, a4, a5, a6, a7, a8, a9, a10) p0 p1 := by
  refine br_f h1 (br_t h2 (br_f h3 (br_t h4 (br_t (by decide) (nm_r (e' := (1 : Int32)) (by decide) ⟨pk_in 0 24 (by decide), nm_e ⟨pk_in 0 24 (by decide), nm_e ⟨pk_in 0 24 (by decide), nm_e ⟨pk_in 0 24 (by decide), nm_e ⟨pk_in 0 24 (by decide), nm_e ⟨pk_in 0 24 (by decide), nm_e ?_⟩⟩⟩⟩⟩⟩)))))
  refine ⟨1, br_t (by decide) ⟨pk_in 0 24 (by decide), nm_e (nm_r (e' := (1 : Int32)) (by decide) (H _ _ _ _ _ _ _ ps_u0 ?_ ps_u0 ps_u0 ps_u0 ps_u0))⟩⟩
  exact ps_u0.trans (Int32.zero_add p1)

theorem ps_no {post : Int32 → Prop} {p : Int32} (h : p < 0 ∨ ¬ p < jb) (H : post 1) : wpX_noJob post (tk, jb, ct, hp, cm, il, a1, a2, a3, a4, a5, a6, a7, a8, a9, a10) p :=
  br_c (fun _ => H) (fun h0 => br_f (fun z => h.elim h0 (fun g => g z)) H)

theorem ps_yes {post : Int32 → Prop} (H : post 0) : wpX_noJob post (tk, 1, ct, hp, cm, il, a1, a2, a3, a4, a5, a6, a7, a8, a9, a10) 0 :=
  br_f (by decide) (br_t (by decide) H)

/-- the law's last check -/
theorem ps_161 {x3 : Int32} {N : Nat} (h : ps_Q x3 N) : wL_lawOf_161 (fun r _ => r = 1) mc ms x3 kc ks (nI N) jb ct hp cm il a1 a2 a3 a4 a5 a6 a7 a8 a9 a10 := by
  rcases h with ⟨h0, rfl⟩ | ⟨h0, h5, rfl⟩ | ⟨h0, h5, e⟩
  · exact br_f h0 (br_t (by decide) rfl)
  · exact br_t h0 (br_f h5 (br_t (by decide) rfl))
  · exact br_t h0 (br_t h5 (br_t e.symm rfl))

/-- run on an empty machine, and the end -/
theorem ps_135E {x3 x5 x6 z : Int32} : wL_lawOf_135 (fun r _ => r = 1) mc ms x3 x5 x6 z z kc ks 0 jb ct 0 0 0 a1 a2 a3 a4 a5 a6 a7 a8 a9 a10 :=
  br_t rfl (ps_run (fun N hN hQ => ⟨0 + 2, ps_runE (T := 0) (l := N) (N := N) (by omega) hN (br_t rfl (ps_161 hQ))⟩))

/-- run with job 0 coming, and the end -/
theorem ps_135C {x3 z : Int32} {A Z : Nat} (hA : A ≤ 1000) (hZ : Z ≤ 100000) (h1 : a1 0 = nI Z) (h2 : a2 0 = nI A) (h9 : a9 0 = 0) : wL_lawOf_135 (fun r _ => r = 1) mc ms x3 0 0 z z kc ks 0 jb 0 0 1 0 a1 a2 a3 a4 a5 a6 a7 a8 a9 a10 :=
  br_t rfl (ps_run (fun N hN hQ => ⟨N + 2, ps_runC (N := N) hN (fun r u hu => by
    obtain ⟨tk, jb, ct, hp, cm, il, a1, a2, a3, a4, a5, a6, a7, a8, a9, a10⟩ := u
    have e : tk = nI N := hu
    subst e
    exact br_c (fun _ => ps_161 hQ) (fun _ => br_t rfl (br_t (by decide) (ps_161 hQ)))) hA hZ h1 h2 (N + 2) N 0 0 a9 (Nat.le_refl _) (by omega) h9⟩))

/-- the questions, of a job that is not there -/
theorem ps_adN {post : Int32 → Prop} {p : Int32} (h : p < 0 ∨ ¬ p < jb) (H : post (-4)) : wpX_admitted post (tk, jb, ct, hp, cm, il, a1, a2, a3, a4, a5, a6, a7, a8, a9, a10) p := by
  unfold wpX_admitted
  exact ps_no h (br_f (by decide) H)
theorem ps_stN {post : Int32 → Prop} {p : Int32} (h : p < 0 ∨ ¬ p < jb) (H : post (-4)) : wpX_state post (tk, jb, ct, hp, cm, il, a1, a2, a3, a4, a5, a6, a7, a8, a9, a10) p := by
  unfold wpX_state
  exact ps_no h (br_f (by decide) H)
theorem ps_caN {post : Int32 → St2 → Prop} {p : Int32} (h : p < 0 ∨ ¬ p < jb) (H : post (-4) (tk, jb, ct, hp, cm, il, a1, a2, a3, a4, a5, a6, a7, a8, a9, a10)) : wpX_cancel post (tk, jb, ct, hp, cm, il, a1, a2, a3, a4, a5, a6, a7, a8, a9, a10) p := by
  unfold wpX_cancel
  exact ps_no h (br_f (by decide) H)

/-- the questions, of job 0 when it is there -/
theorem ps_adY {post : Int32 → Prop} (H : post (a4 (0 : Int32).toNatClampNeg)) : wpX_admitted post (tk, 1, ct, hp, cm, il, a1, a2, a3, a4, a5, a6, a7, a8, a9, a10) 0 := by
  unfold wpX_admitted
  exact ps_yes (br_t rfl ⟨pk_in 0 24 (by decide), H⟩)
theorem ps_stY {post : Int32 → Prop} (H : post (a3 (0 : Int32).toNatClampNeg)) : wpX_state post (tk, 1, ct, hp, cm, il, a1, a2, a3, a4, a5, a6, a7, a8, a9, a10) 0 := by
  unfold wpX_state
  exact ps_yes (br_t rfl ⟨pk_in 0 24 (by decide), H⟩)
theorem ps_haY {post : Int32 → Prop} (h3 : ¬ a3 (0 : Int32).toNatClampNeg = 2) (H : post (a6 (0 : Int32).toNatClampNeg)) : wpX_had post (tk, 1, ct, hp, cm, il, a1, a2, a3, a4, a5, a6, a7, a8, a9, a10) 0 := by
  unfold wpX_had
  exact ps_yes (br_t rfl ⟨pk_in 0 24 (by decide), br_f h3 ⟨pk_in 0 24 (by decide), H⟩⟩)
/-- cancel: job 0 is coming -/
theorem ps_caY {post : Int32 → St2 → Prop} (h3 : a3 0 = 0) (h6 : a6 0 = 0) (h9 : a9 0 = 0) (H : ∀ b3 b6 : Nat → Int32, post 0 (tk, 1, ct, hp, 0, il, a1, a2, b3, a4, a5, b6, a7, a8, a9, a10)) : wpX_cancel post (tk, 1, ct, hp, 1, il, a1, a2, a3, a4, a5, a6, a7, a8, a9, a10) 0 := by
  have e3 : a3 (0 : Int32).toNatClampNeg = 0 := by rw [sb_cl0]; exact h3
  have e6 : a6 (0 : Int32).toNatClampNeg = 0 := by rw [sb_cl0]; exact h6
  have e9 : a9 (0 : Int32).toNatClampNeg = 0 := by rw [sb_cl0]; exact h9
  unfold wpX_cancel
  refine ps_yes (br_t rfl ⟨pk_in 0 24 (by decide), br_t (by rw [e3]; decide) (ps_haY (by rw [e3]; decide) ?_)⟩)
  rw [e6]
  refine ⟨pk_in 0 24 (by decide), br_t e3 ?_⟩
  exact ⟨2, br_f (by decide) ⟨pk_in 0 24 (by decide), br_t e9 (nm_r (e' := (1 : Int32)) (by decide) (br_t (by decide) ⟨pk_in 0 24 (by decide), nm_e ⟨pk_in 0 24 (by decide), nm_e (H _ _)⟩⟩))⟩⟩

/-- a job that is not there -/
theorem ps_70 {x2 x3 x5 : Int32} (h : x2 < 0 ∨ ¬ x2 < jb) (H : wL_lawOf_135 (fun r _ => r = 1) mc ms x3 x5 0 (-4) (-4) kc ks tk jb ct hp cm il a1 a2 a3 a4 a5 a6 a7 a8 a9 a10) : wL_lawOf_70 (fun r _ => r = 1) mc ms x2 x3 x5 kc ks tk jb ct hp cm il a1 a2 a3 a4 a5 a6 a7 a8 a9 a10 := by
  unfold wL_lawOf_70 wL_lawOf_71
  exact ps_adN h (br_t rfl (br_t rfl (ps_stN h (br_t rfl (br_t rfl (ps_caN h (br_t rfl H)))))))

/-- job 0, there -/
theorem ps_71 {x3 x5 : Int32} (h3 : a3 0 = 0) (h4 : a4 0 = -5) (h6 : a6 0 = 0) (h9 : a9 0 = 0) : wL_lawOf_71 (fun r _ => r = 1) mc ms 0 x3 x5 1 kc ks 0 1 ct 0 1 0 a1 a2 a3 a4 a5 a6 a7 a8 a9 a10 := by
  have e3 : a3 (0 : Int32).toNatClampNeg = 0 := by rw [sb_cl0]; exact h3
  have e4 : a4 (0 : Int32).toNatClampNeg = -5 := by rw [sb_cl0]; exact h4
  unfold wL_lawOf_71
  exact ps_adY (br_f (by decide) (br_t e4 (ps_stY (br_f (by decide) (br_t e3 (ps_caY h3 h6 h9 (fun b3 b6 => br_f (by decide) ps_135E)))))))

theorem ps_lawOf (p0 p1 p2 p3 : Int32) : wpL_lawOf (fun r _ => r = 1) 11 240 () p0 p1 p2 p3 := by
  have n0 : p2 < 0 ∨ ¬ p2 < 0 := Decidable.em _
  refine ⟨by decide, by decide, 10, 224, by decide, by decide, ⟨by decide, by decide, by decide, by decide, by decide, by decide, by decide, by decide, by decide, by decide, by decide, by decide, by decide, by decide, by decide, by decide, by decide, by decide, by decide, by decide, ?_⟩⟩
  refine br_c (fun h1 => br_t h1 (br_t rfl (br_f (by decide) (ps_70 n0 ps_135E)))) (fun h1 => br_c (fun h2 => ?_) (fun h2 => br_f h1 (br_f h2 (br_t rfl (br_f (by decide) (ps_70 n0 ps_135E))))))
  refine br_c (fun h3 => br_f h1 (br_t h2 (br_t h3 (br_t rfl (br_f (by decide) (ps_70 n0 ps_135E)))))) (fun h3 => br_c (fun h4 => ?_) (fun h4 => br_f h1 (br_t h2 (br_f h3 (br_f h4 (br_t rfl (br_f (by decide) (ps_70 n0 ps_135E))))))))
  refine ps_sub h1 h2 h3 h4 (fun b1 b2 b3 b4 b5 b6 b9 e1 e2 e3 e4 e6 e9 => br_t rfl (br_t rfl (br_c (fun hj => ?_) (fun hj => ?_))))
  · subst hj
    exact ps_71 e3 e4 e6 e9
  · obtain ⟨A, hA, eA⟩ := nI_of2 (x := p1) (M := 1000) (n := 1000) (by decide) h3 h4
    obtain ⟨Z, hZ, eZ⟩ := nI_of2 (x := p0) (M := 100000) (n := 100000) (by decide) (fun z => h1 (Int32.lt_trans z (by decide))) h2
    refine ps_70 ?_ (ps_135C hA hZ (e1.trans eZ) (e2.trans eA) e9)
    rcases pk_ix p2 (n := 1) (by decide) with z | z | ⟨j, hj1, z⟩
    · exact Or.inl z
    · exact Or.inr (Int32.not_lt.mpr z)
    · exact absurd (show p2 = 0 by rw [z, show j = 0 by omega]; rfl) hj

theorem ps_cell {post : Int32 → Prop} {L : Nat} {xs : Nat → Int32} {x : Int32} (i : Nat) (hi : i < 4) (hL : L ≤ 4) (H : ∀ y, post y) (hx : x = nI i := by rfl) : wpL_cellAt post L xs () x := by
  subst hx
  exact pk_le L i (fun _ => H _) (fun h => ⟨pk_in i L h, H _⟩)

theorem i_vc (xs : Nat → Int32) (L : Nat) (hL : L ≤ 4) : wpL_law (fun r => r = 1) L xs :=
  ps_cell 0 (by decide) hL (fun r1 => ps_cell 1 (by decide) hL (fun r2 => ps_cell 2 (by decide) hL (fun r3 => ps_cell 3 (by decide) hL (fun r4 => ⟨11, 240, by decide, by decide, ps_lawOf r1 r2 r3 r4⟩))))
end
end
