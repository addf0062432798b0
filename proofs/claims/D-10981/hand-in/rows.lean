section
/-- a register's number in range -/
def sl_R (p : Int32) : Prop := ¬ p < 0 ∧ p ≤ 7
/-- an offset in range -/
def sl_O (p : Int32) : Prop := ¬ p < (-8) ∧ p ≤ 15
def sl_n (q : Bool) : Nat := cond q 1 0
def sl_i (q : Bool) : Int32 := cond q 1 0
/-- what a method answers that appends at place k, or refuses -/
def sl_s (q : Bool) (k : Nat) : Int32 := cond q (nI k) (-1)
theorem sl_nle (q : Bool) : sl_n q ≤ 1 := by cases q <;> decide
theorem sl_ex (p : Prop) : ∃ q : Bool, p ↔ q = true := by
  by_cases h : p
  · exact ⟨true, fun _ => rfl, fun _ => h⟩
  · exact ⟨false, fun g => absurd g h, fun g => absurd g (by decide)⟩
theorem sl_two {c1 c2 A B : Prop} {q : Bool} (h : (¬ c1 ∧ ¬ c2) ↔ q = true) (ht : q = true → B) (hf : q = false → A) : (c1 → A) ∧ (¬ c1 → ((c2 → A) ∧ (¬ c2 → B))) :=
  br_c (fun g => hf (Bool.eq_false_iff.mpr (fun e => (h.mpr e).1 g))) (fun g => br_c (fun g2 => hf (Bool.eq_false_iff.mpr (fun e => (h.mpr e).2 g2))) (fun g2 => ht (h.mp ⟨g, g2⟩)))
theorem sl_le {c1 c2 A B : Prop} {q : Bool} (h : (¬ c1 ∧ c2) ↔ q = true) (ht : q = true → B) (hf : q = false → A) : (c1 → A) ∧ (¬ c1 → ((c2 → B) ∧ (¬ c2 → A))) :=
  br_c (fun g => hf (Bool.eq_false_iff.mpr (fun e => (h.mpr e).1 g))) (fun g => br_c (fun g2 => ht (h.mp ⟨g, g2⟩)) (fun g2 => hf (Bool.eq_false_iff.mpr (fun e => g2 (h.mpr e).2))))
theorem sl_nlt {a b : Int32} : ¬ a < b ↔ b ≤ a := by
  rw [Int32.lt_iff_toInt_lt, Int32.le_iff_toInt_le]
  exact Int.not_lt
theorem sl_R2 {p : Int32} {q : Bool} (h : sl_R p ↔ q = true) : (¬ p < 0 ∧ ¬ 7 < p) ↔ q = true :=
  ⟨fun t => h.mp ⟨t.1, sl_nlt.mp t.2⟩, fun e => ⟨(h.mpr e).1, sl_nlt.mpr (h.mpr e).2⟩⟩
theorem sl_O2 {p : Int32} {q : Bool} (h : sl_O p ↔ q = true) : (¬ p < (-8) ∧ ¬ 15 < p) ↔ q = true :=
  ⟨fun t => h.mp ⟨t.1, sl_nlt.mp t.2⟩, fun e => ⟨(h.mpr e).1, sl_nlt.mpr (h.mpr e).2⟩⟩
theorem sl_init {post : St2 → Prop} {mc ms : Nat} (h1 : 18 ≤ mc) (h2 : 300 ≤ ms) (H : ∀ u : St2, u.1 = nI 0 → post u) : wpX_init post mc ms (0, 0, 0, 0, 0) := by
  unfold wpX_init
  exact ⟨by omega, by omega, by omega, by omega, by omega, by omega, by omega, by omega, by omega, by omega, by omega, by omega, by omega, by omega, by omega, by omega, by omega, by omega, by omega, by omega, by omega, by omega, by omega, by omega, by omega, by omega, by omega, by omega, by omega, by omega, by omega, by omega, by omega, by omega, by omega, by omega, H _ rfl⟩
theorem sl_bad {post : Int32 → Prop} {u : St2} {p : Int32} (q : Bool) (h : sl_R p ↔ q = true) (Ht : q = true → post 0) (Hf : q = false → post 1) : wpX_badReg post u p := by
  obtain ⟨c, f1, f2, f3, f4, a1, a2, a3, a4, a5, a6, a7, a8, a9, a10, a11, a12, a13, a14, a15, a16, a17, a18⟩ := u
  exact sl_le h Ht Hf
theorem sl_append {post : Int32 → St2 → Prop} {u : St2} {k : Nat} {p0 p1 p2 p3 p4 : Int32} (hk : k < 14) (hu : u.1 = nI k) (H : ∀ u' : St2, u'.1 = nI (k + 1) → post (nI k) u') : wpX_append post u p0 p1 p2 p3 p4 := by
  obtain ⟨c, f1, f2, f3, f4, a1, a2, a3, a4, a5, a6, a7, a8, a9, a10, a11, a12, a13, a14, a15, a16, a17, a18⟩ := u
  have hc : c = nI k := hu
  subst hc
  have hi : vp_in (nI k) 14 := vp_in_nI hk (by decide)
  have hn : ¬ nI k = 14 := fun z => absurd ((nI_eq (a := k) (b := 14) (by omega) (by decide)).mp z) (by omega)
  refine br_f hn ⟨hi, nm_e ⟨hi, nm_e ⟨hi, nm_e ⟨hi, nm_e ⟨hi, nm_e (nm_r (nI_1 k) ?_)⟩⟩⟩⟩⟩
  rw [nI_pred]
  exact H _ rfl
theorem sl_constant {post : Int32 → St2 → Prop} {u : St2} {k : Nat} {d v : Int32} (qd : Bool) (hd : sl_R d ↔ qd = true) (hk : k < 14) (hu : u.1 = nI k) (H : ∀ u' : St2, u'.1 = nI (k + sl_n qd) → post (sl_s qd k) u') : wpX_constant post u d v := by
  obtain ⟨c, f1, f2, f3, f4, a1, a2, a3, a4, a5, a6, a7, a8, a9, a10, a11, a12, a13, a14, a15, a16, a17, a18⟩ := u
  unfold wpX_constant
  refine sl_bad qd hd (fun e1 => ?_) (fun e1 => ?_)
  · refine br_t (by decide) (sl_append hk hu (fun u' hu' => ?_))
    obtain ⟨c', f1, f2, f3, f4, a1, a2, a3, a4, a5, a6, a7, a8, a9, a10, a11, a12, a13, a14, a15, a16, a17, a18⟩ := u'
    subst e1
    exact H _ hu'
  · refine br_f (by decide) ?_
    subst e1
    exact H _ hu
theorem sl_leave {post : Int32 → St2 → Prop} {u : St2} {k : Nat} {d : Int32} (qd : Bool) (hd : sl_R d ↔ qd = true) (hk : k < 14) (hu : u.1 = nI k) (H : ∀ u' : St2, u'.1 = nI (k + sl_n qd) → post (sl_s qd k) u') : wpX_leave post u d := by
  obtain ⟨c, f1, f2, f3, f4, a1, a2, a3, a4, a5, a6, a7, a8, a9, a10, a11, a12, a13, a14, a15, a16, a17, a18⟩ := u
  unfold wpX_leave
  refine sl_bad qd hd (fun e1 => ?_) (fun e1 => ?_)
  · refine br_t (by decide) (sl_append hk hu (fun u' hu' => ?_))
    obtain ⟨c', f1, f2, f3, f4, a1, a2, a3, a4, a5, a6, a7, a8, a9, a10, a11, a12, a13, a14, a15, a16, a17, a18⟩ := u'
    subst e1
    exact H _ hu'
  · refine br_f (by decide) ?_
    subst e1
    exact H _ hu
theorem sl_add {post : Int32 → St2 → Prop} {u : St2} {k : Nat} {d a b : Int32} (qd qa qb : Bool) (hd : sl_R d ↔ qd = true) (ha : sl_R a ↔ qa = true) (hb : sl_R b ↔ qb = true) (hk : k < 14) (hu : u.1 = nI k) (H : ∀ u' : St2, u'.1 = nI (k + sl_n (qd && qa && qb)) → post (sl_s (qd && qa && qb) k) u') : wpX_add post u d a b := by
  obtain ⟨c, f1, f2, f3, f4, a1, a2, a3, a4, a5, a6, a7, a8, a9, a10, a11, a12, a13, a14, a15, a16, a17, a18⟩ := u
  unfold wpX_add
  refine sl_bad qd hd (fun e1 => br_t (by decide) ?_) (fun e1 => br_f (by decide) ?_)
  · refine sl_bad qa ha (fun e2 => br_t (by decide) ?_) (fun e2 => br_f (by decide) ?_)
    · refine sl_bad qb hb (fun e3 => br_t (by decide) ?_) (fun e3 => br_f (by decide) ?_)
      · refine sl_append hk hu (fun u' hu' => ?_)
        obtain ⟨c', f1, f2, f3, f4, a1, a2, a3, a4, a5, a6, a7, a8, a9, a10, a11, a12, a13, a14, a15, a16, a17, a18⟩ := u'
        subst e1 e2 e3
        exact H _ hu'
      · subst e1 e2 e3
        exact H _ hu
    · subst e1 e2
      exact H _ hu
  · subst e1
    exact H _ hu
theorem sl_load {post : Int32 → St2 → Prop} {u : St2} {k : Nat} {d a o : Int32} (q1 q2 qo : Bool) (h1 : sl_R d ↔ q1 = true) (h2 : sl_R a ↔ q2 = true) (ho : sl_O o ↔ qo = true) (hk : k < 14) (hu : u.1 = nI k) (H : ∀ u' : St2, u'.1 = nI (k + sl_n (q1 && q2 && qo)) → post (sl_s (q1 && q2 && qo) k) u') : wpX_load post u d a o := by
  obtain ⟨c, f1, f2, f3, f4, a1, a2, a3, a4, a5, a6, a7, a8, a9, a10, a11, a12, a13, a14, a15, a16, a17, a18⟩ := u
  unfold wpX_load
  refine sl_bad q1 h1 (fun e1 => br_t (by decide) ?_) (fun e1 => br_f (by decide) ?_)
  · refine sl_bad q2 h2 (fun e2 => br_t (by decide) ?_) (fun e2 => br_f (by decide) ?_)
    · refine sl_le ho (fun e3 => ?_) (fun e3 => ?_)
      · refine sl_append hk hu (fun u' hu' => ?_)
        obtain ⟨c', f1, f2, f3, f4, a1, a2, a3, a4, a5, a6, a7, a8, a9, a10, a11, a12, a13, a14, a15, a16, a17, a18⟩ := u'
        subst e1 e2 e3
        exact H _ hu'
      · subst e1 e2 e3
        exact H _ hu
    · subst e1 e2
      exact H _ hu
  · subst e1
    exact H _ hu
theorem sl_store {post : Int32 → St2 → Prop} {u : St2} {k : Nat} {a o s : Int32} (q1 q2 qo : Bool) (h1 : sl_R a ↔ q1 = true) (h2 : sl_R s ↔ q2 = true) (ho : sl_O o ↔ qo = true) (hk : k < 14) (hu : u.1 = nI k) (H : ∀ u' : St2, u'.1 = nI (k + sl_n (q1 && q2 && qo)) → post (sl_s (q1 && q2 && qo) k) u') : wpX_store post u a o s := by
  obtain ⟨c, f1, f2, f3, f4, a1, a2, a3, a4, a5, a6, a7, a8, a9, a10, a11, a12, a13, a14, a15, a16, a17, a18⟩ := u
  unfold wpX_store
  refine sl_bad q1 h1 (fun e1 => br_t (by decide) ?_) (fun e1 => br_f (by decide) ?_)
  · refine sl_bad q2 h2 (fun e2 => br_t (by decide) ?_) (fun e2 => br_f (by decide) ?_)
    · refine sl_le ho (fun e3 => ?_) (fun e3 => ?_)
      · refine sl_append hk hu (fun u' hu' => ?_)
        obtain ⟨c', f1, f2, f3, f4, a1, a2, a3, a4, a5, a6, a7, a8, a9, a10, a11, a12, a13, a14, a15, a16, a17, a18⟩ := u'
        subst e1 e2 e3
        exact H _ hu'
      · subst e1 e2 e3
        exact H _ hu
    · subst e1 e2
      exact H _ hu
  · subst e1
    exact H _ hu
theorem sl_size {post : Int32 → Prop} {u : St2} {k : Nat} (hu : u.1 = nI k) (H : post (nI k)) : wpX_size post u := by
  obtain ⟨c, f1, f2, f3, f4, a1, a2, a3, a4, a5, a6, a7, a8, a9, a10, a11, a12, a13, a14, a15, a16, a17, a18⟩ := u
  have hc : c = nI k := hu
  subst hc
  exact H
theorem sl_cell {post : Int32 → Prop} {L : Nat} {xs : Nat → Int32} (hL : L ≤ 5) (j : Nat) (hj : j ≤ 4) (H : ∀ r, post r) : wpL_cellAt post L xs () (nI j) := by
  unfold wpL_cellAt
  refine br_c (fun _ => H 0) (fun g => ⟨?_, H _⟩)
  have hl : j < L := by
    rcases Nat.lt_or_ge j L with z | z
    · exact z
    · exact absurd (nI_le z (by omega)) g
  exact vp_in_nI hl (by omega)
end
section
theorem sl_132 {post : Int32 → St0 → Prop} {mc ms : Nat} {x6 x7 x8 x9 x10 x11 : Int32} {kc ks : Nat} {qd qa qb qo : Bool} (H : wL_lawOf_144 post mc ms x6 x7 x8 x9 x10 x11 (sl_i qd) (sl_i qa) (sl_i qb) (sl_i qo) (sl_i qd) kc ks) : wL_lawOf_132 post mc ms x6 x7 x8 x9 x10 x11 (sl_i qd) (sl_i qa) (sl_i qb) (sl_i qo) kc ks := by
  cases qd
  · exact br_t (by decide) H
  · exact br_f (by decide) H
theorem sl_113 {post : Int32 → St0 → Prop} {mc ms : Nat} {x3 x6 x7 x8 x9 x10 x11 : Int32} {kc ks : Nat} {qd qa qb qo : Bool} (ho : sl_O x3 ↔ qo = true) (H : wL_lawOf_144 post mc ms x6 x7 x8 x9 x10 x11 (sl_i qd) (sl_i qa) (sl_i qb) (sl_i qo) (sl_i qd) kc ks) : wL_lawOf_113 post mc ms x3 x6 x7 x8 x9 x10 x11 (sl_i qd) (sl_i qa) (sl_i qb) kc ks := by
  refine sl_two (sl_O2 ho) (fun e => ?_) (fun e => ?_)
  · subst e
    exact sl_132 (qo := true) H
  · subst e
    exact sl_132 (qo := false) H
theorem sl_96 {post : Int32 → St0 → Prop} {mc ms : Nat} {x2 x3 x6 x7 x8 x9 x10 x11 : Int32} {kc ks : Nat} {qd qa qb qo : Bool} (hb : sl_R x2 ↔ qb = true) (ho : sl_O x3 ↔ qo = true) (H : wL_lawOf_144 post mc ms x6 x7 x8 x9 x10 x11 (sl_i qd) (sl_i qa) (sl_i qb) (sl_i qo) (sl_i qd) kc ks) : wL_lawOf_96 post mc ms x2 x3 x6 x7 x8 x9 x10 x11 (sl_i qd) (sl_i qa) kc ks := by
  refine sl_two (sl_R2 hb) (fun e => ?_) (fun e => ?_)
  · subst e
    exact sl_113 (qb := true) ho H
  · subst e
    exact sl_113 (qb := false) ho H
theorem sl_79 {post : Int32 → St0 → Prop} {mc ms : Nat} {x1 x2 x3 x6 x7 x8 x9 x10 x11 : Int32} {kc ks : Nat} {qd qa qb qo : Bool} (ha : sl_R x1 ↔ qa = true) (hb : sl_R x2 ↔ qb = true) (ho : sl_O x3 ↔ qo = true) (H : wL_lawOf_144 post mc ms x6 x7 x8 x9 x10 x11 (sl_i qd) (sl_i qa) (sl_i qb) (sl_i qo) (sl_i qd) kc ks) : wL_lawOf_79 post mc ms x1 x2 x3 x6 x7 x8 x9 x10 x11 (sl_i qd) kc ks := by
  refine sl_two (sl_R2 ha) (fun e => ?_) (fun e => ?_)
  · subst e
    exact sl_96 (qa := true) hb ho H
  · subst e
    exact sl_96 (qa := false) hb ho H
theorem sl_0 {post : Int32 → St0 → Prop} {mc ms : Nat} {x0 x1 x2 x3 x6 x7 x8 x9 x10 x11 : Int32} {kc ks : Nat} {qd qa qb qo : Bool} (hd : sl_R x0 ↔ qd = true) (ha : sl_R x1 ↔ qa = true) (hb : sl_R x2 ↔ qb = true) (ho : sl_O x3 ↔ qo = true) (H : wL_lawOf_144 post mc ms x6 x7 x8 x9 x10 x11 (sl_i qd) (sl_i qa) (sl_i qb) (sl_i qo) (sl_i qd) kc ks) : (x0 < 0 → wL_lawOf_78 post mc ms x1 x2 x3 x6 x7 x8 x9 x10 x11 kc ks) ∧ (¬ x0 < 0 → ((7 < x0 → wL_lawOf_78 post mc ms x1 x2 x3 x6 x7 x8 x9 x10 x11 kc ks) ∧ (¬ 7 < x0 → wL_lawOf_79 post mc ms x1 x2 x3 x6 x7 x8 x9 x10 x11 1 kc ks))) := by
  refine sl_two (sl_R2 hd) (fun e => ?_) (fun e => ?_)
  · subst e
    exact sl_79 (qd := true) ha hb ho H
  · subst e
    exact sl_79 (qd := false) ha hb ho H
theorem sl_144 (mc ms kc ks : Nat) (qd qa qb qo : Bool) : wL_lawOf_144 (fun r _ => r = 1) mc ms (sl_s qd 0) (sl_s (qd && qa && qb) (0 + sl_n qd)) (sl_s (qd && qa && qo) (0 + sl_n qd + sl_n (qd && qa && qb))) (sl_s (qa && qb && qo) (0 + sl_n qd + sl_n (qd && qa && qb) + sl_n (qd && qa && qo))) (sl_s qa (0 + sl_n qd + sl_n (qd && qa && qb) + sl_n (qd && qa && qo) + sl_n (qa && qb && qo))) (nI (0 + sl_n qd + sl_n (qd && qa && qb) + sl_n (qd && qa && qo) + sl_n (qa && qb && qo) + sl_n qa)) (sl_i qd) (sl_i qa) (sl_i qb) (sl_i qo) (sl_i qd) kc ks := by
  cases qd <;> cases qa <;> cases qb <;> cases qo
  all_goals (repeat (first | refine br_t (by decide) ?_ | refine br_f (by decide) ?_))
  all_goals exact rfl
theorem sl_lawOf (d a b o v : Int32) : wpL_lawOf (fun r _ => r = 1) 178 2848 () d a b o v := by
  obtain ⟨qd, hd⟩ := sl_ex (sl_R d)
  obtain ⟨qa, ha⟩ := sl_ex (sl_R a)
  obtain ⟨qb, hb⟩ := sl_ex (sl_R b)
  obtain ⟨qo, ho⟩ := sl_ex (sl_O o)
  have n1 := sl_nle qd
  have n2 := sl_nle (qd && qa && qb)
  have n3 := sl_nle (qd && qa && qo)
  have n4 := sl_nle (qa && qb && qo)
  have i1 : 0 < 14 := by decide
  have i2 : 0 + sl_n qd < 14 := by omega
  have i3 : 0 + sl_n qd + sl_n (qd && qa && qb) < 14 := by omega
  have i4 : 0 + sl_n qd + sl_n (qd && qa && qb) + sl_n (qd && qa && qo) < 14 := by omega
  have i5 : 0 + sl_n qd + sl_n (qd && qa && qb) + sl_n (qd && qa && qo) + sl_n (qa && qb && qo) < 14 := by omega
  unfold wpL_lawOf
  refine ⟨by decide, by decide, 18, 300, by decide, by decide, ?_⟩
  refine sl_init (by decide) (by decide) (fun u h0 => ?_)
  obtain ⟨c, f1, f2, f3, f4, a1, a2, a3, a4, a5, a6, a7, a8, a9, a10, a11, a12, a13, a14, a15, a16, a17, a18⟩ := u
  refine sl_constant qd hd i1 h0 (fun u h1 => ?_)
  obtain ⟨c, f1, f2, f3, f4, a1, a2, a3, a4, a5, a6, a7, a8, a9, a10, a11, a12, a13, a14, a15, a16, a17, a18⟩ := u
  refine sl_add qd qa qb hd ha hb i2 h1 (fun u h2 => ?_)
  obtain ⟨c, f1, f2, f3, f4, a1, a2, a3, a4, a5, a6, a7, a8, a9, a10, a11, a12, a13, a14, a15, a16, a17, a18⟩ := u
  refine sl_load qd qa qo hd ha ho i3 h2 (fun u h3 => ?_)
  obtain ⟨c, f1, f2, f3, f4, a1, a2, a3, a4, a5, a6, a7, a8, a9, a10, a11, a12, a13, a14, a15, a16, a17, a18⟩ := u
  refine sl_store qa qb qo ha hb ho i4 h3 (fun u h4 => ?_)
  obtain ⟨c, f1, f2, f3, f4, a1, a2, a3, a4, a5, a6, a7, a8, a9, a10, a11, a12, a13, a14, a15, a16, a17, a18⟩ := u
  refine sl_leave qa ha i5 h4 (fun u h5 => ?_)
  obtain ⟨c, f1, f2, f3, f4, a1, a2, a3, a4, a5, a6, a7, a8, a9, a10, a11, a12, a13, a14, a15, a16, a17, a18⟩ := u
  exact sl_size h5 (sl_0 hd ha hb ho (sl_144 178 2848 (1 + 18) (23 + 300) qd qa qb qo))
end
section
theorem i_vc (xs : Nat → Int32) (L : Nat) (hL : L ≤ 5) : wpL_law (fun r => r = 1) L xs := by
  unfold wpL_law
  refine sl_cell hL 0 (by decide) (fun r1 => ?_)
  refine sl_cell hL 1 (by decide) (fun r2 => ?_)
  refine sl_cell hL 2 (by decide) (fun r3 => ?_)
  refine sl_cell hL 3 (by decide) (fun r4 => ?_)
  refine sl_cell hL 4 (by decide) (fun r5 => ?_)
  exact ⟨178, 2848, by decide, by decide, sl_lawOf r1 r2 r3 r4 r5⟩
end
