section
/-- the range check that the class and the law make -/
def ph_F (p q : Int32) : Prop := ¬ p < 0 ∧ ¬ 2 < p ∧ ¬ q < 0 ∧ ¬ 3 < q
/-- a register's place -/
def ph_ix (p q : Int32) : Nat := (4 * p + q).toNatClampNeg
theorem ph_of {p q : Int32} (h : ph_F p q) : ∃ a b : Nat, a ≤ 2 ∧ b ≤ 3 ∧ p = nI a ∧ q = nI b ∧ 4 * p + q = nI (4 * a + b) := by
  obtain ⟨h1, h2, h3, h4⟩ := h
  obtain ⟨a, ha, ea⟩ := nI_of2 (M := 2) (n := 2) (by decide) h1 (Int32.not_lt.mp h2)
  obtain ⟨b, hb, eb⟩ := nI_of2 (M := 3) (n := 3) (by decide) h3 (Int32.not_lt.mp h4)
  refine ⟨a, b, ha, hb, ea, eb, ?_⟩
  rw [ea, eb, show (4 : Int32) = nI 4 from rfl, pk_mul, nI_add]
theorem ph_in {p q : Int32} (h : ph_F p q) : vp_in (4 * p + q) 21 := by
  obtain ⟨a, b, ha, hb, _, _, e⟩ := ph_of h
  exact pk_in (4 * a + b) 21 (by omega) e
theorem ph_p3 {p q : Int32} (h : ph_F p q) : vp_in p 3 := by
  obtain ⟨a, b, ha, hb, e, _, _⟩ := ph_of h
  exact pk_in a 3 (by omega) e
/-- two registers of one process stand at one place only if they are one -/
theorem ph_ixi {p q r : Int32} (h : ph_F p q) (h' : ph_F p r) (e : ph_ix p q = ph_ix p r) : q = r := by
  obtain ⟨a, b, ha, hb, ea, eb, e1⟩ := ph_of h
  obtain ⟨a', b', ha', hb', ea', eb', e1'⟩ := ph_of h'
  have haa : a = a' := (nI_eq (by omega) (by omega)).mp (ea.symm.trans ea')
  have e2 : 4 * a + b = 4 * a' + b' := by
    unfold ph_ix at e
    rw [e1, e1', nI_clamp (by omega), nI_clamp (by omega)] at e
    exact e
  rw [eb, eb', show b = b' by omega]
/-! a flag of the law: 0 where its condition fails, 1 where it holds -/
theorem ph_i0 {P : Prop} (h : ¬ P) : (0 : Int32) = 0 ↔ ¬ P := ⟨fun _ => h, fun _ => rfl⟩
theorem ph_i1 {P : Prop} (h : P) : (1 : Int32) = 0 ↔ ¬ P := ⟨fun t => absurd t (by decide), fun t => absurd h t⟩
/-! the class's methods, on any state -/
theorem ph_fits {post : Int32 → Prop} {u : St0} {p q : Int32} (h1 : ph_F p q → post 1) (h0 : ¬ ph_F p q → post 0) : wpX_fits post u p q :=
  br_c (fun z => h0 (fun t => t.1 z)) (fun a => br_c (fun z => h0 (fun t => t.2.1 z)) (fun b => br_c (fun z => h0 (fun t => t.2.2.1 z)) (fun c => br_c (fun z => h0 (fun t => t.2.2.2 z)) (fun d => h1 ⟨a, b, c, d⟩))))
section
variable {f p q r v k w : Int32} {a1 a2 a3 a4 a5 a6 a7 a8 a9 a10 a11 a12 : Nat → Int32}
theorem ph_hold {post : St2 → Prop} (hk : ¬ k = 3) (h : post (f, a1, a2, a3, a4, a5, a6, a7, a8, a9, a10, a11, a12)) : wpX_hold post (f, a1, a2, a3, a4, a5, a6, a7, a8, a9, a10, a11, a12) k v := br_f hk h
theorem ph_letGo {post : St2 → Prop} (hk : ¬ k = 3) (h : post (f, a1, a2, a3, a4, a5, a6, a7, a8, a9, a10, a11, a12)) : wpX_letGo post (f, a1, a2, a3, a4, a5, a6, a7, a8, a9, a10, a11, a12) k v := br_f hk h
theorem ph_assign {post : St2 → Prop} (hi : vp_in p 21) (hk : ¬ k = 3) (ho : ¬ a1 p.toNatClampNeg = 3) (h : post (f, upd a1 p.toNatClampNeg k, upd a2 p.toNatClampNeg v, a3, a4, a5, a6, a7, a8, a9, a10, a11, a12)) : wpX_assign post (f, a1, a2, a3, a4, a5, a6, a7, a8, a9, a10, a11, a12) p k v := by
  unfold wpX_assign
  dsimp only
  exact ph_hold hk ⟨hi, hi, ph_letGo ho ⟨hi, nm_e ⟨hi, nm_e h⟩⟩⟩
theorem ph_number {post : Int32 → St2 → Prop} (ho : ∀ j, ¬ a1 j = 3) (h0 : ¬ ph_F p q → post (-1) (f, a1, a2, a3, a4, a5, a6, a7, a8, a9, a10, a11, a12)) (h1 : ph_F p q → post 0 (f, upd a1 (ph_ix p q) 1, upd a2 (ph_ix p q) v, a3, a4, a5, a6, a7, a8, a9, a10, a11, a12)) : wpX_number post (f, a1, a2, a3, a4, a5, a6, a7, a8, a9, a10, a11, a12) p q v := by
  unfold wpX_number
  dsimp only
  exact ph_fits (fun z => br_f (by decide) (ph_assign (ph_in z) (by decide) (ho _) (h1 z))) (fun z => br_t rfl (h0 z))
theorem ph_same {post : Int32 → Prop} (hb : ¬ (ph_F p q ∧ ph_F p r) → post (-1)) (h : ph_F p q → ph_F p r → (q = r ∧ post 1) ∨ (¬ a1 (ph_ix p q) = a1 (ph_ix p r) ∧ post 0)) : wpX_same post (f, a1, a2, a3, a4, a5, a6, a7, a8, a9, a10, a11, a12) p q r := by
  unfold wpX_same
  dsimp only
  refine ph_fits (fun z => br_f (by decide) (ph_fits (fun z' => br_f (by decide) (nm_e (nm_e ⟨ph_in z, ph_in z', ?_⟩))) (fun z' => br_t rfl (hb (fun t => z' t.2))))) (fun z => br_t rfl (hb (fun t => z t.1)))
  rcases h z z' with ⟨e, hp⟩ | ⟨n, hp⟩
  · subst e
    exact br_t rfl ⟨ph_in z, ph_in z, br_t rfl hp⟩
  · exact br_f n hp
theorem ph_part {post : Int32 → St2 → Prop} (hb : ¬ (ph_F p q ∧ ph_F p r) → post (-1) (f, a1, a2, a3, a4, a5, a6, a7, a8, a9, a10, a11, a12)) (h : ph_F p q → ph_F p r → ¬ a1 (ph_ix p r) = 2 ∧ post (-3) (f, a1, a2, a3, a4, a5, a6, a7, a8, a9, a10, a11, a12)) : wpX_part post (f, a1, a2, a3, a4, a5, a6, a7, a8, a9, a10, a11, a12) p q r w := by
  unfold wpX_part
  dsimp only
  exact ph_fits (fun z => br_f (by decide) (ph_fits (fun z' => br_f (by decide) (nm_e ⟨ph_in z', br_f (h z z').1 (h z z').2⟩)) (fun z' => br_t rfl (hb (fun t => z' t.2))))) (fun z => br_t rfl (hb (fun t => z t.1)))
theorem ph_kind {post : Int32 → Prop} (hb : ¬ ph_F p q → post (-1)) (h : ph_F p q → post (a1 (ph_ix p q))) : wpX_kind post (f, a1, a2, a3, a4, a5, a6, a7, a8, a9, a10, a11, a12) p q := by
  unfold wpX_kind
  dsimp only
  exact ph_fits (fun z => br_f (by decide) ⟨ph_in z, h z⟩) (fun z => br_t rfl (hb z))
theorem ph_value {post : Int32 → Prop} (hb : ¬ ph_F p q → post 0) (h : ph_F p q → ¬ a1 (ph_ix p q) = 2 ∧ post (a2 (ph_ix p q))) : wpX_value post (f, a1, a2, a3, a4, a5, a6, a7, a8, a9, a10, a11, a12) p q := by
  unfold wpX_value
  dsimp only
  exact ph_fits (fun z => br_f (by decide) (nm_e ⟨ph_in z, br_f (h z).1 ⟨ph_in z, (h z).2⟩⟩)) (fun z => br_t rfl (hb z))
theorem ph_receive {post : Int32 → St2 → Prop} (hb : ¬ ph_F p q → post (-1) (f, a1, a2, a3, a4, a5, a6, a7, a8, a9, a10, a11, a12)) (h : ph_F p q → a3 p.toNatClampNeg = 0 ∧ post (-3) (f, a1, a2, a3, a4, a5, a6, a7, a8, a9, a10, a11, a12)) : wpX_receive post (f, a1, a2, a3, a4, a5, a6, a7, a8, a9, a10, a11, a12) p q := by
  unfold wpX_receive
  dsimp only
  exact ph_fits (fun z => br_f (by decide) ⟨ph_p3 z, br_t (h z).1 (h z).2⟩) (fun z => br_t rfl (hb z))
end
/-- the constructor: every array of zeros, but for 'forward', of which nothing is asked -/
theorem ph_init {post : St2 → Prop} {f : Int32} (H : ∀ a10 : Nat → Int32, post (f, (fun _ => 0), (fun _ => 0), (fun _ => 0), (fun _ => 0), (fun _ => 0), (fun _ => 0), (fun _ => 0), (fun _ => 0), (fun _ => 0), a10, (fun _ => 0), (fun _ => 0))) : wpX_init post 12 677 f := by
  unfold wpX_init
  refine ⟨by decide, by decide, by decide, by decide, by decide, by decide, by decide, by decide, by decide, by decide, by decide, by decide, by decide, by decide, by decide, by decide, by decide, by decide, by decide, by decide, by decide, by decide, by decide, by decide, ?_⟩
  exact pk_loop (fun n i a10 => wX_init_99 post 12 677 12 677 f n (nI i) (fun _ => 0) (fun _ => 0) (fun _ => 0) (fun _ => 0) (fun _ => 0) (fun _ => 0) (fun _ => 0) (fun _ => 0) (fun _ => 0) a10 (fun _ => 0) (fun _ => 0)) (fun _ _ => True) 120 0 (fun _ => 0) (by omega) trivial
    (fun n s _ => pk_le 120 120 (fun _ => H s) (fun z => absurd z (by omega)))
    (fun n i s hi _ hw => pk_le 120 i (fun z => absurd z (by omega)) (fun _ => ⟨pk_in i 120 hi, nm_e (nm_r (nI_1 i) (hw _ trivial))⟩))
end
section
/-! the law, from its last check to its first; x6 says whether dst fits, x7 whether src fits -/
section
variable {post : Int32 → St0 → Prop} {mc ms kc ks : Nat} {x0 x1 x2 x3 x5 x6 x7 z0 z1 f : Int32} {a1 a2 a3 a4 a5 a6 a7 a8 a9 a10 a11 a12 : Nat → Int32}
theorem ph_210 (hp : post 1 ()) (h7 : x7 = 0 ↔ ¬ ph_F x0 x3) (h3 : ∀ j, a3 j = 0) (e : z1 = z0) : wL_lawOf_210 post mc ms x0 x3 x7 z0 z1 kc ks f a1 a2 a3 a4 a5 a6 a7 a8 a9 a10 a11 a12 :=
  br_t e (ph_receive (fun z => br_t (h7.mpr z) (br_t rfl hp)) (fun z => ⟨h3 _, br_f (fun t => h7.mp t z) (br_t rfl hp)⟩))
theorem ph_183 (hp : post 1 ()) (h7 : x7 = 0 ↔ ¬ ph_F x0 x3) (h3 : ∀ j, a3 j = 0) (k1 : ph_F x0 x3 → a1 (ph_ix x0 x3) = if x3 = x1 then 1 else 0) (k2 : ph_F x0 x3 → a2 (ph_ix x0 x3) = if x3 = x1 then x2 else 0) (e : z1 = z0) : wL_lawOf_183 post mc ms x0 x1 x2 x3 x7 z0 z1 kc ks f a1 a2 a3 a4 a5 a6 a7 a8 a9 a10 a11 a12 :=
  br_t e (ph_value (fun z => br_t (h7.mpr z) (ph_210 hp h7 h3 rfl)) (fun z => ⟨by rw [k1 z]; split <;> decide, br_f (fun t => h7.mp t z) (br_c (fun g => ph_210 hp h7 h3 (by rw [k2 z, if_pos g])) (fun g => ph_210 hp h7 h3 (by rw [k2 z, if_neg g])))⟩))
theorem ph_152 (hp : post 1 ()) (h7 : x7 = 0 ↔ ¬ ph_F x0 x3) (h3 : ∀ j, a3 j = 0) (k1 : ph_F x0 x3 → a1 (ph_ix x0 x3) = if x3 = x1 then 1 else 0) (k2 : ph_F x0 x3 → a2 (ph_ix x0 x3) = if x3 = x1 then x2 else 0) (e : z1 = z0) : wL_lawOf_152 post mc ms x0 x1 x2 x3 x7 z0 z1 kc ks f a1 a2 a3 a4 a5 a6 a7 a8 a9 a10 a11 a12 :=
  br_t e (ph_kind (fun z => br_t (h7.mpr z) (ph_183 hp h7 h3 k1 k2 rfl)) (fun z => br_f (fun t => h7.mp t z) (br_c (fun g => ph_183 hp h7 h3 k1 k2 (by rw [k1 z, if_pos g])) (fun g => ph_183 hp h7 h3 k1 k2 (by rw [k1 z, if_neg g])))))
theorem ph_122 (hp : post 1 ()) (h6 : x6 = 0 ↔ ¬ ph_F x0 x1) (h7 : x7 = 0 ↔ ¬ ph_F x0 x3) (h3 : ∀ j, a3 j = 0) (k1 : ph_F x0 x3 → a1 (ph_ix x0 x3) = if x3 = x1 then 1 else 0) (k2 : ph_F x0 x3 → a2 (ph_ix x0 x3) = if x3 = x1 then x2 else 0) (e : z1 = z0) : wL_lawOf_122 post mc ms x0 x1 x2 x3 x6 x7 z0 z1 kc ks f a1 a2 a3 a4 a5 a6 a7 a8 a9 a10 a11 a12 :=
  br_t e (ph_part (fun z => br_c (fun _ => ph_152 hp h7 h3 k1 k2 rfl) (fun g6 => br_c (fun _ => ph_152 hp h7 h3 k1 k2 rfl) (fun g7 => absurd ⟨Classical.not_not.mp (mt h6.mpr g6), Classical.not_not.mp (mt h7.mpr g7)⟩ z))) (fun z z' => ⟨by rw [k1 z']; split <;> decide, br_f (fun t => h6.mp t z) (br_f (fun t => h7.mp t z') (ph_152 hp h7 h3 k1 k2 rfl))⟩))
theorem ph_85 (hp : post 1 ()) (h6 : x6 = 0 ↔ ¬ ph_F x0 x1) (h7 : x7 = 0 ↔ ¬ ph_F x0 x3) (h3 : ∀ j, a3 j = 0) (k0 : ph_F x0 x1 → a1 (ph_ix x0 x1) = 1) (k1 : ph_F x0 x3 → a1 (ph_ix x0 x3) = if x3 = x1 then 1 else 0) (k2 : ph_F x0 x3 → a2 (ph_ix x0 x3) = if x3 = x1 then x2 else 0) (e : z1 = z0) : wL_lawOf_85 post mc ms x0 x1 x2 x3 x6 x7 z0 z1 kc ks f a1 a2 a3 a4 a5 a6 a7 a8 a9 a10 a11 a12 := by
  refine br_t e (ph_same (fun z => br_c (fun _ => ph_122 hp h6 h7 h3 k1 k2 rfl) (fun g6 => br_c (fun _ => ph_122 hp h6 h7 h3 k1 k2 rfl) (fun g7 => absurd ⟨Classical.not_not.mp (mt h6.mpr g6), Classical.not_not.mp (mt h7.mpr g7)⟩ z))) (fun z z' => ?_))
  by_cases g : x1 = x3
  · exact Or.inl ⟨g, br_f (fun t => h6.mp t z) (br_f (fun t => h7.mp t z') (br_t g (ph_122 hp h6 h7 h3 k1 k2 rfl)))⟩
  · exact Or.inr ⟨by rw [k0 z, k1 z', if_neg (fun t => g t.symm)]; decide, br_f (fun t => h6.mp t z) (br_f (fun t => h7.mp t z') (br_f g (ph_122 hp h6 h7 h3 k1 k2 rfl)))⟩
theorem ph_65 (hp : post 1 ()) (h6 : x6 = 0 ↔ ¬ ph_F x0 x1) (h7 : x7 = 0 ↔ ¬ ph_F x0 x3) : wL_lawOf_65 post mc ms x0 x1 x2 x3 x6 x7 kc ks f (fun _ => 0) (fun _ => 0) (fun _ => 0) (fun _ => 0) (fun _ => 0) (fun _ => 0) (fun _ => 0) (fun _ => 0) (fun _ => 0) a10 (fun _ => 0) (fun _ => 0) := by
  unfold wL_lawOf_65
  refine ph_number (fun j => (by decide : ¬ (0 : Int32) = 3)) (fun z => br_t (h6.mpr z) (ph_85 hp h6 h7 (fun _ => rfl) (fun t => absurd t z) (fun z' => ?_) (fun z' => ?_) rfl)) (fun z => br_f (fun t => h6.mp t z) (ph_85 hp h6 h7 (fun _ => rfl) (fun _ => pk_us) (fun z' => ?_) (fun z' => ?_) rfl))
  · exact (if_neg (fun (g : x3 = x1) => z (g ▸ z'))).symm
  · exact (if_neg (fun (g : x3 = x1) => z (g ▸ z'))).symm
  · by_cases g : x3 = x1
    · rw [if_pos g, g, pk_us]
    · rw [if_neg g, pk_un (fun t => g (ph_ixi z' z t))]
  · by_cases g : x3 = x1
    · rw [if_pos g, g, pk_us]
    · rw [if_neg g, pk_un (fun t => g (ph_ixi z' z t))]
theorem ph_44 (hp : post 1 ()) (h5 : x5 = 0 ↔ ¬ (¬ x0 < 0 ∧ ¬ 2 < x0)) (h6 : x6 = 0 ↔ ¬ ph_F x0 x1) : wL_lawOf_44 post mc ms x0 x1 x2 x3 x5 x6 kc ks f (fun _ => 0) (fun _ => 0) (fun _ => 0) (fun _ => 0) (fun _ => 0) (fun _ => 0) (fun _ => 0) (fun _ => 0) (fun _ => 0) a10 (fun _ => 0) (fun _ => 0) :=
  br_c (fun g => ph_65 hp h6 (ph_i0 (fun t => h5.mp g ⟨t.1, t.2.1⟩)))
    (fun g => br_c (fun a => ph_65 hp h6 (ph_i0 (fun t => t.2.2.1 a)))
      (fun a => br_c (fun b => ph_65 hp h6 (ph_i0 (fun t => t.2.2.2 b)))
        (fun b => ph_65 hp h6 (ph_i1 ⟨(Classical.not_not.mp (mt h5.mpr g)).1, (Classical.not_not.mp (mt h5.mpr g)).2, a, b⟩))))
theorem ph_23 (hp : post 1 ()) (h5 : x5 = 0 ↔ ¬ (¬ x0 < 0 ∧ ¬ 2 < x0)) : wL_lawOf_23 post mc ms x0 x1 x2 x3 x5 kc ks f (fun _ => 0) (fun _ => 0) (fun _ => 0) (fun _ => 0) (fun _ => 0) (fun _ => 0) (fun _ => 0) (fun _ => 0) (fun _ => 0) a10 (fun _ => 0) (fun _ => 0) :=
  br_c (fun g => ph_44 hp h5 (ph_i0 (fun t => h5.mp g ⟨t.1, t.2.1⟩)))
    (fun g => br_c (fun a => ph_44 hp h5 (ph_i0 (fun t => t.2.2.1 a)))
      (fun a => br_c (fun b => ph_44 hp h5 (ph_i0 (fun t => t.2.2.2 b)))
        (fun b => ph_44 hp h5 (ph_i1 ⟨(Classical.not_not.mp (mt h5.mpr g)).1, (Classical.not_not.mp (mt h5.mpr g)).2, a, b⟩))))
end
theorem ph_lawOf {post : Int32 → St0 → Prop} {u : St0} {p0 p1 p2 p3 : Int32} (hp : post 1 ()) : wpL_lawOf post 13 690 u p0 p1 p2 p3 := by
  unfold wpL_lawOf
  refine ⟨by decide, by decide, 12, 677, by decide, by decide, ph_init (fun a10 => ?_)⟩
  exact br_c (fun a => ph_23 hp (ph_i0 (fun t => t.1 a))) (fun a => br_c (fun b => ph_23 hp (ph_i0 (fun t => t.2 b))) (fun b => ph_23 hp (ph_i1 ⟨a, b⟩)))
theorem ph_cell {post : Int32 → Prop} {L : Nat} {xs : Nat → Int32} {u : St0} {p : Int32} (k : Nat) (hk : k < 4) (hL : L ≤ 4) (e : p = nI k) (h : ∀ r, post r) : wpL_cellAt post L xs u p :=
  pk_le L k (fun _ => h _) (fun z => ⟨pk_in k L z e, h _⟩) rfl e
end
section
theorem i_vc (xs : Nat → Int32) (L : Nat) (hL : L ≤ 4) : wpL_law (fun r => r = 1) L xs := by
  unfold wpL_law
  exact ph_cell 0 (by omega) hL rfl (fun r1 => ph_cell 1 (by omega) hL rfl (fun r2 => ph_cell 2 (by omega) hL rfl (fun r3 => ph_cell 3 (by omega) hL rfl (fun r4 => ⟨13, 690, by decide, by decide, ph_lawOf (post := fun r _ => r = 1) rfl⟩))))
end
