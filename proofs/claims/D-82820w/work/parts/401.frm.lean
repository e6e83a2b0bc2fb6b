set_option maxRecDepth 20000
section
variable {ρ : Nat → Nat} {d : Nat} {Q : QT} {Γ Γ' Γ1 Γ2 : GH} {h h' h1 h2 H : ah} {C ho N M z s t o n c r i j k p a T cd fn ck : Nat} {g g' : HG} {S S' S1 S2 : SS} {X X' X1 X2 : X3} {Y Y' Y1 Y2 : Y3} {ws ws' hw : List (List Int)} {x y ty v fl kz ks : Int} {h0 : ah}
def LXb : List Nat := LXa ++ [f_Heap_made, f_Heap_calls, f_Heap_room]
def LSd : List Nat := LSb ++ LNC
/-- new cells, tasks that change: all else stays -/
theorem STW.frm (A : ALL ρ Γ h C ho X Y S g N M hw ws) (W : HWF g N M) (c1 : CORE Γ' h' C ho X' Y' S' N) (g1 : GRO Γ Γ' h h' C S S') (fr : Fr LCC [] z s h h') (bd : BND h C S h' S' kz ks) (x : OFX LXb X X') (y : OFX LYa Y Y') (o : OFF LSd S S') (it : X' 53 f_Found_isText 0 = 0 ∨ X' 53 f_Found_isText 0 = 1) : STW ρ Γ h C ho S g N M hw Γ' h' X' Y' S' ws kz ks := by
  obtain ⟨HC, E, MS⟩ := A
  have p0 : ∀ y, (0, y) ∉ ([] : List (Nat × Nat)) := fun y c => by cases c
  have es := fun {K : List Nat} (q : K.all (fun f => !(LSd.elem f)) = true) => o.ex (L' := K) q
  have ex := fun {K : List Nat} (q : K.all (fun f => !(LXb.elem f)) = true) => x.exx (L' := K) q
  have G := HC.1.1
  have F := HC.1.2
  have gz := G.1
  obtain ⟨E0, ⟨NM, SN⟩, SI, EV, LK⟩ := E
  have ij := G.2.1
  have HX := E0.1.1.1
  have HX2 : HCX ρ h' ho g N M hw := HX.fr fr (by unfold DJ; decide +kernel) p0
  obtain ⟨U2, ly⟩ := E0.1.1.mvp ij g1 fr HX2 (by unfold DJ; decide +kernel) p0 (es (by decide +kernel))
  have M2 := E0.1.2.mvp E0.1.1 W ij fr (by unfold DJ; decide +kernel) p0
  have K : EKP h C ho S N M h' S' := EKP.gro HX G g1 bd.2.2.2 fr (by unfold DJ; decide +kernel) p0
  have wn := wn_fr G fr (nokW (by decide +kernel) rfl) (nokW (by decide +kernel) rfl) NM.kk.1 NM.kk.2
  have EX : EXT ρ Γ' h' C ho X' Y' S' g N M hw ws := by
    refine ⟨E0.mv U2 M2 fr p0 bd.2.2.2.1 ⟨by rw [y _ _ _ (by decide)]; exact E0.2.1.1, by rw [y _ _ _ (by decide)]; exact E0.2.1.2⟩ (fun i hi => ?_) (ex (by decide +kernel)) it (es (K := [f_Md_wrong]) (by decide +kernel) _ (by decide) _), ⟨NM.fr fr (by unfold DJ; decide +kernel) p0 (es (by decide +kernel)), SN.ex (es (by decide +kernel))⟩, SI.ext ij F HC.hz57 K fr (by unfold DJ; decide +kernel) p0 (es (by decide +kernel)) (y _ _ _ (by decide)), EV.chg HC.bef bd.2.2.2.1 (es (by decide +kernel)), LK.mv HX ij fr (by unfold DJ; decide +kernel) p0 (es (by decide +kernel)) (ex (by decide +kernel)) (fun b => y _ _ _ (by decide))⟩
    rw [es (K := [f_Md_asked]) (by decide +kernel) _ (by decide), ex (K := [f_Lookup_asked]) (by decide +kernel) _ (by decide)]
    exact E0.2.2.2.2.2.1 i hi
  refine ⟨⟨c1, EX, ?_⟩, g1, o.le (by decide +kernel), ⟨z, s, fr.mono (fun f hf => ?_) (fun q hq => by cases hq)⟩, BNA.of bd wn ly⟩
  · -- literals, units
    obtain ⟨h1, h2, h3, h4, h5, lits, ⟨by_, wf, wz, wn', wh, Wd⟩, l2, l3, l4, l5⟩ := MS
    have ar := fun {f x y : Nat} (ow : own f) (hx : x < hz h) (e : hR h f x = y) (h0 : y ≠ 0) (n1 : ¬ okW LCC [] f x) (n2 : ¬ okW LCC [] (f + 1) x) => fr.ar ij ow hx e h0 (fun c => c.elim n1 n2) (p0 _)
    have s7 := ar (f := f_Machine_sites) (x := C + 32) (by unfold own; decide) (by omega) F.2.1.2.2.2.2.2.2.2.2.1 (by omega) (nokW (by decide) rfl) (nokW (by decide) rfl)
    have s8 := ar (f := f_Machine_descriptors) (x := C + 32) (by unfold own; decide) (by omega) F.2.1.2.2.2.2.2.2.2.2.2.1 (by omega) (nokW (by decide) rfl) (nokW (by decide) rfl)
    have W' : WD h' (C + 40) 4000 65536 lits by_ wf wz wn' wh := Wd.frm fr (fun f hf c => by
      have q : [f_Words_most, f_Words_mostBytes, f_Words_many, f_Words_used, f_Words_bytes, f_Words_from, f_Words_size, f_Words_next, f_Words_heads].all (fun f => !(LCC.elem f) && !(LCC.elem (f + 1))) = true := by decide +kernel
      have q := List.all_eq_true.mp q f hf
      simp only [Bool.and_eq_true, Bool.not_eq_true'] at q
      exact c.elim (nokW q.1 rfl) (nokW q.2 rfl)) ⟨p0 _, p0 _, p0 _, p0 _, p0 _⟩
    refine ⟨fun b hb => ?_, fun i hi => ?_, h3.mv g1 (es (by decide +kernel)) (ex (by decide +kernel)), by rw [ex (K := [f_Machine_instructions]) (by decide +kernel) _ (by decide), es (K := [f_Md_instructions]) (by decide +kernel) _ (by decide)]; exact h4, h5.mv (es (by decide +kernel)) s7.2.2 ⟨s8.1, s8.2.2⟩, lits, ⟨_, _, _, _, _, W'⟩, by rw [es (K := [f_Md_sourceTexts]) (by decide +kernel) _ (by decide)]; exact l2, by rw [ex (K := [f_Machine_literalsKnown]) (by decide +kernel) _ (by decide)]; exact l3, l4, fun b hb => (l5 b hb).src g1.2.2.2.2.2.2 (by omega)⟩
    · rw [es (K := [f_Md_sourceTexts]) (by decide +kernel) _ (by decide)] at hb
      obtain ⟨a1, a2⟩ := h1 b hb
      have w := fr.R (x := C + 32) (f := f_Machine_literalText) (by omega) (by decide) (nokW (by decide) rfl)
      have zz := ij.1 f_Machine_literalText (C + 32) (by omega) (by unfold own; decide)
      rw [ex (K := [f_Machine_literalText]) (by decide +kernel) _ (by decide), a1, g1.2.2.2.2.2.1 b (Or.inl hb), w]
      refine ⟨rfl, ?_⟩
      have kk : hK h (hR h f_Machine_literalText (C + 32)) < 100 := by
        rw [(G.2.2.2.1 (f_Machine_literalText, 32, 1) (by decide)).2]; decide
      rw [fr.la zz kk]
      exact a2
    · rw [← h2 i hi]
      exact (fr.ar0 (y := C + 97) (by omega) (by omega) (p0 _) F.2.2.2.2.2.2.2.2.2.1.2.2).2.2 i
  · have : LCC.all (fun f => LHs.elem f) = true := by decide +kernel
    simpa using List.all_eq_true.mp this f hf
end
