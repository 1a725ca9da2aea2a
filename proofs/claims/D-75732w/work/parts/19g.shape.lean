/-! part 19g: a lambda that captures -/
theorem xob {α β : Type} {o : Option α} {f : α → Option β} {b : β} (h : (o >>= f) = some b) : ∃ a, o = some a ∧ f a = some b := Option.bind_eq_some_iff.mp h
theorem xshape {cf : ClassFile} {idx : Nat} {σ : Lambda.Shape} (h : Lambda.shapeOf? cf idx = some σ) : ∃ b nt name desc sig, cf.constantPool[idx]? = some (.invokeDynamic b nt) ∧ cf.constantPool.nameAndType? nt = some (name, desc) ∧ parseMethodDescriptor desc = some sig ∧ sig.parameters = σ.captured := by
  unfold Lambda.shapeOf? at h
  split at h
  · rename_i b nt hidx
    obtain ⟨entries, -, h⟩ := xob h
    obtain ⟨bm, -, h⟩ := xob h
    split at h
    · obtain ⟨u1, -, h⟩ := xob h
      revert h
      generalize bm.bootstrapArguments = ba
      obtain ⟨l⟩ := ba
      rcases l with _ | ⟨a0, _ | ⟨a1, _ | ⟨a2, _ | ⟨a3, l⟩⟩⟩⟩
      · intro h; cases h
      · intro h; cases h
      · intro h; cases h
      · intro h
        change (match cf.constantPool[a0]? with | some (.methodType d0) => _ | _ => none) = some σ at h
        split at h
        · split at h
          · split at h
            · obtain ⟨nd, hnd, h⟩ := xob h
              obtain ⟨site, hsite, h⟩ := xob h
              split at h
              · obtain ⟨mem, -, h⟩ := xob h
                obtain ⟨s1, -, h⟩ := xob h
                obtain ⟨s2, -, h⟩ := xob h
                obtain ⟨s3, -, h⟩ := xob h
                obtain ⟨s4, -, h⟩ := xob h
                obtain ⟨s5, -, h⟩ := xob h
                cases h
                exact ⟨b, nt, nd.1, nd.2, site, hidx, hnd, hsite, rfl⟩
              · cases h
            · cases h
          · cases h
        · cases h
      · intro h; cases h
    · cases h
  · cases h
