set_option maxRecDepth 100000
def NW : List Cond := [
  (Jvm.Cond.castable "java/util/ArrayList" "java/util/List"),
  (Jvm.Cond.unhidden "java/util/ArrayList" "size" "()I"),
  (Jvm.Cond.publicMethod ({ cls := "java/util/ArrayList", name := "size", desc := "()I" } : Jvm.MethodName)),
  (Jvm.Cond.unhidden "java/util/ArrayList" "iterator" "()Ljava/util/Iterator;"),
  (Jvm.Cond.publicMethod ({ cls := "java/util/ArrayList", name := "iterator", desc := "()Ljava/util/Iterator;" } : Jvm.MethodName)),
  (Jvm.Cond.unhidden "java/util/ArrayList" "get" "(I)Ljava/lang/Object;"),
  (Jvm.Cond.publicMethod ({ cls := "java/util/ArrayList", name := "get", desc := "(I)Ljava/lang/Object;" } : Jvm.MethodName)),
  (Jvm.Cond.unhidden "java/util/ArrayList" "add" "(Ljava/lang/Object;)Z"),
  (Jvm.Cond.publicMethod ({ cls := "java/util/ArrayList", name := "add", desc := "(Ljava/lang/Object;)Z" } : Jvm.MethodName)),
  (Jvm.Cond.unhidden "java/util/ArrayList" "isEmpty" "()Z"),
  (Jvm.Cond.publicMethod ({ cls := "java/util/ArrayList", name := "isEmpty", desc := "()Z" } : Jvm.MethodName)),
  (Jvm.Cond.unhidden "java/util/ArrayList" "remove" "(I)Ljava/lang/Object;"),
  (Jvm.Cond.publicMethod ({ cls := "java/util/ArrayList", name := "remove", desc := "(I)Ljava/lang/Object;" } : Jvm.MethodName)),
  (Jvm.Cond.unhidden "java/util/ArrayList" "clear" "()V"),
  (Jvm.Cond.publicMethod ({ cls := "java/util/ArrayList", name := "clear", desc := "()V" } : Jvm.MethodName)),
  (Jvm.Cond.unhidden "java/util/ArrayList" "add" "(ILjava/lang/Object;)V"),
  (Jvm.Cond.publicMethod ({ cls := "java/util/ArrayList", name := "add", desc := "(ILjava/lang/Object;)V" } : Jvm.MethodName)),
  (Jvm.Cond.castable "java/util/ArrayList" "java/lang/Iterable"),
  (Jvm.Cond.castable "java/util/ArrayList" "java/lang/Object"),
  (Jvm.Cond.fieldLinkNest "java/util/ArrayList$Itr" (28 : Nat) "java/util/ArrayList" "size" "I" "java/util/ArrayList"),
  (Jvm.Cond.castable "java/util/ArrayList$Itr" "java/util/Iterator"),
  (Jvm.Cond.unhidden "java/util/ArrayList$Itr" "hasNext" "()Z"),
  (Jvm.Cond.publicMethod ({ cls := "java/util/ArrayList$Itr", name := "hasNext", desc := "()Z" } : Jvm.MethodName)),
  (Jvm.Cond.unhidden "java/util/ArrayList$Itr" "next" "()Ljava/lang/Object;"),
  (Jvm.Cond.publicMethod ({ cls := "java/util/ArrayList$Itr", name := "next", desc := "()Ljava/lang/Object;" } : Jvm.MethodName)),
  (Jvm.Cond.castable "java/util/ArrayList$Itr" "java/lang/Object"),
  (Jvm.Cond.declares ({ cls := "java/lang/Object", name := "getClass", desc := "()Ljava/lang/Class;" } : Jvm.MethodName)),
  (Jvm.Cond.fieldLinkNest "StoryColumns" (143 : Nat) "StoryColumns$Line" "page" "I" "StoryColumns"),
  (Jvm.Cond.fieldLinkNest "StoryColumns" (125 : Nat) "StoryColumns$Line" "how" "I" "StoryColumns"),
  (Jvm.Cond.fieldLinkNest "StoryColumns" (128 : Nat) "StoryColumns$Line" "at" "I" "StoryColumns"),
  (Jvm.Cond.fieldLinkNest "StoryColumns" (43 : Nat) "StoryColumns$Line" "from" "I" "StoryColumns"),
  (Jvm.Cond.fieldLinkNest "StoryColumns" (47 : Nat) "StoryColumns$Line" "until" "I" "StoryColumns"),
  (Jvm.Cond.fieldLinkNest "StoryColumns" (244 : Nat) "StoryColumns$Story" "head" "LStoryColumns$Head;" "StoryColumns"),
  (Jvm.Cond.fieldLinkNest "StoryColumns" (192 : Nat) "StoryColumns$Story" "texts" "Ljava/util/List;" "StoryColumns"),
  (Jvm.Cond.fieldLinkNest "StoryColumns" (165 : Nat) "StoryColumns$Story" "place" "I" "StoryColumns"),
  (Jvm.Cond.fieldLinkNest "StoryColumns" (250 : Nat) "StoryColumns$Story" "joined" "I" "StoryColumns"),
  (Jvm.Cond.fieldLinkNest "StoryColumns" (204 : Nat) "StoryColumns$Story" "next" "LStoryColumns$Story;" "StoryColumns"),
  (Jvm.Cond.fieldLinkNest "StoryColumns" (201 : Nat) "StoryColumns$Story" "before" "LStoryColumns$Story;" "StoryColumns"),
  (Jvm.Cond.fieldLinkNest "StoryColumns" (206 : Nat) "StoryColumns$Story" "article" "I" "StoryColumns"),
  (Jvm.Cond.fieldLinkNest "StoryColumns" (269 : Nat) "StoryColumns$Mark" "page" "I" "StoryColumns"),
  (Jvm.Cond.fieldLinkNest "StoryColumns" (270 : Nat) "StoryColumns$Mark" "word" "I" "StoryColumns"),
  (Jvm.Cond.fieldLinkNest "StoryColumns" (293 : Nat) "StoryColumns$1Adding" "sum" "I" "StoryColumns"),
  (Jvm.Cond.castable "StoryColumns" "java/lang/Object"),
  (Jvm.Cond.castable "StoryColumnsModel" "java/lang/Object"),
  (Jvm.Cond.castable "StoryColumns$Reading" "java/util/Iterator"),
  (Jvm.Cond.unhidden "StoryColumns$Reading" "hasNext" "()Z"),
  (Jvm.Cond.publicMethod ({ cls := "StoryColumns$Reading", name := "hasNext", desc := "()Z" } : Jvm.MethodName)),
  (Jvm.Cond.unhidden "StoryColumns$Reading" "next" "()Ljava/lang/Object;"),
  (Jvm.Cond.publicMethod ({ cls := "StoryColumns$Reading", name := "next", desc := "()Ljava/lang/Object;" } : Jvm.MethodName)),
  (Jvm.Cond.fieldLinkNest "StoryColumns$Reading" (45 : Nat) "StoryColumns$Story" "head" "LStoryColumns$Head;" "StoryColumns"),
  (Jvm.Cond.fieldLinkNest "StoryColumns$Reading" (33 : Nat) "StoryColumns$Story" "texts" "Ljava/util/List;" "StoryColumns"),
  (Jvm.Cond.methodLinkNest "StoryColumns$Reading" (13 : Nat) ({ cls := "StoryColumns", name := "chain", desc := "(I)Ljava/lang/Iterable;" } : Jvm.MethodName) "StoryColumns"),
  (Jvm.Cond.castable "StoryColumns$Reading" "java/lang/Object"),
  (Jvm.Cond.declares ({ cls := "StoryColumns$Area", name := "meets", desc := "(LStoryColumns$Area;)Z" } : Jvm.MethodName)),
  (Jvm.Cond.publicMethod ({ cls := "StoryColumns$Area", name := "meets", desc := "(LStoryColumns$Area;)Z" } : Jvm.MethodName)),
  (Jvm.Cond.interfaceMethod "StoryColumns$Area" "StoryColumns$Area" "page" "()I"),
  (Jvm.Cond.declares ({ cls := "StoryColumns$Area", name := "page", desc := "()I" } : Jvm.MethodName)),
  (Jvm.Cond.interfaceMethod "StoryColumns$Area" "StoryColumns$Area" "left" "()I"),
  (Jvm.Cond.declares ({ cls := "StoryColumns$Area", name := "left", desc := "()I" } : Jvm.MethodName)),
  (Jvm.Cond.interfaceMethod "StoryColumns$Area" "StoryColumns$Area" "right" "()I"),
  (Jvm.Cond.declares ({ cls := "StoryColumns$Area", name := "right", desc := "()I" } : Jvm.MethodName)),
  (Jvm.Cond.interfaceMethod "StoryColumns$Area" "StoryColumns$Area" "top" "()I"),
  (Jvm.Cond.declares ({ cls := "StoryColumns$Area", name := "top", desc := "()I" } : Jvm.MethodName)),
  (Jvm.Cond.interfaceMethod "StoryColumns$Area" "StoryColumns$Area" "bottom" "()I"),
  (Jvm.Cond.declares ({ cls := "StoryColumns$Area", name := "bottom", desc := "()I" } : Jvm.MethodName)),
  (Jvm.Cond.declares ({ cls := "StoryColumns$Area", name := "hasColumn", desc := "(I)Z" } : Jvm.MethodName)),
  (Jvm.Cond.publicMethod ({ cls := "StoryColumns$Area", name := "hasColumn", desc := "(I)Z" } : Jvm.MethodName)),
  (Jvm.Cond.methodLinkNest "StoryColumns$Area" (10 : Nat) ({ cls := "StoryColumns", name := "in", desc := "(III)Z" } : Jvm.MethodName) "StoryColumns"),
  (Jvm.Cond.declares ({ cls := "StoryColumns$Area", name := "hasRow", desc := "(I)Z" } : Jvm.MethodName)),
  (Jvm.Cond.publicMethod ({ cls := "StoryColumns$Area", name := "hasRow", desc := "(I)Z" } : Jvm.MethodName)),
  (Jvm.Cond.interfaceMethod "StoryColumns$Numbered" "StoryColumns$Numbered" "number" "()I"),
  (Jvm.Cond.declares ({ cls := "StoryColumns$Numbered", name := "number", desc := "()I" } : Jvm.MethodName)),
  (Jvm.Cond.interfaceMethod "StoryColumns$Numbered" "StoryColumns$Numbered" "first" "()I"),
  (Jvm.Cond.declares ({ cls := "StoryColumns$Numbered", name := "first", desc := "()I" } : Jvm.MethodName)),
  (Jvm.Cond.unhidden "StoryColumns$Block" "meets" "(LStoryColumns$Area;)Z"),
  (Jvm.Cond.castable "StoryColumns$Block" "StoryColumns$Area"),
  (Jvm.Cond.unhidden "StoryColumns$Block" "page" "()I"),
  (Jvm.Cond.publicMethod ({ cls := "StoryColumns$Block", name := "page", desc := "()I" } : Jvm.MethodName)),
  (Jvm.Cond.unhidden "StoryColumns$Block" "left" "()I"),
  (Jvm.Cond.publicMethod ({ cls := "StoryColumns$Block", name := "left", desc := "()I" } : Jvm.MethodName)),
  (Jvm.Cond.unhidden "StoryColumns$Block" "right" "()I"),
  (Jvm.Cond.publicMethod ({ cls := "StoryColumns$Block", name := "right", desc := "()I" } : Jvm.MethodName)),
  (Jvm.Cond.unhidden "StoryColumns$Block" "top" "()I"),
  (Jvm.Cond.publicMethod ({ cls := "StoryColumns$Block", name := "top", desc := "()I" } : Jvm.MethodName)),
  (Jvm.Cond.unhidden "StoryColumns$Block" "bottom" "()I"),
  (Jvm.Cond.publicMethod ({ cls := "StoryColumns$Block", name := "bottom", desc := "()I" } : Jvm.MethodName)),
  (Jvm.Cond.unhidden "StoryColumns$Block" "hasColumn" "(I)Z"),
  (Jvm.Cond.unhidden "StoryColumns$Block" "hasRow" "(I)Z"),
  (Jvm.Cond.methodLinkNest "StoryColumns$Block" (71 : Nat) ({ cls := "StoryColumns", name := "isBarred", desc := "(IIII)Z" } : Jvm.MethodName) "StoryColumns"),
  (Jvm.Cond.castable "StoryColumns$Block" "java/lang/Object"),
  (Jvm.Cond.fieldLinkNest "StoryColumns$Head" (36 : Nat) "StoryColumns" "blocks" "Ljava/util/List;" "StoryColumns"),
  (Jvm.Cond.fieldLinkNest "StoryColumns$Head" (63 : Nat) "StoryColumns" "lines" "Ljava/util/List;" "StoryColumns"),
  (Jvm.Cond.unhidden "StoryColumns$Head" "meets" "(LStoryColumns$Area;)Z"),
  (Jvm.Cond.castable "StoryColumns$Head" "StoryColumns$Area"),
  (Jvm.Cond.unhidden "StoryColumns$Head" "page" "()I"),
  (Jvm.Cond.unhidden "StoryColumns$Head" "left" "()I"),
  (Jvm.Cond.unhidden "StoryColumns$Head" "right" "()I"),
  (Jvm.Cond.unhidden "StoryColumns$Head" "top" "()I"),
  (Jvm.Cond.unhidden "StoryColumns$Head" "bottom" "()I"),
  (Jvm.Cond.fieldLinkNest "StoryColumns$Head" (71 : Nat) "StoryColumns$Line" "page" "I" "StoryColumns"),
  (Jvm.Cond.fieldLinkNest "StoryColumns$Head" (68 : Nat) "StoryColumns$Line" "how" "I" "StoryColumns"),
  (Jvm.Cond.fieldLinkNest "StoryColumns$Head" (82 : Nat) "StoryColumns$Line" "at" "I" "StoryColumns"),
  (Jvm.Cond.fieldLinkNest "StoryColumns$Head" (72 : Nat) "StoryColumns$Line" "from" "I" "StoryColumns"),
  (Jvm.Cond.fieldLinkNest "StoryColumns$Head" (75 : Nat) "StoryColumns$Line" "until" "I" "StoryColumns"),
  (Jvm.Cond.unhidden "StoryColumns$Head" "hasColumn" "(I)Z"),
  (Jvm.Cond.unhidden "StoryColumns$Head" "hasRow" "(I)Z"),
  (Jvm.Cond.methodLinkNest "StoryColumns$Head" (29 : Nat) ({ cls := "StoryColumns", name := "isBarred", desc := "(IIII)Z" } : Jvm.MethodName) "StoryColumns"),
  (Jvm.Cond.methodLinkNest "StoryColumns$Head" (78 : Nat) ({ cls := "StoryColumns", name := "in", desc := "(III)Z" } : Jvm.MethodName) "StoryColumns"),
  (Jvm.Cond.castable "StoryColumns$Head" "StoryColumns$Block"),
  (Jvm.Cond.castable "StoryColumns$Head" "java/lang/Object"),
  (Jvm.Cond.castable "StoryColumns$Line" "java/lang/Object"),
  (Jvm.Cond.fieldLinkNest "StoryColumns$Story" (99 : Nat) "StoryColumns" "blocks" "Ljava/util/List;" "StoryColumns"),
  (Jvm.Cond.castable "StoryColumns$Story" "StoryColumns$Numbered"),
  (Jvm.Cond.unhidden "StoryColumns$Story" "first" "()I"),
  (Jvm.Cond.publicMethod ({ cls := "StoryColumns$Story", name := "first", desc := "()I" } : Jvm.MethodName)),
  (Jvm.Cond.fieldLinkNest "StoryColumns$Story" (117 : Nat) "StoryColumns$Mark" "page" "I" "StoryColumns"),
  (Jvm.Cond.fieldLinkNest "StoryColumns$Story" (120 : Nat) "StoryColumns$Mark" "word" "I" "StoryColumns"),
  (Jvm.Cond.castable "StoryColumns$Story" "java/lang/Object"),
  (Jvm.Cond.castable "StoryColumns$Mark" "java/lang/Object"),
  (Jvm.Cond.fieldLinkNest "StoryColumns$1Adding" (30 : Nat) "StoryColumns$Story" "texts" "Ljava/util/List;" "StoryColumns"),
  (Jvm.Cond.castable "StoryColumns$1Adding" "java/lang/Object"),
  (Jvm.Cond.castable "StoryColumns$1" "java/lang/Iterable"),
  (Jvm.Cond.unhidden "StoryColumns$1" "iterator" "()Ljava/util/Iterator;"),
  (Jvm.Cond.publicMethod ({ cls := "StoryColumns$1", name := "iterator", desc := "()Ljava/util/Iterator;" } : Jvm.MethodName)),
  (Jvm.Cond.castable "StoryColumns$1" "java/lang/Object"),
  (Jvm.Cond.castable "StoryColumns$1$1" "java/util/Iterator"),
  (Jvm.Cond.unhidden "StoryColumns$1$1" "hasNext" "()Z"),
  (Jvm.Cond.publicMethod ({ cls := "StoryColumns$1$1", name := "hasNext", desc := "()Z" } : Jvm.MethodName)),
  (Jvm.Cond.unhidden "StoryColumns$1$1" "next" "()Ljava/lang/Object;"),
  (Jvm.Cond.publicMethod ({ cls := "StoryColumns$1$1", name := "next", desc := "()Ljava/lang/Object;" } : Jvm.MethodName)),
  (Jvm.Cond.fieldLinkNest "StoryColumns$1$1" (22 : Nat) "StoryColumns$Story" "next" "LStoryColumns$Story;" "StoryColumns"),
  (Jvm.Cond.castable "StoryColumns$1$1" "java/lang/Object"),
  (Jvm.Cond.castable "[I" "java/lang/Object"),
  (Jvm.Cond.castable "[LStoryColumns$Mark;" "java/lang/Object"),
  (Jvm.Cond.castable "[Ljava/lang/Object;" "java/lang/Object"),
  (Jvm.Cond.castable "[Z" "java/lang/Object"),
  (Jvm.Cond.interfaceMethod "java/lang/Iterable" "java/lang/Iterable" "iterator" "()Ljava/util/Iterator;"),
  (Jvm.Cond.declares ({ cls := "java/lang/Iterable", name := "iterator", desc := "()Ljava/util/Iterator;" } : Jvm.MethodName)),
  (Jvm.Cond.interfaceMethod "java/util/Iterator" "java/util/Iterator" "hasNext" "()Z"),
  (Jvm.Cond.declares ({ cls := "java/util/Iterator", name := "hasNext", desc := "()Z" } : Jvm.MethodName)),
  (Jvm.Cond.interfaceMethod "java/util/Iterator" "java/util/Iterator" "next" "()Ljava/lang/Object;"),
  (Jvm.Cond.declares ({ cls := "java/util/Iterator", name := "next", desc := "()Ljava/lang/Object;" } : Jvm.MethodName)),
  (Jvm.Cond.interfaceMethod "java/util/List" "java/util/List" "size" "()I"),
  (Jvm.Cond.declares ({ cls := "java/util/List", name := "size", desc := "()I" } : Jvm.MethodName)),
  (Jvm.Cond.interfaceMethod "java/util/List" "java/util/List" "iterator" "()Ljava/util/Iterator;"),
  (Jvm.Cond.declares ({ cls := "java/util/List", name := "iterator", desc := "()Ljava/util/Iterator;" } : Jvm.MethodName)),
  (Jvm.Cond.interfaceMethod "java/util/List" "java/util/List" "get" "(I)Ljava/lang/Object;"),
  (Jvm.Cond.declares ({ cls := "java/util/List", name := "get", desc := "(I)Ljava/lang/Object;" } : Jvm.MethodName)),
  (Jvm.Cond.interfaceMethod "java/util/List" "java/util/List" "add" "(Ljava/lang/Object;)Z"),
  (Jvm.Cond.declares ({ cls := "java/util/List", name := "add", desc := "(Ljava/lang/Object;)Z" } : Jvm.MethodName)),
  (Jvm.Cond.interfaceMethod "java/util/List" "java/util/List" "isEmpty" "()Z"),
  (Jvm.Cond.declares ({ cls := "java/util/List", name := "isEmpty", desc := "()Z" } : Jvm.MethodName)),
  (Jvm.Cond.interfaceMethod "java/util/List" "java/util/List" "remove" "(I)Ljava/lang/Object;"),
  (Jvm.Cond.declares ({ cls := "java/util/List", name := "remove", desc := "(I)Ljava/lang/Object;" } : Jvm.MethodName)),
  (Jvm.Cond.interfaceMethod "java/util/List" "java/util/List" "clear" "()V"),
  (Jvm.Cond.declares ({ cls := "java/util/List", name := "clear", desc := "()V" } : Jvm.MethodName)),
  (Jvm.Cond.interfaceMethod "java/util/List" "java/util/List" "add" "(ILjava/lang/Object;)V"),
  (Jvm.Cond.declares ({ cls := "java/util/List", name := "add", desc := "(ILjava/lang/Object;)V" } : Jvm.MethodName)),
  (Jvm.Cond.methodLink "StoryColumns" (85 : Nat) ({ cls := "StoryColumns$Block", name := "meets", desc := "(LStoryColumns$Area;)Z" } : Jvm.MethodName)),
  (Jvm.Cond.sameMethod "StoryColumns$Block" "StoryColumns$Area" "meets" "(LStoryColumns$Area;)Z"),
  (Jvm.Cond.methodLink "StoryColumns" (144 : Nat) ({ cls := "StoryColumns$Block", name := "hasColumn", desc := "(I)Z" } : Jvm.MethodName)),
  (Jvm.Cond.sameMethod "StoryColumns$Block" "StoryColumns$Area" "hasColumn" "(I)Z"),
  (Jvm.Cond.methodLink "StoryColumns" (147 : Nat) ({ cls := "StoryColumns$Block", name := "hasRow", desc := "(I)Z" } : Jvm.MethodName)),
  (Jvm.Cond.sameMethod "StoryColumns$Block" "StoryColumns$Area" "hasRow" "(I)Z"),
  (Jvm.Cond.methodLink "StoryColumns$Head" (15 : Nat) ({ cls := "StoryColumns$Block", name := "hasColumn", desc := "(I)Z" } : Jvm.MethodName))]
theorem n_q155 : (Jvm.Cond.castable "java/util/ArrayList" "java/util/List") ∈ NW := List.mem_of_getElem? (i := 0) rfl
theorem n_q157 : (Jvm.Cond.unhidden "java/util/ArrayList" "size" "()I") ∈ NW := List.mem_of_getElem? (i := 1) rfl
theorem n_q159 : (Jvm.Cond.publicMethod ({ cls := "java/util/ArrayList", name := "size", desc := "()I" } : Jvm.MethodName)) ∈ NW := List.mem_of_getElem? (i := 2) rfl
theorem n_q274 : (Jvm.Cond.unhidden "java/util/ArrayList" "iterator" "()Ljava/util/Iterator;") ∈ NW := List.mem_of_getElem? (i := 3) rfl
theorem n_q276 : (Jvm.Cond.publicMethod ({ cls := "java/util/ArrayList", name := "iterator", desc := "()Ljava/util/Iterator;" } : Jvm.MethodName)) ∈ NW := List.mem_of_getElem? (i := 4) rfl
theorem n_q355 : (Jvm.Cond.unhidden "java/util/ArrayList" "get" "(I)Ljava/lang/Object;") ∈ NW := List.mem_of_getElem? (i := 5) rfl
theorem n_q357 : (Jvm.Cond.publicMethod ({ cls := "java/util/ArrayList", name := "get", desc := "(I)Ljava/lang/Object;" } : Jvm.MethodName)) ∈ NW := List.mem_of_getElem? (i := 6) rfl
theorem n_q450 : (Jvm.Cond.unhidden "java/util/ArrayList" "add" "(Ljava/lang/Object;)Z") ∈ NW := List.mem_of_getElem? (i := 7) rfl
theorem n_q452 : (Jvm.Cond.publicMethod ({ cls := "java/util/ArrayList", name := "add", desc := "(Ljava/lang/Object;)Z" } : Jvm.MethodName)) ∈ NW := List.mem_of_getElem? (i := 8) rfl
theorem n_q575 : (Jvm.Cond.unhidden "java/util/ArrayList" "isEmpty" "()Z") ∈ NW := List.mem_of_getElem? (i := 9) rfl
theorem n_q577 : (Jvm.Cond.publicMethod ({ cls := "java/util/ArrayList", name := "isEmpty", desc := "()Z" } : Jvm.MethodName)) ∈ NW := List.mem_of_getElem? (i := 10) rfl
theorem n_q584 : (Jvm.Cond.unhidden "java/util/ArrayList" "remove" "(I)Ljava/lang/Object;") ∈ NW := List.mem_of_getElem? (i := 11) rfl
theorem n_q586 : (Jvm.Cond.publicMethod ({ cls := "java/util/ArrayList", name := "remove", desc := "(I)Ljava/lang/Object;" } : Jvm.MethodName)) ∈ NW := List.mem_of_getElem? (i := 12) rfl
theorem n_q606 : (Jvm.Cond.unhidden "java/util/ArrayList" "clear" "()V") ∈ NW := List.mem_of_getElem? (i := 13) rfl
theorem n_q608 : (Jvm.Cond.publicMethod ({ cls := "java/util/ArrayList", name := "clear", desc := "()V" } : Jvm.MethodName)) ∈ NW := List.mem_of_getElem? (i := 14) rfl
theorem n_q750 : (Jvm.Cond.unhidden "java/util/ArrayList" "add" "(ILjava/lang/Object;)V") ∈ NW := List.mem_of_getElem? (i := 15) rfl
theorem n_q752 : (Jvm.Cond.publicMethod ({ cls := "java/util/ArrayList", name := "add", desc := "(ILjava/lang/Object;)V" } : Jvm.MethodName)) ∈ NW := List.mem_of_getElem? (i := 16) rfl
theorem n_q972 : (Jvm.Cond.castable "java/util/ArrayList" "java/lang/Iterable") ∈ NW := List.mem_of_getElem? (i := 17) rfl
theorem n_q1362 : (Jvm.Cond.castable "java/util/ArrayList" "java/lang/Object") ∈ NW := List.mem_of_getElem? (i := 18) rfl
theorem n_q106 : (Jvm.Cond.fieldLinkNest "java/util/ArrayList$Itr" (28 : Nat) "java/util/ArrayList" "size" "I" "java/util/ArrayList") ∈ NW := List.mem_of_getElem? (i := 19) rfl
theorem n_q322 : (Jvm.Cond.castable "java/util/ArrayList$Itr" "java/util/Iterator") ∈ NW := List.mem_of_getElem? (i := 20) rfl
theorem n_q324 : (Jvm.Cond.unhidden "java/util/ArrayList$Itr" "hasNext" "()Z") ∈ NW := List.mem_of_getElem? (i := 21) rfl
theorem n_q326 : (Jvm.Cond.publicMethod ({ cls := "java/util/ArrayList$Itr", name := "hasNext", desc := "()Z" } : Jvm.MethodName)) ∈ NW := List.mem_of_getElem? (i := 22) rfl
theorem n_q371 : (Jvm.Cond.unhidden "java/util/ArrayList$Itr" "next" "()Ljava/lang/Object;") ∈ NW := List.mem_of_getElem? (i := 23) rfl
theorem n_q373 : (Jvm.Cond.publicMethod ({ cls := "java/util/ArrayList$Itr", name := "next", desc := "()Ljava/lang/Object;" } : Jvm.MethodName)) ∈ NW := List.mem_of_getElem? (i := 24) rfl
theorem n_q1366 : (Jvm.Cond.castable "java/util/ArrayList$Itr" "java/lang/Object") ∈ NW := List.mem_of_getElem? (i := 25) rfl
theorem n_q1375 : (Jvm.Cond.declares ({ cls := "java/lang/Object", name := "getClass", desc := "()Ljava/lang/Class;" } : Jvm.MethodName)) ∈ NW := List.mem_of_getElem? (i := 26) rfl
theorem n_q542 : (Jvm.Cond.fieldLinkNest "StoryColumns" (143 : Nat) "StoryColumns$Line" "page" "I" "StoryColumns") ∈ NW := List.mem_of_getElem? (i := 27) rfl
theorem n_q545 : (Jvm.Cond.fieldLinkNest "StoryColumns" (125 : Nat) "StoryColumns$Line" "how" "I" "StoryColumns") ∈ NW := List.mem_of_getElem? (i := 28) rfl
theorem n_q548 : (Jvm.Cond.fieldLinkNest "StoryColumns" (128 : Nat) "StoryColumns$Line" "at" "I" "StoryColumns") ∈ NW := List.mem_of_getElem? (i := 29) rfl
theorem n_q550 : (Jvm.Cond.fieldLinkNest "StoryColumns" (43 : Nat) "StoryColumns$Line" "from" "I" "StoryColumns") ∈ NW := List.mem_of_getElem? (i := 30) rfl
theorem n_q553 : (Jvm.Cond.fieldLinkNest "StoryColumns" (47 : Nat) "StoryColumns$Line" "until" "I" "StoryColumns") ∈ NW := List.mem_of_getElem? (i := 31) rfl
theorem n_q695 : (Jvm.Cond.fieldLinkNest "StoryColumns" (244 : Nat) "StoryColumns$Story" "head" "LStoryColumns$Head;" "StoryColumns") ∈ NW := List.mem_of_getElem? (i := 32) rfl
theorem n_q699 : (Jvm.Cond.fieldLinkNest "StoryColumns" (192 : Nat) "StoryColumns$Story" "texts" "Ljava/util/List;" "StoryColumns") ∈ NW := List.mem_of_getElem? (i := 33) rfl
theorem n_q701 : (Jvm.Cond.fieldLinkNest "StoryColumns" (165 : Nat) "StoryColumns$Story" "place" "I" "StoryColumns") ∈ NW := List.mem_of_getElem? (i := 34) rfl
theorem n_q703 : (Jvm.Cond.fieldLinkNest "StoryColumns" (250 : Nat) "StoryColumns$Story" "joined" "I" "StoryColumns") ∈ NW := List.mem_of_getElem? (i := 35) rfl
theorem n_q706 : (Jvm.Cond.fieldLinkNest "StoryColumns" (204 : Nat) "StoryColumns$Story" "next" "LStoryColumns$Story;" "StoryColumns") ∈ NW := List.mem_of_getElem? (i := 36) rfl
theorem n_q707 : (Jvm.Cond.fieldLinkNest "StoryColumns" (201 : Nat) "StoryColumns$Story" "before" "LStoryColumns$Story;" "StoryColumns") ∈ NW := List.mem_of_getElem? (i := 37) rfl
theorem n_q708 : (Jvm.Cond.fieldLinkNest "StoryColumns" (206 : Nat) "StoryColumns$Story" "article" "I" "StoryColumns") ∈ NW := List.mem_of_getElem? (i := 38) rfl
theorem n_q882 : (Jvm.Cond.fieldLinkNest "StoryColumns" (269 : Nat) "StoryColumns$Mark" "page" "I" "StoryColumns") ∈ NW := List.mem_of_getElem? (i := 39) rfl
theorem n_q885 : (Jvm.Cond.fieldLinkNest "StoryColumns" (270 : Nat) "StoryColumns$Mark" "word" "I" "StoryColumns") ∈ NW := List.mem_of_getElem? (i := 40) rfl
theorem n_q918 : (Jvm.Cond.fieldLinkNest "StoryColumns" (293 : Nat) "StoryColumns$1Adding" "sum" "I" "StoryColumns") ∈ NW := List.mem_of_getElem? (i := 41) rfl
theorem n_q1361 : (Jvm.Cond.castable "StoryColumns" "java/lang/Object") ∈ NW := List.mem_of_getElem? (i := 42) rfl
theorem n_q1363 : (Jvm.Cond.castable "StoryColumnsModel" "java/lang/Object") ∈ NW := List.mem_of_getElem? (i := 43) rfl
theorem n_q307 : (Jvm.Cond.castable "StoryColumns$Reading" "java/util/Iterator") ∈ NW := List.mem_of_getElem? (i := 44) rfl
theorem n_q309 : (Jvm.Cond.unhidden "StoryColumns$Reading" "hasNext" "()Z") ∈ NW := List.mem_of_getElem? (i := 45) rfl
theorem n_q311 : (Jvm.Cond.publicMethod ({ cls := "StoryColumns$Reading", name := "hasNext", desc := "()Z" } : Jvm.MethodName)) ∈ NW := List.mem_of_getElem? (i := 46) rfl
theorem n_q342 : (Jvm.Cond.unhidden "StoryColumns$Reading" "next" "()Ljava/lang/Object;") ∈ NW := List.mem_of_getElem? (i := 47) rfl
theorem n_q344 : (Jvm.Cond.publicMethod ({ cls := "StoryColumns$Reading", name := "next", desc := "()Ljava/lang/Object;" } : Jvm.MethodName)) ∈ NW := List.mem_of_getElem? (i := 48) rfl
theorem n_q694 : (Jvm.Cond.fieldLinkNest "StoryColumns$Reading" (45 : Nat) "StoryColumns$Story" "head" "LStoryColumns$Head;" "StoryColumns") ∈ NW := List.mem_of_getElem? (i := 49) rfl
theorem n_q697 : (Jvm.Cond.fieldLinkNest "StoryColumns$Reading" (33 : Nat) "StoryColumns$Story" "texts" "Ljava/util/List;" "StoryColumns") ∈ NW := List.mem_of_getElem? (i := 50) rfl
theorem n_q990 : (Jvm.Cond.methodLinkNest "StoryColumns$Reading" (13 : Nat) ({ cls := "StoryColumns", name := "chain", desc := "(I)Ljava/lang/Iterable;" } : Jvm.MethodName) "StoryColumns") ∈ NW := List.mem_of_getElem? (i := 51) rfl
theorem n_q1372 : (Jvm.Cond.castable "StoryColumns$Reading" "java/lang/Object") ∈ NW := List.mem_of_getElem? (i := 52) rfl
theorem n_q382 : (Jvm.Cond.declares ({ cls := "StoryColumns$Area", name := "meets", desc := "(LStoryColumns$Area;)Z" } : Jvm.MethodName)) ∈ NW := List.mem_of_getElem? (i := 53) rfl
theorem n_q386 : (Jvm.Cond.publicMethod ({ cls := "StoryColumns$Area", name := "meets", desc := "(LStoryColumns$Area;)Z" } : Jvm.MethodName)) ∈ NW := List.mem_of_getElem? (i := 54) rfl
theorem n_q390 : (Jvm.Cond.interfaceMethod "StoryColumns$Area" "StoryColumns$Area" "page" "()I") ∈ NW := List.mem_of_getElem? (i := 55) rfl
theorem n_q391 : (Jvm.Cond.declares ({ cls := "StoryColumns$Area", name := "page", desc := "()I" } : Jvm.MethodName)) ∈ NW := List.mem_of_getElem? (i := 56) rfl
theorem n_q403 : (Jvm.Cond.interfaceMethod "StoryColumns$Area" "StoryColumns$Area" "left" "()I") ∈ NW := List.mem_of_getElem? (i := 57) rfl
theorem n_q404 : (Jvm.Cond.declares ({ cls := "StoryColumns$Area", name := "left", desc := "()I" } : Jvm.MethodName)) ∈ NW := List.mem_of_getElem? (i := 58) rfl
theorem n_q414 : (Jvm.Cond.interfaceMethod "StoryColumns$Area" "StoryColumns$Area" "right" "()I") ∈ NW := List.mem_of_getElem? (i := 59) rfl
theorem n_q415 : (Jvm.Cond.declares ({ cls := "StoryColumns$Area", name := "right", desc := "()I" } : Jvm.MethodName)) ∈ NW := List.mem_of_getElem? (i := 60) rfl
theorem n_q425 : (Jvm.Cond.interfaceMethod "StoryColumns$Area" "StoryColumns$Area" "top" "()I") ∈ NW := List.mem_of_getElem? (i := 61) rfl
theorem n_q426 : (Jvm.Cond.declares ({ cls := "StoryColumns$Area", name := "top", desc := "()I" } : Jvm.MethodName)) ∈ NW := List.mem_of_getElem? (i := 62) rfl
theorem n_q436 : (Jvm.Cond.interfaceMethod "StoryColumns$Area" "StoryColumns$Area" "bottom" "()I") ∈ NW := List.mem_of_getElem? (i := 63) rfl
theorem n_q437 : (Jvm.Cond.declares ({ cls := "StoryColumns$Area", name := "bottom", desc := "()I" } : Jvm.MethodName)) ∈ NW := List.mem_of_getElem? (i := 64) rfl
theorem n_q626 : (Jvm.Cond.declares ({ cls := "StoryColumns$Area", name := "hasColumn", desc := "(I)Z" } : Jvm.MethodName)) ∈ NW := List.mem_of_getElem? (i := 65) rfl
theorem n_q630 : (Jvm.Cond.publicMethod ({ cls := "StoryColumns$Area", name := "hasColumn", desc := "(I)Z" } : Jvm.MethodName)) ∈ NW := List.mem_of_getElem? (i := 66) rfl
theorem n_q632 : (Jvm.Cond.methodLinkNest "StoryColumns$Area" (10 : Nat) ({ cls := "StoryColumns", name := "in", desc := "(III)Z" } : Jvm.MethodName) "StoryColumns") ∈ NW := List.mem_of_getElem? (i := 67) rfl
theorem n_q633 : (Jvm.Cond.declares ({ cls := "StoryColumns$Area", name := "hasRow", desc := "(I)Z" } : Jvm.MethodName)) ∈ NW := List.mem_of_getElem? (i := 68) rfl
theorem n_q637 : (Jvm.Cond.publicMethod ({ cls := "StoryColumns$Area", name := "hasRow", desc := "(I)Z" } : Jvm.MethodName)) ∈ NW := List.mem_of_getElem? (i := 69) rfl
theorem n_q791 : (Jvm.Cond.interfaceMethod "StoryColumns$Numbered" "StoryColumns$Numbered" "number" "()I") ∈ NW := List.mem_of_getElem? (i := 70) rfl
theorem n_q792 : (Jvm.Cond.declares ({ cls := "StoryColumns$Numbered", name := "number", desc := "()I" } : Jvm.MethodName)) ∈ NW := List.mem_of_getElem? (i := 71) rfl
theorem n_q797 : (Jvm.Cond.interfaceMethod "StoryColumns$Numbered" "StoryColumns$Numbered" "first" "()I") ∈ NW := List.mem_of_getElem? (i := 72) rfl
theorem n_q798 : (Jvm.Cond.declares ({ cls := "StoryColumns$Numbered", name := "first", desc := "()I" } : Jvm.MethodName)) ∈ NW := List.mem_of_getElem? (i := 73) rfl
theorem n_q383 : (Jvm.Cond.unhidden "StoryColumns$Block" "meets" "(LStoryColumns$Area;)Z") ∈ NW := List.mem_of_getElem? (i := 74) rfl
theorem n_q392 : (Jvm.Cond.castable "StoryColumns$Block" "StoryColumns$Area") ∈ NW := List.mem_of_getElem? (i := 75) rfl
theorem n_q394 : (Jvm.Cond.unhidden "StoryColumns$Block" "page" "()I") ∈ NW := List.mem_of_getElem? (i := 76) rfl
theorem n_q396 : (Jvm.Cond.publicMethod ({ cls := "StoryColumns$Block", name := "page", desc := "()I" } : Jvm.MethodName)) ∈ NW := List.mem_of_getElem? (i := 77) rfl
theorem n_q406 : (Jvm.Cond.unhidden "StoryColumns$Block" "left" "()I") ∈ NW := List.mem_of_getElem? (i := 78) rfl
theorem n_q408 : (Jvm.Cond.publicMethod ({ cls := "StoryColumns$Block", name := "left", desc := "()I" } : Jvm.MethodName)) ∈ NW := List.mem_of_getElem? (i := 79) rfl
theorem n_q417 : (Jvm.Cond.unhidden "StoryColumns$Block" "right" "()I") ∈ NW := List.mem_of_getElem? (i := 80) rfl
theorem n_q419 : (Jvm.Cond.publicMethod ({ cls := "StoryColumns$Block", name := "right", desc := "()I" } : Jvm.MethodName)) ∈ NW := List.mem_of_getElem? (i := 81) rfl
theorem n_q428 : (Jvm.Cond.unhidden "StoryColumns$Block" "top" "()I") ∈ NW := List.mem_of_getElem? (i := 82) rfl
theorem n_q430 : (Jvm.Cond.publicMethod ({ cls := "StoryColumns$Block", name := "top", desc := "()I" } : Jvm.MethodName)) ∈ NW := List.mem_of_getElem? (i := 83) rfl
theorem n_q439 : (Jvm.Cond.unhidden "StoryColumns$Block" "bottom" "()I") ∈ NW := List.mem_of_getElem? (i := 84) rfl
theorem n_q441 : (Jvm.Cond.publicMethod ({ cls := "StoryColumns$Block", name := "bottom", desc := "()I" } : Jvm.MethodName)) ∈ NW := List.mem_of_getElem? (i := 85) rfl
theorem n_q627 : (Jvm.Cond.unhidden "StoryColumns$Block" "hasColumn" "(I)Z") ∈ NW := List.mem_of_getElem? (i := 86) rfl
theorem n_q634 : (Jvm.Cond.unhidden "StoryColumns$Block" "hasRow" "(I)Z") ∈ NW := List.mem_of_getElem? (i := 87) rfl
theorem n_q775 : (Jvm.Cond.methodLinkNest "StoryColumns$Block" (71 : Nat) ({ cls := "StoryColumns", name := "isBarred", desc := "(IIII)Z" } : Jvm.MethodName) "StoryColumns") ∈ NW := List.mem_of_getElem? (i := 88) rfl
theorem n_q1365 : (Jvm.Cond.castable "StoryColumns$Block" "java/lang/Object") ∈ NW := List.mem_of_getElem? (i := 89) rfl
theorem n_q120 : (Jvm.Cond.fieldLinkNest "StoryColumns$Head" (36 : Nat) "StoryColumns" "blocks" "Ljava/util/List;" "StoryColumns") ∈ NW := List.mem_of_getElem? (i := 90) rfl
theorem n_q123 : (Jvm.Cond.fieldLinkNest "StoryColumns$Head" (63 : Nat) "StoryColumns" "lines" "Ljava/util/List;" "StoryColumns") ∈ NW := List.mem_of_getElem? (i := 91) rfl
theorem n_q384 : (Jvm.Cond.unhidden "StoryColumns$Head" "meets" "(LStoryColumns$Area;)Z") ∈ NW := List.mem_of_getElem? (i := 92) rfl
theorem n_q398 : (Jvm.Cond.castable "StoryColumns$Head" "StoryColumns$Area") ∈ NW := List.mem_of_getElem? (i := 93) rfl
theorem n_q400 : (Jvm.Cond.unhidden "StoryColumns$Head" "page" "()I") ∈ NW := List.mem_of_getElem? (i := 94) rfl
theorem n_q411 : (Jvm.Cond.unhidden "StoryColumns$Head" "left" "()I") ∈ NW := List.mem_of_getElem? (i := 95) rfl
theorem n_q422 : (Jvm.Cond.unhidden "StoryColumns$Head" "right" "()I") ∈ NW := List.mem_of_getElem? (i := 96) rfl
theorem n_q433 : (Jvm.Cond.unhidden "StoryColumns$Head" "top" "()I") ∈ NW := List.mem_of_getElem? (i := 97) rfl
theorem n_q444 : (Jvm.Cond.unhidden "StoryColumns$Head" "bottom" "()I") ∈ NW := List.mem_of_getElem? (i := 98) rfl
theorem n_q541 : (Jvm.Cond.fieldLinkNest "StoryColumns$Head" (71 : Nat) "StoryColumns$Line" "page" "I" "StoryColumns") ∈ NW := List.mem_of_getElem? (i := 99) rfl
theorem n_q544 : (Jvm.Cond.fieldLinkNest "StoryColumns$Head" (68 : Nat) "StoryColumns$Line" "how" "I" "StoryColumns") ∈ NW := List.mem_of_getElem? (i := 100) rfl
theorem n_q547 : (Jvm.Cond.fieldLinkNest "StoryColumns$Head" (82 : Nat) "StoryColumns$Line" "at" "I" "StoryColumns") ∈ NW := List.mem_of_getElem? (i := 101) rfl
theorem n_q551 : (Jvm.Cond.fieldLinkNest "StoryColumns$Head" (72 : Nat) "StoryColumns$Line" "from" "I" "StoryColumns") ∈ NW := List.mem_of_getElem? (i := 102) rfl
theorem n_q554 : (Jvm.Cond.fieldLinkNest "StoryColumns$Head" (75 : Nat) "StoryColumns$Line" "until" "I" "StoryColumns") ∈ NW := List.mem_of_getElem? (i := 103) rfl
theorem n_q628 : (Jvm.Cond.unhidden "StoryColumns$Head" "hasColumn" "(I)Z") ∈ NW := List.mem_of_getElem? (i := 104) rfl
theorem n_q635 : (Jvm.Cond.unhidden "StoryColumns$Head" "hasRow" "(I)Z") ∈ NW := List.mem_of_getElem? (i := 105) rfl
theorem n_q651 : (Jvm.Cond.methodLinkNest "StoryColumns$Head" (29 : Nat) ({ cls := "StoryColumns", name := "isBarred", desc := "(IIII)Z" } : Jvm.MethodName) "StoryColumns") ∈ NW := List.mem_of_getElem? (i := 106) rfl
theorem n_q666 : (Jvm.Cond.methodLinkNest "StoryColumns$Head" (78 : Nat) ({ cls := "StoryColumns", name := "in", desc := "(III)Z" } : Jvm.MethodName) "StoryColumns") ∈ NW := List.mem_of_getElem? (i := 107) rfl
theorem n_q1359 : (Jvm.Cond.castable "StoryColumns$Head" "StoryColumns$Block") ∈ NW := List.mem_of_getElem? (i := 108) rfl
theorem n_q1364 : (Jvm.Cond.castable "StoryColumns$Head" "java/lang/Object") ∈ NW := List.mem_of_getElem? (i := 109) rfl
theorem n_q1367 : (Jvm.Cond.castable "StoryColumns$Line" "java/lang/Object") ∈ NW := List.mem_of_getElem? (i := 110) rfl
theorem n_q121 : (Jvm.Cond.fieldLinkNest "StoryColumns$Story" (99 : Nat) "StoryColumns" "blocks" "Ljava/util/List;" "StoryColumns") ∈ NW := List.mem_of_getElem? (i := 111) rfl
theorem n_q799 : (Jvm.Cond.castable "StoryColumns$Story" "StoryColumns$Numbered") ∈ NW := List.mem_of_getElem? (i := 112) rfl
theorem n_q801 : (Jvm.Cond.unhidden "StoryColumns$Story" "first" "()I") ∈ NW := List.mem_of_getElem? (i := 113) rfl
theorem n_q803 : (Jvm.Cond.publicMethod ({ cls := "StoryColumns$Story", name := "first", desc := "()I" } : Jvm.MethodName)) ∈ NW := List.mem_of_getElem? (i := 114) rfl
theorem n_q881 : (Jvm.Cond.fieldLinkNest "StoryColumns$Story" (117 : Nat) "StoryColumns$Mark" "page" "I" "StoryColumns") ∈ NW := List.mem_of_getElem? (i := 115) rfl
theorem n_q884 : (Jvm.Cond.fieldLinkNest "StoryColumns$Story" (120 : Nat) "StoryColumns$Mark" "word" "I" "StoryColumns") ∈ NW := List.mem_of_getElem? (i := 116) rfl
theorem n_q1368 : (Jvm.Cond.castable "StoryColumns$Story" "java/lang/Object") ∈ NW := List.mem_of_getElem? (i := 117) rfl
theorem n_q1360 : (Jvm.Cond.castable "StoryColumns$Mark" "java/lang/Object") ∈ NW := List.mem_of_getElem? (i := 118) rfl
theorem n_q698 : (Jvm.Cond.fieldLinkNest "StoryColumns$1Adding" (30 : Nat) "StoryColumns$Story" "texts" "Ljava/util/List;" "StoryColumns") ∈ NW := List.mem_of_getElem? (i := 119) rfl
theorem n_q1369 : (Jvm.Cond.castable "StoryColumns$1Adding" "java/lang/Object") ∈ NW := List.mem_of_getElem? (i := 120) rfl
theorem n_q953 : (Jvm.Cond.castable "StoryColumns$1" "java/lang/Iterable") ∈ NW := List.mem_of_getElem? (i := 121) rfl
theorem n_q955 : (Jvm.Cond.unhidden "StoryColumns$1" "iterator" "()Ljava/util/Iterator;") ∈ NW := List.mem_of_getElem? (i := 122) rfl
theorem n_q957 : (Jvm.Cond.publicMethod ({ cls := "StoryColumns$1", name := "iterator", desc := "()Ljava/util/Iterator;" } : Jvm.MethodName)) ∈ NW := List.mem_of_getElem? (i := 123) rfl
theorem n_q1370 : (Jvm.Cond.castable "StoryColumns$1" "java/lang/Object") ∈ NW := List.mem_of_getElem? (i := 124) rfl
theorem n_q301 : (Jvm.Cond.castable "StoryColumns$1$1" "java/util/Iterator") ∈ NW := List.mem_of_getElem? (i := 125) rfl
theorem n_q303 : (Jvm.Cond.unhidden "StoryColumns$1$1" "hasNext" "()Z") ∈ NW := List.mem_of_getElem? (i := 126) rfl
theorem n_q305 : (Jvm.Cond.publicMethod ({ cls := "StoryColumns$1$1", name := "hasNext", desc := "()Z" } : Jvm.MethodName)) ∈ NW := List.mem_of_getElem? (i := 127) rfl
theorem n_q333 : (Jvm.Cond.unhidden "StoryColumns$1$1" "next" "()Ljava/lang/Object;") ∈ NW := List.mem_of_getElem? (i := 128) rfl
theorem n_q335 : (Jvm.Cond.publicMethod ({ cls := "StoryColumns$1$1", name := "next", desc := "()Ljava/lang/Object;" } : Jvm.MethodName)) ∈ NW := List.mem_of_getElem? (i := 129) rfl
theorem n_q704 : (Jvm.Cond.fieldLinkNest "StoryColumns$1$1" (22 : Nat) "StoryColumns$Story" "next" "LStoryColumns$Story;" "StoryColumns") ∈ NW := List.mem_of_getElem? (i := 130) rfl
theorem n_q1371 : (Jvm.Cond.castable "StoryColumns$1$1" "java/lang/Object") ∈ NW := List.mem_of_getElem? (i := 131) rfl
theorem n_q1378 : (Jvm.Cond.castable "[I" "java/lang/Object") ∈ NW := List.mem_of_getElem? (i := 132) rfl
theorem n_q1377 : (Jvm.Cond.castable "[LStoryColumns$Mark;" "java/lang/Object") ∈ NW := List.mem_of_getElem? (i := 133) rfl
theorem n_q1376 : (Jvm.Cond.castable "[Ljava/lang/Object;" "java/lang/Object") ∈ NW := List.mem_of_getElem? (i := 134) rfl
theorem n_q1379 : (Jvm.Cond.castable "[Z" "java/lang/Object") ∈ NW := List.mem_of_getElem? (i := 135) rfl
theorem n_q951 : (Jvm.Cond.interfaceMethod "java/lang/Iterable" "java/lang/Iterable" "iterator" "()Ljava/util/Iterator;") ∈ NW := List.mem_of_getElem? (i := 136) rfl
theorem n_q952 : (Jvm.Cond.declares ({ cls := "java/lang/Iterable", name := "iterator", desc := "()Ljava/util/Iterator;" } : Jvm.MethodName)) ∈ NW := List.mem_of_getElem? (i := 137) rfl
theorem n_q299 : (Jvm.Cond.interfaceMethod "java/util/Iterator" "java/util/Iterator" "hasNext" "()Z") ∈ NW := List.mem_of_getElem? (i := 138) rfl
theorem n_q300 : (Jvm.Cond.declares ({ cls := "java/util/Iterator", name := "hasNext", desc := "()Z" } : Jvm.MethodName)) ∈ NW := List.mem_of_getElem? (i := 139) rfl
theorem n_q330 : (Jvm.Cond.interfaceMethod "java/util/Iterator" "java/util/Iterator" "next" "()Ljava/lang/Object;") ∈ NW := List.mem_of_getElem? (i := 140) rfl
theorem n_q331 : (Jvm.Cond.declares ({ cls := "java/util/Iterator", name := "next", desc := "()Ljava/lang/Object;" } : Jvm.MethodName)) ∈ NW := List.mem_of_getElem? (i := 141) rfl
theorem n_q153 : (Jvm.Cond.interfaceMethod "java/util/List" "java/util/List" "size" "()I") ∈ NW := List.mem_of_getElem? (i := 142) rfl
theorem n_q154 : (Jvm.Cond.declares ({ cls := "java/util/List", name := "size", desc := "()I" } : Jvm.MethodName)) ∈ NW := List.mem_of_getElem? (i := 143) rfl
theorem n_q271 : (Jvm.Cond.interfaceMethod "java/util/List" "java/util/List" "iterator" "()Ljava/util/Iterator;") ∈ NW := List.mem_of_getElem? (i := 144) rfl
theorem n_q272 : (Jvm.Cond.declares ({ cls := "java/util/List", name := "iterator", desc := "()Ljava/util/Iterator;" } : Jvm.MethodName)) ∈ NW := List.mem_of_getElem? (i := 145) rfl
theorem n_q352 : (Jvm.Cond.interfaceMethod "java/util/List" "java/util/List" "get" "(I)Ljava/lang/Object;") ∈ NW := List.mem_of_getElem? (i := 146) rfl
theorem n_q353 : (Jvm.Cond.declares ({ cls := "java/util/List", name := "get", desc := "(I)Ljava/lang/Object;" } : Jvm.MethodName)) ∈ NW := List.mem_of_getElem? (i := 147) rfl
theorem n_q447 : (Jvm.Cond.interfaceMethod "java/util/List" "java/util/List" "add" "(Ljava/lang/Object;)Z") ∈ NW := List.mem_of_getElem? (i := 148) rfl
theorem n_q448 : (Jvm.Cond.declares ({ cls := "java/util/List", name := "add", desc := "(Ljava/lang/Object;)Z" } : Jvm.MethodName)) ∈ NW := List.mem_of_getElem? (i := 149) rfl
theorem n_q572 : (Jvm.Cond.interfaceMethod "java/util/List" "java/util/List" "isEmpty" "()Z") ∈ NW := List.mem_of_getElem? (i := 150) rfl
theorem n_q573 : (Jvm.Cond.declares ({ cls := "java/util/List", name := "isEmpty", desc := "()Z" } : Jvm.MethodName)) ∈ NW := List.mem_of_getElem? (i := 151) rfl
theorem n_q581 : (Jvm.Cond.interfaceMethod "java/util/List" "java/util/List" "remove" "(I)Ljava/lang/Object;") ∈ NW := List.mem_of_getElem? (i := 152) rfl
theorem n_q582 : (Jvm.Cond.declares ({ cls := "java/util/List", name := "remove", desc := "(I)Ljava/lang/Object;" } : Jvm.MethodName)) ∈ NW := List.mem_of_getElem? (i := 153) rfl
theorem n_q603 : (Jvm.Cond.interfaceMethod "java/util/List" "java/util/List" "clear" "()V") ∈ NW := List.mem_of_getElem? (i := 154) rfl
theorem n_q604 : (Jvm.Cond.declares ({ cls := "java/util/List", name := "clear", desc := "()V" } : Jvm.MethodName)) ∈ NW := List.mem_of_getElem? (i := 155) rfl
theorem n_q747 : (Jvm.Cond.interfaceMethod "java/util/List" "java/util/List" "add" "(ILjava/lang/Object;)V") ∈ NW := List.mem_of_getElem? (i := 156) rfl
theorem n_q748 : (Jvm.Cond.declares ({ cls := "java/util/List", name := "add", desc := "(ILjava/lang/Object;)V" } : Jvm.MethodName)) ∈ NW := List.mem_of_getElem? (i := 157) rfl
theorem n_d0 : (Jvm.Cond.methodLink "StoryColumns" (85 : Nat) ({ cls := "StoryColumns$Block", name := "meets", desc := "(LStoryColumns$Area;)Z" } : Jvm.MethodName)) ∈ NW := List.mem_of_getElem? (i := 158) rfl
theorem n_d1 : (Jvm.Cond.sameMethod "StoryColumns$Block" "StoryColumns$Area" "meets" "(LStoryColumns$Area;)Z") ∈ NW := List.mem_of_getElem? (i := 159) rfl
theorem n_d2 : (Jvm.Cond.methodLink "StoryColumns" (144 : Nat) ({ cls := "StoryColumns$Block", name := "hasColumn", desc := "(I)Z" } : Jvm.MethodName)) ∈ NW := List.mem_of_getElem? (i := 160) rfl
theorem n_d3 : (Jvm.Cond.sameMethod "StoryColumns$Block" "StoryColumns$Area" "hasColumn" "(I)Z") ∈ NW := List.mem_of_getElem? (i := 161) rfl
theorem n_d4 : (Jvm.Cond.methodLink "StoryColumns" (147 : Nat) ({ cls := "StoryColumns$Block", name := "hasRow", desc := "(I)Z" } : Jvm.MethodName)) ∈ NW := List.mem_of_getElem? (i := 162) rfl
theorem n_d5 : (Jvm.Cond.sameMethod "StoryColumns$Block" "StoryColumns$Area" "hasRow" "(I)Z") ∈ NW := List.mem_of_getElem? (i := 163) rfl
theorem n_d6 : (Jvm.Cond.methodLink "StoryColumns$Head" (15 : Nat) ({ cls := "StoryColumns$Block", name := "hasColumn", desc := "(I)Z" } : Jvm.MethodName)) ∈ NW := List.mem_of_getElem? (i := 164) rfl
/-! ===== THE WORLD AS A MAP: from addresses to cells (a class by its number in cl_, an array's class by its kind: 0 int, 1 boolean, 2 Object, 3 Mark) ===== -/
abbrev Mp : Type := Nat → Option va_E
abbrev Rs (ρ : Type) : Type := Option (ρ × Mp × Nat × Nat)
abbrev cl_ : List vw_C := [(RX0, TX0, 6), (RX1, TX1, 34), (RX2, TX2, 13), (RX3, TX3, 14), (RX4, TX4, 5), (RX5, TX5, 8), (RX6, TX6, 2), (RX7, TX7, 4), (RX8, TX8, 2), (RX9, TX9, 2), (RX10, TX10, 4), (RJ2, TJ2, 3), (RJ3, TJ3, 4)]
def en (dA : Nat → Nat) (e : va_E) : va_E := match e with
  | .inl a => .inl (dA a.1, a.2)
  | .inr o => .inr o
abbrev tys_ (dA : Nat → Nat) : List (ClassId × FieldType) := [(dA 0, .int), (dA 1, .boolean), (dA 2, .object "java/lang/Object"), (dA 3, .object "StoryColumns$Mark")]
def Wd (A : Nat → Prop) (D : va_G) (dA : Nat → Nat) (M : Mp) (z : Nat) (H : Heap) : Prop := H.size = z ∧ (∀ a e, M a = some e → va_at D cl_ (a, en dA e) H ∧ A a) ∧ ∀ q, z ≤ q → A q
/-! the words that no list carries ride by kind -/
def nwk (w : Cond) : Bool := match w with
  | .fieldLinkNest _ _ _ _ _ _ => true
  | .methodLinkNest _ _ _ _ => true
  | .castable _ _ => true
  | .declares _ => true
  | .publicMethod _ => true
  | .unhidden _ _ _ => true
  | .interfaceMethod a b _ _ => decide (a = b) && decide (a ≠ "java/lang/invoke/MethodHandle") && decide (a ≠ "java/lang/invoke/VarHandle")
  | w => w.onTables && w.keeps
theorem nw_tr {w : Cond} (hc : w.onTables = true) {u U : State} (h : w.before #[] (u.setVm U.vm) = true) : va_Nw w U := va_tabs hc (rfl : (u.setVm U.vm).vm = U.vm) h
theorem nw_warm {w : Cond} (hk : nwk w = true) {s U : State} (hW : s.WarmedH U.vm) (h : va_Nw w s) : va_Nw w U := by
  unfold nwk at hk
  split at hk
  · exact va_Nw.warmF hW h
  · exact va_Nw.warmM hW h
  · exact va_Nw.warmC hW h
  · exact va_Nw.warmD hW h
  · exact nw_tr rfl (by rw [Cond.publicMethod_setVm hW.alike]; exact h)
  · exact nw_tr rfl (by rw [Cond.unhidden_setVm hW.alike]; exact h)
  · simp only [Bool.and_eq_true, decide_eq_true_eq] at hk
    obtain ⟨⟨rfl, h1⟩, h2⟩ := hk
    obtain ⟨_, _, r, _, _, _, _, hn⟩ := Cond.interfaceMethod_spec h
    exact nw_tr rfl (by rw [Cond.interfaceMethod_setVm hW.alike (r := r) hn ⟨h1, h2⟩]; exact h)
  · exact word_at hW (Or.inl hk) h
theorem nw_tab {w : Cond} (hk : nwk w = true) : w.onTables = true := by
  unfold nwk at hk
  split at hk
  all_goals first | rfl | (simp only [Bool.and_eq_true] at hk; exact hk.1)
theorem NW_k : NW.all nwk = true := by decide +kernel
theorem nw_k {w : Cond} (h : w ∈ NW) : nwk w = true := List.all_eq_true.mp NW_k w h
/-! a default method: what the tables say of the class where a call of it lands -/
def NearOk_ (vm : Vm) (c : ClassId) (name desc : String) (m : MethodId) : Prop := (∀ k d, nearestHeld vm c name desc = some (k, .default d) → d = m) ∧ ∀ k b, nearestHeld vm c name desc ≠ some (k, .thrower b)
theorem al_any {vm vm' : Vm} (h : vm.Alike vm') (f : Class → Bool) (hf : ∀ k : Class, f k.bare = f k) (c : ClassId) : (vm'.classes[c]?).any f = (vm.classes[c]?).any f := by
  cases hk : vm.classes[c]? with
  | none => rw [h.none hk]
  | some k =>
    obtain ⟨k', hk', he⟩ := h.2.2 _ _ hk
    rw [hk', Option.any_some, Option.any_some, ← hf k', Class.bare_of he, hf]
theorem al_near {vm vm' : Vm} (h : vm.Alike vm') (c : ClassId) (name desc : String) : nearestHeld vm' c name desc = nearestHeld vm c name desc := by
  have e1 : superinterfaceMethods vm' = superinterfaceMethods vm := by rw [← superinterfaceMethods_bare vm', h.bare_eq, superinterfaceMethods_bare]
  have e2 : maximallySpecific vm' = maximallySpecific vm := by rw [← maximallySpecific_bare vm', h.bare_eq, maximallySpecific_bare]
  have e3 : ∀ k : ClassId, (vm'.classes[k]?).any (·.isInterface) = (vm.classes[k]?).any (·.isInterface) := al_any h _ fun _ => rfl
  have e4 : ∀ k : ClassId, ((vm'.classes[k]?).any fun x => x.methods.any fun m => !m.isAbstract && !m.isStatic) = (vm.classes[k]?).any fun x => x.methods.any fun m => !m.isAbstract && !m.isStatic := al_any h _ fun _ => rfl
  have e5 : ∀ (g : ClassId → Bool) (k : ClassId), (vm'.classes[k]?).any (·.interfaces.any g) = (vm.classes[k]?).any (·.interfaces.any g) := fun g => al_any h _ fun _ => rfl
  simp only [nearestHeld, held, h.superclasses, h.declaredIn, h.superinterfaces, h.method?, e1, e2, e3, e4, e5]
def LDs (C : String) (y : MethodName) (U : State) : Prop := ∃ c m rm mk, U.vm.findClass C = some c ∧ U.methodNamed? y = some m ∧ U.vm.method? m = some rm ∧ selectMethod {} U.vm c m = .method m ∧ U.vm.classes[m.cls]? = some mk ∧ mk.isInterface = true ∧ rm.isPrivate = false ∧ NearOk_ U.vm c rm.name rm.desc m
theorem LDs.moved {C : String} {y : MethodName} {u U : State} (hvm : u.vm.Alike U.vm) (h : LDs C y u) : LDs C y U := by
  obtain ⟨c, m, rm, mk, h1, h2, h3, h4, h5, h6, h8, h7⟩ := h
  obtain ⟨mk', hk', he⟩ := hvm.2.2 _ _ h5
  have h2' : (u.setVm U.vm).methodNamed? y = some m := by rw [State.methodNamed?_setVm hvm]; exact h2
  refine ⟨c, m, rm, mk', by rw [hvm.findClass]; exact h1, h2', by rw [hvm.method?]; exact h3, by rw [hvm.selectMethod]; exact h4, hk', by rw [he]; exact h6, h8, ?_⟩
  unfold NearOk_
  rw [al_near hvm]
  exact h7
theorem LDs.of {A : Array Value} {s : State} {C D : String} {n d : String} (hs : (Cond.sameMethod C D n d).before A s = true) {E : String} (h : (Cond.landsInDefault E ⟨C, n, d⟩ ⟨D, n, d⟩).before A s = true) : LDs E ⟨D, n, d⟩ s := by
  obtain ⟨cn, ck, r1, hcn, hck, hni, hf, hn1⟩ := Cond.sameMethod_found hs
  simp only [Cond.before, Cond.holds, Cond.value] at h
  cases hc : s.vm.findClass E with
  | none => simp [hc] at h
  | some c =>
  cases hrm : s.vm.method? r1 with
  | none => simp [hc, hf, hn1, hrm] at h
  | some rm =>
  simp only [hc, hf, hn1, hrm, Option.map_some, beq_iff_eq, Option.some.injEq] at h
  split at h
  · rename_i m' hsel
    simp only [Bool.and_eq_true, decide_eq_true_eq, Bool.not_eq_true', Option.any_eq_true] at h
    obtain ⟨⟨⟨⟨rfl, mk, hmk, hi⟩, hpv⟩, -⟩, hnear⟩ := h
    refine ⟨c, m', rm, mk, hc, hn1, hrm, hsel, hmk, hi, hpv, fun k d hk => ?_, fun k b hk => ?_⟩
    · rw [hk] at hnear; simpa using hnear
    · rw [hk] at hnear; cases hnear
  · cases h
/-! what holds of the tables all through a run -/
def Kx (D : va_G) (dA : Nat → Nat) (mi : Nat) (U : State) : Prop := va_K D cl_ (tys_ dA) U ∧ (∀ w ∈ NW, va_Nw w U) ∧ va_Mi "[Ljava/lang/Object;" mi U ∧ va_Nc "StoryColumns$Block" "StoryColumns$Head" U ∧ va_AO "java/lang/Object" U ∧ va_AO "StoryColumns$Mark" U ∧
  (LDs "StoryColumns$Block" ⟨"StoryColumns$Area", "meets", "(LStoryColumns$Area;)Z"⟩ U ∧ LDs "StoryColumns$Head" ⟨"StoryColumns$Area", "meets", "(LStoryColumns$Area;)Z"⟩ U) ∧
  (LDs "StoryColumns$Block" ⟨"StoryColumns$Area", "hasColumn", "(I)Z"⟩ U ∧ LDs "StoryColumns$Head" ⟨"StoryColumns$Area", "hasColumn", "(I)Z"⟩ U) ∧
  (LDs "StoryColumns$Block" ⟨"StoryColumns$Area", "hasRow", "(I)Z"⟩ U ∧ LDs "StoryColumns$Head" ⟨"StoryColumns$Area", "hasRow", "(I)Z"⟩ U)
theorem Kx.warm {D : va_G} {dA : Nat → Nat} {mi : Nat} {s U : State} (hW : s.WarmedH U.vm) (h : Kx D dA mi s) : Kx D dA mi U := by
  obtain ⟨h1, h2, h3, h0, h4, h5, ⟨h6, h7⟩, ⟨h8, h9⟩, h10, h11⟩ := h
  exact ⟨va_K.moved hW.alike h1, fun w hw => nw_warm (nw_k hw) hW (h2 w hw), h3.moved hW.alike, h0.moved hW.alike, h4.moved hW.alike, h5.moved hW.alike, ⟨h6.moved hW.alike, h7.moved hW.alike⟩, ⟨h8.moved hW.alike, h9.moved hW.alike⟩, h10.moved hW.alike, h11.moved hW.alike⟩
theorem Kx.same {D : va_G} {dA : Nat → Nat} {mi : Nat} {s U : State} (hv : s.vm = U.vm) (h : Kx D dA mi s) : Kx D dA mi U := by
  obtain ⟨h1, h2, h3, h0, h4, h5, ⟨h6, h7⟩, ⟨h8, h9⟩, h10, h11⟩ := h
  have ha : s.vm.Alike U.vm := by rw [hv]; exact Vm.Alike.refl _
  exact ⟨va_K.moved ha h1, fun w hw => va_Nw.same (nw_tab (nw_k hw)) hv (h2 w hw), h3.moved ha, h0.moved ha, h4.moved ha, h5.moved ha, ⟨h6.moved ha, h7.moved ha⟩, ⟨h8.moved ha, h9.moved ha⟩, h10.moved ha, h11.moved ha⟩
/-! locals as a list -/
def lo (ls : Array Slot) (nL : Nat) (L : List (Option Value)) : Prop := ls.size = nL ∧ lv_wf ls ∧ ∀ (i : Nat) (v : Value), L[i]? = some (some v) → ls[i]? = some (.val v) ∧ v.category = 1
def as_ (L : List (Option Value)) : List (Nat × Value) := (List.range L.length).filterMap fun i => (L[i]?.join).map fun v => (i, v)
theorem mem_as {L : List (Option Value)} {q : Nat × Value} : q ∈ as_ L ↔ L[q.1]? = some (some q.2) := by
  obtain ⟨i, v⟩ := q
  unfold as_
  rw [List.mem_filterMap]
  constructor
  · rintro ⟨j, hj, h⟩
    cases hx : L[j]? with
    | none => simp [hx] at h
    | some o =>
      cases o with
      | none => simp [hx] at h
      | some w => simp [hx] at h; obtain ⟨rfl, rfl⟩ := h; exact hx
  · intro h
    have h' : L[i]? = some (some v) := h
    exact ⟨i, List.mem_range.mpr (List.getElem?_eq_some_iff.mp h').1, by simp [h']⟩
theorem lo.has {ls : Array Slot} {nL : Nat} {L : List (Option Value)} (h : lo ls nL L) : lv_has ls nL (as_ L) := ⟨h.1, h.2.1, fun q hq => (h.2.2 q.1 q.2 (mem_as.mp hq)).1⟩
theorem lo.put {ls ls' : Array Slot} {nL i : Nat} {L : List (Option Value)} {v : Value} (h : lo ls nL L) (hc : v.category = 1) (h' : lv_has ls' nL ((i, v) :: (as_ L).filter (fun q => !(q.1 == i) && !(q.1 + 1 == i && q.2.category == 2)))) : lo ls' nL (L.set i (some v)) := by
  refine ⟨h'.1, h'.2.1, fun j w hj => ?_⟩
  by_cases e : i = j
  · subst e
    by_cases hl : i < L.length
    · rw [List.getElem?_set_self hl] at hj
      cases hj
      exact ⟨h'.2.2 (i, v) List.mem_cons_self, hc⟩
    · rw [List.getElem?_eq_none (by simp; omega)] at hj
      cases hj
  · rw [List.getElem?_set_ne e] at hj
    have h1 := h.2.2 j w hj
    refine ⟨h'.2.2 (j, w) (List.mem_cons_of_mem _ (List.mem_filter.mpr ⟨mem_as.mpr hj, ?_⟩)), h1.2⟩
    simp [h1.2, Ne.symm e]
def subL : List (Option Value) → List (Option Value) → Prop
  | [], _ => True
  | none :: t, _ :: u => subL t u
  | some v :: t, some w :: u => v = w ∧ subL t u
  | none :: t, [] => subL t []
  | some _ :: _, _ => False
theorem subL_get : ∀ (L' L : List (Option Value)), subL L' L → ∀ (i : Nat) (v : Value), L'[i]? = some (some v) → L[i]? = some (some v)
  | [], _, _, i, v, h => by simp at h
  | none :: t, w :: u, hs, i, v, h => by
    cases i with
    | zero => simp at h
    | succ i => simpa using subL_get t u hs i v (by simpa using h)
  | none :: t, [], hs, i, v, h => by
    cases i with
    | zero => simp at h
    | succ i => have := subL_get t [] hs i v (by simpa using h); simp at this
  | some x :: t, some w :: u, hs, i, v, h => by
    obtain ⟨rfl, hs⟩ := hs
    cases i with
    | zero => simpa using h
    | succ i => simpa using subL_get t u hs i v (by simpa using h)
  | some x :: t, none :: u, hs, i, v, h => hs.elim
  | some x :: t, [], hs, i, v, h => hs.elim
theorem lo.sub {ls : Array Slot} {nL : Nat} {L L' : List (Option Value)} (h : lo ls nL L) (hs : subL L' L) : lo ls nL L' := ⟨h.1, h.2.1, fun i v hv => h.2.2 i v (subL_get L' L hs i v hv)⟩
